set_option maxHeartbeats 4000000 in
theorem m_X4_copy (l : Launch) (D : va_G) (dA : Nat → ClassId) (A : Nat → Prop) (E : State → Prop) (hE : gSt A E) (R : va_W) (fr tt nf nt a0 th : Nat) (ff ft : gG) (h1 : a0 + 310 ≤ nf) (h2 : th + 310 ≤ nt) (h3 : nf < 100000) (h4 : nt < 100000) : Met l yX4_copy (ws_ yX4_copy cX4_copy 5 (Option.none : Option FieldType)) ({ frames := 0, cells := 0, slots := 0, locals := 0 }) (va_Pc [.ref fr, .int (nI a0), .ref tt, .int (nI th)] (gB D dA A E ((fr, .inl (dA 0, nf, .inl ff)) :: (tt, .inl (dA 0, nt, .inl ft)) :: R))) (va_Qv (fun (_ : Unit) => True) (fun _ => gE D A ((fr, .inl (dA 0, nf, .inl ff)) :: (tt, .inl (dA 0, nt, .inl (va_cpy ff ft a0 th 310))) :: R)) A) (0) (0) A := by
  refine g_start rfl rfl ?_
  intro p e s m args below meth c ls X hr hlocks hin hw hl
  have hx := X.1.1
  have hb := X.1.2.1
  have hl : lv_has ls 5 [(0, .ref fr), (1, .int (nI a0)), (2, .ref tt), (3, .int (nI th))] := hl
  refine lv_iconst (v := 0) hx hb dX4_copy_0 (by decide) ?_
  refine lv_istore (lv' := [(4, .int 0), (0, .ref fr), (1, .int (nI a0)), (2, .ref tt), (3, .int (nI th))]) hx hb dX4_copy_1 hl (by decide) rfl (fun ls hl => ?_)
  have loop_1 : ∀ (fuel : Nat) (i : Nat), ∀ (hi : i ≤ 310), (310 - i) < fuel → ∀ (H : Heap) (locs : List Loc) (hw : gW D A ((fr, .inl (dA 0, nf, .inl ff)) :: (tt, .inl (dA 0, nt, .inl (va_cpy ff ft a0 th i))) :: R) s H locs) (ls : Array Slot) (hl : lv_has ls 5 [(4, .int (nI i)), (0, .ref fr), (1, .int (nI a0)), (2, .ref tt), (3, .int (nI th))]), W p l e ({ frames := 0, cells := 0, slots := 0, locals := 0 }) s m args below meth c H locs (0) (0) (MQ below (va_Qv (fun (_ : Unit) => True) (fun _ => gE D A ((fr, .inl (dA 0, nf, .inl ff)) :: (tt, .inl (dA 0, nt, .inl (va_cpy ff ft a0 th 310))) :: R)) A) args s (0) (0) A) (F0 m 3 ls []) := by
    intro fuel
    induction fuel with
    | zero => intro i hi hf; exact absurd hf (Nat.not_lt_zero _)
    | succ fuel ih_loop_1 =>
      intro i hi hfuel_loop_1 H locs hw ls hl
      refine lv_iload hx hb dX4_copy_3 (lv_at hl 0 rfl) ?_
      refine lv_sipush (v := 310) hx hb dX4_copy_5 (by decide) ?_
      refine lv_icmp_ge (tgt := 29) hx hb dX4_copy_8 (by decide) (fun c_2 => ?_) (fun c_2 => ?_)
      · skip
        have c_2 := Int32.not_lt.mpr c_2
        have c_2 : ¬ (i < 310) := fun q => c_2 ((nI_ltI (a := i) (b := 310) (by omega) (by omega)).mpr q)
        obtain rfl : i = 310 := by omega
        exact g_vret () X hw hr hlocks trivial rfl dX4_copy_29
      · skip
        have c_2 := Int32.not_le.mp c_2
        have c_2 : i < 310 := (nI_ltI (a := i) (b := 310) (by omega) (by omega)).mp c_2
        refine lv_aload_n hx hb dX4_copy_11 rfl (lv_at hl 3 rfl) ?_
        refine lv_iload_n hx hb dX4_copy_12 rfl (lv_at hl 4 rfl) ?_
        refine lv_iload hx hb dX4_copy_13 (lv_at hl 0 rfl) ?_
        refine lv_iadd hx hb dX4_copy_15 ?_
        refine g_addN (a := th) (b := i) ?_
        refine lv_aload_n hx hb dX4_copy_16 rfl (lv_at hl 1 rfl) ?_
        refine lv_iload_n hx hb dX4_copy_17 rfl (lv_at hl 2 rfl) ?_
        refine lv_iload hx hb dX4_copy_18 (lv_at hl 0 rfl) ?_
        refine lv_iadd hx hb dX4_copy_20 ?_
        refine g_addN (a := a0) (b := i) ?_
        refine g_iald X hw 0 rfl (i := a0 + i) (by omega) (by first | decide | omega) dX4_copy_21 ?_
        refine g_iast (ws' := (fr, .inl (dA 0, nf, .inl ff)) :: (tt, .inl (dA 0, nt, .inl (upd (va_cpy ff ft a0 th i) (th + i) (ff (a0 + i))))) :: R) X hw 1 rfl (i := th + i) (by omega) (by first | decide | omega) rfl dX4_copy_22 (fun H locs hw => ?_)
        refine lv_iinc (v := nI (i + 1)) (lv' := [(4, .int (nI (i + 1))), (0, .ref fr), (1, .int (nI a0)), (2, .ref tt), (3, .int (nI th))]) hx hb dX4_copy_23 hl (k := 0) rfl (nI_add i 1) (by decide) rfl (fun ls hl => ?_)
        refine lv_goto (tgt := 3) hx hb dX4_copy_26 (by decide) ?_
        have hw : gW D A ((fr, .inl (dA 0, nf, .inl ff)) :: (tt, .inl (dA 0, nt, .inl (va_cpy ff ft a0 th (i + 1)))) :: R) s _ _ := g_ws hw (by rw [cpy_s])
        exact ih_loop_1 (i + 1) (by first | assumption | omega) (by omega) _ _ hw _ (lv_sub hl [0, 1, 2, 3, 4] rfl)
  have hw : gW D A ((fr, .inl (dA 0, nf, .inl ff)) :: (tt, .inl (dA 0, nt, .inl (va_cpy ff ft a0 th 0))) :: R) s _ _ := g_ws hw (by rw [cpy_0])
  exact loop_1 ((310 - 0) + 1) 0 (by first | assumption | omega) (Nat.lt_succ_self _) _ _ hw _ (lv_sub hl [0, 1, 2, 3, 4] rfl)

set_option maxHeartbeats 4000000 in
theorem m_X4_sum (l : Launch) (D : va_G) (dA : Nat → ClassId) (A : Nat → Prop) (E : State → Prop) (hE : gSt A E) (R : va_W) (mo ag ab ah asv ai al at_ : Nat) (ch hs ty wy wd li pl iw : Int32) (g : gG) (fm mn : Nat) (h1 : fm + mn ≤ 310) : Met l yX4_sum (ws_ yX4_sum cX4_sum 5 (Option.some FieldType.int)) ({ frames := 0, cells := 0, slots := 0, locals := 0 }) (va_Pc [.ref mo, .int (nI fm), .int (nI mn)] (gB D dA A E ((mo, .inr (4, [.ref ag, .ref ab, .ref ah, .int ch, .ref asv, .int hs, .ref ai, .int ty, .int wy, .int wd, .ref al, .int li, .int pl, .int iw, .ref at_])) :: (ag, .inl (dA 0, 310, .inl g)) :: R))) (va_Qi (fun (r : Int32) (_ : Unit) => r = sumL g fm mn) (fun _ => gE D A ((mo, .inr (4, [.ref ag, .ref ab, .ref ah, .int ch, .ref asv, .int hs, .ref ai, .int ty, .int wy, .int wd, .ref al, .int li, .int pl, .int iw, .ref at_])) :: (ag, .inl (dA 0, 310, .inl g)) :: R)) A) (0) (0) A := by
  refine g_start rfl rfl ?_
  intro p e s m args below meth c ls X hr hlocks hin hw hl
  have hx := X.1.1
  have hb := X.1.2.1
  have hl : lv_has ls 5 [(0, .ref mo), (1, .int (nI fm)), (2, .int (nI mn))] := hl
  refine lv_iconst (v := 0) hx hb dX4_sum_0 (by decide) ?_
  refine lv_istore_n (lv' := [(3, .int 0), (0, .ref mo), (1, .int (nI fm)), (2, .int (nI mn))]) hx hb dX4_sum_1 rfl hl (by decide) rfl (fun ls hl => ?_)
  refine lv_iconst (v := 0) hx hb dX4_sum_2 (by decide) ?_
  refine lv_istore (lv' := [(4, .int 0), (3, .int 0), (0, .ref mo), (1, .int (nI fm)), (2, .int (nI mn))]) hx hb dX4_sum_3 hl (by decide) rfl (fun ls hl => ?_)
  have loop_1 : ∀ (fuel : Nat) (i : Nat), ∀ (hi : i ≤ mn), (mn - i) < fuel → ∀ (H : Heap) (locs : List Loc) (hw : gW D A ((mo, .inr (4, [.ref ag, .ref ab, .ref ah, .int ch, .ref asv, .int hs, .ref ai, .int ty, .int wy, .int wd, .ref al, .int li, .int pl, .int iw, .ref at_])) :: (ag, .inl (dA 0, 310, .inl g)) :: R) s H locs) (ls : Array Slot) (hl : lv_has ls 5 [(4, .int (nI i)), (3, .int (sumL g fm i)), (0, .ref mo), (1, .int (nI fm)), (2, .int (nI mn))]), W p l e ({ frames := 0, cells := 0, slots := 0, locals := 0 }) s m args below meth c H locs (0) (0) (MQ below (va_Qi (fun (r : Int32) (_ : Unit) => r = sumL g fm mn) (fun _ => gE D A ((mo, .inr (4, [.ref ag, .ref ab, .ref ah, .int ch, .ref asv, .int hs, .ref ai, .int ty, .int wy, .int wd, .ref al, .int li, .int pl, .int iw, .ref at_])) :: (ag, .inl (dA 0, 310, .inl g)) :: R)) A) args s (0) (0) A) (F0 m 5 ls []) := by
    intro fuel
    induction fuel with
    | zero => intro i hi hf; exact absurd hf (Nat.not_lt_zero _)
    | succ fuel ih_loop_1 =>
      intro i hi hfuel_loop_1 H locs hw ls hl
      refine lv_iload hx hb dX4_sum_5 (lv_at hl 0 rfl) ?_
      refine lv_iload_n hx hb dX4_sum_7 rfl (lv_at hl 4 rfl) ?_
      refine lv_icmp_ge (tgt := 29) hx hb dX4_sum_8 (by decide) (fun c_2 => ?_) (fun c_2 => ?_)
      · skip
        have c_2 := Int32.not_lt.mpr c_2
        have c_2 : ¬ (i < mn) := fun q => c_2 ((nI_ltI (a := i) (b := mn) (by omega) (by omega)).mpr q)
        refine lv_iload_n hx hb dX4_sum_29 rfl (lv_at hl 1 rfl) ?_
        obtain rfl : mn = i := by omega
        exact g_iret (v := sumL g fm mn) () X hw hr hlocks  rfl rfl dX4_sum_30
      · skip
        have c_2 := Int32.not_le.mp c_2
        have c_2 : i < mn := (nI_ltI (a := i) (b := mn) (by omega) (by omega)).mp c_2
        refine lv_iload_n hx hb dX4_sum_11 rfl (lv_at hl 1 rfl) ?_
        refine lv_aload_n hx hb dX4_sum_12 rfl (lv_at hl 2 rfl) ?_
        refine g_get X cfX4 hw 0 0 rfl rfl q1834 rfl rfl dX4_sum_13 ?_
        refine lv_iload_n hx hb dX4_sum_16 rfl (lv_at hl 3 rfl) ?_
        refine lv_iload hx hb dX4_sum_17 (lv_at hl 0 rfl) ?_
        refine lv_iadd hx hb dX4_sum_19 ?_
        refine g_addN (a := fm) (b := i) ?_
        refine g_iald X hw 1 rfl (i := fm + i) (by omega) (by first | decide | omega) dX4_sum_20 ?_
        refine lv_iadd hx hb dX4_sum_21 ?_
        refine lv_istore_n (lv' := [(3, .int ((sumL g fm i) + (g (fm + i)))), (4, .int (nI i)), (0, .ref mo), (1, .int (nI fm)), (2, .int (nI mn))]) hx hb dX4_sum_22 rfl hl (by decide) rfl (fun ls hl => ?_)
        refine lv_iinc (v := nI (i + 1)) (lv' := [(4, .int (nI (i + 1))), (3, .int ((sumL g fm i) + (g (fm + i)))), (0, .ref mo), (1, .int (nI fm)), (2, .int (nI mn))]) hx hb dX4_sum_23 hl (k := 1) rfl (nI_add i 1) (by decide) rfl (fun ls hl => ?_)
        refine lv_goto (tgt := 5) hx hb dX4_sum_26 (by decide) ?_
        have hl : lv_has ls 5 [(4, .int (nI (i + 1))), (3, .int ((sumL g fm i) + (g (fm + i)))), (0, .ref mo), (1, .int (nI fm)), (2, .int (nI mn))] := (lv_sub hl [0, 1, 2, 3, 4] rfl)
        have hl : lv_has ls 5 [(4, .int (nI (i + 1))), (3, .int (sumL g fm (i + 1))), (0, .ref mo), (1, .int (nI fm)), (2, .int (nI mn))] := by exact hl
        exact ih_loop_1 (i + 1) (by first | assumption | omega) (by omega) _ _ hw _ (hl)
  have hl : lv_has ls 5 [(4, .int 0), (3, .int 0), (0, .ref mo), (1, .int (nI fm)), (2, .int (nI mn))] := (lv_sub hl [0, 1, 2, 3, 4] rfl)
  have hl : lv_has ls 5 [(4, .int 0), (3, .int (sumL g fm 0)), (0, .ref mo), (1, .int (nI fm)), (2, .int (nI mn))] := by exact hl
  exact loop_1 ((mn - 0) + 1) 0 (by first | assumption | omega) (Nat.lt_succ_self _) _ _ hw _ (hl)

set_option maxHeartbeats 4000000 in
theorem m_X4_ledgeOf (l : Launch) (D : va_G) (dA : Nat → ClassId) (A : Nat → Prop) (E : State → Prop) (hE : gSt A E) (R : va_W) (mo ag ab ah asv ai al at_ : Nat) (ch hs ty wy wd li pl iw : Int32) (g : gG) (v w : Int32) : Met l yX4_ledgeOf (ws_ yX4_ledgeOf cX4_ledgeOf 3 (Option.some FieldType.int)) ({ frames := 2, cells := 0, slots := 0, locals := 42 }) (va_Pc [.ref mo, .int v, .int w] (gB D dA A E ((mo, .inr (4, [.ref ag, .ref ab, .ref ah, .int ch, .ref asv, .int hs, .ref ai, .int ty, .int wy, .int wd, .ref al, .int li, .int pl, .int iw, .ref at_])) :: (ag, .inl (dA 0, 310, .inl g)) :: R))) (va_Qi (fun (r : Int32) (_ : Unit) => r = q_ledgeOf g v w) (fun _ => gE D A ((mo, .inr (4, [.ref ag, .ref ab, .ref ah, .int ch, .ref asv, .int hs, .ref ai, .int ty, .int wy, .int wd, .ref al, .int li, .int pl, .int iw, .ref at_])) :: (ag, .inl (dA 0, 310, .inl g)) :: R)) A) (0) (0) A := by
  refine g_start rfl rfl ?_
  intro p e s m args below meth c ls X hr hlocks hin hw hl
  have hx := X.1.1
  have hb := X.1.2.1
  have hl : lv_has ls 3 [(0, .ref mo), (1, .int v), (2, .int w)] := hl
  refine lv_iload_n hx hb dX4_ledgeOf_0 rfl (lv_at hl 1 rfl) ?_
  refine va_calli (va_runS (As := [.int v]) (rest := []) X.1 (m_X4_isLedge l D dA A E hE ((mo, .inr (4, [.ref ag, .ref ab, .ref ah, .int ch, .ref asv, .int hs, .ref ai, .int ty, .int wy, .int wd, .ref al, .int li, .int pl, .int iw, .ref at_])) :: (ag, .inl (dA 0, 310, .inl g)) :: R) v) (va_cwS 1 X.1.2.2.2.2 (lw_S q1885 q1886 q80 q1887) rfl rfl rfl (by decide +kernel) ⟨Nat.le_of_ble_eq_true rfl, Nat.le_of_ble_eq_true rfl⟩) (g_preS hE X.2 hw) rfl rfl hl.1 rfl (lv_room (Nat.le_of_ble_eq_true rfl)) dX4_ledgeOf_1 ⟨Nat.le_of_ble_eq_true rfl, Nat.le_of_ble_eq_true rfl⟩) hw.2.2 (fun q _ h => h) (fun q h => h) (fun r_2 u t H locs ht hvm h_1 hB hz9 hk9 hS => ?_)
  have hw : gW D A ((mo, .inr (4, [.ref ag, .ref ab, .ref ah, .int ch, .ref asv, .int hs, .ref ai, .int ty, .int wy, .int wd, .ref al, .int li, .int pl, .int iw, .ref at_])) :: (ag, .inl (dA 0, 310, .inl g)) :: R) s H locs := g_aft ht hB hS
  obtain rfl : r_2 = bZ (inR v 0 5) := h_1
  refine lv_if_ne (tgt := 10) hx hb dX4_ledgeOf_4 (by decide) (fun c_3 => ?_) (fun c_3 => ?_)
  · skip
    have c_3 := bZ_1 c_3
    obtain ⟨j, hj, ej⟩ := inR6 c_3
    subst ej
    have kj : (nI j).toNatClampNeg = j := nI_clamp (by omega)
    refine lv_iload_n hx hb dX4_ledgeOf_10 rfl (lv_at hl 2 rfl) ?_
    by_cases c_4 : w = 0
    · refine lv_tableIn (tgt := 52) hx hb dX4_ledgeOf_11 (by rw [c_4]; decide) (by rw [c_4]; decide) (by rw [c_4]; rfl) (by decide) ?_
      subst c_4
      refine lv_iload_n hx hb dX4_ledgeOf_52 rfl (lv_at hl 1 rfl) ?_
      refine va_calli (va_runS (As := [.int (nI j)]) (rest := []) X.1 (m_X4_heightOf l D dA A E hE ((mo, .inr (4, [.ref ag, .ref ab, .ref ah, .int ch, .ref asv, .int hs, .ref ai, .int ty, .int wy, .int wd, .ref al, .int li, .int pl, .int iw, .ref at_])) :: (ag, .inl (dA 0, 310, .inl g)) :: R) j) (va_cwS 1 X.1.2.2.2.2 (lw_S q1891 q1892 q80 q1893) rfl rfl rfl (by decide +kernel) ⟨Nat.le_of_ble_eq_true rfl, Nat.le_of_ble_eq_true rfl⟩) (g_preS hE X.2 hw) rfl rfl hl.1 rfl (lv_room (Nat.le_of_ble_eq_true rfl)) dX4_ledgeOf_53 ⟨Nat.le_of_ble_eq_true rfl, Nat.le_of_ble_eq_true rfl⟩) hw.2.2 (fun q _ h => h) (fun q h => h) (fun r_6 u t H locs ht hvm h_5 hB hz9 hk9 hS => ?_)
      have hw : gW D A ((mo, .inr (4, [.ref ag, .ref ab, .ref ah, .int ch, .ref asv, .int hs, .ref ai, .int ty, .int wy, .int wd, .ref al, .int li, .int pl, .int iw, .ref at_])) :: (ag, .inl (dA 0, 310, .inl g)) :: R) s H locs := g_aft ht hB hS
      obtain rfl : r_6 = heightI j := h_5
      exact g_iret (v := heightI j) () X hw hr hlocks  (by simp [q_ledgeOf, c_3, kj]) rfl dX4_ledgeOf_56
    by_cases c_7 : w = 1
    · refine lv_tableIn (tgt := 57) hx hb dX4_ledgeOf_11 (by rw [c_7]; decide) (by rw [c_7]; decide) (by rw [c_7]; rfl) (by decide) ?_
      subst c_7
      refine lv_aload_n hx hb dX4_ledgeOf_57 rfl (lv_at hl 0 rfl) ?_
      refine g_get X cfX4 hw 0 0 rfl rfl q1834 rfl rfl dX4_ledgeOf_58 ?_
      refine lv_bipush (v := 8) hx hb dX4_ledgeOf_61 (by decide) ?_
      refine lv_bipush (v := 6) hx hb dX4_ledgeOf_63 (by decide) ?_
      refine lv_iload_n hx hb dX4_ledgeOf_65 rfl (lv_at hl 2 rfl) ?_
      refine lv_iconst (v := 1) hx hb dX4_ledgeOf_66 (by decide) ?_
      refine lv_isub hx hb dX4_ledgeOf_67 ?_
      refine g_top (y := 0) (by decide) ?_
      refine lv_imul hx hb dX4_ledgeOf_68 ?_
      refine g_top (y := 0) (by decide) ?_
      refine lv_iadd hx hb dX4_ledgeOf_69 ?_
      refine g_top (y := 8) (by decide) ?_
      refine lv_iload_n hx hb dX4_ledgeOf_70 rfl (lv_at hl 1 rfl) ?_
      refine lv_iadd hx hb dX4_ledgeOf_71 ?_
      refine g_addN (a := 8) (b := j) ?_
      refine g_iald X hw 1 rfl (i := 8 + j) (by omega) (by first | decide | omega) dX4_ledgeOf_72 ?_
      exact g_iret (v := g (8 + j)) () X hw hr hlocks  (by simp [q_ledgeOf, c_3, kj, c_4]) rfl dX4_ledgeOf_73
    by_cases c_8 : w = 2
    · refine lv_tableIn (tgt := 57) hx hb dX4_ledgeOf_11 (by rw [c_8]; decide) (by rw [c_8]; decide) (by rw [c_8]; rfl) (by decide) ?_
      subst c_8
      refine lv_aload_n hx hb dX4_ledgeOf_57 rfl (lv_at hl 0 rfl) ?_
      refine g_get X cfX4 hw 0 0 rfl rfl q1834 rfl rfl dX4_ledgeOf_58 ?_
      refine lv_bipush (v := 8) hx hb dX4_ledgeOf_61 (by decide) ?_
      refine lv_bipush (v := 6) hx hb dX4_ledgeOf_63 (by decide) ?_
      refine lv_iload_n hx hb dX4_ledgeOf_65 rfl (lv_at hl 2 rfl) ?_
      refine lv_iconst (v := 1) hx hb dX4_ledgeOf_66 (by decide) ?_
      refine lv_isub hx hb dX4_ledgeOf_67 ?_
      refine g_top (y := 1) (by decide) ?_
      refine lv_imul hx hb dX4_ledgeOf_68 ?_
      refine g_top (y := 6) (by decide) ?_
      refine lv_iadd hx hb dX4_ledgeOf_69 ?_
      refine g_top (y := 14) (by decide) ?_
      refine lv_iload_n hx hb dX4_ledgeOf_70 rfl (lv_at hl 1 rfl) ?_
      refine lv_iadd hx hb dX4_ledgeOf_71 ?_
      refine g_addN (a := 14) (b := j) ?_
      refine g_iald X hw 1 rfl (i := 14 + j) (by omega) (by first | decide | omega) dX4_ledgeOf_72 ?_
      exact g_iret (v := g (14 + j)) () X hw hr hlocks  (by simp [q_ledgeOf, c_3, kj, c_4, c_7]) rfl dX4_ledgeOf_73
    by_cases c_9 : w = 3
    · refine lv_tableIn (tgt := 57) hx hb dX4_ledgeOf_11 (by rw [c_9]; decide) (by rw [c_9]; decide) (by rw [c_9]; rfl) (by decide) ?_
      subst c_9
      refine lv_aload_n hx hb dX4_ledgeOf_57 rfl (lv_at hl 0 rfl) ?_
      refine g_get X cfX4 hw 0 0 rfl rfl q1834 rfl rfl dX4_ledgeOf_58 ?_
      refine lv_bipush (v := 8) hx hb dX4_ledgeOf_61 (by decide) ?_
      refine lv_bipush (v := 6) hx hb dX4_ledgeOf_63 (by decide) ?_
      refine lv_iload_n hx hb dX4_ledgeOf_65 rfl (lv_at hl 2 rfl) ?_
      refine lv_iconst (v := 1) hx hb dX4_ledgeOf_66 (by decide) ?_
      refine lv_isub hx hb dX4_ledgeOf_67 ?_
      refine g_top (y := 2) (by decide) ?_
      refine lv_imul hx hb dX4_ledgeOf_68 ?_
      refine g_top (y := 12) (by decide) ?_
      refine lv_iadd hx hb dX4_ledgeOf_69 ?_
      refine g_top (y := 20) (by decide) ?_
      refine lv_iload_n hx hb dX4_ledgeOf_70 rfl (lv_at hl 1 rfl) ?_
      refine lv_iadd hx hb dX4_ledgeOf_71 ?_
      refine g_addN (a := 20) (b := j) ?_
      refine g_iald X hw 1 rfl (i := 20 + j) (by omega) (by first | decide | omega) dX4_ledgeOf_72 ?_
      exact g_iret (v := g (20 + j)) () X hw hr hlocks  (by simp [q_ledgeOf, c_3, kj, c_4, c_7, c_8]) rfl dX4_ledgeOf_73
    by_cases c_10 : w = 4
    · refine lv_tableIn (tgt := 74) hx hb dX4_ledgeOf_11 (by rw [c_10]; decide) (by rw [c_10]; decide) (by rw [c_10]; rfl) (by decide) ?_
      subst c_10
      refine lv_aload_n hx hb dX4_ledgeOf_74 rfl (lv_at hl 0 rfl) ?_
      refine g_get X cfX4 hw 0 0 rfl rfl q1834 rfl rfl dX4_ledgeOf_75 ?_
      refine lv_bipush (v := 44) hx hb dX4_ledgeOf_78 (by decide) ?_
      refine lv_iload_n hx hb dX4_ledgeOf_80 rfl (lv_at hl 1 rfl) ?_
      refine lv_iadd hx hb dX4_ledgeOf_81 ?_
      refine g_addN (a := 44) (b := j) ?_
      refine g_iald X hw 1 rfl (i := 44 + j) (by omega) (by first | decide | omega) dX4_ledgeOf_82 ?_
      refine lv_iconst (v := (-1)) hx hb dX4_ledgeOf_83 (by decide) ?_
      refine lv_icmp_ne (tgt := 92) hx hb dX4_ledgeOf_84 (by decide) (fun c_11 => ?_) (fun c_11 => ?_)
      · skip
        refine lv_aload_n hx hb dX4_ledgeOf_92 rfl (lv_at hl 0 rfl) ?_
        refine g_get X cfX4 hw 0 0 rfl rfl q1834 rfl rfl dX4_ledgeOf_93 ?_
        refine lv_bipush (v := 44) hx hb dX4_ledgeOf_96 (by decide) ?_
        refine lv_iload_n hx hb dX4_ledgeOf_98 rfl (lv_at hl 1 rfl) ?_
        refine lv_iadd hx hb dX4_ledgeOf_99 ?_
        refine g_addN (a := 44) (b := j) ?_
        refine g_iald X hw 1 rfl (i := 44 + j) (by omega) (by first | decide | omega) dX4_ledgeOf_100 ?_
        exact g_iret (v := g (44 + j)) () X hw hr hlocks  (by simp [q_ledgeOf, c_3, kj, c_4, c_7, c_8, c_9, c_11]) rfl dX4_ledgeOf_101
      · skip
        refine lv_bipush (v := (-15)) hx hb dX4_ledgeOf_87 (by decide) ?_
        refine lv_goto (tgt := 101) hx hb dX4_ledgeOf_89 (by decide) ?_
        exact g_iret (v := (-15)) () X hw hr hlocks  (by simp [q_ledgeOf, c_3, kj, c_4, c_7, c_8, c_9, c_11]) rfl dX4_ledgeOf_101
    by_cases c_12 : w = 5
    · refine lv_tableIn (tgt := 102) hx hb dX4_ledgeOf_11 (by rw [c_12]; decide) (by rw [c_12]; decide) (by rw [c_12]; rfl) (by decide) ?_
      subst c_12
      refine lv_aload_n hx hb dX4_ledgeOf_102 rfl (lv_at hl 0 rfl) ?_
      refine g_get X cfX4 hw 0 0 rfl rfl q1834 rfl rfl dX4_ledgeOf_103 ?_
      refine lv_bipush (v := 32) hx hb dX4_ledgeOf_106 (by decide) ?_
      refine lv_bipush (v := 6) hx hb dX4_ledgeOf_108 (by decide) ?_
      refine lv_iload_n hx hb dX4_ledgeOf_110 rfl (lv_at hl 2 rfl) ?_
      refine lv_iconst (v := 5) hx hb dX4_ledgeOf_111 (by decide) ?_
      refine lv_isub hx hb dX4_ledgeOf_112 ?_
      refine g_top (y := 0) (by decide) ?_
      refine lv_imul hx hb dX4_ledgeOf_113 ?_
      refine g_top (y := 0) (by decide) ?_
      refine lv_iadd hx hb dX4_ledgeOf_114 ?_
      refine g_top (y := 32) (by decide) ?_
      refine lv_iload_n hx hb dX4_ledgeOf_115 rfl (lv_at hl 1 rfl) ?_
      refine lv_iadd hx hb dX4_ledgeOf_116 ?_
      refine g_addN (a := 32) (b := j) ?_
      refine g_iald X hw 1 rfl (i := 32 + j) (by omega) (by first | decide | omega) dX4_ledgeOf_117 ?_
      exact g_iret (v := g (32 + j)) () X hw hr hlocks  (by simp [q_ledgeOf, c_3, kj, c_4, c_7, c_8, c_9, c_10]) rfl dX4_ledgeOf_118
    by_cases c_13 : w = 6
    · refine lv_tableIn (tgt := 102) hx hb dX4_ledgeOf_11 (by rw [c_13]; decide) (by rw [c_13]; decide) (by rw [c_13]; rfl) (by decide) ?_
      subst c_13
      refine lv_aload_n hx hb dX4_ledgeOf_102 rfl (lv_at hl 0 rfl) ?_
      refine g_get X cfX4 hw 0 0 rfl rfl q1834 rfl rfl dX4_ledgeOf_103 ?_
      refine lv_bipush (v := 32) hx hb dX4_ledgeOf_106 (by decide) ?_
      refine lv_bipush (v := 6) hx hb dX4_ledgeOf_108 (by decide) ?_
      refine lv_iload_n hx hb dX4_ledgeOf_110 rfl (lv_at hl 2 rfl) ?_
      refine lv_iconst (v := 5) hx hb dX4_ledgeOf_111 (by decide) ?_
      refine lv_isub hx hb dX4_ledgeOf_112 ?_
      refine g_top (y := 1) (by decide) ?_
      refine lv_imul hx hb dX4_ledgeOf_113 ?_
      refine g_top (y := 6) (by decide) ?_
      refine lv_iadd hx hb dX4_ledgeOf_114 ?_
      refine g_top (y := 38) (by decide) ?_
      refine lv_iload_n hx hb dX4_ledgeOf_115 rfl (lv_at hl 1 rfl) ?_
      refine lv_iadd hx hb dX4_ledgeOf_116 ?_
      refine g_addN (a := 38) (b := j) ?_
      refine g_iald X hw 1 rfl (i := 38 + j) (by omega) (by first | decide | omega) dX4_ledgeOf_117 ?_
      exact g_iret (v := g (38 + j)) () X hw hr hlocks  (by simp [q_ledgeOf, c_3, kj, c_4, c_7, c_8, c_9, c_10, c_12]) rfl dX4_ledgeOf_118
    refine g_tabOut7 (tgt := 119) hx hb dX4_ledgeOf_11 c_4 c_7 c_8 c_9 c_10 c_12 c_13 (by decide) ?_
    refine lv_bipush (v := (-12)) hx hb dX4_ledgeOf_119 (by decide) ?_
    exact g_iret (v := (-12)) () X hw hr hlocks  (by simp [q_ledgeOf, c_3, kj, c_4, c_7, c_8, c_9, c_10, c_12, c_13]) rfl dX4_ledgeOf_121
  · skip
    have c_3 := bZ_0.mp c_3
    refine lv_bipush (v := (-11)) hx hb dX4_ledgeOf_7 (by decide) ?_
    exact g_iret (v := (-11)) () X hw hr hlocks  (by simp [q_ledgeOf, c_3]) rfl dX4_ledgeOf_9

set_option maxHeartbeats 4000000 in
theorem m_X4_depth (l : Launch) (D : va_G) (dA : Nat → ClassId) (A : Nat → Prop) (E : State → Prop) (hE : gSt A E) (R : va_W) (mo ag ab ah asv ai al at_ : Nat) (ch hs ty wy wd li pl iw : Int32) (g : gG) (v w : Int32) : Met l yX4_depth (ws_ yX4_depth cX4_depth 3 (Option.some FieldType.int)) ({ frames := 2, cells := 0, slots := 0, locals := 42 }) (va_Pc [.ref mo, .int v, .int w] (gB D dA A E ((mo, .inr (4, [.ref ag, .ref ab, .ref ah, .int ch, .ref asv, .int hs, .ref ai, .int ty, .int wy, .int wd, .ref al, .int li, .int pl, .int iw, .ref at_])) :: (ag, .inl (dA 0, 310, .inl g)) :: R))) (va_Qi (fun (r : Int32) (_ : Unit) => r = q_depth g v w) (fun _ => gE D A ((mo, .inr (4, [.ref ag, .ref ab, .ref ah, .int ch, .ref asv, .int hs, .ref ai, .int ty, .int wy, .int wd, .ref al, .int li, .int pl, .int iw, .ref at_])) :: (ag, .inl (dA 0, 310, .inl g)) :: R)) A) (0) (0) A := by
  refine g_start rfl rfl ?_
  intro p e s m args below meth c ls X hr hlocks hin hw hl
  have hx := X.1.1
  have hb := X.1.2.1
  have hl : lv_has ls 3 [(0, .ref mo), (1, .int v), (2, .int w)] := hl
  refine lv_iload_n hx hb dX4_depth_0 rfl (lv_at hl 1 rfl) ?_
  refine va_calli (va_runS (As := [.int v]) (rest := []) X.1 (m_X4_isLedge l D dA A E hE ((mo, .inr (4, [.ref ag, .ref ab, .ref ah, .int ch, .ref asv, .int hs, .ref ai, .int ty, .int wy, .int wd, .ref al, .int li, .int pl, .int iw, .ref at_])) :: (ag, .inl (dA 0, 310, .inl g)) :: R) v) (va_cwS 1 X.1.2.2.2.2 (lw_S q1885 q1886 q80 q1887) rfl rfl rfl (by decide +kernel) ⟨Nat.le_of_ble_eq_true rfl, Nat.le_of_ble_eq_true rfl⟩) (g_preS hE X.2 hw) rfl rfl hl.1 rfl (lv_room (Nat.le_of_ble_eq_true rfl)) dX4_depth_1 ⟨Nat.le_of_ble_eq_true rfl, Nat.le_of_ble_eq_true rfl⟩) hw.2.2 (fun q _ h => h) (fun q h => h) (fun r_2 u t H locs ht hvm h_1 hB hz9 hk9 hS => ?_)
  have hw : gW D A ((mo, .inr (4, [.ref ag, .ref ab, .ref ah, .int ch, .ref asv, .int hs, .ref ai, .int ty, .int wy, .int wd, .ref al, .int li, .int pl, .int iw, .ref at_])) :: (ag, .inl (dA 0, 310, .inl g)) :: R) s H locs := g_aft ht hB hS
  obtain rfl : r_2 = bZ (inR v 0 5) := h_1
  refine lv_if_eq (tgt := 23) hx hb dX4_depth_4 (by decide) (fun c_3 => ?_) (fun c_3 => ?_)
  · skip
    have c_3 := bZ_0.mp c_3
    refine lv_bipush (v := (-11)) hx hb dX4_depth_23 (by decide) ?_
    exact g_iret (v := (-11)) () X hw hr hlocks  (by simp [q_depth, c_3]) rfl dX4_depth_25
  · skip
    have c_3 := bZ_1 c_3
    obtain ⟨j, hj, ej⟩ := inR6 c_3
    subst ej
    have kj : (nI j).toNatClampNeg = j := nI_clamp (by omega)
    refine lv_iload_n hx hb dX4_depth_7 rfl (lv_at hl 2 rfl) ?_
    refine va_calli (va_runS (As := [.int w]) (rest := []) X.1 (m_X4_isPoint l D dA A E hE ((mo, .inr (4, [.ref ag, .ref ab, .ref ah, .int ch, .ref asv, .int hs, .ref ai, .int ty, .int wy, .int wd, .ref al, .int li, .int pl, .int iw, .ref at_])) :: (ag, .inl (dA 0, 310, .inl g)) :: R) w) (va_cwS 1 X.1.2.2.2.2 (lw_S q1898 q1899 q80 q1900) rfl rfl rfl (by decide +kernel) ⟨Nat.le_of_ble_eq_true rfl, Nat.le_of_ble_eq_true rfl⟩) (g_preS hE X.2 hw) rfl rfl hl.1 rfl (lv_room (Nat.le_of_ble_eq_true rfl)) dX4_depth_8 ⟨Nat.le_of_ble_eq_true rfl, Nat.le_of_ble_eq_true rfl⟩) hw.2.2 (fun q _ h => h) (fun q h => h) (fun r_5 u t H locs ht hvm h_4 hB hz9 hk9 hS => ?_)
    have hw : gW D A ((mo, .inr (4, [.ref ag, .ref ab, .ref ah, .int ch, .ref asv, .int hs, .ref ai, .int ty, .int wy, .int wd, .ref al, .int li, .int pl, .int iw, .ref at_])) :: (ag, .inl (dA 0, 310, .inl g)) :: R) s H locs := g_aft ht hB hS
    obtain rfl : r_5 = bZ (inR w 0 9) := h_4
    refine lv_if_eq (tgt := 23) hx hb dX4_depth_11 (by decide) (fun c_6 => ?_) (fun c_6 => ?_)
    · skip
      have c_6 := bZ_0.mp c_6
      refine lv_bipush (v := (-11)) hx hb dX4_depth_23 (by decide) ?_
      exact g_iret (v := (-11)) () X hw hr hlocks  (by simp [q_depth, c_3, kj, c_6]) rfl dX4_depth_25
    · skip
      have c_6 := bZ_1 c_6
      obtain ⟨q, hq, eq⟩ := inR10 c_6
      subst eq
      have kq : (nI q).toNatClampNeg = q := nI_clamp (by omega)
      refine lv_aload_n hx hb dX4_depth_14 rfl (lv_at hl 0 rfl) ?_
      refine lv_iload_n hx hb dX4_depth_15 rfl (lv_at hl 1 rfl) ?_
      refine lv_iload_n hx hb dX4_depth_16 rfl (lv_at hl 2 rfl) ?_
      refine va_calli (va_runV (As := [.int (nI j), .int (nI q)]) (rest := []) X.1 (m_X4_depthOf l D dA A E hE R mo ag ab ah asv ai al at_ ch hs ty wy wd li pl iw g j q (by first | assumption | omega) (by first | assumption | omega)) (cwV 2 X.1.2.2.2.2 (lw_V q1901 q1903 qs24 q80 q1904) rfl rfl rfl (by decide +kernel) ⟨Nat.le_of_ble_eq_true rfl, Nat.le_of_ble_eq_true rfl⟩) (g_preV hE X.2 hw 0 rfl rfl) rfl rfl hl.1 rfl (lv_room (Nat.le_of_ble_eq_true rfl)) dX4_depth_17 ⟨Nat.le_of_ble_eq_true rfl, Nat.le_of_ble_eq_true rfl⟩) hw.2.2 (fun q _ h => h) (fun q h => h) (fun r_8 u t H locs ht hvm h_7 hB hz9 hk9 hS => ?_)
      have hw : gW D A ((mo, .inr (4, [.ref ag, .ref ab, .ref ah, .int ch, .ref asv, .int hs, .ref ai, .int ty, .int wy, .int wd, .ref al, .int li, .int pl, .int iw, .ref at_])) :: (ag, .inl (dA 0, 310, .inl g)) :: R) s H locs := g_aft ht hB hS
      obtain rfl : r_8 = depthI g j q := h_7
      refine lv_goto (tgt := 25) hx hb dX4_depth_20 (by decide) ?_
      exact g_iret (v := depthI g j q) () X hw hr hlocks  (by simp [q_depth, c_3, kj, c_6, kq]) rfl dX4_depth_25

set_option maxHeartbeats 4000000 in
theorem m_X4_castOf (l : Launch) (D : va_G) (dA : Nat → ClassId) (A : Nat → Prop) (E : State → Prop) (hE : gSt A E) (R : va_W) (mo ag ab ah asv ai al at_ : Nat) (ch hs ty wy wd li pl iw : Int32) (g : gG) (hI : gInv g) (v w : Int32) : Met l yX4_castOf (ws_ yX4_castOf cX4_castOf 3 (Option.some FieldType.int)) ({ frames := 2, cells := 0, slots := 0, locals := 43 }) (va_Pc [.ref mo, .int v, .int w] (gB D dA A E ((mo, .inr (4, [.ref ag, .ref ab, .ref ah, .int ch, .ref asv, .int hs, .ref ai, .int ty, .int wy, .int wd, .ref al, .int li, .int pl, .int iw, .ref at_])) :: (ag, .inl (dA 0, 310, .inl g)) :: R))) (va_Qi (fun (r : Int32) (_ : Unit) => r = q_castOf g v w) (fun _ => gE D A ((mo, .inr (4, [.ref ag, .ref ab, .ref ah, .int ch, .ref asv, .int hs, .ref ai, .int ty, .int wy, .int wd, .ref al, .int li, .int pl, .int iw, .ref at_])) :: (ag, .inl (dA 0, 310, .inl g)) :: R)) A) (0) (0) A := by
  refine g_start rfl rfl ?_
  intro p e s m args below meth c ls X hr hlocks hin hw hl
  have hx := X.1.1
  have hb := X.1.2.1
  have hl : lv_has ls 3 [(0, .ref mo), (1, .int v), (2, .int w)] := hl
  have hI2 := hI.c.2
  have hI4 := hI.m.2
  have hI6 := hI.k.2
  refine lv_aload_n hx hb dX4_castOf_0 rfl (lv_at hl 0 rfl) ?_
  refine lv_iload_n hx hb dX4_castOf_1 rfl (lv_at hl 1 rfl) ?_
  refine va_calli (va_runV (As := [.int v]) (rest := []) X.1 (m_X4_isCast l D dA A E hE R mo ag ab ah asv ai al at_ ch hs ty wy wd li pl iw g v) (cwV 1 X.1.2.2.2.2 (lw_V q1944 q1946 qs31 q80 q1947) rfl rfl rfl (by decide +kernel) ⟨Nat.le_of_ble_eq_true rfl, Nat.le_of_ble_eq_true rfl⟩) (g_preV hE X.2 hw 0 rfl rfl) rfl rfl hl.1 rfl (lv_room (Nat.le_of_ble_eq_true rfl)) dX4_castOf_2 ⟨Nat.le_of_ble_eq_true rfl, Nat.le_of_ble_eq_true rfl⟩) hw.2.2 (fun q _ h => h) (fun q h => h) (fun r_2 u t H locs ht hvm h_1 hB hz9 hk9 hS => ?_)
  have hw : gW D A ((mo, .inr (4, [.ref ag, .ref ab, .ref ah, .int ch, .ref asv, .int hs, .ref ai, .int ty, .int wy, .int wd, .ref al, .int li, .int pl, .int iw, .ref at_])) :: (ag, .inl (dA 0, 310, .inl g)) :: R) s H locs := g_aft ht hB hS
  obtain rfl : r_2 = bZ (inR v 0 (g 50 - 1)) := h_1
  refine lv_if_ne (tgt := 11) hx hb dX4_castOf_5 (by decide) (fun c_3 => ?_) (fun c_3 => ?_)
  · skip
    have c_3 := bZ_1 c_3
    obtain ⟨j, hj, ej⟩ := hI.inC c_3
    subst ej
    have kj : (nI j).toNatClampNeg = j := nI_clamp (by omega)
    refine lv_iload_n hx hb dX4_castOf_11 rfl (lv_at hl 2 rfl) ?_
    by_cases c_4 : w = 0
    · refine lv_tableIn (tgt := 44) hx hb dX4_castOf_12 (by rw [c_4]; decide) (by rw [c_4]; decide) (by rw [c_4]; rfl) (by decide) ?_
      subst c_4
      refine lv_aload_n hx hb dX4_castOf_44 rfl (lv_at hl 0 rfl) ?_
      refine g_get X cfX4 hw 0 0 rfl rfl q1834 rfl rfl dX4_castOf_45 ?_
      refine lv_bipush (v := 51) hx hb dX4_castOf_48 (by decide) ?_
      refine lv_iload_n hx hb dX4_castOf_50 rfl (lv_at hl 1 rfl) ?_
      refine lv_iadd hx hb dX4_castOf_51 ?_
      refine g_addN (a := 51) (b := j) ?_
      refine g_iald X hw 1 rfl (i := 51 + j) (by omega) (by first | decide | omega) dX4_castOf_52 ?_
      exact g_iret (v := g (51 + j)) () X hw hr hlocks  (by simp [q_castOf, c_3, kj]) rfl dX4_castOf_53
    by_cases c_5 : w = 1
    · refine lv_tableIn (tgt := 54) hx hb dX4_castOf_12 (by rw [c_5]; decide) (by rw [c_5]; decide) (by rw [c_5]; rfl) (by decide) ?_
      subst c_5
      refine lv_aload_n hx hb dX4_castOf_54 rfl (lv_at hl 0 rfl) ?_
      refine g_get X cfX4 hw 0 0 rfl rfl q1834 rfl rfl dX4_castOf_55 ?_
      refine lv_bipush (v := 71) hx hb dX4_castOf_58 (by decide) ?_
      refine lv_iload_n hx hb dX4_castOf_60 rfl (lv_at hl 1 rfl) ?_
      refine lv_iadd hx hb dX4_castOf_61 ?_
      refine g_addN (a := 71) (b := j) ?_
      refine g_iald X hw 1 rfl (i := 71 + j) (by omega) (by first | decide | omega) dX4_castOf_62 ?_
      exact g_iret (v := g (71 + j)) () X hw hr hlocks  (by simp [q_castOf, c_3, kj, c_4]) rfl dX4_castOf_63
    by_cases c_6 : w = 2
    · refine lv_tableIn (tgt := 64) hx hb dX4_castOf_12 (by rw [c_6]; decide) (by rw [c_6]; decide) (by rw [c_6]; rfl) (by decide) ?_
      subst c_6
      refine lv_aload_n hx hb dX4_castOf_64 rfl (lv_at hl 0 rfl) ?_
      refine g_get X cfX4 hw 0 0 rfl rfl q1834 rfl rfl dX4_castOf_65 ?_
      refine lv_bipush (v := 61) hx hb dX4_castOf_68 (by decide) ?_
      refine lv_iload_n hx hb dX4_castOf_70 rfl (lv_at hl 1 rfl) ?_
      refine lv_iadd hx hb dX4_castOf_71 ?_
      refine g_addN (a := 61) (b := j) ?_
      refine g_iald X hw 1 rfl (i := 61 + j) (by omega) (by first | decide | omega) dX4_castOf_72 ?_
      exact g_iret (v := g (61 + j)) () X hw hr hlocks  (by simp [q_castOf, c_3, kj, c_4, c_5]) rfl dX4_castOf_73
    by_cases c_7 : w = 3
    · refine lv_tableIn (tgt := 74) hx hb dX4_castOf_12 (by rw [c_7]; decide) (by rw [c_7]; decide) (by rw [c_7]; rfl) (by decide) ?_
      subst c_7
      refine lv_aload_n hx hb dX4_castOf_74 rfl (lv_at hl 0 rfl) ?_
      refine g_get X cfX4 hw 0 0 rfl rfl q1834 rfl rfl dX4_castOf_75 ?_
      refine lv_bipush (v := 81) hx hb dX4_castOf_78 (by decide) ?_
      refine lv_iload_n hx hb dX4_castOf_80 rfl (lv_at hl 1 rfl) ?_
      refine lv_iadd hx hb dX4_castOf_81 ?_
      refine g_addN (a := 81) (b := j) ?_
      refine g_iald X hw 1 rfl (i := 81 + j) (by omega) (by first | decide | omega) dX4_castOf_82 ?_
      exact g_iret (v := g (81 + j)) () X hw hr hlocks  (by simp [q_castOf, c_3, kj, c_4, c_5, c_6]) rfl dX4_castOf_83
    refine g_tabOut4 (tgt := 84) hx hb dX4_castOf_12 c_4 c_5 c_6 c_7 (by decide) ?_
    refine lv_bipush (v := (-12)) hx hb dX4_castOf_84 (by decide) ?_
    exact g_iret (v := (-12)) () X hw hr hlocks  (by simp [q_castOf, c_3, kj, c_4, c_5, c_6, c_7]) rfl dX4_castOf_86
  · skip
    have c_3 := bZ_0.mp c_3
    refine lv_bipush (v := (-11)) hx hb dX4_castOf_8 (by decide) ?_
    exact g_iret (v := (-11)) () X hw hr hlocks  (by simp [q_castOf, c_3]) rfl dX4_castOf_10

set_option maxHeartbeats 4000000 in
theorem m_X4_castDepth (l : Launch) (D : va_G) (dA : Nat → ClassId) (A : Nat → Prop) (E : State → Prop) (hE : gSt A E) (R : va_W) (mo ag ab ah asv ai al at_ : Nat) (ch hs ty wy wd li pl iw : Int32) (g : gG) (hI : gInv g) (v w : Int32) : Met l yX4_castDepth (ws_ yX4_castDepth cX4_castDepth 3 (Option.some FieldType.int)) ({ frames := 2, cells := 0, slots := 0, locals := 43 }) (va_Pc [.ref mo, .int v, .int w] (gB D dA A E ((mo, .inr (4, [.ref ag, .ref ab, .ref ah, .int ch, .ref asv, .int hs, .ref ai, .int ty, .int wy, .int wd, .ref al, .int li, .int pl, .int iw, .ref at_])) :: (ag, .inl (dA 0, 310, .inl g)) :: R))) (va_Qi (fun (r : Int32) (_ : Unit) => r = q_castDepth g v w) (fun _ => gE D A ((mo, .inr (4, [.ref ag, .ref ab, .ref ah, .int ch, .ref asv, .int hs, .ref ai, .int ty, .int wy, .int wd, .ref al, .int li, .int pl, .int iw, .ref at_])) :: (ag, .inl (dA 0, 310, .inl g)) :: R)) A) (0) (0) A := by
  refine g_start rfl rfl ?_
  intro p e s m args below meth c ls X hr hlocks hin hw hl
  have hx := X.1.1
  have hb := X.1.2.1
  have hl : lv_has ls 3 [(0, .ref mo), (1, .int v), (2, .int w)] := hl
  have hI2 := hI.c.2
  have hI4 := hI.m.2
  have hI6 := hI.k.2
  refine lv_aload_n hx hb dX4_castDepth_0 rfl (lv_at hl 0 rfl) ?_
  refine lv_iload_n hx hb dX4_castDepth_1 rfl (lv_at hl 1 rfl) ?_
  refine va_calli (va_runV (As := [.int v]) (rest := []) X.1 (m_X4_isCast l D dA A E hE R mo ag ab ah asv ai al at_ ch hs ty wy wd li pl iw g v) (cwV 1 X.1.2.2.2.2 (lw_V q1944 q1946 qs31 q80 q1947) rfl rfl rfl (by decide +kernel) ⟨Nat.le_of_ble_eq_true rfl, Nat.le_of_ble_eq_true rfl⟩) (g_preV hE X.2 hw 0 rfl rfl) rfl rfl hl.1 rfl (lv_room (Nat.le_of_ble_eq_true rfl)) dX4_castDepth_2 ⟨Nat.le_of_ble_eq_true rfl, Nat.le_of_ble_eq_true rfl⟩) hw.2.2 (fun q _ h => h) (fun q h => h) (fun r_2 u t H locs ht hvm h_1 hB hz9 hk9 hS => ?_)
  have hw : gW D A ((mo, .inr (4, [.ref ag, .ref ab, .ref ah, .int ch, .ref asv, .int hs, .ref ai, .int ty, .int wy, .int wd, .ref al, .int li, .int pl, .int iw, .ref at_])) :: (ag, .inl (dA 0, 310, .inl g)) :: R) s H locs := g_aft ht hB hS
  obtain rfl : r_2 = bZ (inR v 0 (g 50 - 1)) := h_1
  refine lv_if_eq (tgt := 32) hx hb dX4_castDepth_5 (by decide) (fun c_3 => ?_) (fun c_3 => ?_)
  · skip
    have c_3 := bZ_0.mp c_3
    refine lv_bipush (v := (-11)) hx hb dX4_castDepth_32 (by decide) ?_
    exact g_iret (v := (-11)) () X hw hr hlocks  (by simp [q_castDepth, c_3]) rfl dX4_castDepth_34
  · skip
    have c_3 := bZ_1 c_3
    obtain ⟨j, hj, ej⟩ := hI.inC c_3
    subst ej
    have kj : (nI j).toNatClampNeg = j := nI_clamp (by omega)
    refine lv_iload_n hx hb dX4_castDepth_8 rfl (lv_at hl 2 rfl) ?_
    refine va_calli (va_runS (As := [.int w]) (rest := []) X.1 (m_X4_isPoint l D dA A E hE ((mo, .inr (4, [.ref ag, .ref ab, .ref ah, .int ch, .ref asv, .int hs, .ref ai, .int ty, .int wy, .int wd, .ref al, .int li, .int pl, .int iw, .ref at_])) :: (ag, .inl (dA 0, 310, .inl g)) :: R) w) (va_cwS 1 X.1.2.2.2.2 (lw_S q1898 q1899 q80 q1900) rfl rfl rfl (by decide +kernel) ⟨Nat.le_of_ble_eq_true rfl, Nat.le_of_ble_eq_true rfl⟩) (g_preS hE X.2 hw) rfl rfl hl.1 rfl (lv_room (Nat.le_of_ble_eq_true rfl)) dX4_castDepth_9 ⟨Nat.le_of_ble_eq_true rfl, Nat.le_of_ble_eq_true rfl⟩) hw.2.2 (fun q _ h => h) (fun q h => h) (fun r_5 u t H locs ht hvm h_4 hB hz9 hk9 hS => ?_)
    have hw : gW D A ((mo, .inr (4, [.ref ag, .ref ab, .ref ah, .int ch, .ref asv, .int hs, .ref ai, .int ty, .int wy, .int wd, .ref al, .int li, .int pl, .int iw, .ref at_])) :: (ag, .inl (dA 0, 310, .inl g)) :: R) s H locs := g_aft ht hB hS
    obtain rfl : r_5 = bZ (inR w 0 9) := h_4
    refine lv_if_eq (tgt := 32) hx hb dX4_castDepth_12 (by decide) (fun c_6 => ?_) (fun c_6 => ?_)
    · skip
      have c_6 := bZ_0.mp c_6
      refine lv_bipush (v := (-11)) hx hb dX4_castDepth_32 (by decide) ?_
      exact g_iret (v := (-11)) () X hw hr hlocks  (by simp [q_castDepth, c_3, kj, c_6]) rfl dX4_castDepth_34
    · skip
      have c_6 := bZ_1 c_6
      obtain ⟨q, hq, eq⟩ := inR10 c_6
      subst eq
      have kq : (nI q).toNatClampNeg = q := nI_clamp (by omega)
      refine lv_aload_n hx hb dX4_castDepth_15 rfl (lv_at hl 0 rfl) ?_
      refine g_get X cfX4 hw 0 0 rfl rfl q1834 rfl rfl dX4_castDepth_16 ?_
      refine lv_bipush (v := 91) hx hb dX4_castDepth_19 (by decide) ?_
      refine lv_bipush (v := 10) hx hb dX4_castDepth_21 (by decide) ?_
      refine lv_iload_n hx hb dX4_castDepth_23 rfl (lv_at hl 1 rfl) ?_
      refine lv_imul hx hb dX4_castDepth_24 ?_
      refine g_mulN (a := 10) (b := j) ?_
      refine lv_iadd hx hb dX4_castDepth_25 ?_
      refine g_addN (a := 91) (b := 10 * j) ?_
      refine lv_iload_n hx hb dX4_castDepth_26 rfl (lv_at hl 2 rfl) ?_
      refine lv_iadd hx hb dX4_castDepth_27 ?_
      refine g_addN (a := 91 + 10 * j) (b := q) ?_
      refine g_iald X hw 1 rfl (i := 91 + 10 * j + q) (by omega) (by first | decide | omega) dX4_castDepth_28 ?_
      refine lv_goto (tgt := 34) hx hb dX4_castDepth_29 (by decide) ?_
      exact g_iret (v := g (91 + 10 * j + q)) () X hw hr hlocks  (by simp [q_castDepth, c_3, kj, c_6, kq]) rfl dX4_castDepth_34

set_option maxHeartbeats 4000000 in
theorem m_X4_casts (l : Launch) (D : va_G) (dA : Nat → ClassId) (A : Nat → Prop) (E : State → Prop) (hE : gSt A E) (R : va_W) (mo ag ab ah asv ai al at_ : Nat) (ch hs ty wy wd li pl iw : Int32) (g : gG) (hI : gInv g) (v : Int32) : Met l yX4_casts (ws_ yX4_casts cX4_casts 4 (Option.some FieldType.int)) ({ frames := 2, cells := 0, slots := 0, locals := 42 }) (va_Pc [.ref mo, .int v] (gB D dA A E ((mo, .inr (4, [.ref ag, .ref ab, .ref ah, .int ch, .ref asv, .int hs, .ref ai, .int ty, .int wy, .int wd, .ref al, .int li, .int pl, .int iw, .ref at_])) :: (ag, .inl (dA 0, 310, .inl g)) :: R))) (va_Qi (fun (r : Int32) (_ : Unit) => r = gr_v (p_castsI g v)) (fun _ => gE D A ((mo, .inr (4, [.ref ag, .ref ab, .ref ah, .int ch, .ref asv, .int hs, .ref ai, .int ty, .int (gr_w wy (p_castsI g v)), .int (gr_d wd (p_castsI g v)), .ref al, .int li, .int pl, .int iw, .ref at_])) :: (ag, .inl (dA 0, 310, .inl (gr_g g (p_castsI g v)))) :: R)) A) (0) (0) A := by
  refine g_start rfl rfl ?_
  intro p e s m args below meth c ls X hr hlocks hin hw hl
  have hx := X.1.1
  have hb := X.1.2.1
  have hl : lv_has ls 4 [(0, .ref mo), (1, .int v)] := hl
  have hI2 := hI.c.2
  have hI4 := hI.m.2
  have hI6 := hI.k.2
  refine lv_iload_n hx hb dX4_casts_0 rfl (lv_at hl 1 rfl) ?_
  refine va_calli (va_runS (As := [.int v]) (rest := []) X.1 (m_X4_isLedge l D dA A E hE ((mo, .inr (4, [.ref ag, .ref ab, .ref ah, .int ch, .ref asv, .int hs, .ref ai, .int ty, .int wy, .int wd, .ref al, .int li, .int pl, .int iw, .ref at_])) :: (ag, .inl (dA 0, 310, .inl g)) :: R) v) (va_cwS 1 X.1.2.2.2.2 (lw_S q1885 q1886 q80 q1887) rfl rfl rfl (by decide +kernel) ⟨Nat.le_of_ble_eq_true rfl, Nat.le_of_ble_eq_true rfl⟩) (g_preS hE X.2 hw) rfl rfl hl.1 rfl (lv_room (Nat.le_of_ble_eq_true rfl)) dX4_casts_1 ⟨Nat.le_of_ble_eq_true rfl, Nat.le_of_ble_eq_true rfl⟩) hw.2.2 (fun q _ h => h) (fun q h => h) (fun r_2 u t H locs ht hvm h_1 hB hz9 hk9 hS => ?_)
  have hw : gW D A ((mo, .inr (4, [.ref ag, .ref ab, .ref ah, .int ch, .ref asv, .int hs, .ref ai, .int ty, .int wy, .int wd, .ref al, .int li, .int pl, .int iw, .ref at_])) :: (ag, .inl (dA 0, 310, .inl g)) :: R) s H locs := g_aft ht hB hS
  obtain rfl : r_2 = bZ (inR v 0 5) := h_1
  refine lv_if_ne (tgt := 10) hx hb dX4_casts_4 (by decide) (fun c_3 => ?_) (fun c_3 => ?_)
  · skip
    have c_3 := bZ_1 c_3
    obtain ⟨j, hj, ej⟩ := inR6 c_3
    subst ej
    have kj : (nI j).toNatClampNeg = j := nI_clamp (by omega)
    refine lv_aload_n hx hb dX4_casts_10 rfl (lv_at hl 0 rfl) ?_
    refine g_get X cfX4 hw 0 0 rfl rfl q1834 rfl rfl dX4_casts_11 ?_
    refine lv_bipush (v := 50) hx hb dX4_casts_14 (by decide) ?_
    refine g_iald X hw 1 rfl (i := 50) (by decide) (by decide) dX4_casts_16 ?_
    refine lv_istore_n (lv' := [(2, .int (g 50)), (0, .ref mo), (1, .int (nI j))]) hx hb dX4_casts_17 rfl hl (by decide) rfl (fun ls hl => ?_)
    refine lv_iload_n hx hb dX4_casts_18 rfl (lv_at hl 0 rfl) ?_
    refine lv_bipush (v := 10) hx hb dX4_casts_19 (by decide) ?_
    refine lv_icmp_ne (tgt := 32) hx hb dX4_casts_21 (by decide) (fun c_4 => ?_) (fun c_4 => ?_)
    · skip
      have c_4n := c_4
      rw [hI.c.1] at c_4n
      have c_4n : ¬ (nn g 50 = 10) := fun q => c_4n ((nI_eq (a := nn g 50) (b := 10) (by omega) (by omega)).mpr q)
      refine lv_aload_n hx hb dX4_casts_32 rfl (lv_at hl 1 rfl) ?_
      refine g_get X cfX4 hw 0 0 rfl rfl q1834 rfl rfl dX4_casts_33 ?_
      refine lv_bipush (v := 14) hx hb dX4_casts_36 (by decide) ?_
      refine lv_iload_n hx hb dX4_casts_38 rfl (lv_at hl 2 rfl) ?_
      refine lv_iadd hx hb dX4_casts_39 ?_
      refine g_addN (a := 14) (b := j) ?_
      refine g_iald X hw 1 rfl (i := 14 + j) (by omega) (by first | decide | omega) dX4_casts_40 ?_
      refine lv_if_eq (tgt := 59) hx hb dX4_casts_41 (by decide) (fun c_5 => ?_) (fun c_5 => ?_)
      · skip
        refine lv_aload_n hx hb dX4_casts_59 rfl (lv_at hl 1 rfl) ?_
        refine g_get X cfX4 hw 0 0 rfl rfl q1834 rfl rfl dX4_casts_60 ?_
        refine lv_bipush (v := 8) hx hb dX4_casts_63 (by decide) ?_
        refine lv_iload_n hx hb dX4_casts_65 rfl (lv_at hl 2 rfl) ?_
        refine lv_iadd hx hb dX4_casts_66 ?_
        refine g_addN (a := 8) (b := j) ?_
        refine g_iald X hw 1 rfl (i := 8 + j) (by omega) (by first | decide | omega) dX4_casts_67 ?_
        refine lv_bipush (v := 6) hx hb dX4_casts_68 (by decide) ?_
        refine lv_icmp_lt (tgt := 88) hx hb dX4_casts_70 (by decide) (fun c_6 => ?_) (fun c_6 => ?_)
        · skip
          refine lv_aload_n hx hb dX4_casts_88 rfl (lv_at hl 1 rfl) ?_
          refine g_get X cfX4 hw 0 0 rfl rfl q1834 rfl rfl dX4_casts_89 ?_
          refine lv_iconst (v := 3) hx hb dX4_casts_92 (by decide) ?_
          refine g_iald X hw 1 rfl (i := 3) (by decide) (by decide) dX4_casts_93 ?_
          refine lv_iconst (v := 3) hx hb dX4_casts_94 (by decide) ?_
          refine lv_icmp_ge (tgt := 112) hx hb dX4_casts_95 (by decide) (fun c_7 => ?_) (fun c_7 => ?_)
          · skip
            have c_7 := Int32.not_lt.mpr c_7
            refine lv_aload_n hx hb dX4_casts_112 rfl (lv_at hl 1 rfl) ?_
            refine g_get X cfX4 hw 0 0 rfl rfl q1834 rfl rfl dX4_casts_113 ?_
            refine lv_iconst (v := 3) hx hb dX4_casts_116 (by decide) ?_
            refine lv_dup2_11 hx hb dX4_casts_117 rfl rfl ?_
            refine g_iald X hw 1 rfl (i := 3) (by decide) (by decide) dX4_casts_118 ?_
            refine lv_iconst (v := 3) hx hb dX4_casts_119 (by decide) ?_
            refine lv_isub hx hb dX4_casts_120 ?_
            refine g_iast (ws' := (mo, .inr (4, [.ref ag, .ref ab, .ref ah, .int ch, .ref asv, .int hs, .ref ai, .int ty, .int wy, .int wd, .ref al, .int li, .int pl, .int iw, .ref at_])) :: (ag, .inl (dA 0, 310, .inl (upd g 3 ((g 3) - 3)))) :: R) X hw 1 rfl (i := 3) (by decide) (by decide) rfl dX4_casts_121 (fun H locs hw => ?_)
            refine lv_aload_n hx hb dX4_casts_122 rfl (lv_at hl 1 rfl) ?_
            refine g_get X cfX4 hw 0 0 rfl rfl q1834 rfl rfl dX4_casts_123 ?_
            refine lv_bipush (v := 51) hx hb dX4_casts_126 (by decide) ?_
            refine lv_iload_n hx hb dX4_casts_128 rfl (lv_at hl 0 rfl) ?_
            refine lv_iadd hx hb dX4_casts_129 ?_
            refine g_addE (a := 51) (b := nn g 50) rfl hI.c.1 ?_
            refine lv_iload_n hx hb dX4_casts_130 rfl (lv_at hl 2 rfl) ?_
            refine g_iast (ws' := (mo, .inr (4, [.ref ag, .ref ab, .ref ah, .int ch, .ref asv, .int hs, .ref ai, .int ty, .int wy, .int wd, .ref al, .int li, .int pl, .int iw, .ref at_])) :: (ag, .inl (dA 0, 310, .inl (upd (upd g 3 ((g 3) - 3)) (51 + nn g 50) (nI j)))) :: R) X hw 1 rfl (i := 51 + nn g 50) (by omega) (by first | decide | omega) rfl dX4_casts_131 (fun H locs hw => ?_)
            refine lv_iconst (v := 0) hx hb dX4_casts_132 (by decide) ?_
            refine lv_istore_n (lv' := [(3, .int 0), (2, .int (g 50)), (0, .ref mo), (1, .int (nI j))]) hx hb dX4_casts_133 rfl hl (by decide) rfl (fun ls hl => ?_)
            have loop_8 : ∀ (fuel : Nat) (i : Nat), ∀ (hi : i ≤ 10), (10 - i) < fuel → ∀ (H : Heap) (locs : List Loc) (hw : gW D A ((mo, .inr (4, [.ref ag, .ref ab, .ref ah, .int ch, .ref asv, .int hs, .ref ai, .int ty, .int wy, .int wd, .ref al, .int li, .int pl, .int iw, .ref at_])) :: (ag, .inl (dA 0, 310, .inl (castLoop (upd (upd g 3 (g 3 - 3)) (51 + nn g 50) (nI j)) j (nn g 50) i))) :: R) s H locs) (ls : Array Slot) (hl : lv_has ls 4 [(3, .int (nI i)), (2, .int (g 50)), (0, .ref mo), (1, .int (nI j))]), W p l e ({ frames := 2, cells := 0, slots := 0, locals := 42 }) s m args below meth c H locs (0) (0) (MQ below (va_Qi (fun (r : Int32) (_ : Unit) => r = gr_v (p_castsI g (nI j))) (fun _ => gE D A ((mo, .inr (4, [.ref ag, .ref ab, .ref ah, .int ch, .ref asv, .int hs, .ref ai, .int ty, .int (gr_w wy (p_castsI g (nI j))), .int (gr_d wd (p_castsI g (nI j))), .ref al, .int li, .int pl, .int iw, .ref at_])) :: (ag, .inl (dA 0, 310, .inl (gr_g g (p_castsI g (nI j))))) :: R)) A) args s (0) (0) A) (F0 m 134 ls []) := by
              intro fuel
              induction fuel with
              | zero => intro i hi hf; exact absurd hf (Nat.not_lt_zero _)
              | succ fuel ih_loop_8 =>
                intro i hi hfuel_loop_8 H locs hw ls hl
                refine lv_iload_n hx hb dX4_casts_134 rfl (lv_at hl 0 rfl) ?_
                refine lv_bipush (v := 10) hx hb dX4_casts_135 (by decide) ?_
                refine lv_icmp_ge (tgt := 166) hx hb dX4_casts_137 (by decide) (fun c_9 => ?_) (fun c_9 => ?_)
                · skip
                  have c_9 := Int32.not_lt.mpr c_9
                  have c_9 : ¬ (i < 10) := fun q => c_9 ((nI_ltI (a := i) (b := 10) (by omega) (by omega)).mpr q)
                  obtain rfl : i = 10 := by omega
                  refine lv_aload_n hx hb dX4_casts_166 rfl (lv_at hl 2 rfl) ?_
                  refine g_get X cfX4 hw 0 0 rfl rfl q1834 rfl rfl dX4_casts_167 ?_
                  refine lv_bipush (v := 50) hx hb dX4_casts_170 (by decide) ?_
                  refine lv_dup2_11 hx hb dX4_casts_172 rfl rfl ?_
                  refine g_iald X hw 1 rfl (i := 50) (by decide) (by decide) dX4_casts_173 ?_
                  refine g_top (y := g 50) ((castLoop_n _ (by omega)).trans ((upd_n (by omega)).trans (upd_n (by omega)))) ?_
                  refine lv_iconst (v := 1) hx hb dX4_casts_174 (by decide) ?_
                  refine lv_iadd hx hb dX4_casts_175 ?_
                  refine g_iast (ws' := (mo, .inr (4, [.ref ag, .ref ab, .ref ah, .int ch, .ref asv, .int hs, .ref ai, .int ty, .int wy, .int wd, .ref al, .int li, .int pl, .int iw, .ref at_])) :: (ag, .inl (dA 0, 310, .inl (upd (castLoop (upd (upd g 3 (g 3 - 3)) (51 + nn g 50) (nI j)) j (nn g 50) 10) 50 ((g 50) + 1)))) :: R) X hw 1 rfl (i := 50) (by decide) (by decide) rfl dX4_casts_176 (fun H locs hw => ?_)
                  refine lv_iload_n hx hb dX4_casts_177 rfl (lv_at hl 1 rfl) ?_
                  have hop : p_castsI g (nI j) = .inr (g 50, upd (castLoop (upd (upd g 3 (g 3 - 3)) (51 + nn g 50) (nI j)) j (nn g 50) 10) 50 ((g 50) + 1)) := by simp [p_castsI, p_casts, c_3, kj, c_4, c_5, c_6, c_7, c_9]
                  exact g_iret (v := g 50) () X hw hr hlocks  (by rw [hop]; rfl) (by rw [hop]; rfl) dX4_casts_178
                · skip
                  have c_9 := Int32.not_le.mp c_9
                  have c_9 : i < 10 := (nI_ltI (a := i) (b := 10) (by omega) (by omega)).mp c_9
                  refine lv_aload_n hx hb dX4_casts_140 rfl (lv_at hl 2 rfl) ?_
                  refine g_get X cfX4 hw 0 0 rfl rfl q1834 rfl rfl dX4_casts_141 ?_
                  refine lv_bipush (v := 91) hx hb dX4_casts_144 (by decide) ?_
                  refine lv_bipush (v := 10) hx hb dX4_casts_146 (by decide) ?_
                  refine lv_iload_n hx hb dX4_casts_148 rfl (lv_at hl 1 rfl) ?_
                  refine lv_imul hx hb dX4_casts_149 ?_
                  refine g_mulE (a := 10) (b := nn g 50) rfl hI.c.1 ?_
                  refine lv_iadd hx hb dX4_casts_150 ?_
                  refine g_addN (a := 91) (b := 10 * (nn g 50)) ?_
                  refine lv_iload_n hx hb dX4_casts_151 rfl (lv_at hl 0 rfl) ?_
                  refine lv_iadd hx hb dX4_casts_152 ?_
                  refine g_addN (a := 91 + (10 * (nn g 50))) (b := i) ?_
                  refine lv_aload_n hx hb dX4_casts_153 rfl (lv_at hl 2 rfl) ?_
                  refine lv_iload_n hx hb dX4_casts_154 rfl (lv_at hl 3 rfl) ?_
                  refine lv_iload_n hx hb dX4_casts_155 rfl (lv_at hl 0 rfl) ?_
                  refine va_calli (va_runV (As := [.int (nI j), .int (nI i)]) (rest := [.int (nI (91 + (10 * (nn g 50)) + i)), .ref ag]) X.1 (m_X4_depthOf l D dA A E hE R mo ag ab ah asv ai al at_ ch hs ty wy wd li pl iw (castLoop (upd (upd g 3 (g 3 - 3)) (51 + nn g 50) (nI j)) j (nn g 50) i) j i (by first | assumption | omega) (by first | assumption | omega)) (cwV 2 X.1.2.2.2.2 (lw_V q1901 q1903 qs24 q80 q1904) rfl rfl rfl (by decide +kernel) ⟨Nat.le_of_ble_eq_true rfl, Nat.le_of_ble_eq_true rfl⟩) (g_preV hE X.2 hw 0 rfl rfl) rfl rfl hl.1 rfl (lv_room (Nat.le_of_ble_eq_true rfl)) dX4_casts_156 ⟨Nat.le_of_ble_eq_true rfl, Nat.le_of_ble_eq_true rfl⟩) hw.2.2 (fun q _ h => h) (fun q h => h) (fun r_11 u t H locs ht hvm h_10 hB hz9 hk9 hS => ?_)
                  have hw : gW D A ((mo, .inr (4, [.ref ag, .ref ab, .ref ah, .int ch, .ref asv, .int hs, .ref ai, .int ty, .int wy, .int wd, .ref al, .int li, .int pl, .int iw, .ref at_])) :: (ag, .inl (dA 0, 310, .inl (castLoop (upd (upd g 3 (g 3 - 3)) (51 + nn g 50) (nI j)) j (nn g 50) i))) :: R) s H locs := g_aft ht hB hS
                  obtain rfl : r_11 = depthI (castLoop (upd (upd g 3 (g 3 - 3)) (51 + nn g 50) (nI j)) j (nn g 50) i) j i := h_10
                  refine g_iast (ws' := (mo, .inr (4, [.ref ag, .ref ab, .ref ah, .int ch, .ref asv, .int hs, .ref ai, .int ty, .int wy, .int wd, .ref al, .int li, .int pl, .int iw, .ref at_])) :: (ag, .inl (dA 0, 310, .inl (upd (castLoop (upd (upd g 3 (g 3 - 3)) (51 + nn g 50) (nI j)) j (nn g 50) i) (91 + (10 * (nn g 50)) + i) (depthI (castLoop (upd (upd g 3 (g 3 - 3)) (51 + nn g 50) (nI j)) j (nn g 50) i) j i)))) :: R) X hw 1 rfl (i := 91 + (10 * (nn g 50)) + i) (by omega) (by first | decide | omega) rfl dX4_casts_159 (fun H locs hw => ?_)
                  refine lv_iinc (v := nI (i + 1)) (lv' := [(3, .int (nI (i + 1))), (2, .int (g 50)), (0, .ref mo), (1, .int (nI j))]) hx hb dX4_casts_160 hl (k := 0) rfl (nI_add i 1) (by decide) rfl (fun ls hl => ?_)
                  refine lv_goto (tgt := 134) hx hb dX4_casts_163 (by decide) ?_
                  have hw : gW D A ((mo, .inr (4, [.ref ag, .ref ab, .ref ah, .int ch, .ref asv, .int hs, .ref ai, .int ty, .int wy, .int wd, .ref al, .int li, .int pl, .int iw, .ref at_])) :: (ag, .inl (dA 0, 310, .inl (castLoop (upd (upd g 3 (g 3 - 3)) (51 + nn g 50) (nI j)) j (nn g 50) (i + 1)))) :: R) s _ _ := g_ws hw (by rw [depthI_cl (by omega)]; rfl)
                  exact ih_loop_8 (i + 1) (by first | assumption | omega) (by omega) _ _ hw _ (lv_sub hl [0, 1, 2, 3] rfl)
            have hw : gW D A ((mo, .inr (4, [.ref ag, .ref ab, .ref ah, .int ch, .ref asv, .int hs, .ref ai, .int ty, .int wy, .int wd, .ref al, .int li, .int pl, .int iw, .ref at_])) :: (ag, .inl (dA 0, 310, .inl (castLoop (upd (upd g 3 (g 3 - 3)) (51 + nn g 50) (nI j)) j (nn g 50) 0))) :: R) s _ _ := g_ws hw (by rfl)
            exact loop_8 ((10 - 0) + 1) 0 (by first | assumption | omega) (Nat.lt_succ_self _) _ _ hw _ (lv_sub hl [0, 1, 2, 3] rfl)
          · skip
            have c_7 := Int32.not_le.mp c_7
            refine lv_aload_n hx hb dX4_casts_98 rfl (lv_at hl 1 rfl) ?_
            refine lv_iconst (v := 4) hx hb dX4_casts_99 (by decide) ?_
            refine lv_iconst (v := 3) hx hb dX4_casts_100 (by decide) ?_
            refine lv_aload_n hx hb dX4_casts_101 rfl (lv_at hl 1 rfl) ?_
            refine g_get X cfX4 hw 0 0 rfl rfl q1834 rfl rfl dX4_casts_102 ?_
            refine lv_iconst (v := 3) hx hb dX4_casts_105 (by decide) ?_
            refine g_iald X hw 1 rfl (i := 3) (by decide) (by decide) dX4_casts_106 ?_
            refine lv_isub hx hb dX4_casts_107 ?_
            refine va_calli (va_runV (As := [.int 4, .int (3 - (g 3))]) (rest := []) X.1 (m_X4_refused l D dA A E hE ((ag, .inl (dA 0, 310, .inl g)) :: R) mo ag ab ah asv ai al at_ ch hs ty wy wd li pl iw (by first | assumption | omega) 4 (3 - (g 3))) (cwV 2 X.1.2.2.2.2 (lw_V q1924 q1926 qs28 q80 q1927) rfl rfl rfl (by decide +kernel) ⟨Nat.le_of_ble_eq_true rfl, Nat.le_of_ble_eq_true rfl⟩) (g_preV hE X.2 hw 0 rfl rfl) rfl rfl hl.1 rfl (lv_room (Nat.le_of_ble_eq_true rfl)) dX4_casts_108 ⟨Nat.le_of_ble_eq_true rfl, Nat.le_of_ble_eq_true rfl⟩) hw.2.2 (fun q _ h => h) (fun q h => h) (fun r_13 u t H locs ht hvm h_12 hB hz9 hk9 hS => ?_)
            have hw : gW D A ((mo, .inr (4, [.ref ag, .ref ab, .ref ah, .int ch, .ref asv, .int hs, .ref ai, .int ty, .int 4, .int (3 - (g 3)), .ref al, .int li, .int pl, .int iw, .ref at_])) :: (ag, .inl (dA 0, 310, .inl g)) :: R) s H locs := g_aft ht hB hS
            obtain rfl : r_13 = -14 := h_12
            have hop : p_castsI g (nI j) = .inl (4, 3 - (g 3)) := by simp [p_castsI, p_casts, c_3, kj, c_4, c_5, c_6, c_7]
            exact g_iret (v := -14) () X hw hr hlocks  (by rw [hop]; rfl) (by rw [hop]; rfl) dX4_casts_111
        · skip
          refine lv_aload_n hx hb dX4_casts_73 rfl (lv_at hl 1 rfl) ?_
          refine lv_iconst (v := 3) hx hb dX4_casts_74 (by decide) ?_
          refine lv_aload_n hx hb dX4_casts_75 rfl (lv_at hl 1 rfl) ?_
          refine g_get X cfX4 hw 0 0 rfl rfl q1834 rfl rfl dX4_casts_76 ?_
          refine lv_bipush (v := 8) hx hb dX4_casts_79 (by decide) ?_
          refine lv_iload_n hx hb dX4_casts_81 rfl (lv_at hl 2 rfl) ?_
          refine lv_iadd hx hb dX4_casts_82 ?_
          refine g_addN (a := 8) (b := j) ?_
          refine g_iald X hw 1 rfl (i := 8 + j) (by omega) (by first | decide | omega) dX4_casts_83 ?_
          refine va_calli (va_runV (As := [.int 3, .int (g (8 + j))]) (rest := []) X.1 (m_X4_refused l D dA A E hE ((ag, .inl (dA 0, 310, .inl g)) :: R) mo ag ab ah asv ai al at_ ch hs ty wy wd li pl iw (by first | assumption | omega) 3 (g (8 + j))) (cwV 2 X.1.2.2.2.2 (lw_V q1924 q1926 qs28 q80 q1927) rfl rfl rfl (by decide +kernel) ⟨Nat.le_of_ble_eq_true rfl, Nat.le_of_ble_eq_true rfl⟩) (g_preV hE X.2 hw 0 rfl rfl) rfl rfl hl.1 rfl (lv_room (Nat.le_of_ble_eq_true rfl)) dX4_casts_84 ⟨Nat.le_of_ble_eq_true rfl, Nat.le_of_ble_eq_true rfl⟩) hw.2.2 (fun q _ h => h) (fun q h => h) (fun r_15 u t H locs ht hvm h_14 hB hz9 hk9 hS => ?_)
          have hw : gW D A ((mo, .inr (4, [.ref ag, .ref ab, .ref ah, .int ch, .ref asv, .int hs, .ref ai, .int ty, .int 3, .int (g (8 + j)), .ref al, .int li, .int pl, .int iw, .ref at_])) :: (ag, .inl (dA 0, 310, .inl g)) :: R) s H locs := g_aft ht hB hS
          obtain rfl : r_15 = -14 := h_14
          have hop : p_castsI g (nI j) = .inl (3, g (8 + j)) := by simp [p_castsI, p_casts, c_3, kj, c_4, c_5, c_6]
          exact g_iret (v := -14) () X hw hr hlocks  (by rw [hop]; rfl) (by rw [hop]; rfl) dX4_casts_87
      · skip
        refine lv_aload_n hx hb dX4_casts_44 rfl (lv_at hl 1 rfl) ?_
        refine lv_iconst (v := 2) hx hb dX4_casts_45 (by decide) ?_
        refine lv_aload_n hx hb dX4_casts_46 rfl (lv_at hl 1 rfl) ?_
        refine g_get X cfX4 hw 0 0 rfl rfl q1834 rfl rfl dX4_casts_47 ?_
        refine lv_bipush (v := 14) hx hb dX4_casts_50 (by decide) ?_
        refine lv_iload_n hx hb dX4_casts_52 rfl (lv_at hl 2 rfl) ?_
        refine lv_iadd hx hb dX4_casts_53 ?_
        refine g_addN (a := 14) (b := j) ?_
        refine g_iald X hw 1 rfl (i := 14 + j) (by omega) (by first | decide | omega) dX4_casts_54 ?_
        refine va_calli (va_runV (As := [.int 2, .int (g (14 + j))]) (rest := []) X.1 (m_X4_refused l D dA A E hE ((ag, .inl (dA 0, 310, .inl g)) :: R) mo ag ab ah asv ai al at_ ch hs ty wy wd li pl iw (by first | assumption | omega) 2 (g (14 + j))) (cwV 2 X.1.2.2.2.2 (lw_V q1924 q1926 qs28 q80 q1927) rfl rfl rfl (by decide +kernel) ⟨Nat.le_of_ble_eq_true rfl, Nat.le_of_ble_eq_true rfl⟩) (g_preV hE X.2 hw 0 rfl rfl) rfl rfl hl.1 rfl (lv_room (Nat.le_of_ble_eq_true rfl)) dX4_casts_55 ⟨Nat.le_of_ble_eq_true rfl, Nat.le_of_ble_eq_true rfl⟩) hw.2.2 (fun q _ h => h) (fun q h => h) (fun r_17 u t H locs ht hvm h_16 hB hz9 hk9 hS => ?_)
        have hw : gW D A ((mo, .inr (4, [.ref ag, .ref ab, .ref ah, .int ch, .ref asv, .int hs, .ref ai, .int ty, .int 2, .int (g (14 + j)), .ref al, .int li, .int pl, .int iw, .ref at_])) :: (ag, .inl (dA 0, 310, .inl g)) :: R) s H locs := g_aft ht hB hS
        obtain rfl : r_17 = -14 := h_16
        have hop : p_castsI g (nI j) = .inl (2, g (14 + j)) := by simp [p_castsI, p_casts, c_3, kj, c_4, c_5]
        exact g_iret (v := -14) () X hw hr hlocks  (by rw [hop]; rfl) (by rw [hop]; rfl) dX4_casts_58
    · skip
      have c_4n := c_4
      rw [hI.c.1] at c_4n
      have c_4n : nn g 50 = 10 := (nI_eq (a := nn g 50) (b := 10) (by omega) (by omega)).mp c_4n
      refine lv_aload_n hx hb dX4_casts_24 rfl (lv_at hl 1 rfl) ?_
      refine lv_iconst (v := 1) hx hb dX4_casts_25 (by decide) ?_
      refine lv_bipush (v := 10) hx hb dX4_casts_26 (by decide) ?_
      refine va_calli (va_runV (As := [.int 1, .int 10]) (rest := []) X.1 (m_X4_refused l D dA A E hE ((ag, .inl (dA 0, 310, .inl g)) :: R) mo ag ab ah asv ai al at_ ch hs ty wy wd li pl iw (by first | assumption | omega) 1 10) (cwV 2 X.1.2.2.2.2 (lw_V q1924 q1926 qs28 q80 q1927) rfl rfl rfl (by decide +kernel) ⟨Nat.le_of_ble_eq_true rfl, Nat.le_of_ble_eq_true rfl⟩) (g_preV hE X.2 hw 0 rfl rfl) rfl rfl hl.1 rfl (lv_room (Nat.le_of_ble_eq_true rfl)) dX4_casts_28 ⟨Nat.le_of_ble_eq_true rfl, Nat.le_of_ble_eq_true rfl⟩) hw.2.2 (fun q _ h => h) (fun q h => h) (fun r_19 u t H locs ht hvm h_18 hB hz9 hk9 hS => ?_)
      have hw : gW D A ((mo, .inr (4, [.ref ag, .ref ab, .ref ah, .int ch, .ref asv, .int hs, .ref ai, .int ty, .int 1, .int 10, .ref al, .int li, .int pl, .int iw, .ref at_])) :: (ag, .inl (dA 0, 310, .inl g)) :: R) s H locs := g_aft ht hB hS
      obtain rfl : r_19 = -14 := h_18
      have hop : p_castsI g (nI j) = .inl (1, 10) := by simp [p_castsI, p_casts, c_3, kj, c_4]
      exact g_iret (v := -14) () X hw hr hlocks  (by rw [hop]; rfl) (by rw [hop]; rfl) dX4_casts_31
  · skip
    have c_3 := bZ_0.mp c_3
    refine lv_bipush (v := (-11)) hx hb dX4_casts_7 (by decide) ?_
    have hop : p_castsI g v = .inr ((-11), g) := by simp [p_castsI, p_casts, c_3]
    exact g_iret (v := (-11)) () X hw hr hlocks  (by rw [hop]; rfl) (by rw [hop]; rfl) dX4_casts_9

set_option maxHeartbeats 4000000 in
theorem m_X4_begins (l : Launch) (D : va_G) (dA : Nat → ClassId) (A : Nat → Prop) (E : State → Prop) (hE : gSt A E) (R : va_W) (mo ag ab ah asv ai al at_ : Nat) (ch hs ty wy wd li pl iw : Int32) (g : gG) (hI : gInv g) (v : Int32) : Met l yX4_begins (ws_ yX4_begins cX4_begins 4 (Option.some FieldType.int)) ({ frames := 2, cells := 0, slots := 0, locals := 43 }) (va_Pc [.ref mo, .int v] (gB D dA A E ((mo, .inr (4, [.ref ag, .ref ab, .ref ah, .int ch, .ref asv, .int hs, .ref ai, .int ty, .int wy, .int wd, .ref al, .int li, .int pl, .int iw, .ref at_])) :: (ag, .inl (dA 0, 310, .inl g)) :: R))) (va_Qi (fun (r : Int32) (_ : Unit) => r = gr_v (p_beginsI g v)) (fun _ => gE D A ((mo, .inr (4, [.ref ag, .ref ab, .ref ah, .int ch, .ref asv, .int hs, .ref ai, .int ty, .int (gr_w wy (p_beginsI g v)), .int (gr_d wd (p_beginsI g v)), .ref al, .int li, .int pl, .int iw, .ref at_])) :: (ag, .inl (dA 0, 310, .inl (gr_g g (p_beginsI g v)))) :: R)) A) (0) (0) A := by
  refine g_start rfl rfl ?_
  intro p e s m args below meth c ls X hr hlocks hin hw hl
  have hx := X.1.1
  have hb := X.1.2.1
  have hl : lv_has ls 4 [(0, .ref mo), (1, .int v)] := hl
  have hI2 := hI.c.2
  have hI4 := hI.m.2
  have hI6 := hI.k.2
  refine lv_aload_n hx hb dX4_begins_0 rfl (lv_at hl 0 rfl) ?_
  refine lv_iload_n hx hb dX4_begins_1 rfl (lv_at hl 1 rfl) ?_
  refine va_calli (va_runV (As := [.int v]) (rest := []) X.1 (m_X4_isCast l D dA A E hE R mo ag ab ah asv ai al at_ ch hs ty wy wd li pl iw g v) (cwV 1 X.1.2.2.2.2 (lw_V q1944 q1946 qs31 q80 q1947) rfl rfl rfl (by decide +kernel) ⟨Nat.le_of_ble_eq_true rfl, Nat.le_of_ble_eq_true rfl⟩) (g_preV hE X.2 hw 0 rfl rfl) rfl rfl hl.1 rfl (lv_room (Nat.le_of_ble_eq_true rfl)) dX4_begins_2 ⟨Nat.le_of_ble_eq_true rfl, Nat.le_of_ble_eq_true rfl⟩) hw.2.2 (fun q _ h => h) (fun q h => h) (fun r_2 u t H locs ht hvm h_1 hB hz9 hk9 hS => ?_)
  have hw : gW D A ((mo, .inr (4, [.ref ag, .ref ab, .ref ah, .int ch, .ref asv, .int hs, .ref ai, .int ty, .int wy, .int wd, .ref al, .int li, .int pl, .int iw, .ref at_])) :: (ag, .inl (dA 0, 310, .inl g)) :: R) s H locs := g_aft ht hB hS
  obtain rfl : r_2 = bZ (inR v 0 (g 50 - 1)) := h_1
  refine lv_if_ne (tgt := 11) hx hb dX4_begins_5 (by decide) (fun c_3 => ?_) (fun c_3 => ?_)
  · skip
    have c_3 := bZ_1 c_3
    obtain ⟨j, hj, ej⟩ := hI.inC c_3
    subst ej
    have kj : (nI j).toNatClampNeg = j := nI_clamp (by omega)
    refine lv_aload_n hx hb dX4_begins_11 rfl (lv_at hl 0 rfl) ?_
    refine g_get X cfX4 hw 0 0 rfl rfl q1834 rfl rfl dX4_begins_12 ?_
    refine lv_sipush (v := 212) hx hb dX4_begins_15 (by decide) ?_
    refine g_iald X hw 1 rfl (i := 212) (by decide) (by decide) dX4_begins_18 ?_
    refine lv_istore_n (lv' := [(2, .int (g 212)), (0, .ref mo), (1, .int (nI j))]) hx hb dX4_begins_19 rfl hl (by decide) rfl (fun ls hl => ?_)
    refine lv_iload_n hx hb dX4_begins_20 rfl (lv_at hl 0 rfl) ?_
    refine lv_bipush (v := 8) hx hb dX4_begins_21 (by decide) ?_
    refine lv_icmp_ne (tgt := 34) hx hb dX4_begins_23 (by decide) (fun c_4 => ?_) (fun c_4 => ?_)
    · skip
      have c_4n := c_4
      rw [hI.k.1] at c_4n
      have c_4n : ¬ (nn g 212 = 8) := fun q => c_4n ((nI_eq (a := nn g 212) (b := 8) (by omega) (by omega)).mpr q)
      refine lv_aload_n hx hb dX4_begins_34 rfl (lv_at hl 1 rfl) ?_
      refine g_get X cfX4 hw 0 0 rfl rfl q1834 rfl rfl dX4_begins_35 ?_
      refine lv_bipush (v := 71) hx hb dX4_begins_38 (by decide) ?_
      refine lv_iload_n hx hb dX4_begins_40 rfl (lv_at hl 2 rfl) ?_
      refine lv_iadd hx hb dX4_begins_41 ?_
      refine g_addN (a := 71) (b := j) ?_
      refine g_iald X hw 1 rfl (i := 71 + j) (by omega) (by first | decide | omega) dX4_begins_42 ?_
      refine lv_if_ne (tgt := 61) hx hb dX4_begins_43 (by decide) (fun c_5 => ?_) (fun c_5 => ?_)
      · skip
        refine lv_aload_n hx hb dX4_begins_61 rfl (lv_at hl 1 rfl) ?_
        refine g_get X cfX4 hw 0 0 rfl rfl q1834 rfl rfl dX4_begins_62 ?_
        refine lv_sipush (v := 213) hx hb dX4_begins_65 (by decide) ?_
        refine lv_iload_n hx hb dX4_begins_68 rfl (lv_at hl 0 rfl) ?_
        refine lv_iadd hx hb dX4_begins_69 ?_
        refine g_addE (a := 213) (b := nn g 212) rfl hI.k.1 ?_
        refine lv_iload_n hx hb dX4_begins_70 rfl (lv_at hl 2 rfl) ?_
        refine g_iast (ws' := (mo, .inr (4, [.ref ag, .ref ab, .ref ah, .int ch, .ref asv, .int hs, .ref ai, .int ty, .int wy, .int wd, .ref al, .int li, .int pl, .int iw, .ref at_])) :: (ag, .inl (dA 0, 310, .inl (upd g (213 + nn g 212) (nI j)))) :: R) X hw 1 rfl (i := 213 + nn g 212) (by omega) (by first | decide | omega) rfl dX4_begins_71 (fun H locs hw => ?_)
        refine lv_iconst (v := 0) hx hb dX4_begins_72 (by decide) ?_
        refine lv_istore_n (lv' := [(3, .int 0), (2, .int (g 212)), (0, .ref mo), (1, .int (nI j))]) hx hb dX4_begins_73 rfl hl (by decide) rfl (fun ls hl => ?_)
        have loop_6 : ∀ (fuel : Nat) (i : Nat), ∀ (hi : i ≤ 10), (10 - i) < fuel → ∀ (H : Heap) (locs : List Loc) (hw : gW D A ((mo, .inr (4, [.ref ag, .ref ab, .ref ah, .int ch, .ref asv, .int hs, .ref ai, .int ty, .int wy, .int wd, .ref al, .int li, .int pl, .int iw, .ref at_])) :: (ag, .inl (dA 0, 310, .inl (beginLoop (upd g (213 + nn g 212) (nI j)) (nn g 212) i))) :: R) s H locs) (ls : Array Slot) (hl : lv_has ls 4 [(3, .int (nI i)), (2, .int (g 212)), (0, .ref mo), (1, .int (nI j))]), W p l e ({ frames := 2, cells := 0, slots := 0, locals := 43 }) s m args below meth c H locs (0) (0) (MQ below (va_Qi (fun (r : Int32) (_ : Unit) => r = gr_v (p_beginsI g (nI j))) (fun _ => gE D A ((mo, .inr (4, [.ref ag, .ref ab, .ref ah, .int ch, .ref asv, .int hs, .ref ai, .int ty, .int (gr_w wy (p_beginsI g (nI j))), .int (gr_d wd (p_beginsI g (nI j))), .ref al, .int li, .int pl, .int iw, .ref at_])) :: (ag, .inl (dA 0, 310, .inl (gr_g g (p_beginsI g (nI j))))) :: R)) A) args s (0) (0) A) (F0 m 74 ls []) := by
          intro fuel
          induction fuel with
          | zero => intro i hi hf; exact absurd hf (Nat.not_lt_zero _)
          | succ fuel ih_loop_6 =>
            intro i hi hfuel_loop_6 H locs hw ls hl
            refine lv_iload_n hx hb dX4_begins_74 rfl (lv_at hl 0 rfl) ?_
            refine lv_bipush (v := 10) hx hb dX4_begins_75 (by decide) ?_
            refine lv_icmp_ge (tgt := 102) hx hb dX4_begins_77 (by decide) (fun c_7 => ?_) (fun c_7 => ?_)
            · skip
              have c_7 := Int32.not_lt.mpr c_7
              have c_7 : ¬ (i < 10) := fun q => c_7 ((nI_ltI (a := i) (b := 10) (by omega) (by omega)).mpr q)
              obtain rfl : i = 10 := by omega
              refine lv_aload_n hx hb dX4_begins_102 rfl (lv_at hl 2 rfl) ?_
              refine g_get X cfX4 hw 0 0 rfl rfl q1834 rfl rfl dX4_begins_103 ?_
              refine lv_bipush (v := 81) hx hb dX4_begins_106 (by decide) ?_
              refine lv_iload_n hx hb dX4_begins_108 rfl (lv_at hl 3 rfl) ?_
              refine lv_iadd hx hb dX4_begins_109 ?_
              refine g_addN (a := 81) (b := j) ?_
              refine lv_dup2_11 hx hb dX4_begins_110 rfl rfl ?_
              refine g_iald X hw 1 rfl (i := 81 + j) (by omega) (by first | decide | omega) dX4_begins_111 ?_
              refine g_top (y := g (81 + j)) ((beginLoop_n _ (by omega)).trans (upd_n (by omega))) ?_
              refine lv_iconst (v := 1) hx hb dX4_begins_112 (by decide) ?_
              refine lv_iadd hx hb dX4_begins_113 ?_
              refine g_iast (ws' := (mo, .inr (4, [.ref ag, .ref ab, .ref ah, .int ch, .ref asv, .int hs, .ref ai, .int ty, .int wy, .int wd, .ref al, .int li, .int pl, .int iw, .ref at_])) :: (ag, .inl (dA 0, 310, .inl (upd (beginLoop (upd g (213 + nn g 212) (nI j)) (nn g 212) 10) (81 + j) ((g (81 + j)) + 1)))) :: R) X hw 1 rfl (i := 81 + j) (by omega) (by first | decide | omega) rfl dX4_begins_114 (fun H locs hw => ?_)
              refine lv_aload_n hx hb dX4_begins_115 rfl (lv_at hl 2 rfl) ?_
              refine g_get X cfX4 hw 0 0 rfl rfl q1834 rfl rfl dX4_begins_116 ?_
              refine lv_sipush (v := 212) hx hb dX4_begins_119 (by decide) ?_
              refine lv_dup2_11 hx hb dX4_begins_122 rfl rfl ?_
              refine g_iald X hw 1 rfl (i := 212) (by decide) (by decide) dX4_begins_123 ?_
              refine g_top (y := g 212) ((upd_n (by omega)).trans ((beginLoop_n _ (by omega)).trans (upd_n (by omega)))) ?_
              refine lv_iconst (v := 1) hx hb dX4_begins_124 (by decide) ?_
              refine lv_iadd hx hb dX4_begins_125 ?_
              refine g_iast (ws' := (mo, .inr (4, [.ref ag, .ref ab, .ref ah, .int ch, .ref asv, .int hs, .ref ai, .int ty, .int wy, .int wd, .ref al, .int li, .int pl, .int iw, .ref at_])) :: (ag, .inl (dA 0, 310, .inl (upd (upd (beginLoop (upd g (213 + nn g 212) (nI j)) (nn g 212) 10) (81 + j) ((g (81 + j)) + 1)) 212 ((g 212) + 1)))) :: R) X hw 1 rfl (i := 212) (by decide) (by decide) rfl dX4_begins_126 (fun H locs hw => ?_)
              refine lv_iload_n hx hb dX4_begins_127 rfl (lv_at hl 1 rfl) ?_
              have hop : p_beginsI g (nI j) = .inr (g 212, upd (upd (beginLoop (upd g (213 + nn g 212) (nI j)) (nn g 212) 10) (81 + j) ((g (81 + j)) + 1)) 212 ((g 212) + 1)) := by simp [p_beginsI, p_begins, c_3, kj, c_4, c_5, c_7]
              exact g_iret (v := g 212) () X hw hr hlocks  (by rw [hop]; rfl) (by rw [hop]; rfl) dX4_begins_128
            · skip
              have c_7 := Int32.not_le.mp c_7
              have c_7 : i < 10 := (nI_ltI (a := i) (b := 10) (by omega) (by omega)).mp c_7
              refine lv_aload_n hx hb dX4_begins_80 rfl (lv_at hl 2 rfl) ?_
              refine g_get X cfX4 hw 0 0 rfl rfl q1834 rfl rfl dX4_begins_81 ?_
              refine lv_sipush (v := 229) hx hb dX4_begins_84 (by decide) ?_
              refine lv_bipush (v := 10) hx hb dX4_begins_87 (by decide) ?_
              refine lv_iload_n hx hb dX4_begins_89 rfl (lv_at hl 1 rfl) ?_
              refine lv_imul hx hb dX4_begins_90 ?_
              refine g_mulE (a := 10) (b := nn g 212) rfl hI.k.1 ?_
              refine lv_iadd hx hb dX4_begins_91 ?_
              refine g_addN (a := 229) (b := 10 * (nn g 212)) ?_
              refine lv_iload_n hx hb dX4_begins_92 rfl (lv_at hl 0 rfl) ?_
              refine lv_iadd hx hb dX4_begins_93 ?_
              refine g_addN (a := 229 + (10 * (nn g 212))) (b := i) ?_
              refine lv_iconst (v := (-1)) hx hb dX4_begins_94 (by decide) ?_
              refine g_iast (ws' := (mo, .inr (4, [.ref ag, .ref ab, .ref ah, .int ch, .ref asv, .int hs, .ref ai, .int ty, .int wy, .int wd, .ref al, .int li, .int pl, .int iw, .ref at_])) :: (ag, .inl (dA 0, 310, .inl (upd (beginLoop (upd g (213 + nn g 212) (nI j)) (nn g 212) i) (229 + (10 * (nn g 212)) + i) (-1)))) :: R) X hw 1 rfl (i := 229 + (10 * (nn g 212)) + i) (by omega) (by first | decide | omega) rfl dX4_begins_95 (fun H locs hw => ?_)
              refine lv_iinc (v := nI (i + 1)) (lv' := [(3, .int (nI (i + 1))), (2, .int (g 212)), (0, .ref mo), (1, .int (nI j))]) hx hb dX4_begins_96 hl (k := 0) rfl (nI_add i 1) (by decide) rfl (fun ls hl => ?_)
              refine lv_goto (tgt := 74) hx hb dX4_begins_99 (by decide) ?_
              have hw : gW D A ((mo, .inr (4, [.ref ag, .ref ab, .ref ah, .int ch, .ref asv, .int hs, .ref ai, .int ty, .int wy, .int wd, .ref al, .int li, .int pl, .int iw, .ref at_])) :: (ag, .inl (dA 0, 310, .inl (beginLoop (upd g (213 + nn g 212) (nI j)) (nn g 212) (i + 1)))) :: R) s _ _ := g_ws hw (by rfl)
              exact ih_loop_6 (i + 1) (by first | assumption | omega) (by omega) _ _ hw _ (lv_sub hl [0, 1, 2, 3] rfl)
        have hw : gW D A ((mo, .inr (4, [.ref ag, .ref ab, .ref ah, .int ch, .ref asv, .int hs, .ref ai, .int ty, .int wy, .int wd, .ref al, .int li, .int pl, .int iw, .ref at_])) :: (ag, .inl (dA 0, 310, .inl (beginLoop (upd g (213 + nn g 212) (nI j)) (nn g 212) 0))) :: R) s _ _ := g_ws hw (by rfl)
        exact loop_6 ((10 - 0) + 1) 0 (by first | assumption | omega) (Nat.lt_succ_self _) _ _ hw _ (lv_sub hl [0, 1, 2, 3] rfl)
      · skip
        refine lv_aload_n hx hb dX4_begins_46 rfl (lv_at hl 1 rfl) ?_
        refine lv_iconst (v := 5) hx hb dX4_begins_47 (by decide) ?_
        refine lv_aload_n hx hb dX4_begins_48 rfl (lv_at hl 1 rfl) ?_
        refine g_get X cfX4 hw 0 0 rfl rfl q1834 rfl rfl dX4_begins_49 ?_
        refine lv_bipush (v := 61) hx hb dX4_begins_52 (by decide) ?_
        refine lv_iload_n hx hb dX4_begins_54 rfl (lv_at hl 2 rfl) ?_
        refine lv_iadd hx hb dX4_begins_55 ?_
        refine g_addN (a := 61) (b := j) ?_
        refine g_iald X hw 1 rfl (i := 61 + j) (by omega) (by first | decide | omega) dX4_begins_56 ?_
        refine va_calli (va_runV (As := [.int 5, .int (g (61 + j))]) (rest := []) X.1 (m_X4_refused l D dA A E hE ((ag, .inl (dA 0, 310, .inl g)) :: R) mo ag ab ah asv ai al at_ ch hs ty wy wd li pl iw (by first | assumption | omega) 5 (g (61 + j))) (cwV 2 X.1.2.2.2.2 (lw_V q1924 q1926 qs28 q80 q1927) rfl rfl rfl (by decide +kernel) ⟨Nat.le_of_ble_eq_true rfl, Nat.le_of_ble_eq_true rfl⟩) (g_preV hE X.2 hw 0 rfl rfl) rfl rfl hl.1 rfl (lv_room (Nat.le_of_ble_eq_true rfl)) dX4_begins_57 ⟨Nat.le_of_ble_eq_true rfl, Nat.le_of_ble_eq_true rfl⟩) hw.2.2 (fun q _ h => h) (fun q h => h) (fun r_9 u t H locs ht hvm h_8 hB hz9 hk9 hS => ?_)
        have hw : gW D A ((mo, .inr (4, [.ref ag, .ref ab, .ref ah, .int ch, .ref asv, .int hs, .ref ai, .int ty, .int 5, .int (g (61 + j)), .ref al, .int li, .int pl, .int iw, .ref at_])) :: (ag, .inl (dA 0, 310, .inl g)) :: R) s H locs := g_aft ht hB hS
        obtain rfl : r_9 = -14 := h_8
        have hop : p_beginsI g (nI j) = .inl (5, g (61 + j)) := by simp [p_beginsI, p_begins, c_3, kj, c_4, c_5]
        exact g_iret (v := -14) () X hw hr hlocks  (by rw [hop]; rfl) (by rw [hop]; rfl) dX4_begins_60
    · skip
      have c_4n := c_4
      rw [hI.k.1] at c_4n
      have c_4n : nn g 212 = 8 := (nI_eq (a := nn g 212) (b := 8) (by omega) (by omega)).mp c_4n
      refine lv_aload_n hx hb dX4_begins_26 rfl (lv_at hl 1 rfl) ?_
      refine lv_iconst (v := 1) hx hb dX4_begins_27 (by decide) ?_
      refine lv_bipush (v := 8) hx hb dX4_begins_28 (by decide) ?_
      refine va_calli (va_runV (As := [.int 1, .int 8]) (rest := []) X.1 (m_X4_refused l D dA A E hE ((ag, .inl (dA 0, 310, .inl g)) :: R) mo ag ab ah asv ai al at_ ch hs ty wy wd li pl iw (by first | assumption | omega) 1 8) (cwV 2 X.1.2.2.2.2 (lw_V q1924 q1926 qs28 q80 q1927) rfl rfl rfl (by decide +kernel) ⟨Nat.le_of_ble_eq_true rfl, Nat.le_of_ble_eq_true rfl⟩) (g_preV hE X.2 hw 0 rfl rfl) rfl rfl hl.1 rfl (lv_room (Nat.le_of_ble_eq_true rfl)) dX4_begins_30 ⟨Nat.le_of_ble_eq_true rfl, Nat.le_of_ble_eq_true rfl⟩) hw.2.2 (fun q _ h => h) (fun q h => h) (fun r_11 u t H locs ht hvm h_10 hB hz9 hk9 hS => ?_)
      have hw : gW D A ((mo, .inr (4, [.ref ag, .ref ab, .ref ah, .int ch, .ref asv, .int hs, .ref ai, .int ty, .int 1, .int 8, .ref al, .int li, .int pl, .int iw, .ref at_])) :: (ag, .inl (dA 0, 310, .inl g)) :: R) s H locs := g_aft ht hB hS
      obtain rfl : r_11 = -14 := h_10
      have hop : p_beginsI g (nI j) = .inl (1, 8) := by simp [p_beginsI, p_begins, c_3, kj, c_4]
      exact g_iret (v := -14) () X hw hr hlocks  (by rw [hop]; rfl) (by rw [hop]; rfl) dX4_begins_33
  · skip
    have c_3 := bZ_0.mp c_3
    refine lv_bipush (v := (-11)) hx hb dX4_begins_8 (by decide) ?_
    have hop : p_beginsI g v = .inr ((-11), g) := by simp [p_beginsI, p_begins, c_3]
    exact g_iret (v := (-11)) () X hw hr hlocks  (by rw [hop]; rfl) (by rw [hop]; rfl) dX4_begins_10

set_option maxHeartbeats 4000000 in
theorem m_X4_wouldBe (l : Launch) (D : va_G) (dA : Nat → ClassId) (A : Nat → Prop) (E : State → Prop) (hE : gSt A E) (R : va_W) (mo ag ab ah asv ai al at_ : Nat) (ch hs ty wy wd li pl iw : Int32) (g : gG) (j k q : Nat) (hj : j < 4) (hk : k < 10) (hq : q < 10) : Met l yX4_wouldBe (ws_ yX4_wouldBe cX4_wouldBe 7 (Option.some FieldType.int)) ({ frames := 0, cells := 0, slots := 0, locals := 0 }) (va_Pc [.ref mo, .int (nI j), .int (nI k), .int (nI q)] (gB D dA A E ((mo, .inr (4, [.ref ag, .ref ab, .ref ah, .int ch, .ref asv, .int hs, .ref ai, .int ty, .int wy, .int wd, .ref al, .int li, .int pl, .int iw, .ref at_])) :: (ag, .inl (dA 0, 310, .inl g)) :: R))) (va_Qi (fun (r : Int32) (_ : Unit) => r = wouldBe g j k q) (fun _ => gE D A ((mo, .inr (4, [.ref ag, .ref ab, .ref ah, .int ch, .ref asv, .int hs, .ref ai, .int ty, .int wy, .int wd, .ref al, .int li, .int pl, .int iw, .ref at_])) :: (ag, .inl (dA 0, 310, .inl g)) :: R)) A) (0) (0) A := by
  refine g_start rfl rfl ?_
  intro p e s m args below meth c ls X hr hlocks hin hw hl
  have hx := X.1.1
  have hb := X.1.2.1
  have hl : lv_has ls 7 [(0, .ref mo), (1, .int (nI j)), (2, .int (nI k)), (3, .int (nI q))] := hl
  refine lv_aload_n hx hb dX4_wouldBe_0 rfl (lv_at hl 0 rfl) ?_
  refine g_get X cfX4 hw 0 0 rfl rfl q1834 rfl rfl dX4_wouldBe_1 ?_
  refine lv_sipush (v := 196) hx hb dX4_wouldBe_4 (by decide) ?_
  refine lv_iload_n hx hb dX4_wouldBe_7 rfl (lv_at hl 1 rfl) ?_
  refine lv_iadd hx hb dX4_wouldBe_8 ?_
  refine g_addN (a := 196) (b := j) ?_
  refine g_iald X hw 1 rfl (i := 196 + j) (by omega) (by first | decide | omega) dX4_wouldBe_9 ?_
  refine lv_istore (lv' := [(4, .int (g (196 + j))), (0, .ref mo), (1, .int (nI j)), (2, .int (nI k)), (3, .int (nI q))]) hx hb dX4_wouldBe_10 hl (by decide) rfl (fun ls hl => ?_)
  refine lv_aload_n hx hb dX4_wouldBe_12 rfl (lv_at hl 1 rfl) ?_
  refine g_get X cfX4 hw 0 0 rfl rfl q1834 rfl rfl dX4_wouldBe_13 ?_
  refine lv_sipush (v := 192) hx hb dX4_wouldBe_16 (by decide) ?_
  refine lv_iload_n hx hb dX4_wouldBe_19 rfl (lv_at hl 2 rfl) ?_
  refine lv_iadd hx hb dX4_wouldBe_20 ?_
  refine g_addN (a := 192) (b := j) ?_
  refine g_iald X hw 1 rfl (i := 192 + j) (by omega) (by first | decide | omega) dX4_wouldBe_21 ?_
  refine lv_if_ne (tgt := 32) hx hb dX4_wouldBe_22 (by decide) (fun c_1 => ?_) (fun c_1 => ?_)
  · skip
    refine lv_aload_n hx hb dX4_wouldBe_32 rfl (lv_at hl 1 rfl) ?_
    refine g_get X cfX4 hw 0 0 rfl rfl q1834 rfl rfl dX4_wouldBe_33 ?_
    refine lv_sipush (v := 192) hx hb dX4_wouldBe_36 (by decide) ?_
    refine lv_iload_n hx hb dX4_wouldBe_39 rfl (lv_at hl 2 rfl) ?_
    refine lv_iadd hx hb dX4_wouldBe_40 ?_
    refine g_addN (a := 192) (b := j) ?_
    refine g_iald X hw 1 rfl (i := 192 + j) (by omega) (by first | decide | omega) dX4_wouldBe_41 ?_
    refine lv_iconst (v := 1) hx hb dX4_wouldBe_42 (by decide) ?_
    refine lv_icmp_ne (tgt := 55) hx hb dX4_wouldBe_43 (by decide) (fun c_2 => ?_) (fun c_2 => ?_)
    · skip
      refine lv_iload hx hb dX4_wouldBe_55 (lv_at hl 0 rfl) ?_
      refine lv_iconst (v := 3) hx hb dX4_wouldBe_57 (by decide) ?_
      refine lv_idiv hx hb dX4_wouldBe_58 (by decide) ?_
      refine lv_iconst (v := 1) hx hb dX4_wouldBe_59 (by decide) ?_
      refine lv_iadd hx hb dX4_wouldBe_60 ?_
      refine lv_istore (lv' := [(5, .int (((g (196 + j)) / 3) + 1)), (4, .int (g (196 + j))), (0, .ref mo), (1, .int (nI j)), (2, .int (nI k)), (3, .int (nI q))]) hx hb dX4_wouldBe_61 hl (by decide) rfl (fun ls hl => ?_)
      refine lv_aload_n hx hb dX4_wouldBe_63 rfl (lv_at hl 2 rfl) ?_
      refine g_get X cfX4 hw 0 0 rfl rfl q1834 rfl rfl dX4_wouldBe_64 ?_
      refine lv_bipush (v := 91) hx hb dX4_wouldBe_67 (by decide) ?_
      refine lv_bipush (v := 10) hx hb dX4_wouldBe_69 (by decide) ?_
      refine lv_iload_n hx hb dX4_wouldBe_71 rfl (lv_at hl 4 rfl) ?_
      refine lv_imul hx hb dX4_wouldBe_72 ?_
      refine g_mulN (a := 10) (b := k) ?_
      refine lv_iadd hx hb dX4_wouldBe_73 ?_
      refine g_addN (a := 91) (b := 10 * k) ?_
      refine lv_iload_n hx hb dX4_wouldBe_74 rfl (lv_at hl 5 rfl) ?_
      refine lv_iadd hx hb dX4_wouldBe_75 ?_
      refine g_addN (a := 91 + 10 * k) (b := q) ?_
      refine g_iald X hw 1 rfl (i := 91 + 10 * k + q) (by omega) (by first | decide | omega) dX4_wouldBe_76 ?_
      refine lv_iload hx hb dX4_wouldBe_77 (lv_at hl 0 rfl) ?_
      refine lv_iadd hx hb dX4_wouldBe_79 ?_
      refine lv_istore (lv' := [(6, .int ((g (91 + 10 * k + q)) + (((g (196 + j)) / 3) + 1))), (5, .int (((g (196 + j)) / 3) + 1)), (4, .int (g (196 + j))), (0, .ref mo), (1, .int (nI j)), (2, .int (nI k)), (3, .int (nI q))]) hx hb dX4_wouldBe_80 hl (by decide) rfl (fun ls hl => ?_)
      refine lv_iload hx hb dX4_wouldBe_82 (lv_at hl 0 rfl) ?_
      refine lv_if_ge (tgt := 91) hx hb dX4_wouldBe_84 (by decide) (fun c_3 => ?_) (fun c_3 => ?_)
      · skip
        have c_3 := Int32.not_lt.mpr c_3
        refine lv_iload hx hb dX4_wouldBe_91 (lv_at hl 0 rfl) ?_
        exact g_iret (v := (g (91 + 10 * k + q)) + (((g (196 + j)) / 3) + 1)) () X hw hr hlocks  (by simp [wouldBe, wouldI, moreI, c_1, c_2, c_3]) rfl dX4_wouldBe_93
      · skip
        have c_3 := Int32.not_le.mp c_3
        refine lv_iconst (v := 0) hx hb dX4_wouldBe_87 (by decide) ?_
        refine lv_goto (tgt := 93) hx hb dX4_wouldBe_88 (by decide) ?_
        exact g_iret (v := 0) () X hw hr hlocks  (by simp [wouldBe, wouldI, moreI, c_1, c_2, c_3]) rfl dX4_wouldBe_93
    · skip
      refine lv_iload hx hb dX4_wouldBe_46 (lv_at hl 0 rfl) ?_
      refine lv_iconst (v := 4) hx hb dX4_wouldBe_48 (by decide) ?_
      refine lv_idiv hx hb dX4_wouldBe_49 (by decide) ?_
      refine lv_iconst (v := 1) hx hb dX4_wouldBe_50 (by decide) ?_
      refine lv_isub hx hb dX4_wouldBe_51 ?_
      refine lv_goto (tgt := 61) hx hb dX4_wouldBe_52 (by decide) ?_
      refine lv_istore (lv' := [(5, .int (((g (196 + j)) / 4) - 1)), (4, .int (g (196 + j))), (0, .ref mo), (1, .int (nI j)), (2, .int (nI k)), (3, .int (nI q))]) hx hb dX4_wouldBe_61 hl (by decide) rfl (fun ls hl => ?_)
      refine lv_aload_n hx hb dX4_wouldBe_63 rfl (lv_at hl 2 rfl) ?_
      refine g_get X cfX4 hw 0 0 rfl rfl q1834 rfl rfl dX4_wouldBe_64 ?_
      refine lv_bipush (v := 91) hx hb dX4_wouldBe_67 (by decide) ?_
      refine lv_bipush (v := 10) hx hb dX4_wouldBe_69 (by decide) ?_
      refine lv_iload_n hx hb dX4_wouldBe_71 rfl (lv_at hl 4 rfl) ?_
      refine lv_imul hx hb dX4_wouldBe_72 ?_
      refine g_mulN (a := 10) (b := k) ?_
      refine lv_iadd hx hb dX4_wouldBe_73 ?_
      refine g_addN (a := 91) (b := 10 * k) ?_
      refine lv_iload_n hx hb dX4_wouldBe_74 rfl (lv_at hl 5 rfl) ?_
      refine lv_iadd hx hb dX4_wouldBe_75 ?_
      refine g_addN (a := 91 + 10 * k) (b := q) ?_
      refine g_iald X hw 1 rfl (i := 91 + 10 * k + q) (by omega) (by first | decide | omega) dX4_wouldBe_76 ?_
      refine lv_iload hx hb dX4_wouldBe_77 (lv_at hl 0 rfl) ?_
      refine lv_iadd hx hb dX4_wouldBe_79 ?_
      refine lv_istore (lv' := [(6, .int ((g (91 + 10 * k + q)) + (((g (196 + j)) / 4) - 1))), (5, .int (((g (196 + j)) / 4) - 1)), (4, .int (g (196 + j))), (0, .ref mo), (1, .int (nI j)), (2, .int (nI k)), (3, .int (nI q))]) hx hb dX4_wouldBe_80 hl (by decide) rfl (fun ls hl => ?_)
      refine lv_iload hx hb dX4_wouldBe_82 (lv_at hl 0 rfl) ?_
      refine lv_if_ge (tgt := 91) hx hb dX4_wouldBe_84 (by decide) (fun c_4 => ?_) (fun c_4 => ?_)
      · skip
        have c_4 := Int32.not_lt.mpr c_4
        refine lv_iload hx hb dX4_wouldBe_91 (lv_at hl 0 rfl) ?_
        exact g_iret (v := (g (91 + 10 * k + q)) + (((g (196 + j)) / 4) - 1)) () X hw hr hlocks  (by simp [wouldBe, wouldI, moreI, c_1, c_2, c_4]) rfl dX4_wouldBe_93
      · skip
        have c_4 := Int32.not_le.mp c_4
        refine lv_iconst (v := 0) hx hb dX4_wouldBe_87 (by decide) ?_
        refine lv_goto (tgt := 93) hx hb dX4_wouldBe_88 (by decide) ?_
        exact g_iret (v := 0) () X hw hr hlocks  (by simp [wouldBe, wouldI, moreI, c_1, c_2, c_4]) rfl dX4_wouldBe_93
  · skip
    refine lv_iload hx hb dX4_wouldBe_25 (lv_at hl 0 rfl) ?_
    refine lv_iconst (v := 5) hx hb dX4_wouldBe_27 (by decide) ?_
    refine lv_idiv hx hb dX4_wouldBe_28 (by decide) ?_
    refine lv_goto (tgt := 61) hx hb dX4_wouldBe_29 (by decide) ?_
    refine lv_istore (lv' := [(5, .int ((g (196 + j)) / 5)), (4, .int (g (196 + j))), (0, .ref mo), (1, .int (nI j)), (2, .int (nI k)), (3, .int (nI q))]) hx hb dX4_wouldBe_61 hl (by decide) rfl (fun ls hl => ?_)
    refine lv_aload_n hx hb dX4_wouldBe_63 rfl (lv_at hl 2 rfl) ?_
    refine g_get X cfX4 hw 0 0 rfl rfl q1834 rfl rfl dX4_wouldBe_64 ?_
    refine lv_bipush (v := 91) hx hb dX4_wouldBe_67 (by decide) ?_
    refine lv_bipush (v := 10) hx hb dX4_wouldBe_69 (by decide) ?_
    refine lv_iload_n hx hb dX4_wouldBe_71 rfl (lv_at hl 4 rfl) ?_
    refine lv_imul hx hb dX4_wouldBe_72 ?_
    refine g_mulN (a := 10) (b := k) ?_
    refine lv_iadd hx hb dX4_wouldBe_73 ?_
    refine g_addN (a := 91) (b := 10 * k) ?_
    refine lv_iload_n hx hb dX4_wouldBe_74 rfl (lv_at hl 5 rfl) ?_
    refine lv_iadd hx hb dX4_wouldBe_75 ?_
    refine g_addN (a := 91 + 10 * k) (b := q) ?_
    refine g_iald X hw 1 rfl (i := 91 + 10 * k + q) (by omega) (by first | decide | omega) dX4_wouldBe_76 ?_
    refine lv_iload hx hb dX4_wouldBe_77 (lv_at hl 0 rfl) ?_
    refine lv_iadd hx hb dX4_wouldBe_79 ?_
    refine lv_istore (lv' := [(6, .int ((g (91 + 10 * k + q)) + ((g (196 + j)) / 5))), (5, .int ((g (196 + j)) / 5)), (4, .int (g (196 + j))), (0, .ref mo), (1, .int (nI j)), (2, .int (nI k)), (3, .int (nI q))]) hx hb dX4_wouldBe_80 hl (by decide) rfl (fun ls hl => ?_)
    refine lv_iload hx hb dX4_wouldBe_82 (lv_at hl 0 rfl) ?_
    refine lv_if_ge (tgt := 91) hx hb dX4_wouldBe_84 (by decide) (fun c_5 => ?_) (fun c_5 => ?_)
    · skip
      have c_5 := Int32.not_lt.mpr c_5
      refine lv_iload hx hb dX4_wouldBe_91 (lv_at hl 0 rfl) ?_
      exact g_iret (v := (g (91 + 10 * k + q)) + ((g (196 + j)) / 5)) () X hw hr hlocks  (by simp [wouldBe, wouldI, moreI, c_1, c_5]) rfl dX4_wouldBe_93
    · skip
      have c_5 := Int32.not_le.mp c_5
      refine lv_iconst (v := 0) hx hb dX4_wouldBe_87 (by decide) ?_
      refine lv_goto (tgt := 93) hx hb dX4_wouldBe_88 (by decide) ?_
      exact g_iret (v := 0) () X hw hr hlocks  (by simp [wouldBe, wouldI, moreI, c_1, c_5]) rfl dX4_wouldBe_93

set_option maxHeartbeats 4000000 in
theorem m_X4_would (l : Launch) (D : va_G) (dA : Nat → ClassId) (A : Nat → Prop) (E : State → Prop) (hE : gSt A E) (R : va_W) (mo ag ab ah asv ai al at_ : Nat) (ch hs ty wy wd li pl iw : Int32) (g : gG) (hI : gInv g) (v w z : Int32) : Met l yX4_would (ws_ yX4_would cX4_would 4 (Option.some FieldType.int)) ({ frames := 2, cells := 0, slots := 0, locals := 43 }) (va_Pc [.ref mo, .int v, .int w, .int z] (gB D dA A E ((mo, .inr (4, [.ref ag, .ref ab, .ref ah, .int ch, .ref asv, .int hs, .ref ai, .int ty, .int wy, .int wd, .ref al, .int li, .int pl, .int iw, .ref at_])) :: (ag, .inl (dA 0, 310, .inl g)) :: R))) (va_Qi (fun (r : Int32) (_ : Unit) => r = q_would g v w z) (fun _ => gE D A ((mo, .inr (4, [.ref ag, .ref ab, .ref ah, .int ch, .ref asv, .int hs, .ref ai, .int ty, .int wy, .int wd, .ref al, .int li, .int pl, .int iw, .ref at_])) :: (ag, .inl (dA 0, 310, .inl g)) :: R)) A) (0) (0) A := by
  refine g_start rfl rfl ?_
  intro p e s m args below meth c ls X hr hlocks hin hw hl
  have hx := X.1.1
  have hb := X.1.2.1
  have hl : lv_has ls 4 [(0, .ref mo), (1, .int v), (2, .int w), (3, .int z)] := hl
  have hI2 := hI.c.2
  have hI4 := hI.m.2
  have hI6 := hI.k.2
  refine lv_aload_n hx hb dX4_would_0 rfl (lv_at hl 0 rfl) ?_
  refine lv_iload_n hx hb dX4_would_1 rfl (lv_at hl 1 rfl) ?_
  refine va_calli (va_runV (As := [.int v]) (rest := []) X.1 (m_X4_isCopyist l D dA A E hE R mo ag ab ah asv ai al at_ ch hs ty wy wd li pl iw g v) (cwV 1 X.1.2.2.2.2 (lw_V q1968 q1970 qs33 q80 q1971) rfl rfl rfl (by decide +kernel) ⟨Nat.le_of_ble_eq_true rfl, Nat.le_of_ble_eq_true rfl⟩) (g_preV hE X.2 hw 0 rfl rfl) rfl rfl hl.1 rfl (lv_room (Nat.le_of_ble_eq_true rfl)) dX4_would_2 ⟨Nat.le_of_ble_eq_true rfl, Nat.le_of_ble_eq_true rfl⟩) hw.2.2 (fun q _ h => h) (fun q h => h) (fun r_2 u t H locs ht hvm h_1 hB hz9 hk9 hS => ?_)
  have hw : gW D A ((mo, .inr (4, [.ref ag, .ref ab, .ref ah, .int ch, .ref asv, .int hs, .ref ai, .int ty, .int wy, .int wd, .ref al, .int li, .int pl, .int iw, .ref at_])) :: (ag, .inl (dA 0, 310, .inl g)) :: R) s H locs := g_aft ht hB hS
  obtain rfl : r_2 = bZ (inR v 0 (g 191 - 1)) := h_1
  refine lv_if_eq (tgt := 33) hx hb dX4_would_5 (by decide) (fun c_3 => ?_) (fun c_3 => ?_)
  · skip
    have c_3 := bZ_0.mp c_3
    refine lv_bipush (v := (-11)) hx hb dX4_would_33 (by decide) ?_
    exact g_iret (v := (-11)) () X hw hr hlocks  (by simp [q_would, c_3]) rfl dX4_would_35
  · skip
    have c_3 := bZ_1 c_3
    obtain ⟨j, hj, ej⟩ := hI.inM c_3
    subst ej
    have kj : (nI j).toNatClampNeg = j := nI_clamp (by omega)
    refine lv_aload_n hx hb dX4_would_8 rfl (lv_at hl 0 rfl) ?_
    refine lv_iload_n hx hb dX4_would_9 rfl (lv_at hl 2 rfl) ?_
    refine va_calli (va_runV (As := [.int w]) (rest := []) X.1 (m_X4_isCast l D dA A E hE R mo ag ab ah asv ai al at_ ch hs ty wy wd li pl iw g w) (cwV 1 X.1.2.2.2.2 (lw_V q1944 q1946 qs31 q80 q1947) rfl rfl rfl (by decide +kernel) ⟨Nat.le_of_ble_eq_true rfl, Nat.le_of_ble_eq_true rfl⟩) (g_preV hE X.2 hw 0 rfl rfl) rfl rfl hl.1 rfl (lv_room (Nat.le_of_ble_eq_true rfl)) dX4_would_10 ⟨Nat.le_of_ble_eq_true rfl, Nat.le_of_ble_eq_true rfl⟩) hw.2.2 (fun q _ h => h) (fun q h => h) (fun r_5 u t H locs ht hvm h_4 hB hz9 hk9 hS => ?_)
    have hw : gW D A ((mo, .inr (4, [.ref ag, .ref ab, .ref ah, .int ch, .ref asv, .int hs, .ref ai, .int ty, .int wy, .int wd, .ref al, .int li, .int pl, .int iw, .ref at_])) :: (ag, .inl (dA 0, 310, .inl g)) :: R) s H locs := g_aft ht hB hS
    obtain rfl : r_5 = bZ (inR w 0 (g 50 - 1)) := h_4
    refine lv_if_eq (tgt := 33) hx hb dX4_would_13 (by decide) (fun c_6 => ?_) (fun c_6 => ?_)
    · skip
      have c_6 := bZ_0.mp c_6
      refine lv_bipush (v := (-11)) hx hb dX4_would_33 (by decide) ?_
      exact g_iret (v := (-11)) () X hw hr hlocks  (by simp [q_would, c_3, kj, c_6]) rfl dX4_would_35
    · skip
      have c_6 := bZ_1 c_6
      obtain ⟨k, hk, ek⟩ := hI.inC c_6
      subst ek
      have kk : (nI k).toNatClampNeg = k := nI_clamp (by omega)
      refine lv_iload_n hx hb dX4_would_16 rfl (lv_at hl 3 rfl) ?_
      refine va_calli (va_runS (As := [.int z]) (rest := []) X.1 (m_X4_isPoint l D dA A E hE ((mo, .inr (4, [.ref ag, .ref ab, .ref ah, .int ch, .ref asv, .int hs, .ref ai, .int ty, .int wy, .int wd, .ref al, .int li, .int pl, .int iw, .ref at_])) :: (ag, .inl (dA 0, 310, .inl g)) :: R) z) (va_cwS 1 X.1.2.2.2.2 (lw_S q1898 q1899 q80 q1900) rfl rfl rfl (by decide +kernel) ⟨Nat.le_of_ble_eq_true rfl, Nat.le_of_ble_eq_true rfl⟩) (g_preS hE X.2 hw) rfl rfl hl.1 rfl (lv_room (Nat.le_of_ble_eq_true rfl)) dX4_would_17 ⟨Nat.le_of_ble_eq_true rfl, Nat.le_of_ble_eq_true rfl⟩) hw.2.2 (fun q _ h => h) (fun q h => h) (fun r_8 u t H locs ht hvm h_7 hB hz9 hk9 hS => ?_)
      have hw : gW D A ((mo, .inr (4, [.ref ag, .ref ab, .ref ah, .int ch, .ref asv, .int hs, .ref ai, .int ty, .int wy, .int wd, .ref al, .int li, .int pl, .int iw, .ref at_])) :: (ag, .inl (dA 0, 310, .inl g)) :: R) s H locs := g_aft ht hB hS
      obtain rfl : r_8 = bZ (inR z 0 9) := h_7
      refine lv_if_eq (tgt := 33) hx hb dX4_would_20 (by decide) (fun c_9 => ?_) (fun c_9 => ?_)
      · skip
        have c_9 := bZ_0.mp c_9
        refine lv_bipush (v := (-11)) hx hb dX4_would_33 (by decide) ?_
        exact g_iret (v := (-11)) () X hw hr hlocks  (by simp [q_would, c_3, kj, c_6, kk, c_9]) rfl dX4_would_35
      · skip
        have c_9 := bZ_1 c_9
        obtain ⟨q, hq, eq⟩ := inR10 c_9
        subst eq
        have kq : (nI q).toNatClampNeg = q := nI_clamp (by omega)
        refine lv_aload_n hx hb dX4_would_23 rfl (lv_at hl 0 rfl) ?_
        refine lv_iload_n hx hb dX4_would_24 rfl (lv_at hl 1 rfl) ?_
        refine lv_iload_n hx hb dX4_would_25 rfl (lv_at hl 2 rfl) ?_
        refine lv_iload_n hx hb dX4_would_26 rfl (lv_at hl 3 rfl) ?_
        refine va_calli (va_runV (As := [.int (nI j), .int (nI k), .int (nI q)]) (rest := []) X.1 (m_X4_wouldBe l D dA A E hE R mo ag ab ah asv ai al at_ ch hs ty wy wd li pl iw g j k q (by first | assumption | omega) (by first | assumption | omega) (by first | assumption | omega)) (cwV 3 X.1.2.2.2.2 (lw_V q1972 q1974 qs34 q80 q1975) rfl rfl rfl (by decide +kernel) ⟨Nat.le_of_ble_eq_true rfl, Nat.le_of_ble_eq_true rfl⟩) (g_preV hE X.2 hw 0 rfl rfl) rfl rfl hl.1 rfl (lv_room (Nat.le_of_ble_eq_true rfl)) dX4_would_27 ⟨Nat.le_of_ble_eq_true rfl, Nat.le_of_ble_eq_true rfl⟩) hw.2.2 (fun q _ h => h) (fun q h => h) (fun r_11 u t H locs ht hvm h_10 hB hz9 hk9 hS => ?_)
        have hw : gW D A ((mo, .inr (4, [.ref ag, .ref ab, .ref ah, .int ch, .ref asv, .int hs, .ref ai, .int ty, .int wy, .int wd, .ref al, .int li, .int pl, .int iw, .ref at_])) :: (ag, .inl (dA 0, 310, .inl g)) :: R) s H locs := g_aft ht hB hS
        obtain rfl : r_11 = wouldBe g j k q := h_10
        refine lv_goto (tgt := 35) hx hb dX4_would_30 (by decide) ?_
        exact g_iret (v := wouldBe g j k q) () X hw hr hlocks  (by simp [q_would, c_3, kj, c_6, kk, c_9, kq]) rfl dX4_would_35

set_option maxHeartbeats 4000000 in
theorem m_X4_ledgeFor (l : Launch) (D : va_G) (dA : Nat → ClassId) (A : Nat → Prop) (E : State → Prop) (hE : gSt A E) (R : va_W) (mo ag ab ah asv ai al at_ : Nat) (ch hs ty wy wd li pl iw : Int32) (g : gG) (hI : gInv g) (j : Nat) (hj : j < nn g 212) : Met l yX4_ledgeFor (ws_ yX4_ledgeFor cX4_ledgeFor 2 (Option.some FieldType.int)) ({ frames := 0, cells := 0, slots := 0, locals := 0 }) (va_Pc [.ref mo, .int (nI j)] (gB D dA A E ((mo, .inr (4, [.ref ag, .ref ab, .ref ah, .int ch, .ref asv, .int hs, .ref ai, .int ty, .int wy, .int wd, .ref al, .int li, .int pl, .int iw, .ref at_])) :: (ag, .inl (dA 0, 310, .inl g)) :: R))) (va_Qi (fun (r : Int32) (_ : Unit) => r = nI (ledgeFor g j)) (fun _ => gE D A ((mo, .inr (4, [.ref ag, .ref ab, .ref ah, .int ch, .ref asv, .int hs, .ref ai, .int ty, .int wy, .int wd, .ref al, .int li, .int pl, .int iw, .ref at_])) :: (ag, .inl (dA 0, 310, .inl g)) :: R)) A) (0) (0) A := by
  refine g_start rfl rfl ?_
  intro p e s m args below meth c ls X hr hlocks hin hw hl
  have hx := X.1.1
  have hb := X.1.2.1
  have hl : lv_has ls 2 [(0, .ref mo), (1, .int (nI j))] := hl
  have hI2 := hI.c.2
  have hI4 := hI.m.2
  have hI6 := hI.k.2
  have hkc := (hI.kc hj).2
  have hcl := (hI.cl hkc)
  have hcl2 := hcl.2
  refine lv_aload_n hx hb dX4_ledgeFor_0 rfl (lv_at hl 0 rfl) ?_
  refine g_get X cfX4 hw 0 0 rfl rfl q1834 rfl rfl dX4_ledgeFor_1 ?_
  refine lv_bipush (v := 51) hx hb dX4_ledgeFor_4 (by decide) ?_
  refine lv_aload_n hx hb dX4_ledgeFor_6 rfl (lv_at hl 0 rfl) ?_
  refine g_get X cfX4 hw 0 0 rfl rfl q1834 rfl rfl dX4_ledgeFor_7 ?_
  refine lv_sipush (v := 213) hx hb dX4_ledgeFor_10 (by decide) ?_
  refine lv_iload_n hx hb dX4_ledgeFor_13 rfl (lv_at hl 1 rfl) ?_
  refine lv_iadd hx hb dX4_ledgeFor_14 ?_
  refine g_addN (a := 213) (b := j) ?_
  refine g_iald X hw 1 rfl (i := 213 + j) (by omega) (by first | decide | omega) dX4_ledgeFor_15 ?_
  refine lv_iadd hx hb dX4_ledgeFor_16 ?_
  refine g_addE (a := 51) (b := nn g (213 + j)) rfl (hI.kc hj).1 ?_
  refine g_iald X hw 1 rfl (i := 51 + (nn g (213 + j))) (by omega) (by first | decide | omega) dX4_ledgeFor_17 ?_
  exact g_iret (v := g (51 + (nn g (213 + j)))) () X hw hr hlocks  (by exact hcl.1) rfl dX4_ledgeFor_18

set_option maxHeartbeats 4000000 in
theorem m_X4_dueAt (l : Launch) (D : va_G) (dA : Nat → ClassId) (A : Nat → Prop) (E : State → Prop) (hE : gSt A E) (R : va_W) (mo ag ab ah asv ai al at_ : Nat) (ch hs ty wy wd li pl iw : Int32) (g : gG) (hI : gInv g) (j q : Nat) (hj : j < nn g 212) (hq : q < 10) : Met l yX4_dueAt (ws_ yX4_dueAt cX4_dueAt 3 (Option.some FieldType.int)) ({ frames := 0, cells := 0, slots := 0, locals := 0 }) (va_Pc [.ref mo, .int (nI j), .int (nI q)] (gB D dA A E ((mo, .inr (4, [.ref ag, .ref ab, .ref ah, .int ch, .ref asv, .int hs, .ref ai, .int ty, .int wy, .int wd, .ref al, .int li, .int pl, .int iw, .ref at_])) :: (ag, .inl (dA 0, 310, .inl g)) :: R))) (va_Qi (fun (r : Int32) (_ : Unit) => r = g (91 + 10 * nn g (213 + j) + q)) (fun _ => gE D A ((mo, .inr (4, [.ref ag, .ref ab, .ref ah, .int ch, .ref asv, .int hs, .ref ai, .int ty, .int wy, .int wd, .ref al, .int li, .int pl, .int iw, .ref at_])) :: (ag, .inl (dA 0, 310, .inl g)) :: R)) A) (0) (0) A := by
  refine g_start rfl rfl ?_
  intro p e s m args below meth c ls X hr hlocks hin hw hl
  have hx := X.1.1
  have hb := X.1.2.1
  have hl : lv_has ls 3 [(0, .ref mo), (1, .int (nI j)), (2, .int (nI q))] := hl
  have hI2 := hI.c.2
  have hI4 := hI.m.2
  have hI6 := hI.k.2
  have hkc := (hI.kc hj).2
  have hcl := (hI.cl hkc)
  have hcl2 := hcl.2
  refine lv_aload_n hx hb dX4_dueAt_0 rfl (lv_at hl 0 rfl) ?_
  refine g_get X cfX4 hw 0 0 rfl rfl q1834 rfl rfl dX4_dueAt_1 ?_
  refine lv_bipush (v := 91) hx hb dX4_dueAt_4 (by decide) ?_
  refine lv_bipush (v := 10) hx hb dX4_dueAt_6 (by decide) ?_
  refine lv_aload_n hx hb dX4_dueAt_8 rfl (lv_at hl 0 rfl) ?_
  refine g_get X cfX4 hw 0 0 rfl rfl q1834 rfl rfl dX4_dueAt_9 ?_
  refine lv_sipush (v := 213) hx hb dX4_dueAt_12 (by decide) ?_
  refine lv_iload_n hx hb dX4_dueAt_15 rfl (lv_at hl 1 rfl) ?_
  refine lv_iadd hx hb dX4_dueAt_16 ?_
  refine g_addN (a := 213) (b := j) ?_
  refine g_iald X hw 1 rfl (i := 213 + j) (by omega) (by first | decide | omega) dX4_dueAt_17 ?_
  refine lv_imul hx hb dX4_dueAt_18 ?_
  refine g_mulE (a := 10) (b := nn g (213 + j)) rfl (hI.kc hj).1 ?_
  refine lv_iadd hx hb dX4_dueAt_19 ?_
  refine g_addN (a := 91) (b := 10 * (nn g (213 + j))) ?_
  refine lv_iload_n hx hb dX4_dueAt_20 rfl (lv_at hl 2 rfl) ?_
  refine lv_iadd hx hb dX4_dueAt_21 ?_
  refine g_addN (a := 91 + (10 * (nn g (213 + j)))) (b := q) ?_
  refine g_iald X hw 1 rfl (i := 91 + (10 * (nn g (213 + j))) + q) (by omega) (by first | decide | omega) dX4_dueAt_22 ?_
  exact g_iret (v := g (91 + (10 * (nn g (213 + j))) + q)) () X hw hr hlocks  rfl rfl dX4_dueAt_23
