set_option maxHeartbeats 4000000 in
theorem m_X4_looksBack (l : Launch) (D : va_G) (dA : Nat → ClassId) (A : Nat → Prop) (E : State → Prop) (hE : gSt A E) (R : va_W) (mo ag ab ah asv ai al at_ : Nat) (ch hs ty wy wd li pl iw : Int32) (g : gG) (bf : gG) : Met l yX4_looksBack (ws_ yX4_looksBack cX4_looksBack 1 (Option.none : Option FieldType)) ({ frames := 1, cells := 0, slots := 0, locals := 24 }) (va_Pc [.ref mo] (gB D dA A E ((mo, .inr (4, [.ref ag, .ref ab, .ref ah, .int ch, .ref asv, .int hs, .ref ai, .int ty, .int wy, .int wd, .ref al, .int li, .int pl, .int iw, .ref at_])) :: (ag, .inl (dA 0, 310, .inl g)) :: (ab, .inl (dA 0, 310, .inl bf)) :: R))) (va_Qv (fun (_ : Unit) => True) (fun _ => gE D A ((mo, .inr (4, [.ref ag, .ref ab, .ref ah, .int ch, .ref asv, .int hs, .ref ai, .int ty, .int wy, .int wd, .ref al, .int li, .int pl, .int iw, .ref at_])) :: (ag, .inl (dA 0, 310, .inl g)) :: (ab, .inl (dA 0, 310, .inl g)) :: R)) A) (0) (0) A := by
  refine g_start rfl rfl ?_
  intro p e s m args below meth c ls X hr hlocks hin hw hl
  have hx := X.1.1
  have hb := X.1.2.1
  have hl : lv_has ls 1 [(0, .ref mo)] := hl
  refine lv_aload_n hx hb dX4_looksBack_0 rfl (lv_at hl 0 rfl) ?_
  refine g_get X cfX4 hw 0 0 rfl rfl q1834 rfl rfl dX4_looksBack_1 ?_
  refine lv_iconst (v := 0) hx hb dX4_looksBack_4 (by decide) ?_
  refine lv_aload_n hx hb dX4_looksBack_5 rfl (lv_at hl 0 rfl) ?_
  refine g_get X cfX4 hw 0 1 rfl rfl q1835 rfl rfl dX4_looksBack_6 ?_
  refine lv_iconst (v := 0) hx hb dX4_looksBack_9 (by decide) ?_
  have hw : gW D A ((ag, .inl (dA 0, 310, .inl g)) :: (ab, .inl (dA 0, 310, .inl bf)) :: (mo, .inr (4, [.ref ag, .ref ab, .ref ah, .int ch, .ref asv, .int hs, .ref ai, .int ty, .int wy, .int wd, .ref al, .int li, .int pl, .int iw, .ref at_])) :: R) s _ _ := g_perm (X := [(mo, .inr (4, [.ref ag, .ref ab, .ref ah, .int ch, .ref asv, .int hs, .ref ai, .int ty, .int wy, .int wd, .ref al, .int li, .int pl, .int iw, .ref at_])), (ag, .inl (dA 0, 310, .inl g)), (ab, .inl (dA 0, 310, .inl bf))]) (cx := [(ag, .inl (dA 0, 310, .inl g)), (ab, .inl (dA 0, 310, .inl bf)), (mo, .inr (4, [.ref ag, .ref ab, .ref ah, .int ch, .ref asv, .int hs, .ref ai, .int ty, .int wy, .int wd, .ref al, .int li, .int pl, .int iw, .ref at_]))]) (pl := R) hw [1, 2, 0] rfl rfl rfl rfl
  refine va_callv (va_runS (As := [.ref ag, .int 0, .ref ab, .int 0]) (rest := []) X.1 (m_X4_copy l D dA A E hE ((mo, .inr (4, [.ref ag, .ref ab, .ref ah, .int ch, .ref asv, .int hs, .ref ai, .int ty, .int wy, .int wd, .ref al, .int li, .int pl, .int iw, .ref at_])) :: R) ag ab 310 310 0 0 g bf (by first | assumption | omega) (by first | assumption | omega) (by first | assumption | omega) (by first | assumption | omega)) (va_cwS 4 X.1.2.2.2.2 (lw_S q1913 q1914 q80 q1915) rfl rfl rfl (by decide +kernel) ⟨Nat.le_of_ble_eq_true rfl, Nat.le_of_ble_eq_true rfl⟩) (g_preS hE X.2 hw) rfl rfl hl.1 rfl (lv_room (Nat.le_of_ble_eq_true rfl)) dX4_looksBack_10 ⟨Nat.le_of_ble_eq_true rfl, Nat.le_of_ble_eq_true rfl⟩) hw.2.2 (fun q _ h => h) (fun q h => h) (fun u t H locs ht hvm h_1 hB hz9 hk9 hS => ?_)
  have hw : gW D A ((ag, .inl (dA 0, 310, .inl g)) :: (ab, .inl (dA 0, 310, .inl (va_cpy g bf 0 0 310))) :: (mo, .inr (4, [.ref ag, .ref ab, .ref ah, .int ch, .ref asv, .int hs, .ref ai, .int ty, .int wy, .int wd, .ref al, .int li, .int pl, .int iw, .ref at_])) :: R) s H locs := g_aft ht hB hS
  have hw : gW D A ((ag, .inl (dA 0, 310, .inl g)) :: (ab, .inl (dA 0, 310, .inl g)) :: (mo, .inr (4, [.ref ag, .ref ab, .ref ah, .int ch, .ref asv, .int hs, .ref ai, .int ty, .int wy, .int wd, .ref al, .int li, .int pl, .int iw, .ref at_])) :: R) s _ _ := g_arr hw 1 g rfl cpy_all rfl
  have hw : gW D A ((mo, .inr (4, [.ref ag, .ref ab, .ref ah, .int ch, .ref asv, .int hs, .ref ai, .int ty, .int wy, .int wd, .ref al, .int li, .int pl, .int iw, .ref at_])) :: (ag, .inl (dA 0, 310, .inl g)) :: (ab, .inl (dA 0, 310, .inl g)) :: R) s _ _ := g_perm (X := [(ag, .inl (dA 0, 310, .inl g)), (ab, .inl (dA 0, 310, .inl g)), (mo, .inr (4, [.ref ag, .ref ab, .ref ah, .int ch, .ref asv, .int hs, .ref ai, .int ty, .int wy, .int wd, .ref al, .int li, .int pl, .int iw, .ref at_]))]) (cx := [(mo, .inr (4, [.ref ag, .ref ab, .ref ah, .int ch, .ref asv, .int hs, .ref ai, .int ty, .int wy, .int wd, .ref al, .int li, .int pl, .int iw, .ref at_])), (ag, .inl (dA 0, 310, .inl g)), (ab, .inl (dA 0, 310, .inl g))]) (pl := R) hw [2, 0, 1] rfl rfl rfl rfl
  exact g_vret () X hw hr hlocks trivial rfl dX4_looksBack_13

set_option maxHeartbeats 4000000 in
theorem m_X4_kept (l : Launch) (D : va_G) (dA : Nat → ClassId) (A : Nat → Prop) (E : State → Prop) (hE : gSt A E) (R : va_W) (mo ag ab ah asv ai al at_ : Nat) (hs ty wy wd li pl iw : Int32) (g : gG) (bf hf : gG) (cn : Nat) (hcn : cn ≤ 8) (v : Int32) : Met l yX4_kept (ws_ yX4_kept cX4_kept 3 (Option.some FieldType.int)) ({ frames := 1, cells := 0, slots := 0, locals := 24 }) (va_Pc [.ref mo, .int v] (gB D dA A E ((mo, .inr (4, [.ref ag, .ref ab, .ref ah, .int (nI cn), .ref asv, .int hs, .ref ai, .int ty, .int wy, .int wd, .ref al, .int li, .int pl, .int iw, .ref at_])) :: (ag, .inl (dA 0, 310, .inl g)) :: (ab, .inl (dA 0, 310, .inl bf)) :: (ah, .inl (dA 0, 2480, .inl hf)) :: R))) (va_Qi (fun (r : Int32) (_ : Unit) => r = v) (fun _ => gE D A ((mo, .inr (4, [.ref ag, .ref ab, .ref ah, .int (if v < 0 then nI cn else nI (pushN cn)), .ref asv, .int hs, .ref ai, .int ty, .int wy, .int wd, .ref al, .int li, .int pl, .int iw, .ref at_])) :: (ag, .inl (dA 0, 310, .inl (if v < 0 then bf else g))) :: (ab, .inl (dA 0, 310, .inl bf)) :: (ah, .inl (dA 0, 2480, .inl (if v < 0 then hf else pushH hf cn bf))) :: R)) A) (0) (0) A := by
  refine g_start rfl rfl ?_
  intro p e s m args below meth c ls X hr hlocks hin hw hl
  have hx := X.1.1
  have hb := X.1.2.1
  have hl : lv_has ls 3 [(0, .ref mo), (1, .int v)] := hl
  refine lv_iload_n hx hb dX4_kept_0 rfl (lv_at hl 1 rfl) ?_
  refine lv_if_ge (tgt := 19) hx hb dX4_kept_1 (by decide) (fun c_1 => ?_) (fun c_1 => ?_)
  · skip
    have c_1 := Int32.not_lt.mpr c_1
    refine lv_aload_n hx hb dX4_kept_19 rfl (lv_at hl 0 rfl) ?_
    refine g_get X cfX4 hw 0 3 rfl rfl q1837 rfl rfl dX4_kept_20 ?_
    refine lv_bipush (v := 8) hx hb dX4_kept_23 (by decide) ?_
    refine lv_icmp_ne (tgt := 69) hx hb dX4_kept_25 (by decide) (fun c_2 => ?_) (fun c_2 => ?_)
    · skip
      have c_2 : ¬ (cn = 8) := fun q => c_2 ((nI_eq (a := cn) (b := 8) (by omega) (by omega)).mpr q)
      refine lv_aload_n hx hb dX4_kept_69 rfl (lv_at hl 0 rfl) ?_
      refine g_get X cfX4 hw 0 1 rfl rfl q1835 rfl rfl dX4_kept_70 ?_
      refine lv_iconst (v := 0) hx hb dX4_kept_73 (by decide) ?_
      refine lv_aload_n hx hb dX4_kept_74 rfl (lv_at hl 0 rfl) ?_
      refine g_get X cfX4 hw 0 2 rfl rfl q1836 rfl rfl dX4_kept_75 ?_
      refine lv_aload_n hx hb dX4_kept_78 rfl (lv_at hl 0 rfl) ?_
      refine g_get X cfX4 hw 0 3 rfl rfl q1837 rfl rfl dX4_kept_79 ?_
      refine lv_sipush (v := 310) hx hb dX4_kept_82 (by decide) ?_
      refine lv_imul hx hb dX4_kept_85 ?_
      refine g_mulN (a := cn) (b := 310) ?_
      have hw : gW D A ((ab, .inl (dA 0, 310, .inl bf)) :: (ah, .inl (dA 0, 2480, .inl hf)) :: (mo, .inr (4, [.ref ag, .ref ab, .ref ah, .int (nI cn), .ref asv, .int hs, .ref ai, .int ty, .int wy, .int wd, .ref al, .int li, .int pl, .int iw, .ref at_])) :: (ag, .inl (dA 0, 310, .inl g)) :: R) s _ _ := g_perm (X := [(mo, .inr (4, [.ref ag, .ref ab, .ref ah, .int (nI cn), .ref asv, .int hs, .ref ai, .int ty, .int wy, .int wd, .ref al, .int li, .int pl, .int iw, .ref at_])), (ag, .inl (dA 0, 310, .inl g)), (ab, .inl (dA 0, 310, .inl bf)), (ah, .inl (dA 0, 2480, .inl hf))]) (cx := [(ab, .inl (dA 0, 310, .inl bf)), (ah, .inl (dA 0, 2480, .inl hf)), (mo, .inr (4, [.ref ag, .ref ab, .ref ah, .int (nI cn), .ref asv, .int hs, .ref ai, .int ty, .int wy, .int wd, .ref al, .int li, .int pl, .int iw, .ref at_])), (ag, .inl (dA 0, 310, .inl g))]) (pl := R) hw [2, 3, 0, 1] rfl rfl rfl rfl
      refine va_callv (va_runS (As := [.ref ab, .int 0, .ref ah, .int (nI (cn * 310))]) (rest := []) X.1 (m_X4_copy l D dA A E hE ((mo, .inr (4, [.ref ag, .ref ab, .ref ah, .int (nI cn), .ref asv, .int hs, .ref ai, .int ty, .int wy, .int wd, .ref al, .int li, .int pl, .int iw, .ref at_])) :: (ag, .inl (dA 0, 310, .inl g)) :: R) ab ah 310 2480 0 (cn * 310) bf hf (by first | assumption | omega) (by first | assumption | omega) (by first | assumption | omega) (by first | assumption | omega)) (va_cwS 4 X.1.2.2.2.2 (lw_S q1913 q1914 q80 q1915) rfl rfl rfl (by decide +kernel) ⟨Nat.le_of_ble_eq_true rfl, Nat.le_of_ble_eq_true rfl⟩) (g_preS hE X.2 hw) rfl rfl hl.1 rfl (lv_room (Nat.le_of_ble_eq_true rfl)) dX4_kept_86 ⟨Nat.le_of_ble_eq_true rfl, Nat.le_of_ble_eq_true rfl⟩) hw.2.2 (fun q _ h => h) (fun q h => h) (fun u t H locs ht hvm h_3 hB hz9 hk9 hS => ?_)
      have hw : gW D A ((ab, .inl (dA 0, 310, .inl bf)) :: (ah, .inl (dA 0, 2480, .inl (va_cpy bf hf 0 (cn * 310) 310))) :: (mo, .inr (4, [.ref ag, .ref ab, .ref ah, .int (nI cn), .ref asv, .int hs, .ref ai, .int ty, .int wy, .int wd, .ref al, .int li, .int pl, .int iw, .ref at_])) :: (ag, .inl (dA 0, 310, .inl g)) :: R) s H locs := g_aft ht hB hS
      refine lv_aload_n hx hb dX4_kept_89 rfl (lv_at hl 0 rfl) ?_
      refine lv_dup hx hb dX4_kept_90 rfl ?_
      refine g_get X cfX4 hw 2 3 rfl rfl q1837 rfl rfl dX4_kept_91 ?_
      refine lv_iconst (v := 1) hx hb dX4_kept_94 (by decide) ?_
      refine lv_iadd hx hb dX4_kept_95 ?_
      refine g_addN (a := cn) (b := 1) ?_
      refine g_put (ws' := (ab, .inl (dA 0, 310, .inl bf)) :: (ah, .inl (dA 0, 2480, .inl (va_cpy bf hf 0 (cn * 310) 310))) :: (mo, .inr (4, [.ref ag, .ref ab, .ref ah, .int (nI (cn + 1)), .ref asv, .int hs, .ref ai, .int ty, .int wy, .int wd, .ref al, .int li, .int pl, .int iw, .ref at_])) :: (ag, .inl (dA 0, 310, .inl g)) :: R) X cfX4 hw 2 3 rfl rfl q1837 rfl rfl rfl rfl rfl rfl dX4_kept_96 (fun H locs hw => ?_)
      refine lv_iload_n hx hb dX4_kept_99 rfl (lv_at hl 1 rfl) ?_
      have hw : gW D A ((mo, .inr (4, [.ref ag, .ref ab, .ref ah, .int (nI (cn + 1)), .ref asv, .int hs, .ref ai, .int ty, .int wy, .int wd, .ref al, .int li, .int pl, .int iw, .ref at_])) :: (ag, .inl (dA 0, 310, .inl g)) :: (ab, .inl (dA 0, 310, .inl bf)) :: (ah, .inl (dA 0, 2480, .inl (va_cpy bf hf 0 (cn * 310) 310))) :: R) s _ _ := g_perm (X := [(ab, .inl (dA 0, 310, .inl bf)), (ah, .inl (dA 0, 2480, .inl (va_cpy bf hf 0 (cn * 310) 310))), (mo, .inr (4, [.ref ag, .ref ab, .ref ah, .int (nI (cn + 1)), .ref asv, .int hs, .ref ai, .int ty, .int wy, .int wd, .ref al, .int li, .int pl, .int iw, .ref at_])), (ag, .inl (dA 0, 310, .inl g))]) (cx := [(mo, .inr (4, [.ref ag, .ref ab, .ref ah, .int (nI (cn + 1)), .ref asv, .int hs, .ref ai, .int ty, .int wy, .int wd, .ref al, .int li, .int pl, .int iw, .ref at_])), (ag, .inl (dA 0, 310, .inl g)), (ab, .inl (dA 0, 310, .inl bf)), (ah, .inl (dA 0, 2480, .inl (va_cpy bf hf 0 (cn * 310) 310)))]) (pl := R) hw [2, 3, 0, 1] rfl rfl rfl rfl
      exact g_iret (v := v) () X hw hr hlocks  rfl (by first | (simp only [if_neg c_1, pushH, pushN, if_neg c_2]; done) | (simp only [if_neg c_1, pushH, pushN, if_neg c_2]; rfl)) dX4_kept_100
    · skip
      have c_2 : cn = 8 := (nI_eq (a := cn) (b := 8) (by omega) (by omega)).mp c_2
      subst c_2
      refine lv_iconst (v := 0) hx hb dX4_kept_28 (by decide) ?_
      refine lv_istore_n (lv' := [(2, .int 0), (0, .ref mo), (1, .int v)]) hx hb dX4_kept_29 rfl hl (by decide) rfl (fun ls hl => ?_)
      have loop_4 : ∀ (fuel : Nat) (i : Nat), ∀ (hi : i ≤ 2170), (2170 - i) < fuel → ∀ (H : Heap) (locs : List Loc) (hw : gW D A ((mo, .inr (4, [.ref ag, .ref ab, .ref ah, .int 8, .ref asv, .int hs, .ref ai, .int ty, .int wy, .int wd, .ref al, .int li, .int pl, .int iw, .ref at_])) :: (ag, .inl (dA 0, 310, .inl g)) :: (ab, .inl (dA 0, 310, .inl bf)) :: (ah, .inl (dA 0, 2480, .inl (shiftL hf i))) :: R) s H locs) (ls : Array Slot) (hl : lv_has ls 3 [(2, .int (nI i)), (0, .ref mo), (1, .int v)]), W p l e ({ frames := 1, cells := 0, slots := 0, locals := 24 }) s m args below meth c H locs (0) (0) (MQ below (va_Qi (fun (r : Int32) (_ : Unit) => r = v) (fun _ => gE D A ((mo, .inr (4, [.ref ag, .ref ab, .ref ah, .int (if v < 0 then nI 8 else nI (pushN 8)), .ref asv, .int hs, .ref ai, .int ty, .int wy, .int wd, .ref al, .int li, .int pl, .int iw, .ref at_])) :: (ag, .inl (dA 0, 310, .inl (if v < 0 then bf else g))) :: (ab, .inl (dA 0, 310, .inl bf)) :: (ah, .inl (dA 0, 2480, .inl (if v < 0 then hf else pushH hf 8 bf))) :: R)) A) args s (0) (0) A) (F0 m 30 ls []) := by
        intro fuel
        induction fuel with
        | zero => intro i hi hf; exact absurd hf (Nat.not_lt_zero _)
        | succ fuel ih_loop_4 =>
          intro i hi hfuel_loop_4 H locs hw ls hl
          refine lv_iload_n hx hb dX4_kept_30 rfl (lv_at hl 0 rfl) ?_
          refine lv_sipush (v := 2170) hx hb dX4_kept_31 (by decide) ?_
          refine lv_icmp_ge (tgt := 59) hx hb dX4_kept_34 (by decide) (fun c_5 => ?_) (fun c_5 => ?_)
          · skip
            have c_5 := Int32.not_lt.mpr c_5
            have c_5 : ¬ (i < 2170) := fun q => c_5 ((nI_ltI (a := i) (b := 2170) (by omega) (by omega)).mpr q)
            obtain rfl : i = 2170 := by omega
            refine lv_aload_n hx hb dX4_kept_59 rfl (lv_at hl 1 rfl) ?_
            refine lv_dup hx hb dX4_kept_60 rfl ?_
            refine g_get X cfX4 hw 0 3 rfl rfl q1837 rfl rfl dX4_kept_61 ?_
            refine lv_iconst (v := 1) hx hb dX4_kept_64 (by decide) ?_
            refine lv_isub hx hb dX4_kept_65 ?_
            refine g_top (y := 7) (by decide) ?_
            refine g_put (ws' := (mo, .inr (4, [.ref ag, .ref ab, .ref ah, .int 7, .ref asv, .int hs, .ref ai, .int ty, .int wy, .int wd, .ref al, .int li, .int pl, .int iw, .ref at_])) :: (ag, .inl (dA 0, 310, .inl g)) :: (ab, .inl (dA 0, 310, .inl bf)) :: (ah, .inl (dA 0, 2480, .inl (shiftL hf 2170))) :: R) X cfX4 hw 0 3 rfl rfl q1837 rfl rfl rfl rfl rfl rfl dX4_kept_66 (fun H locs hw => ?_)
            refine lv_aload_n hx hb dX4_kept_69 rfl (lv_at hl 1 rfl) ?_
            refine g_get X cfX4 hw 0 1 rfl rfl q1835 rfl rfl dX4_kept_70 ?_
            refine lv_iconst (v := 0) hx hb dX4_kept_73 (by decide) ?_
            refine lv_aload_n hx hb dX4_kept_74 rfl (lv_at hl 1 rfl) ?_
            refine g_get X cfX4 hw 0 2 rfl rfl q1836 rfl rfl dX4_kept_75 ?_
            refine lv_aload_n hx hb dX4_kept_78 rfl (lv_at hl 1 rfl) ?_
            refine g_get X cfX4 hw 0 3 rfl rfl q1837 rfl rfl dX4_kept_79 ?_
            refine lv_sipush (v := 310) hx hb dX4_kept_82 (by decide) ?_
            refine lv_imul hx hb dX4_kept_85 ?_
            refine g_top (y := 2170) (by decide) ?_
            have hw : gW D A ((ab, .inl (dA 0, 310, .inl bf)) :: (ah, .inl (dA 0, 2480, .inl (shiftL hf 2170))) :: (mo, .inr (4, [.ref ag, .ref ab, .ref ah, .int 7, .ref asv, .int hs, .ref ai, .int ty, .int wy, .int wd, .ref al, .int li, .int pl, .int iw, .ref at_])) :: (ag, .inl (dA 0, 310, .inl g)) :: R) s _ _ := g_perm (X := [(mo, .inr (4, [.ref ag, .ref ab, .ref ah, .int 7, .ref asv, .int hs, .ref ai, .int ty, .int wy, .int wd, .ref al, .int li, .int pl, .int iw, .ref at_])), (ag, .inl (dA 0, 310, .inl g)), (ab, .inl (dA 0, 310, .inl bf)), (ah, .inl (dA 0, 2480, .inl (shiftL hf 2170)))]) (cx := [(ab, .inl (dA 0, 310, .inl bf)), (ah, .inl (dA 0, 2480, .inl (shiftL hf 2170))), (mo, .inr (4, [.ref ag, .ref ab, .ref ah, .int 7, .ref asv, .int hs, .ref ai, .int ty, .int wy, .int wd, .ref al, .int li, .int pl, .int iw, .ref at_])), (ag, .inl (dA 0, 310, .inl g))]) (pl := R) hw [2, 3, 0, 1] rfl rfl rfl rfl
            refine va_callv (va_runS (As := [.ref ab, .int 0, .ref ah, .int 2170]) (rest := []) X.1 (m_X4_copy l D dA A E hE ((mo, .inr (4, [.ref ag, .ref ab, .ref ah, .int 7, .ref asv, .int hs, .ref ai, .int ty, .int wy, .int wd, .ref al, .int li, .int pl, .int iw, .ref at_])) :: (ag, .inl (dA 0, 310, .inl g)) :: R) ab ah 310 2480 0 2170 bf (shiftL hf 2170) (by first | assumption | omega) (by first | assumption | omega) (by first | assumption | omega) (by first | assumption | omega)) (va_cwS 4 X.1.2.2.2.2 (lw_S q1913 q1914 q80 q1915) rfl rfl rfl (by decide +kernel) ⟨Nat.le_of_ble_eq_true rfl, Nat.le_of_ble_eq_true rfl⟩) (g_preS hE X.2 hw) rfl rfl hl.1 rfl (lv_room (Nat.le_of_ble_eq_true rfl)) dX4_kept_86 ⟨Nat.le_of_ble_eq_true rfl, Nat.le_of_ble_eq_true rfl⟩) hw.2.2 (fun q _ h => h) (fun q h => h) (fun u t H locs ht hvm h_6 hB hz9 hk9 hS => ?_)
            have hw : gW D A ((ab, .inl (dA 0, 310, .inl bf)) :: (ah, .inl (dA 0, 2480, .inl (va_cpy bf (shiftL hf 2170) 0 2170 310))) :: (mo, .inr (4, [.ref ag, .ref ab, .ref ah, .int 7, .ref asv, .int hs, .ref ai, .int ty, .int wy, .int wd, .ref al, .int li, .int pl, .int iw, .ref at_])) :: (ag, .inl (dA 0, 310, .inl g)) :: R) s H locs := g_aft ht hB hS
            refine lv_aload_n hx hb dX4_kept_89 rfl (lv_at hl 1 rfl) ?_
            refine lv_dup hx hb dX4_kept_90 rfl ?_
            refine g_get X cfX4 hw 2 3 rfl rfl q1837 rfl rfl dX4_kept_91 ?_
            refine lv_iconst (v := 1) hx hb dX4_kept_94 (by decide) ?_
            refine lv_iadd hx hb dX4_kept_95 ?_
            refine g_top (y := 8) (by decide) ?_
            refine g_put (ws' := (ab, .inl (dA 0, 310, .inl bf)) :: (ah, .inl (dA 0, 2480, .inl (va_cpy bf (shiftL hf 2170) 0 2170 310))) :: (mo, .inr (4, [.ref ag, .ref ab, .ref ah, .int 8, .ref asv, .int hs, .ref ai, .int ty, .int wy, .int wd, .ref al, .int li, .int pl, .int iw, .ref at_])) :: (ag, .inl (dA 0, 310, .inl g)) :: R) X cfX4 hw 2 3 rfl rfl q1837 rfl rfl rfl rfl rfl rfl dX4_kept_96 (fun H locs hw => ?_)
            refine lv_iload_n hx hb dX4_kept_99 rfl (lv_at hl 2 rfl) ?_
            have hw : gW D A ((mo, .inr (4, [.ref ag, .ref ab, .ref ah, .int 8, .ref asv, .int hs, .ref ai, .int ty, .int wy, .int wd, .ref al, .int li, .int pl, .int iw, .ref at_])) :: (ag, .inl (dA 0, 310, .inl g)) :: (ab, .inl (dA 0, 310, .inl bf)) :: (ah, .inl (dA 0, 2480, .inl (va_cpy bf (shiftL hf 2170) 0 2170 310))) :: R) s _ _ := g_perm (X := [(ab, .inl (dA 0, 310, .inl bf)), (ah, .inl (dA 0, 2480, .inl (va_cpy bf (shiftL hf 2170) 0 2170 310))), (mo, .inr (4, [.ref ag, .ref ab, .ref ah, .int 8, .ref asv, .int hs, .ref ai, .int ty, .int wy, .int wd, .ref al, .int li, .int pl, .int iw, .ref at_])), (ag, .inl (dA 0, 310, .inl g))]) (cx := [(mo, .inr (4, [.ref ag, .ref ab, .ref ah, .int 8, .ref asv, .int hs, .ref ai, .int ty, .int wy, .int wd, .ref al, .int li, .int pl, .int iw, .ref at_])), (ag, .inl (dA 0, 310, .inl g)), (ab, .inl (dA 0, 310, .inl bf)), (ah, .inl (dA 0, 2480, .inl (va_cpy bf (shiftL hf 2170) 0 2170 310)))]) (pl := R) hw [2, 3, 0, 1] rfl rfl rfl rfl
            exact g_iret (v := v) () X hw hr hlocks  rfl (by first | (simp only [if_neg c_1, pushH, pushN, if_true]; done) | (simp only [if_neg c_1, pushH, pushN, if_true]; rfl)) dX4_kept_100
          · skip
            have c_5 := Int32.not_le.mp c_5
            have c_5 : i < 2170 := (nI_ltI (a := i) (b := 2170) (by omega) (by omega)).mp c_5
            refine lv_aload_n hx hb dX4_kept_37 rfl (lv_at hl 1 rfl) ?_
            refine g_get X cfX4 hw 0 2 rfl rfl q1836 rfl rfl dX4_kept_38 ?_
            refine lv_iload_n hx hb dX4_kept_41 rfl (lv_at hl 0 rfl) ?_
            refine lv_aload_n hx hb dX4_kept_42 rfl (lv_at hl 1 rfl) ?_
            refine g_get X cfX4 hw 0 2 rfl rfl q1836 rfl rfl dX4_kept_43 ?_
            refine lv_iload_n hx hb dX4_kept_46 rfl (lv_at hl 0 rfl) ?_
            refine lv_sipush (v := 310) hx hb dX4_kept_47 (by decide) ?_
            refine lv_iadd hx hb dX4_kept_50 ?_
            refine g_addN (a := i) (b := 310) ?_
            refine g_iald X hw 3 rfl (i := i + 310) (by omega) (by first | decide | omega) dX4_kept_51 ?_
            refine g_top (y := hf (i + 310)) (shiftL_r) ?_
            refine g_iast (ws' := (mo, .inr (4, [.ref ag, .ref ab, .ref ah, .int 8, .ref asv, .int hs, .ref ai, .int ty, .int wy, .int wd, .ref al, .int li, .int pl, .int iw, .ref at_])) :: (ag, .inl (dA 0, 310, .inl g)) :: (ab, .inl (dA 0, 310, .inl bf)) :: (ah, .inl (dA 0, 2480, .inl (upd (shiftL hf i) i (hf (i + 310))))) :: R) X hw 3 rfl (i := i) (by omega) (by first | decide | omega) rfl dX4_kept_52 (fun H locs hw => ?_)
            refine lv_iinc (v := nI (i + 1)) (lv' := [(2, .int (nI (i + 1))), (0, .ref mo), (1, .int v)]) hx hb dX4_kept_53 hl (k := 0) rfl (nI_add i 1) (by decide) rfl (fun ls hl => ?_)
            refine lv_goto (tgt := 30) hx hb dX4_kept_56 (by decide) ?_
            have hw : gW D A ((mo, .inr (4, [.ref ag, .ref ab, .ref ah, .int 8, .ref asv, .int hs, .ref ai, .int ty, .int wy, .int wd, .ref al, .int li, .int pl, .int iw, .ref at_])) :: (ag, .inl (dA 0, 310, .inl g)) :: (ab, .inl (dA 0, 310, .inl bf)) :: (ah, .inl (dA 0, 2480, .inl (shiftL hf (i + 1)))) :: R) s _ _ := g_ws hw (by first | (rw [shiftL_s]; done) | (rw [shiftL_s]; rfl))
            exact ih_loop_4 (i + 1) (by first | assumption | omega) (by omega) _ _ hw _ (lv_sub hl [0, 1, 2] rfl)
      have hw : gW D A ((mo, .inr (4, [.ref ag, .ref ab, .ref ah, .int 8, .ref asv, .int hs, .ref ai, .int ty, .int wy, .int wd, .ref al, .int li, .int pl, .int iw, .ref at_])) :: (ag, .inl (dA 0, 310, .inl g)) :: (ab, .inl (dA 0, 310, .inl bf)) :: (ah, .inl (dA 0, 2480, .inl (shiftL hf 0))) :: R) s _ _ := g_ws hw (by first | (rw [shiftL_0]; done) | (rw [shiftL_0]; rfl))
      exact loop_4 ((2170 - 0) + 1) 0 (by first | assumption | omega) (Nat.lt_succ_self _) _ _ hw _ (lv_sub hl [0, 1, 2] rfl)
  · skip
    have c_1 := Int32.not_le.mp c_1
    refine lv_aload_n hx hb dX4_kept_4 rfl (lv_at hl 0 rfl) ?_
    refine g_get X cfX4 hw 0 1 rfl rfl q1835 rfl rfl dX4_kept_5 ?_
    refine lv_iconst (v := 0) hx hb dX4_kept_8 (by decide) ?_
    refine lv_aload_n hx hb dX4_kept_9 rfl (lv_at hl 0 rfl) ?_
    refine g_get X cfX4 hw 0 0 rfl rfl q1834 rfl rfl dX4_kept_10 ?_
    refine lv_iconst (v := 0) hx hb dX4_kept_13 (by decide) ?_
    have hw : gW D A ((ab, .inl (dA 0, 310, .inl bf)) :: (ag, .inl (dA 0, 310, .inl g)) :: (mo, .inr (4, [.ref ag, .ref ab, .ref ah, .int (nI cn), .ref asv, .int hs, .ref ai, .int ty, .int wy, .int wd, .ref al, .int li, .int pl, .int iw, .ref at_])) :: (ah, .inl (dA 0, 2480, .inl hf)) :: R) s _ _ := g_perm (X := [(mo, .inr (4, [.ref ag, .ref ab, .ref ah, .int (nI cn), .ref asv, .int hs, .ref ai, .int ty, .int wy, .int wd, .ref al, .int li, .int pl, .int iw, .ref at_])), (ag, .inl (dA 0, 310, .inl g)), (ab, .inl (dA 0, 310, .inl bf)), (ah, .inl (dA 0, 2480, .inl hf))]) (cx := [(ab, .inl (dA 0, 310, .inl bf)), (ag, .inl (dA 0, 310, .inl g)), (mo, .inr (4, [.ref ag, .ref ab, .ref ah, .int (nI cn), .ref asv, .int hs, .ref ai, .int ty, .int wy, .int wd, .ref al, .int li, .int pl, .int iw, .ref at_])), (ah, .inl (dA 0, 2480, .inl hf))]) (pl := R) hw [2, 1, 0, 3] rfl rfl rfl rfl
    refine va_callv (va_runS (As := [.ref ab, .int 0, .ref ag, .int 0]) (rest := []) X.1 (m_X4_copy l D dA A E hE ((mo, .inr (4, [.ref ag, .ref ab, .ref ah, .int (nI cn), .ref asv, .int hs, .ref ai, .int ty, .int wy, .int wd, .ref al, .int li, .int pl, .int iw, .ref at_])) :: (ah, .inl (dA 0, 2480, .inl hf)) :: R) ab ag 310 310 0 0 bf g (by first | assumption | omega) (by first | assumption | omega) (by first | assumption | omega) (by first | assumption | omega)) (va_cwS 4 X.1.2.2.2.2 (lw_S q1913 q1914 q80 q1915) rfl rfl rfl (by decide +kernel) ⟨Nat.le_of_ble_eq_true rfl, Nat.le_of_ble_eq_true rfl⟩) (g_preS hE X.2 hw) rfl rfl hl.1 rfl (lv_room (Nat.le_of_ble_eq_true rfl)) dX4_kept_14 ⟨Nat.le_of_ble_eq_true rfl, Nat.le_of_ble_eq_true rfl⟩) hw.2.2 (fun q _ h => h) (fun q h => h) (fun u t H locs ht hvm h_7 hB hz9 hk9 hS => ?_)
    have hw : gW D A ((ab, .inl (dA 0, 310, .inl bf)) :: (ag, .inl (dA 0, 310, .inl (va_cpy bf g 0 0 310))) :: (mo, .inr (4, [.ref ag, .ref ab, .ref ah, .int (nI cn), .ref asv, .int hs, .ref ai, .int ty, .int wy, .int wd, .ref al, .int li, .int pl, .int iw, .ref at_])) :: (ah, .inl (dA 0, 2480, .inl hf)) :: R) s H locs := g_aft ht hB hS
    have hw : gW D A ((ab, .inl (dA 0, 310, .inl bf)) :: (ag, .inl (dA 0, 310, .inl bf)) :: (mo, .inr (4, [.ref ag, .ref ab, .ref ah, .int (nI cn), .ref asv, .int hs, .ref ai, .int ty, .int wy, .int wd, .ref al, .int li, .int pl, .int iw, .ref at_])) :: (ah, .inl (dA 0, 2480, .inl hf)) :: R) s _ _ := g_arr hw 1 bf rfl cpy_all rfl
    refine lv_iload_n hx hb dX4_kept_17 rfl (lv_at hl 1 rfl) ?_
    have hw : gW D A ((mo, .inr (4, [.ref ag, .ref ab, .ref ah, .int (nI cn), .ref asv, .int hs, .ref ai, .int ty, .int wy, .int wd, .ref al, .int li, .int pl, .int iw, .ref at_])) :: (ag, .inl (dA 0, 310, .inl bf)) :: (ab, .inl (dA 0, 310, .inl bf)) :: (ah, .inl (dA 0, 2480, .inl hf)) :: R) s _ _ := g_perm (X := [(ab, .inl (dA 0, 310, .inl bf)), (ag, .inl (dA 0, 310, .inl bf)), (mo, .inr (4, [.ref ag, .ref ab, .ref ah, .int (nI cn), .ref asv, .int hs, .ref ai, .int ty, .int wy, .int wd, .ref al, .int li, .int pl, .int iw, .ref at_])), (ah, .inl (dA 0, 2480, .inl hf))]) (cx := [(mo, .inr (4, [.ref ag, .ref ab, .ref ah, .int (nI cn), .ref asv, .int hs, .ref ai, .int ty, .int wy, .int wd, .ref al, .int li, .int pl, .int iw, .ref at_])), (ag, .inl (dA 0, 310, .inl bf)), (ab, .inl (dA 0, 310, .inl bf)), (ah, .inl (dA 0, 2480, .inl hf))]) (pl := R) hw [2, 1, 0, 3] rfl rfl rfl rfl
    exact g_iret (v := v) () X hw hr hlocks  rfl (by simp only [if_pos c_1]) dX4_kept_18

set_option maxHeartbeats 4000000 in
theorem m_X4_cast (l : Launch) (D : va_G) (dA : Nat → ClassId) (A : Nat → Prop) (E : State → Prop) (hE : gSt A E) (R : va_W) (mo ag ab ah asv ai al at_ : Nat) (hs ty wy wd li pl iw : Int32) (g : gG) (bf hf : gG) (cn : Nat) (hcn : cn ≤ 8) (hI : gInv g) (v : Int32) : Met l yX4_cast (ws_ yX4_cast cX4_cast 2 (Option.some FieldType.int)) ({ frames := 3, cells := 0, slots := 0, locals := 65 }) (va_Pc [.ref mo, .int v] (gB D dA A E ((mo, .inr (4, [.ref ag, .ref ab, .ref ah, .int (nI cn), .ref asv, .int hs, .ref ai, .int ty, .int wy, .int wd, .ref al, .int li, .int pl, .int iw, .ref at_])) :: (ag, .inl (dA 0, 310, .inl g)) :: (ab, .inl (dA 0, 310, .inl bf)) :: (ah, .inl (dA 0, 2480, .inl hf)) :: R))) (va_Qi (fun (r : Int32) (bu : gG) => r = gr_v (p_castsI g v)) (fun bu => gE D A ((mo, .inr (4, [.ref ag, .ref ab, .ref ah, .int (if gr_v (p_castsI g v) < 0 then nI cn else nI (pushN cn)), .ref asv, .int hs, .ref ai, .int ty, .int (gr_w wy (p_castsI g v)), .int (gr_d wd (p_castsI g v)), .ref al, .int li, .int pl, .int iw, .ref at_])) :: (ag, .inl (dA 0, 310, .inl (if gr_v (p_castsI g v) < 0 then g else gr_g g (p_castsI g v)))) :: (ab, .inl (dA 0, 310, .inl bu)) :: (ah, .inl (dA 0, 2480, .inl (if gr_v (p_castsI g v) < 0 then hf else pushH hf cn g))) :: R)) A) (0) (0) A := by
  refine g_start rfl rfl ?_
  intro p e s m args below meth c ls X hr hlocks hin hw hl
  have hx := X.1.1
  have hb := X.1.2.1
  have hl : lv_has ls 2 [(0, .ref mo), (1, .int v)] := hl
  refine lv_aload_n hx hb dX4_cast_0 rfl (lv_at hl 0 rfl) ?_
  refine va_callv (va_runV (As := []) (rest := []) X.1 (m_X4_looksBack l D dA A E hE ((ah, .inl (dA 0, 2480, .inl hf)) :: R) mo ag ab ah asv ai al at_ (nI cn) hs ty wy wd li pl iw g bf) (cwV 0 X.1.2.2.2.2 (lw_V q1909 q1911 qs25 q80 q1912) rfl rfl rfl (by decide +kernel) ⟨Nat.le_of_ble_eq_true rfl, Nat.le_of_ble_eq_true rfl⟩) (g_preV hE X.2 hw 0 rfl rfl) rfl rfl hl.1 rfl (lv_room (Nat.le_of_ble_eq_true rfl)) dX4_cast_1 ⟨Nat.le_of_ble_eq_true rfl, Nat.le_of_ble_eq_true rfl⟩) hw.2.2 (fun q _ h => h) (fun q h => h) (fun u t H locs ht hvm h_1 hB hz9 hk9 hS => ?_)
  have hw : gW D A ((mo, .inr (4, [.ref ag, .ref ab, .ref ah, .int (nI cn), .ref asv, .int hs, .ref ai, .int ty, .int wy, .int wd, .ref al, .int li, .int pl, .int iw, .ref at_])) :: (ag, .inl (dA 0, 310, .inl g)) :: (ab, .inl (dA 0, 310, .inl g)) :: (ah, .inl (dA 0, 2480, .inl hf)) :: R) s H locs := g_aft ht hB hS
  refine lv_aload_n hx hb dX4_cast_4 rfl (lv_at hl 0 rfl) ?_
  refine lv_aload_n hx hb dX4_cast_5 rfl (lv_at hl 0 rfl) ?_
  refine lv_iload_n hx hb dX4_cast_6 rfl (lv_at hl 1 rfl) ?_
  refine va_calli (va_runV (As := [.int v]) (rest := [.ref mo]) X.1 (m_X4_casts l D dA A E hE ((ab, .inl (dA 0, 310, .inl g)) :: (ah, .inl (dA 0, 2480, .inl hf)) :: R) mo ag ab ah asv ai al at_ (nI cn) hs ty wy wd li pl iw g (by first | assumption | omega) v) (cwV 1 X.1.2.2.2.2 (lw_V q1936 q1938 qs30 q80 q1939) rfl rfl rfl (by decide +kernel) ⟨Nat.le_of_ble_eq_true rfl, Nat.le_of_ble_eq_true rfl⟩) (g_preV hE X.2 hw 0 rfl rfl) rfl rfl hl.1 rfl (lv_room (Nat.le_of_ble_eq_true rfl)) dX4_cast_7 ⟨Nat.le_of_ble_eq_true rfl, Nat.le_of_ble_eq_true rfl⟩) hw.2.2 (fun q _ h => h) (fun q h => h) (fun r_3 u t H locs ht hvm h_2 hB hz9 hk9 hS => ?_)
  have hw : gW D A ((mo, .inr (4, [.ref ag, .ref ab, .ref ah, .int (nI cn), .ref asv, .int hs, .ref ai, .int ty, .int (gr_w wy (p_castsI g v)), .int (gr_d wd (p_castsI g v)), .ref al, .int li, .int pl, .int iw, .ref at_])) :: (ag, .inl (dA 0, 310, .inl (gr_g g (p_castsI g v)))) :: (ab, .inl (dA 0, 310, .inl g)) :: (ah, .inl (dA 0, 2480, .inl hf)) :: R) s H locs := g_aft ht hB hS
  obtain rfl : r_3 = gr_v (p_castsI g v) := h_2
  refine va_calli (va_runV (As := [.int (gr_v (p_castsI g v))]) (rest := []) X.1 (m_X4_kept l D dA A E hE R mo ag ab ah asv ai al at_ hs ty (gr_w wy (p_castsI g v)) (gr_d wd (p_castsI g v)) li pl iw (gr_g g (p_castsI g v)) g hf cn (by first | assumption | omega) (gr_v (p_castsI g v))) (cwV 1 X.1.2.2.2.2 (lw_V q1928 q1930 qs29 q80 q1931) rfl rfl rfl (by decide +kernel) ⟨Nat.le_of_ble_eq_true rfl, Nat.le_of_ble_eq_true rfl⟩) (g_preV hE X.2 hw 0 rfl rfl) rfl rfl hl.1 rfl (lv_room (Nat.le_of_ble_eq_true rfl)) dX4_cast_10 ⟨Nat.le_of_ble_eq_true rfl, Nat.le_of_ble_eq_true rfl⟩) hw.2.2 (fun q _ h => h) (fun q h => h) (fun r_5 u t H locs ht hvm h_4 hB hz9 hk9 hS => ?_)
  have hw : gW D A ((mo, .inr (4, [.ref ag, .ref ab, .ref ah, .int (if (gr_v (p_castsI g v)) < 0 then nI cn else nI (pushN cn)), .ref asv, .int hs, .ref ai, .int ty, .int (gr_w wy (p_castsI g v)), .int (gr_d wd (p_castsI g v)), .ref al, .int li, .int pl, .int iw, .ref at_])) :: (ag, .inl (dA 0, 310, .inl (if (gr_v (p_castsI g v)) < 0 then g else (gr_g g (p_castsI g v))))) :: (ab, .inl (dA 0, 310, .inl g)) :: (ah, .inl (dA 0, 2480, .inl (if (gr_v (p_castsI g v)) < 0 then hf else pushH hf cn g))) :: R) s H locs := g_aft ht hB hS
  obtain rfl : r_5 = gr_v (p_castsI g v) := h_4
  exact g_iret (v := gr_v (p_castsI g v)) g X hw hr hlocks  rfl rfl dX4_cast_13

set_option maxHeartbeats 4000000 in
theorem m_X4_begin (l : Launch) (D : va_G) (dA : Nat → ClassId) (A : Nat → Prop) (E : State → Prop) (hE : gSt A E) (R : va_W) (mo ag ab ah asv ai al at_ : Nat) (hs ty wy wd li pl iw : Int32) (g : gG) (bf hf : gG) (cn : Nat) (hcn : cn ≤ 8) (hI : gInv g) (v : Int32) : Met l yX4_begin (ws_ yX4_begin cX4_begin 2 (Option.some FieldType.int)) ({ frames := 3, cells := 0, slots := 0, locals := 66 }) (va_Pc [.ref mo, .int v] (gB D dA A E ((mo, .inr (4, [.ref ag, .ref ab, .ref ah, .int (nI cn), .ref asv, .int hs, .ref ai, .int ty, .int wy, .int wd, .ref al, .int li, .int pl, .int iw, .ref at_])) :: (ag, .inl (dA 0, 310, .inl g)) :: (ab, .inl (dA 0, 310, .inl bf)) :: (ah, .inl (dA 0, 2480, .inl hf)) :: R))) (va_Qi (fun (r : Int32) (bu : gG) => r = gr_v (p_beginsI g v)) (fun bu => gE D A ((mo, .inr (4, [.ref ag, .ref ab, .ref ah, .int (if gr_v (p_beginsI g v) < 0 then nI cn else nI (pushN cn)), .ref asv, .int hs, .ref ai, .int ty, .int (gr_w wy (p_beginsI g v)), .int (gr_d wd (p_beginsI g v)), .ref al, .int li, .int pl, .int iw, .ref at_])) :: (ag, .inl (dA 0, 310, .inl (if gr_v (p_beginsI g v) < 0 then g else gr_g g (p_beginsI g v)))) :: (ab, .inl (dA 0, 310, .inl bu)) :: (ah, .inl (dA 0, 2480, .inl (if gr_v (p_beginsI g v) < 0 then hf else pushH hf cn g))) :: R)) A) (0) (0) A := by
  refine g_start rfl rfl ?_
  intro p e s m args below meth c ls X hr hlocks hin hw hl
  have hx := X.1.1
  have hb := X.1.2.1
  have hl : lv_has ls 2 [(0, .ref mo), (1, .int v)] := hl
  refine lv_aload_n hx hb dX4_begin_0 rfl (lv_at hl 0 rfl) ?_
  refine va_callv (va_runV (As := []) (rest := []) X.1 (m_X4_looksBack l D dA A E hE ((ah, .inl (dA 0, 2480, .inl hf)) :: R) mo ag ab ah asv ai al at_ (nI cn) hs ty wy wd li pl iw g bf) (cwV 0 X.1.2.2.2.2 (lw_V q1909 q1911 qs25 q80 q1912) rfl rfl rfl (by decide +kernel) ⟨Nat.le_of_ble_eq_true rfl, Nat.le_of_ble_eq_true rfl⟩) (g_preV hE X.2 hw 0 rfl rfl) rfl rfl hl.1 rfl (lv_room (Nat.le_of_ble_eq_true rfl)) dX4_begin_1 ⟨Nat.le_of_ble_eq_true rfl, Nat.le_of_ble_eq_true rfl⟩) hw.2.2 (fun q _ h => h) (fun q h => h) (fun u t H locs ht hvm h_1 hB hz9 hk9 hS => ?_)
  have hw : gW D A ((mo, .inr (4, [.ref ag, .ref ab, .ref ah, .int (nI cn), .ref asv, .int hs, .ref ai, .int ty, .int wy, .int wd, .ref al, .int li, .int pl, .int iw, .ref at_])) :: (ag, .inl (dA 0, 310, .inl g)) :: (ab, .inl (dA 0, 310, .inl g)) :: (ah, .inl (dA 0, 2480, .inl hf)) :: R) s H locs := g_aft ht hB hS
  refine lv_aload_n hx hb dX4_begin_4 rfl (lv_at hl 0 rfl) ?_
  refine lv_aload_n hx hb dX4_begin_5 rfl (lv_at hl 0 rfl) ?_
  refine lv_iload_n hx hb dX4_begin_6 rfl (lv_at hl 1 rfl) ?_
  refine va_calli (va_runV (As := [.int v]) (rest := [.ref mo]) X.1 (m_X4_begins l D dA A E hE ((ab, .inl (dA 0, 310, .inl g)) :: (ah, .inl (dA 0, 2480, .inl hf)) :: R) mo ag ab ah asv ai al at_ (nI cn) hs ty wy wd li pl iw g (by first | assumption | omega) v) (cwV 1 X.1.2.2.2.2 (lw_V q1960 q1962 qs32 q80 q1963) rfl rfl rfl (by decide +kernel) ⟨Nat.le_of_ble_eq_true rfl, Nat.le_of_ble_eq_true rfl⟩) (g_preV hE X.2 hw 0 rfl rfl) rfl rfl hl.1 rfl (lv_room (Nat.le_of_ble_eq_true rfl)) dX4_begin_7 ⟨Nat.le_of_ble_eq_true rfl, Nat.le_of_ble_eq_true rfl⟩) hw.2.2 (fun q _ h => h) (fun q h => h) (fun r_3 u t H locs ht hvm h_2 hB hz9 hk9 hS => ?_)
  have hw : gW D A ((mo, .inr (4, [.ref ag, .ref ab, .ref ah, .int (nI cn), .ref asv, .int hs, .ref ai, .int ty, .int (gr_w wy (p_beginsI g v)), .int (gr_d wd (p_beginsI g v)), .ref al, .int li, .int pl, .int iw, .ref at_])) :: (ag, .inl (dA 0, 310, .inl (gr_g g (p_beginsI g v)))) :: (ab, .inl (dA 0, 310, .inl g)) :: (ah, .inl (dA 0, 2480, .inl hf)) :: R) s H locs := g_aft ht hB hS
  obtain rfl : r_3 = gr_v (p_beginsI g v) := h_2
  refine va_calli (va_runV (As := [.int (gr_v (p_beginsI g v))]) (rest := []) X.1 (m_X4_kept l D dA A E hE R mo ag ab ah asv ai al at_ hs ty (gr_w wy (p_beginsI g v)) (gr_d wd (p_beginsI g v)) li pl iw (gr_g g (p_beginsI g v)) g hf cn (by first | assumption | omega) (gr_v (p_beginsI g v))) (cwV 1 X.1.2.2.2.2 (lw_V q1928 q1930 qs29 q80 q1931) rfl rfl rfl (by decide +kernel) ⟨Nat.le_of_ble_eq_true rfl, Nat.le_of_ble_eq_true rfl⟩) (g_preV hE X.2 hw 0 rfl rfl) rfl rfl hl.1 rfl (lv_room (Nat.le_of_ble_eq_true rfl)) dX4_begin_10 ⟨Nat.le_of_ble_eq_true rfl, Nat.le_of_ble_eq_true rfl⟩) hw.2.2 (fun q _ h => h) (fun q h => h) (fun r_5 u t H locs ht hvm h_4 hB hz9 hk9 hS => ?_)
  have hw : gW D A ((mo, .inr (4, [.ref ag, .ref ab, .ref ah, .int (if (gr_v (p_beginsI g v)) < 0 then nI cn else nI (pushN cn)), .ref asv, .int hs, .ref ai, .int ty, .int (gr_w wy (p_beginsI g v)), .int (gr_d wd (p_beginsI g v)), .ref al, .int li, .int pl, .int iw, .ref at_])) :: (ag, .inl (dA 0, 310, .inl (if (gr_v (p_beginsI g v)) < 0 then g else (gr_g g (p_beginsI g v))))) :: (ab, .inl (dA 0, 310, .inl g)) :: (ah, .inl (dA 0, 2480, .inl (if (gr_v (p_beginsI g v)) < 0 then hf else pushH hf cn g))) :: R) s H locs := g_aft ht hB hS
  obtain rfl : r_5 = gr_v (p_beginsI g v) := h_4
  exact g_iret (v := gr_v (p_beginsI g v)) g X hw hr hlocks  rfl rfl dX4_begin_13

set_option maxHeartbeats 4000000 in
theorem m_X4_needle (l : Launch) (D : va_G) (dA : Nat → ClassId) (A : Nat → Prop) (E : State → Prop) (hE : gSt A E) (R : va_W) (mo ag ab ah asv ai al at_ : Nat) (hs ty wy wd li pl iw : Int32) (g : gG) (bf hf : gG) (cn : Nat) (hcn : cn ≤ 8) (hI : gInv g) (v : Int32) : Met l yX4_needle (ws_ yX4_needle cX4_needle 2 (Option.some FieldType.int)) ({ frames := 3, cells := 0, slots := 0, locals := 65 }) (va_Pc [.ref mo, .int v] (gB D dA A E ((mo, .inr (4, [.ref ag, .ref ab, .ref ah, .int (nI cn), .ref asv, .int hs, .ref ai, .int ty, .int wy, .int wd, .ref al, .int li, .int pl, .int iw, .ref at_])) :: (ag, .inl (dA 0, 310, .inl g)) :: (ab, .inl (dA 0, 310, .inl bf)) :: (ah, .inl (dA 0, 2480, .inl hf)) :: R))) (va_Qi (fun (r : Int32) (bu : gG) => r = gr_v (p_renewsI g v)) (fun bu => gE D A ((mo, .inr (4, [.ref ag, .ref ab, .ref ah, .int (if gr_v (p_renewsI g v) < 0 then nI cn else nI (pushN cn)), .ref asv, .int hs, .ref ai, .int ty, .int (gr_w wy (p_renewsI g v)), .int (gr_d wd (p_renewsI g v)), .ref al, .int li, .int pl, .int iw, .ref at_])) :: (ag, .inl (dA 0, 310, .inl (if gr_v (p_renewsI g v) < 0 then g else gr_g g (p_renewsI g v)))) :: (ab, .inl (dA 0, 310, .inl bu)) :: (ah, .inl (dA 0, 2480, .inl (if gr_v (p_renewsI g v) < 0 then hf else pushH hf cn g))) :: R)) A) (0) (0) A := by
  refine g_start rfl rfl ?_
  intro p e s m args below meth c ls X hr hlocks hin hw hl
  have hx := X.1.1
  have hb := X.1.2.1
  have hl : lv_has ls 2 [(0, .ref mo), (1, .int v)] := hl
  refine lv_aload_n hx hb dX4_needle_0 rfl (lv_at hl 0 rfl) ?_
  refine va_callv (va_runV (As := []) (rest := []) X.1 (m_X4_looksBack l D dA A E hE ((ah, .inl (dA 0, 2480, .inl hf)) :: R) mo ag ab ah asv ai al at_ (nI cn) hs ty wy wd li pl iw g bf) (cwV 0 X.1.2.2.2.2 (lw_V q1909 q1911 qs25 q80 q1912) rfl rfl rfl (by decide +kernel) ⟨Nat.le_of_ble_eq_true rfl, Nat.le_of_ble_eq_true rfl⟩) (g_preV hE X.2 hw 0 rfl rfl) rfl rfl hl.1 rfl (lv_room (Nat.le_of_ble_eq_true rfl)) dX4_needle_1 ⟨Nat.le_of_ble_eq_true rfl, Nat.le_of_ble_eq_true rfl⟩) hw.2.2 (fun q _ h => h) (fun q h => h) (fun u t H locs ht hvm h_1 hB hz9 hk9 hS => ?_)
  have hw : gW D A ((mo, .inr (4, [.ref ag, .ref ab, .ref ah, .int (nI cn), .ref asv, .int hs, .ref ai, .int ty, .int wy, .int wd, .ref al, .int li, .int pl, .int iw, .ref at_])) :: (ag, .inl (dA 0, 310, .inl g)) :: (ab, .inl (dA 0, 310, .inl g)) :: (ah, .inl (dA 0, 2480, .inl hf)) :: R) s H locs := g_aft ht hB hS
  refine lv_aload_n hx hb dX4_needle_4 rfl (lv_at hl 0 rfl) ?_
  refine lv_aload_n hx hb dX4_needle_5 rfl (lv_at hl 0 rfl) ?_
  refine lv_iload_n hx hb dX4_needle_6 rfl (lv_at hl 1 rfl) ?_
  refine va_calli (va_runV (As := [.int v]) (rest := [.ref mo]) X.1 (m_X4_renews l D dA A E hE ((ab, .inl (dA 0, 310, .inl g)) :: (ah, .inl (dA 0, 2480, .inl hf)) :: R) mo ag ab ah asv ai al at_ (nI cn) hs ty wy wd li pl iw g (by first | assumption | omega) v) (cwV 1 X.1.2.2.2.2 (lw_V q2011 q2013 qs39 q80 q2014) rfl rfl rfl (by decide +kernel) ⟨Nat.le_of_ble_eq_true rfl, Nat.le_of_ble_eq_true rfl⟩) (g_preV hE X.2 hw 0 rfl rfl) rfl rfl hl.1 rfl (lv_room (Nat.le_of_ble_eq_true rfl)) dX4_needle_7 ⟨Nat.le_of_ble_eq_true rfl, Nat.le_of_ble_eq_true rfl⟩) hw.2.2 (fun q _ h => h) (fun q h => h) (fun r_3 u t H locs ht hvm h_2 hB hz9 hk9 hS => ?_)
  have hw : gW D A ((mo, .inr (4, [.ref ag, .ref ab, .ref ah, .int (nI cn), .ref asv, .int hs, .ref ai, .int ty, .int (gr_w wy (p_renewsI g v)), .int (gr_d wd (p_renewsI g v)), .ref al, .int li, .int pl, .int iw, .ref at_])) :: (ag, .inl (dA 0, 310, .inl (gr_g g (p_renewsI g v)))) :: (ab, .inl (dA 0, 310, .inl g)) :: (ah, .inl (dA 0, 2480, .inl hf)) :: R) s H locs := g_aft ht hB hS
  obtain rfl : r_3 = gr_v (p_renewsI g v) := h_2
  refine va_calli (va_runV (As := [.int (gr_v (p_renewsI g v))]) (rest := []) X.1 (m_X4_kept l D dA A E hE R mo ag ab ah asv ai al at_ hs ty (gr_w wy (p_renewsI g v)) (gr_d wd (p_renewsI g v)) li pl iw (gr_g g (p_renewsI g v)) g hf cn (by first | assumption | omega) (gr_v (p_renewsI g v))) (cwV 1 X.1.2.2.2.2 (lw_V q1928 q1930 qs29 q80 q1931) rfl rfl rfl (by decide +kernel) ⟨Nat.le_of_ble_eq_true rfl, Nat.le_of_ble_eq_true rfl⟩) (g_preV hE X.2 hw 0 rfl rfl) rfl rfl hl.1 rfl (lv_room (Nat.le_of_ble_eq_true rfl)) dX4_needle_10 ⟨Nat.le_of_ble_eq_true rfl, Nat.le_of_ble_eq_true rfl⟩) hw.2.2 (fun q _ h => h) (fun q h => h) (fun r_5 u t H locs ht hvm h_4 hB hz9 hk9 hS => ?_)
  have hw : gW D A ((mo, .inr (4, [.ref ag, .ref ab, .ref ah, .int (if (gr_v (p_renewsI g v)) < 0 then nI cn else nI (pushN cn)), .ref asv, .int hs, .ref ai, .int ty, .int (gr_w wy (p_renewsI g v)), .int (gr_d wd (p_renewsI g v)), .ref al, .int li, .int pl, .int iw, .ref at_])) :: (ag, .inl (dA 0, 310, .inl (if (gr_v (p_renewsI g v)) < 0 then g else (gr_g g (p_renewsI g v))))) :: (ab, .inl (dA 0, 310, .inl g)) :: (ah, .inl (dA 0, 2480, .inl (if (gr_v (p_renewsI g v)) < 0 then hf else pushH hf cn g))) :: R) s H locs := g_aft ht hB hS
  obtain rfl : r_5 = gr_v (p_renewsI g v) := h_4
  exact g_iret (v := gr_v (p_renewsI g v)) g X hw hr hlocks  rfl rfl dX4_needle_13

set_option maxHeartbeats 4000000 in
theorem m_X4_down (l : Launch) (D : va_G) (dA : Nat → ClassId) (A : Nat → Prop) (E : State → Prop) (hE : gSt A E) (R : va_W) (mo ag ab ah asv ai al at_ : Nat) (hs ty wy wd li pl iw : Int32) (g : gG) (bf hf : gG) (cn : Nat) (hcn : cn ≤ 8) (hI : gInv g) (v : Int32) : Met l yX4_down (ws_ yX4_down cX4_down 2 (Option.some FieldType.int)) ({ frames := 3, cells := 0, slots := 0, locals := 63 }) (va_Pc [.ref mo, .int v] (gB D dA A E ((mo, .inr (4, [.ref ag, .ref ab, .ref ah, .int (nI cn), .ref asv, .int hs, .ref ai, .int ty, .int wy, .int wd, .ref al, .int li, .int pl, .int iw, .ref at_])) :: (ag, .inl (dA 0, 310, .inl g)) :: (ab, .inl (dA 0, 310, .inl bf)) :: (ah, .inl (dA 0, 2480, .inl hf)) :: R))) (va_Qi (fun (r : Int32) (bu : gG) => r = gr_v (p_takesDownI g v)) (fun bu => gE D A ((mo, .inr (4, [.ref ag, .ref ab, .ref ah, .int (if gr_v (p_takesDownI g v) < 0 then nI cn else nI (pushN cn)), .ref asv, .int hs, .ref ai, .int ty, .int (gr_w wy (p_takesDownI g v)), .int (gr_d wd (p_takesDownI g v)), .ref al, .int li, .int pl, .int iw, .ref at_])) :: (ag, .inl (dA 0, 310, .inl (if gr_v (p_takesDownI g v) < 0 then g else gr_g g (p_takesDownI g v)))) :: (ab, .inl (dA 0, 310, .inl bu)) :: (ah, .inl (dA 0, 2480, .inl (if gr_v (p_takesDownI g v) < 0 then hf else pushH hf cn g))) :: R)) A) (0) (0) A := by
  refine g_start rfl rfl ?_
  intro p e s m args below meth c ls X hr hlocks hin hw hl
  have hx := X.1.1
  have hb := X.1.2.1
  have hl : lv_has ls 2 [(0, .ref mo), (1, .int v)] := hl
  refine lv_aload_n hx hb dX4_down_0 rfl (lv_at hl 0 rfl) ?_
  refine va_callv (va_runV (As := []) (rest := []) X.1 (m_X4_looksBack l D dA A E hE ((ah, .inl (dA 0, 2480, .inl hf)) :: R) mo ag ab ah asv ai al at_ (nI cn) hs ty wy wd li pl iw g bf) (cwV 0 X.1.2.2.2.2 (lw_V q1909 q1911 qs25 q80 q1912) rfl rfl rfl (by decide +kernel) ⟨Nat.le_of_ble_eq_true rfl, Nat.le_of_ble_eq_true rfl⟩) (g_preV hE X.2 hw 0 rfl rfl) rfl rfl hl.1 rfl (lv_room (Nat.le_of_ble_eq_true rfl)) dX4_down_1 ⟨Nat.le_of_ble_eq_true rfl, Nat.le_of_ble_eq_true rfl⟩) hw.2.2 (fun q _ h => h) (fun q h => h) (fun u t H locs ht hvm h_1 hB hz9 hk9 hS => ?_)
  have hw : gW D A ((mo, .inr (4, [.ref ag, .ref ab, .ref ah, .int (nI cn), .ref asv, .int hs, .ref ai, .int ty, .int wy, .int wd, .ref al, .int li, .int pl, .int iw, .ref at_])) :: (ag, .inl (dA 0, 310, .inl g)) :: (ab, .inl (dA 0, 310, .inl g)) :: (ah, .inl (dA 0, 2480, .inl hf)) :: R) s H locs := g_aft ht hB hS
  refine lv_aload_n hx hb dX4_down_4 rfl (lv_at hl 0 rfl) ?_
  refine lv_aload_n hx hb dX4_down_5 rfl (lv_at hl 0 rfl) ?_
  refine lv_iload_n hx hb dX4_down_6 rfl (lv_at hl 1 rfl) ?_
  refine va_calli (va_runV (As := [.int v]) (rest := [.ref mo]) X.1 (m_X4_takesDown l D dA A E hE ((ab, .inl (dA 0, 310, .inl g)) :: (ah, .inl (dA 0, 2480, .inl hf)) :: R) mo ag ab ah asv ai al at_ (nI cn) hs ty wy wd li pl iw g (by first | assumption | omega) v) (cwV 1 X.1.2.2.2.2 (lw_V q2043 q2045 qs42 q80 q2046) rfl rfl rfl (by decide +kernel) ⟨Nat.le_of_ble_eq_true rfl, Nat.le_of_ble_eq_true rfl⟩) (g_preV hE X.2 hw 0 rfl rfl) rfl rfl hl.1 rfl (lv_room (Nat.le_of_ble_eq_true rfl)) dX4_down_7 ⟨Nat.le_of_ble_eq_true rfl, Nat.le_of_ble_eq_true rfl⟩) hw.2.2 (fun q _ h => h) (fun q h => h) (fun r_3 u t H locs ht hvm h_2 hB hz9 hk9 hS => ?_)
  have hw : gW D A ((mo, .inr (4, [.ref ag, .ref ab, .ref ah, .int (nI cn), .ref asv, .int hs, .ref ai, .int ty, .int (gr_w wy (p_takesDownI g v)), .int (gr_d wd (p_takesDownI g v)), .ref al, .int li, .int pl, .int iw, .ref at_])) :: (ag, .inl (dA 0, 310, .inl (gr_g g (p_takesDownI g v)))) :: (ab, .inl (dA 0, 310, .inl g)) :: (ah, .inl (dA 0, 2480, .inl hf)) :: R) s H locs := g_aft ht hB hS
  obtain rfl : r_3 = gr_v (p_takesDownI g v) := h_2
  refine va_calli (va_runV (As := [.int (gr_v (p_takesDownI g v))]) (rest := []) X.1 (m_X4_kept l D dA A E hE R mo ag ab ah asv ai al at_ hs ty (gr_w wy (p_takesDownI g v)) (gr_d wd (p_takesDownI g v)) li pl iw (gr_g g (p_takesDownI g v)) g hf cn (by first | assumption | omega) (gr_v (p_takesDownI g v))) (cwV 1 X.1.2.2.2.2 (lw_V q1928 q1930 qs29 q80 q1931) rfl rfl rfl (by decide +kernel) ⟨Nat.le_of_ble_eq_true rfl, Nat.le_of_ble_eq_true rfl⟩) (g_preV hE X.2 hw 0 rfl rfl) rfl rfl hl.1 rfl (lv_room (Nat.le_of_ble_eq_true rfl)) dX4_down_10 ⟨Nat.le_of_ble_eq_true rfl, Nat.le_of_ble_eq_true rfl⟩) hw.2.2 (fun q _ h => h) (fun q h => h) (fun r_5 u t H locs ht hvm h_4 hB hz9 hk9 hS => ?_)
  have hw : gW D A ((mo, .inr (4, [.ref ag, .ref ab, .ref ah, .int (if (gr_v (p_takesDownI g v)) < 0 then nI cn else nI (pushN cn)), .ref asv, .int hs, .ref ai, .int ty, .int (gr_w wy (p_takesDownI g v)), .int (gr_d wd (p_takesDownI g v)), .ref al, .int li, .int pl, .int iw, .ref at_])) :: (ag, .inl (dA 0, 310, .inl (if (gr_v (p_takesDownI g v)) < 0 then g else (gr_g g (p_takesDownI g v))))) :: (ab, .inl (dA 0, 310, .inl g)) :: (ah, .inl (dA 0, 2480, .inl (if (gr_v (p_takesDownI g v)) < 0 then hf else pushH hf cn g))) :: R) s H locs := g_aft ht hB hS
  obtain rfl : r_5 = gr_v (p_takesDownI g v) := h_4
  exact g_iret (v := gr_v (p_takesDownI g v)) g X hw hr hlocks  rfl rfl dX4_down_13

set_option maxHeartbeats 4000000 in
theorem m_X4_lift (l : Launch) (D : va_G) (dA : Nat → ClassId) (A : Nat → Prop) (E : State → Prop) (hE : gSt A E) (R : va_W) (mo ag ab ah asv ai al at_ : Nat) (hs ty wy wd li pl iw : Int32) (g : gG) (bf hf : gG) (cn : Nat) (hcn : cn ≤ 8) (hI : gInv g) (v : Int32) : Met l yX4_lift (ws_ yX4_lift cX4_lift 2 (Option.some FieldType.int)) ({ frames := 4, cells := 0, slots := 0, locals := 93 }) (va_Pc [.ref mo, .int v] (gB D dA A E ((mo, .inr (4, [.ref ag, .ref ab, .ref ah, .int (nI cn), .ref asv, .int hs, .ref ai, .int ty, .int wy, .int wd, .ref al, .int li, .int pl, .int iw, .ref at_])) :: (ag, .inl (dA 0, 310, .inl g)) :: (ab, .inl (dA 0, 310, .inl bf)) :: (ah, .inl (dA 0, 2480, .inl hf)) :: R))) (va_Qi (fun (r : Int32) (bu : gG) => r = gr_v (p_liftsI g v)) (fun bu => gE D A ((mo, .inr (4, [.ref ag, .ref ab, .ref ah, .int (if gr_v (p_liftsI g v) < 0 then nI cn else nI (pushN cn)), .ref asv, .int hs, .ref ai, .int ty, .int (gr_w wy (p_liftsI g v)), .int (gr_d wd (p_liftsI g v)), .ref al, .int li, .int pl, .int iw, .ref at_])) :: (ag, .inl (dA 0, 310, .inl (if gr_v (p_liftsI g v) < 0 then g else gr_g g (p_liftsI g v)))) :: (ab, .inl (dA 0, 310, .inl bu)) :: (ah, .inl (dA 0, 2480, .inl (if gr_v (p_liftsI g v) < 0 then hf else pushH hf cn g))) :: R)) A) (0) (0) A := by
  refine g_start rfl rfl ?_
  intro p e s m args below meth c ls X hr hlocks hin hw hl
  have hx := X.1.1
  have hb := X.1.2.1
  have hl : lv_has ls 2 [(0, .ref mo), (1, .int v)] := hl
  refine lv_aload_n hx hb dX4_lift_0 rfl (lv_at hl 0 rfl) ?_
  refine va_callv (va_runV (As := []) (rest := []) X.1 (m_X4_looksBack l D dA A E hE ((ah, .inl (dA 0, 2480, .inl hf)) :: R) mo ag ab ah asv ai al at_ (nI cn) hs ty wy wd li pl iw g bf) (cwV 0 X.1.2.2.2.2 (lw_V q1909 q1911 qs25 q80 q1912) rfl rfl rfl (by decide +kernel) ⟨Nat.le_of_ble_eq_true rfl, Nat.le_of_ble_eq_true rfl⟩) (g_preV hE X.2 hw 0 rfl rfl) rfl rfl hl.1 rfl (lv_room (Nat.le_of_ble_eq_true rfl)) dX4_lift_1 ⟨Nat.le_of_ble_eq_true rfl, Nat.le_of_ble_eq_true rfl⟩) hw.2.2 (fun q _ h => h) (fun q h => h) (fun u t H locs ht hvm h_1 hB hz9 hk9 hS => ?_)
  have hw : gW D A ((mo, .inr (4, [.ref ag, .ref ab, .ref ah, .int (nI cn), .ref asv, .int hs, .ref ai, .int ty, .int wy, .int wd, .ref al, .int li, .int pl, .int iw, .ref at_])) :: (ag, .inl (dA 0, 310, .inl g)) :: (ab, .inl (dA 0, 310, .inl g)) :: (ah, .inl (dA 0, 2480, .inl hf)) :: R) s H locs := g_aft ht hB hS
  refine lv_aload_n hx hb dX4_lift_4 rfl (lv_at hl 0 rfl) ?_
  refine lv_aload_n hx hb dX4_lift_5 rfl (lv_at hl 0 rfl) ?_
  refine lv_iload_n hx hb dX4_lift_6 rfl (lv_at hl 1 rfl) ?_
  refine va_calli (va_runV (As := [.int v]) (rest := [.ref mo]) X.1 (m_X4_lifts l D dA A E hE ((ab, .inl (dA 0, 310, .inl g)) :: (ah, .inl (dA 0, 2480, .inl hf)) :: R) mo ag ab ah asv ai al at_ (nI cn) hs ty wy wd li pl iw g (by first | assumption | omega) v) (cwV 1 X.1.2.2.2.2 (lw_V q2051 q2053 qs43 q80 q2054) rfl rfl rfl (by decide +kernel) ⟨Nat.le_of_ble_eq_true rfl, Nat.le_of_ble_eq_true rfl⟩) (g_preV hE X.2 hw 0 rfl rfl) rfl rfl hl.1 rfl (lv_room (Nat.le_of_ble_eq_true rfl)) dX4_lift_7 ⟨Nat.le_of_ble_eq_true rfl, Nat.le_of_ble_eq_true rfl⟩) hw.2.2 (fun q _ h => h) (fun q h => h) (fun r_3 u t H locs ht hvm h_2 hB hz9 hk9 hS => ?_)
  have hw : gW D A ((mo, .inr (4, [.ref ag, .ref ab, .ref ah, .int (nI cn), .ref asv, .int hs, .ref ai, .int ty, .int (gr_w wy (p_liftsI g v)), .int (gr_d wd (p_liftsI g v)), .ref al, .int li, .int pl, .int iw, .ref at_])) :: (ag, .inl (dA 0, 310, .inl (gr_g g (p_liftsI g v)))) :: (ab, .inl (dA 0, 310, .inl g)) :: (ah, .inl (dA 0, 2480, .inl hf)) :: R) s H locs := g_aft ht hB hS
  obtain rfl : r_3 = gr_v (p_liftsI g v) := h_2
  refine va_calli (va_runV (As := [.int (gr_v (p_liftsI g v))]) (rest := []) X.1 (m_X4_kept l D dA A E hE R mo ag ab ah asv ai al at_ hs ty (gr_w wy (p_liftsI g v)) (gr_d wd (p_liftsI g v)) li pl iw (gr_g g (p_liftsI g v)) g hf cn (by first | assumption | omega) (gr_v (p_liftsI g v))) (cwV 1 X.1.2.2.2.2 (lw_V q1928 q1930 qs29 q80 q1931) rfl rfl rfl (by decide +kernel) ⟨Nat.le_of_ble_eq_true rfl, Nat.le_of_ble_eq_true rfl⟩) (g_preV hE X.2 hw 0 rfl rfl) rfl rfl hl.1 rfl (lv_room (Nat.le_of_ble_eq_true rfl)) dX4_lift_10 ⟨Nat.le_of_ble_eq_true rfl, Nat.le_of_ble_eq_true rfl⟩) hw.2.2 (fun q _ h => h) (fun q h => h) (fun r_5 u t H locs ht hvm h_4 hB hz9 hk9 hS => ?_)
  have hw : gW D A ((mo, .inr (4, [.ref ag, .ref ab, .ref ah, .int (if (gr_v (p_liftsI g v)) < 0 then nI cn else nI (pushN cn)), .ref asv, .int hs, .ref ai, .int ty, .int (gr_w wy (p_liftsI g v)), .int (gr_d wd (p_liftsI g v)), .ref al, .int li, .int pl, .int iw, .ref at_])) :: (ag, .inl (dA 0, 310, .inl (if (gr_v (p_liftsI g v)) < 0 then g else (gr_g g (p_liftsI g v))))) :: (ab, .inl (dA 0, 310, .inl g)) :: (ah, .inl (dA 0, 2480, .inl (if (gr_v (p_liftsI g v)) < 0 then hf else pushH hf cn g))) :: R) s H locs := g_aft ht hB hS
  obtain rfl : r_5 = gr_v (p_liftsI g v) := h_4
  exact g_iret (v := gr_v (p_liftsI g v)) g X hw hr hlocks  rfl rfl dX4_lift_13

set_option maxHeartbeats 4000000 in
theorem m_X4_drive (l : Launch) (D : va_G) (dA : Nat → ClassId) (A : Nat → Prop) (E : State → Prop) (hE : gSt A E) (R : va_W) (mo ag ab ah asv ai al at_ : Nat) (hs ty wy wd li pl iw : Int32) (g : gG) (bf hf : gG) (cn : Nat) (hcn : cn ≤ 8) (hI : gInv g) (v : Int32) : Met l yX4_drive (ws_ yX4_drive cX4_drive 2 (Option.some FieldType.int)) ({ frames := 3, cells := 0, slots := 0, locals := 65 }) (va_Pc [.ref mo, .int v] (gB D dA A E ((mo, .inr (4, [.ref ag, .ref ab, .ref ah, .int (nI cn), .ref asv, .int hs, .ref ai, .int ty, .int wy, .int wd, .ref al, .int li, .int pl, .int iw, .ref at_])) :: (ag, .inl (dA 0, 310, .inl g)) :: (ab, .inl (dA 0, 310, .inl bf)) :: (ah, .inl (dA 0, 2480, .inl hf)) :: R))) (va_Qi (fun (r : Int32) (bu : gG) => r = gr_v (p_drivesI g v)) (fun bu => gE D A ((mo, .inr (4, [.ref ag, .ref ab, .ref ah, .int (if gr_v (p_drivesI g v) < 0 then nI cn else nI (pushN cn)), .ref asv, .int hs, .ref ai, .int ty, .int (gr_w wy (p_drivesI g v)), .int (gr_d wd (p_drivesI g v)), .ref al, .int li, .int pl, .int iw, .ref at_])) :: (ag, .inl (dA 0, 310, .inl (if gr_v (p_drivesI g v) < 0 then g else gr_g g (p_drivesI g v)))) :: (ab, .inl (dA 0, 310, .inl bu)) :: (ah, .inl (dA 0, 2480, .inl (if gr_v (p_drivesI g v) < 0 then hf else pushH hf cn g))) :: R)) A) (0) (0) A := by
  refine g_start rfl rfl ?_
  intro p e s m args below meth c ls X hr hlocks hin hw hl
  have hx := X.1.1
  have hb := X.1.2.1
  have hl : lv_has ls 2 [(0, .ref mo), (1, .int v)] := hl
  refine lv_aload_n hx hb dX4_drive_0 rfl (lv_at hl 0 rfl) ?_
  refine va_callv (va_runV (As := []) (rest := []) X.1 (m_X4_looksBack l D dA A E hE ((ah, .inl (dA 0, 2480, .inl hf)) :: R) mo ag ab ah asv ai al at_ (nI cn) hs ty wy wd li pl iw g bf) (cwV 0 X.1.2.2.2.2 (lw_V q1909 q1911 qs25 q80 q1912) rfl rfl rfl (by decide +kernel) ⟨Nat.le_of_ble_eq_true rfl, Nat.le_of_ble_eq_true rfl⟩) (g_preV hE X.2 hw 0 rfl rfl) rfl rfl hl.1 rfl (lv_room (Nat.le_of_ble_eq_true rfl)) dX4_drive_1 ⟨Nat.le_of_ble_eq_true rfl, Nat.le_of_ble_eq_true rfl⟩) hw.2.2 (fun q _ h => h) (fun q h => h) (fun u t H locs ht hvm h_1 hB hz9 hk9 hS => ?_)
  have hw : gW D A ((mo, .inr (4, [.ref ag, .ref ab, .ref ah, .int (nI cn), .ref asv, .int hs, .ref ai, .int ty, .int wy, .int wd, .ref al, .int li, .int pl, .int iw, .ref at_])) :: (ag, .inl (dA 0, 310, .inl g)) :: (ab, .inl (dA 0, 310, .inl g)) :: (ah, .inl (dA 0, 2480, .inl hf)) :: R) s H locs := g_aft ht hB hS
  refine lv_aload_n hx hb dX4_drive_4 rfl (lv_at hl 0 rfl) ?_
  refine lv_aload_n hx hb dX4_drive_5 rfl (lv_at hl 0 rfl) ?_
  refine lv_iload_n hx hb dX4_drive_6 rfl (lv_at hl 1 rfl) ?_
  refine va_calli (va_runV (As := [.int v]) (rest := [.ref mo]) X.1 (m_X4_drives l D dA A E hE ((ab, .inl (dA 0, 310, .inl g)) :: (ah, .inl (dA 0, 2480, .inl hf)) :: R) mo ag ab ah asv ai al at_ (nI cn) hs ty wy wd li pl iw g (by first | assumption | omega) v) (cwV 1 X.1.2.2.2.2 (lw_V q2063 q2065 qs45 q80 q2066) rfl rfl rfl (by decide +kernel) ⟨Nat.le_of_ble_eq_true rfl, Nat.le_of_ble_eq_true rfl⟩) (g_preV hE X.2 hw 0 rfl rfl) rfl rfl hl.1 rfl (lv_room (Nat.le_of_ble_eq_true rfl)) dX4_drive_7 ⟨Nat.le_of_ble_eq_true rfl, Nat.le_of_ble_eq_true rfl⟩) hw.2.2 (fun q _ h => h) (fun q h => h) (fun r_3 u t H locs ht hvm h_2 hB hz9 hk9 hS => ?_)
  have hw : gW D A ((mo, .inr (4, [.ref ag, .ref ab, .ref ah, .int (nI cn), .ref asv, .int hs, .ref ai, .int ty, .int (gr_w wy (p_drivesI g v)), .int (gr_d wd (p_drivesI g v)), .ref al, .int li, .int pl, .int iw, .ref at_])) :: (ag, .inl (dA 0, 310, .inl (gr_g g (p_drivesI g v)))) :: (ab, .inl (dA 0, 310, .inl g)) :: (ah, .inl (dA 0, 2480, .inl hf)) :: R) s H locs := g_aft ht hB hS
  obtain rfl : r_3 = gr_v (p_drivesI g v) := h_2
  refine va_calli (va_runV (As := [.int (gr_v (p_drivesI g v))]) (rest := []) X.1 (m_X4_kept l D dA A E hE R mo ag ab ah asv ai al at_ hs ty (gr_w wy (p_drivesI g v)) (gr_d wd (p_drivesI g v)) li pl iw (gr_g g (p_drivesI g v)) g hf cn (by first | assumption | omega) (gr_v (p_drivesI g v))) (cwV 1 X.1.2.2.2.2 (lw_V q1928 q1930 qs29 q80 q1931) rfl rfl rfl (by decide +kernel) ⟨Nat.le_of_ble_eq_true rfl, Nat.le_of_ble_eq_true rfl⟩) (g_preV hE X.2 hw 0 rfl rfl) rfl rfl hl.1 rfl (lv_room (Nat.le_of_ble_eq_true rfl)) dX4_drive_10 ⟨Nat.le_of_ble_eq_true rfl, Nat.le_of_ble_eq_true rfl⟩) hw.2.2 (fun q _ h => h) (fun q h => h) (fun r_5 u t H locs ht hvm h_4 hB hz9 hk9 hS => ?_)
  have hw : gW D A ((mo, .inr (4, [.ref ag, .ref ab, .ref ah, .int (if (gr_v (p_drivesI g v)) < 0 then nI cn else nI (pushN cn)), .ref asv, .int hs, .ref ai, .int ty, .int (gr_w wy (p_drivesI g v)), .int (gr_d wd (p_drivesI g v)), .ref al, .int li, .int pl, .int iw, .ref at_])) :: (ag, .inl (dA 0, 310, .inl (if (gr_v (p_drivesI g v)) < 0 then g else (gr_g g (p_drivesI g v))))) :: (ab, .inl (dA 0, 310, .inl g)) :: (ah, .inl (dA 0, 2480, .inl (if (gr_v (p_drivesI g v)) < 0 then hf else pushH hf cn g))) :: R) s H locs := g_aft ht hB hS
  obtain rfl : r_5 = gr_v (p_drivesI g v) := h_4
  exact g_iret (v := gr_v (p_drivesI g v)) g X hw hr hlocks  rfl rfl dX4_drive_13

set_option maxHeartbeats 4000000 in
theorem m_X4_cut (l : Launch) (D : va_G) (dA : Nat → ClassId) (A : Nat → Prop) (E : State → Prop) (hE : gSt A E) (R : va_W) (mo ag ab ah asv ai al at_ : Nat) (hs ty wy wd li pl iw : Int32) (g : gG) (bf hf : gG) (cn : Nat) (hcn : cn ≤ 8) (hI : gInv g) (x y z : Int32) : Met l yX4_cut (ws_ yX4_cut cX4_cut 4 (Option.some FieldType.int)) ({ frames := 3, cells := 0, slots := 0, locals := 70 }) (va_Pc [.ref mo, .int x, .int y, .int z] (gB D dA A E ((mo, .inr (4, [.ref ag, .ref ab, .ref ah, .int (nI cn), .ref asv, .int hs, .ref ai, .int ty, .int wy, .int wd, .ref al, .int li, .int pl, .int iw, .ref at_])) :: (ag, .inl (dA 0, 310, .inl g)) :: (ab, .inl (dA 0, 310, .inl bf)) :: (ah, .inl (dA 0, 2480, .inl hf)) :: R))) (va_Qi (fun (r : Int32) (bu : gG) => r = gr_v (p_cutsI g x y z)) (fun bu => gE D A ((mo, .inr (4, [.ref ag, .ref ab, .ref ah, .int (if gr_v (p_cutsI g x y z) < 0 then nI cn else nI (pushN cn)), .ref asv, .int hs, .ref ai, .int ty, .int (gr_w wy (p_cutsI g x y z)), .int (gr_d wd (p_cutsI g x y z)), .ref al, .int li, .int pl, .int iw, .ref at_])) :: (ag, .inl (dA 0, 310, .inl (if gr_v (p_cutsI g x y z) < 0 then g else gr_g g (p_cutsI g x y z)))) :: (ab, .inl (dA 0, 310, .inl bu)) :: (ah, .inl (dA 0, 2480, .inl (if gr_v (p_cutsI g x y z) < 0 then hf else pushH hf cn g))) :: R)) A) (0) (0) A := by
  refine g_start rfl rfl ?_
  intro p e s m args below meth c ls X hr hlocks hin hw hl
  have hx := X.1.1
  have hb := X.1.2.1
  have hl : lv_has ls 4 [(0, .ref mo), (1, .int x), (2, .int y), (3, .int z)] := hl
  refine lv_aload_n hx hb dX4_cut_0 rfl (lv_at hl 0 rfl) ?_
  refine va_callv (va_runV (As := []) (rest := []) X.1 (m_X4_looksBack l D dA A E hE ((ah, .inl (dA 0, 2480, .inl hf)) :: R) mo ag ab ah asv ai al at_ (nI cn) hs ty wy wd li pl iw g bf) (cwV 0 X.1.2.2.2.2 (lw_V q1909 q1911 qs25 q80 q1912) rfl rfl rfl (by decide +kernel) ⟨Nat.le_of_ble_eq_true rfl, Nat.le_of_ble_eq_true rfl⟩) (g_preV hE X.2 hw 0 rfl rfl) rfl rfl hl.1 rfl (lv_room (Nat.le_of_ble_eq_true rfl)) dX4_cut_1 ⟨Nat.le_of_ble_eq_true rfl, Nat.le_of_ble_eq_true rfl⟩) hw.2.2 (fun q _ h => h) (fun q h => h) (fun u t H locs ht hvm h_1 hB hz9 hk9 hS => ?_)
  have hw : gW D A ((mo, .inr (4, [.ref ag, .ref ab, .ref ah, .int (nI cn), .ref asv, .int hs, .ref ai, .int ty, .int wy, .int wd, .ref al, .int li, .int pl, .int iw, .ref at_])) :: (ag, .inl (dA 0, 310, .inl g)) :: (ab, .inl (dA 0, 310, .inl g)) :: (ah, .inl (dA 0, 2480, .inl hf)) :: R) s H locs := g_aft ht hB hS
  refine lv_aload_n hx hb dX4_cut_4 rfl (lv_at hl 0 rfl) ?_
  refine lv_aload_n hx hb dX4_cut_5 rfl (lv_at hl 0 rfl) ?_
  refine lv_iload_n hx hb dX4_cut_6 rfl (lv_at hl 1 rfl) ?_
  refine lv_iload_n hx hb dX4_cut_7 rfl (lv_at hl 2 rfl) ?_
  refine lv_iload_n hx hb dX4_cut_8 rfl (lv_at hl 3 rfl) ?_
  refine va_calli (va_runV (As := [.int x, .int y, .int z]) (rest := [.ref mo]) X.1 (m_X4_cuts l D dA A E hE ((ab, .inl (dA 0, 310, .inl g)) :: (ah, .inl (dA 0, 2480, .inl hf)) :: R) mo ag ab ah asv ai al at_ (nI cn) hs ty wy wd li pl iw g (by first | assumption | omega) x y z) (cwV 3 X.1.2.2.2.2 (lw_V q1980 q1982 qs35 q80 q1983) rfl rfl rfl (by decide +kernel) ⟨Nat.le_of_ble_eq_true rfl, Nat.le_of_ble_eq_true rfl⟩) (g_preV hE X.2 hw 0 rfl rfl) rfl rfl hl.1 rfl (lv_room (Nat.le_of_ble_eq_true rfl)) dX4_cut_9 ⟨Nat.le_of_ble_eq_true rfl, Nat.le_of_ble_eq_true rfl⟩) hw.2.2 (fun q _ h => h) (fun q h => h) (fun r_3 u t H locs ht hvm h_2 hB hz9 hk9 hS => ?_)
  have hw : gW D A ((mo, .inr (4, [.ref ag, .ref ab, .ref ah, .int (nI cn), .ref asv, .int hs, .ref ai, .int ty, .int (gr_w wy (p_cutsI g x y z)), .int (gr_d wd (p_cutsI g x y z)), .ref al, .int li, .int pl, .int iw, .ref at_])) :: (ag, .inl (dA 0, 310, .inl (gr_g g (p_cutsI g x y z)))) :: (ab, .inl (dA 0, 310, .inl g)) :: (ah, .inl (dA 0, 2480, .inl hf)) :: R) s H locs := g_aft ht hB hS
  obtain rfl : r_3 = gr_v (p_cutsI g x y z) := h_2
  refine va_calli (va_runV (As := [.int (gr_v (p_cutsI g x y z))]) (rest := []) X.1 (m_X4_kept l D dA A E hE R mo ag ab ah asv ai al at_ hs ty (gr_w wy (p_cutsI g x y z)) (gr_d wd (p_cutsI g x y z)) li pl iw (gr_g g (p_cutsI g x y z)) g hf cn (by first | assumption | omega) (gr_v (p_cutsI g x y z))) (cwV 1 X.1.2.2.2.2 (lw_V q1928 q1930 qs29 q80 q1931) rfl rfl rfl (by decide +kernel) ⟨Nat.le_of_ble_eq_true rfl, Nat.le_of_ble_eq_true rfl⟩) (g_preV hE X.2 hw 0 rfl rfl) rfl rfl hl.1 rfl (lv_room (Nat.le_of_ble_eq_true rfl)) dX4_cut_12 ⟨Nat.le_of_ble_eq_true rfl, Nat.le_of_ble_eq_true rfl⟩) hw.2.2 (fun q _ h => h) (fun q h => h) (fun r_5 u t H locs ht hvm h_4 hB hz9 hk9 hS => ?_)
  have hw : gW D A ((mo, .inr (4, [.ref ag, .ref ab, .ref ah, .int (if (gr_v (p_cutsI g x y z)) < 0 then nI cn else nI (pushN cn)), .ref asv, .int hs, .ref ai, .int ty, .int (gr_w wy (p_cutsI g x y z)), .int (gr_d wd (p_cutsI g x y z)), .ref al, .int li, .int pl, .int iw, .ref at_])) :: (ag, .inl (dA 0, 310, .inl (if (gr_v (p_cutsI g x y z)) < 0 then g else (gr_g g (p_cutsI g x y z))))) :: (ab, .inl (dA 0, 310, .inl g)) :: (ah, .inl (dA 0, 2480, .inl (if (gr_v (p_cutsI g x y z)) < 0 then hf else pushH hf cn g))) :: R) s H locs := g_aft ht hB hS
  obtain rfl : r_5 = gr_v (p_cutsI g x y z) := h_4
  exact g_iret (v := gr_v (p_cutsI g x y z)) g X hw hr hlocks  rfl rfl dX4_cut_15

set_option maxHeartbeats 4000000 in
theorem m_X4_sky (l : Launch) (D : va_G) (dA : Nat → ClassId) (A : Nat → Prop) (E : State → Prop) (hE : gSt A E) (R : va_W) (mo ag ab ah asv ai al at_ : Nat) (hs ty wy wd li pl iw : Int32) (g : gG) (bf hf : gG) (cn : Nat) (hcn : cn ≤ 8) (hI : gInv g) (x y : Int32) : Met l yX4_sky (ws_ yX4_sky cX4_sky 3 (Option.some FieldType.int)) ({ frames := 2, cells := 0, slots := 0, locals := 46 }) (va_Pc [.ref mo, .int x, .int y] (gB D dA A E ((mo, .inr (4, [.ref ag, .ref ab, .ref ah, .int (nI cn), .ref asv, .int hs, .ref ai, .int ty, .int wy, .int wd, .ref al, .int li, .int pl, .int iw, .ref at_])) :: (ag, .inl (dA 0, 310, .inl g)) :: (ab, .inl (dA 0, 310, .inl bf)) :: (ah, .inl (dA 0, 2480, .inl hf)) :: R))) (va_Qi (fun (r : Int32) (bu : gG) => r = gr_v (p_tellsI g x y)) (fun bu => gE D A ((mo, .inr (4, [.ref ag, .ref ab, .ref ah, .int (if gr_v (p_tellsI g x y) < 0 then nI cn else nI (pushN cn)), .ref asv, .int hs, .ref ai, .int ty, .int (gr_w wy (p_tellsI g x y)), .int (gr_d wd (p_tellsI g x y)), .ref al, .int li, .int pl, .int iw, .ref at_])) :: (ag, .inl (dA 0, 310, .inl (if gr_v (p_tellsI g x y) < 0 then g else gr_g g (p_tellsI g x y)))) :: (ab, .inl (dA 0, 310, .inl bu)) :: (ah, .inl (dA 0, 2480, .inl (if gr_v (p_tellsI g x y) < 0 then hf else pushH hf cn g))) :: R)) A) (0) (0) A := by
  refine g_start rfl rfl ?_
  intro p e s m args below meth c ls X hr hlocks hin hw hl
  have hx := X.1.1
  have hb := X.1.2.1
  have hl : lv_has ls 3 [(0, .ref mo), (1, .int x), (2, .int y)] := hl
  refine lv_aload_n hx hb dX4_sky_0 rfl (lv_at hl 0 rfl) ?_
  refine va_callv (va_runV (As := []) (rest := []) X.1 (m_X4_looksBack l D dA A E hE ((ah, .inl (dA 0, 2480, .inl hf)) :: R) mo ag ab ah asv ai al at_ (nI cn) hs ty wy wd li pl iw g bf) (cwV 0 X.1.2.2.2.2 (lw_V q1909 q1911 qs25 q80 q1912) rfl rfl rfl (by decide +kernel) ⟨Nat.le_of_ble_eq_true rfl, Nat.le_of_ble_eq_true rfl⟩) (g_preV hE X.2 hw 0 rfl rfl) rfl rfl hl.1 rfl (lv_room (Nat.le_of_ble_eq_true rfl)) dX4_sky_1 ⟨Nat.le_of_ble_eq_true rfl, Nat.le_of_ble_eq_true rfl⟩) hw.2.2 (fun q _ h => h) (fun q h => h) (fun u t H locs ht hvm h_1 hB hz9 hk9 hS => ?_)
  have hw : gW D A ((mo, .inr (4, [.ref ag, .ref ab, .ref ah, .int (nI cn), .ref asv, .int hs, .ref ai, .int ty, .int wy, .int wd, .ref al, .int li, .int pl, .int iw, .ref at_])) :: (ag, .inl (dA 0, 310, .inl g)) :: (ab, .inl (dA 0, 310, .inl g)) :: (ah, .inl (dA 0, 2480, .inl hf)) :: R) s H locs := g_aft ht hB hS
  refine lv_aload_n hx hb dX4_sky_4 rfl (lv_at hl 0 rfl) ?_
  refine lv_aload_n hx hb dX4_sky_5 rfl (lv_at hl 0 rfl) ?_
  refine lv_iload_n hx hb dX4_sky_6 rfl (lv_at hl 1 rfl) ?_
  refine lv_iload_n hx hb dX4_sky_7 rfl (lv_at hl 2 rfl) ?_
  refine va_calli (va_runV (As := [.int x, .int y]) (rest := [.ref mo]) X.1 (m_X4_tells l D dA A E hE ((ab, .inl (dA 0, 310, .inl g)) :: (ah, .inl (dA 0, 2480, .inl hf)) :: R) mo ag ab ah asv ai al at_ (nI cn) hs ty wy wd li pl iw g (by first | assumption | omega) x y) (cwV 2 X.1.2.2.2.2 (lw_V q2071 q2073 qs46 q80 q2074) rfl rfl rfl (by decide +kernel) ⟨Nat.le_of_ble_eq_true rfl, Nat.le_of_ble_eq_true rfl⟩) (g_preV hE X.2 hw 0 rfl rfl) rfl rfl hl.1 rfl (lv_room (Nat.le_of_ble_eq_true rfl)) dX4_sky_8 ⟨Nat.le_of_ble_eq_true rfl, Nat.le_of_ble_eq_true rfl⟩) hw.2.2 (fun q _ h => h) (fun q h => h) (fun r_3 u t H locs ht hvm h_2 hB hz9 hk9 hS => ?_)
  have hw : gW D A ((mo, .inr (4, [.ref ag, .ref ab, .ref ah, .int (nI cn), .ref asv, .int hs, .ref ai, .int ty, .int (gr_w wy (p_tellsI g x y)), .int (gr_d wd (p_tellsI g x y)), .ref al, .int li, .int pl, .int iw, .ref at_])) :: (ag, .inl (dA 0, 310, .inl (gr_g g (p_tellsI g x y)))) :: (ab, .inl (dA 0, 310, .inl g)) :: (ah, .inl (dA 0, 2480, .inl hf)) :: R) s H locs := g_aft ht hB hS
  obtain rfl : r_3 = gr_v (p_tellsI g x y) := h_2
  refine va_calli (va_runV (As := [.int (gr_v (p_tellsI g x y))]) (rest := []) X.1 (m_X4_kept l D dA A E hE R mo ag ab ah asv ai al at_ hs ty (gr_w wy (p_tellsI g x y)) (gr_d wd (p_tellsI g x y)) li pl iw (gr_g g (p_tellsI g x y)) g hf cn (by first | assumption | omega) (gr_v (p_tellsI g x y))) (cwV 1 X.1.2.2.2.2 (lw_V q1928 q1930 qs29 q80 q1931) rfl rfl rfl (by decide +kernel) ⟨Nat.le_of_ble_eq_true rfl, Nat.le_of_ble_eq_true rfl⟩) (g_preV hE X.2 hw 0 rfl rfl) rfl rfl hl.1 rfl (lv_room (Nat.le_of_ble_eq_true rfl)) dX4_sky_11 ⟨Nat.le_of_ble_eq_true rfl, Nat.le_of_ble_eq_true rfl⟩) hw.2.2 (fun q _ h => h) (fun q h => h) (fun r_5 u t H locs ht hvm h_4 hB hz9 hk9 hS => ?_)
  have hw : gW D A ((mo, .inr (4, [.ref ag, .ref ab, .ref ah, .int (if (gr_v (p_tellsI g x y)) < 0 then nI cn else nI (pushN cn)), .ref asv, .int hs, .ref ai, .int ty, .int (gr_w wy (p_tellsI g x y)), .int (gr_d wd (p_tellsI g x y)), .ref al, .int li, .int pl, .int iw, .ref at_])) :: (ag, .inl (dA 0, 310, .inl (if (gr_v (p_tellsI g x y)) < 0 then g else (gr_g g (p_tellsI g x y))))) :: (ab, .inl (dA 0, 310, .inl g)) :: (ah, .inl (dA 0, 2480, .inl (if (gr_v (p_tellsI g x y)) < 0 then hf else pushH hf cn g))) :: R) s H locs := g_aft ht hB hS
  obtain rfl : r_5 = gr_v (p_tellsI g x y) := h_4
  exact g_iret (v := gr_v (p_tellsI g x y)) g X hw hr hlocks  rfl rfl dX4_sky_14

set_option maxHeartbeats 4000000 in
theorem m_X4_hours (l : Launch) (D : va_G) (dA : Nat → ClassId) (A : Nat → Prop) (E : State → Prop) (hE : gSt A E) (R : va_W) (mo ag ab ah asv ai al at_ : Nat) (hs ty wy wd li pl iw : Int32) (g : gG) (bf hf : gG) (cn : Nat) (hcn : cn ≤ 8) (hI : gInv g) (v : Int32) : Met l yX4_hours (ws_ yX4_hours cX4_hours 2 (Option.some FieldType.int)) ({ frames := 3, cells := 0, slots := 0, locals := 70 }) (va_Pc [.ref mo, .int v] (gB D dA A E ((mo, .inr (4, [.ref ag, .ref ab, .ref ah, .int (nI cn), .ref asv, .int hs, .ref ai, .int ty, .int wy, .int wd, .ref al, .int li, .int pl, .int iw, .ref at_])) :: (ag, .inl (dA 0, 310, .inl g)) :: (ab, .inl (dA 0, 310, .inl bf)) :: (ah, .inl (dA 0, 2480, .inl hf)) :: R))) (va_Qi (fun (r : Int32) (bu : gG) => r = gr_v (p_passesI g v)) (fun bu => gE D A ((mo, .inr (4, [.ref ag, .ref ab, .ref ah, .int (if gr_v (p_passesI g v) < 0 then nI cn else nI (pushN cn)), .ref asv, .int hs, .ref ai, .int ty, .int wy, .int wd, .ref al, .int li, .int pl, .int iw, .ref at_])) :: (ag, .inl (dA 0, 310, .inl (if gr_v (p_passesI g v) < 0 then g else gr_g g (p_passesI g v)))) :: (ab, .inl (dA 0, 310, .inl bu)) :: (ah, .inl (dA 0, 2480, .inl (if gr_v (p_passesI g v) < 0 then hf else pushH hf cn g))) :: R)) A) (0) (0) A := by
  refine g_start rfl rfl ?_
  intro p e s m args below meth c ls X hr hlocks hin hw hl
  have hx := X.1.1
  have hb := X.1.2.1
  have hl : lv_has ls 2 [(0, .ref mo), (1, .int v)] := hl
  refine lv_aload_n hx hb dX4_hours_0 rfl (lv_at hl 0 rfl) ?_
  refine va_callv (va_runV (As := []) (rest := []) X.1 (m_X4_looksBack l D dA A E hE ((ah, .inl (dA 0, 2480, .inl hf)) :: R) mo ag ab ah asv ai al at_ (nI cn) hs ty wy wd li pl iw g bf) (cwV 0 X.1.2.2.2.2 (lw_V q1909 q1911 qs25 q80 q1912) rfl rfl rfl (by decide +kernel) ⟨Nat.le_of_ble_eq_true rfl, Nat.le_of_ble_eq_true rfl⟩) (g_preV hE X.2 hw 0 rfl rfl) rfl rfl hl.1 rfl (lv_room (Nat.le_of_ble_eq_true rfl)) dX4_hours_1 ⟨Nat.le_of_ble_eq_true rfl, Nat.le_of_ble_eq_true rfl⟩) hw.2.2 (fun q _ h => h) (fun q h => h) (fun u t H locs ht hvm h_1 hB hz9 hk9 hS => ?_)
  have hw : gW D A ((mo, .inr (4, [.ref ag, .ref ab, .ref ah, .int (nI cn), .ref asv, .int hs, .ref ai, .int ty, .int wy, .int wd, .ref al, .int li, .int pl, .int iw, .ref at_])) :: (ag, .inl (dA 0, 310, .inl g)) :: (ab, .inl (dA 0, 310, .inl g)) :: (ah, .inl (dA 0, 2480, .inl hf)) :: R) s H locs := g_aft ht hB hS
  refine lv_aload_n hx hb dX4_hours_4 rfl (lv_at hl 0 rfl) ?_
  refine lv_aload_n hx hb dX4_hours_5 rfl (lv_at hl 0 rfl) ?_
  refine lv_iload_n hx hb dX4_hours_6 rfl (lv_at hl 1 rfl) ?_
  refine va_calli (va_runV (As := [.int v]) (rest := [.ref mo]) X.1 (m_X4_passes l D dA A E hE ((ab, .inl (dA 0, 310, .inl g)) :: (ah, .inl (dA 0, 2480, .inl hf)) :: R) mo ag ab ah asv ai al at_ (nI cn) hs ty wy wd li pl iw g (by first | assumption | omega) v) (cwV 1 X.1.2.2.2.2 (lw_V q2079 q2081 qs47 q80 q2082) rfl rfl rfl (by decide +kernel) ⟨Nat.le_of_ble_eq_true rfl, Nat.le_of_ble_eq_true rfl⟩) (g_preV hE X.2 hw 0 rfl rfl) rfl rfl hl.1 rfl (lv_room (Nat.le_of_ble_eq_true rfl)) dX4_hours_7 ⟨Nat.le_of_ble_eq_true rfl, Nat.le_of_ble_eq_true rfl⟩) hw.2.2 (fun q _ h => h) (fun q h => h) (fun r_3 u t H locs ht hvm h_2 hB hz9 hk9 hS => ?_)
  have hw : gW D A ((mo, .inr (4, [.ref ag, .ref ab, .ref ah, .int (nI cn), .ref asv, .int hs, .ref ai, .int ty, .int wy, .int wd, .ref al, .int li, .int pl, .int iw, .ref at_])) :: (ag, .inl (dA 0, 310, .inl (gr_g g (p_passesI g v)))) :: (ab, .inl (dA 0, 310, .inl g)) :: (ah, .inl (dA 0, 2480, .inl hf)) :: R) s H locs := g_aft ht hB hS
  obtain rfl : r_3 = gr_v (p_passesI g v) := h_2
  refine va_calli (va_runV (As := [.int (gr_v (p_passesI g v))]) (rest := []) X.1 (m_X4_kept l D dA A E hE R mo ag ab ah asv ai al at_ hs ty wy wd li pl iw (gr_g g (p_passesI g v)) g hf cn (by first | assumption | omega) (gr_v (p_passesI g v))) (cwV 1 X.1.2.2.2.2 (lw_V q1928 q1930 qs29 q80 q1931) rfl rfl rfl (by decide +kernel) ⟨Nat.le_of_ble_eq_true rfl, Nat.le_of_ble_eq_true rfl⟩) (g_preV hE X.2 hw 0 rfl rfl) rfl rfl hl.1 rfl (lv_room (Nat.le_of_ble_eq_true rfl)) dX4_hours_10 ⟨Nat.le_of_ble_eq_true rfl, Nat.le_of_ble_eq_true rfl⟩) hw.2.2 (fun q _ h => h) (fun q h => h) (fun r_5 u t H locs ht hvm h_4 hB hz9 hk9 hS => ?_)
  have hw : gW D A ((mo, .inr (4, [.ref ag, .ref ab, .ref ah, .int (if (gr_v (p_passesI g v)) < 0 then nI cn else nI (pushN cn)), .ref asv, .int hs, .ref ai, .int ty, .int wy, .int wd, .ref al, .int li, .int pl, .int iw, .ref at_])) :: (ag, .inl (dA 0, 310, .inl (if (gr_v (p_passesI g v)) < 0 then g else (gr_g g (p_passesI g v))))) :: (ab, .inl (dA 0, 310, .inl g)) :: (ah, .inl (dA 0, 2480, .inl (if (gr_v (p_passesI g v)) < 0 then hf else pushH hf cn g))) :: R) s H locs := g_aft ht hB hS
  obtain rfl : r_5 = gr_v (p_passesI g v) := h_4
  exact g_iret (v := gr_v (p_passesI g v)) g X hw hr hlocks  rfl rfl dX4_hours_13

set_option maxHeartbeats 4000000 in
theorem m_X4_copyist (l : Launch) (D : va_G) (dA : Nat → ClassId) (A : Nat → Prop) (E : State → Prop) (hE : gSt A E) (R : va_W) (mo ag ab ah asv ai al at_ : Nat) (hs ty wy wd li pl iw : Int32) (g : gG) (bf hf : gG) (cn : Nat) (hcn : cn ≤ 8) (hI : gInv g) (v : Int32) : Met l yX4_copyist (ws_ yX4_copyist cX4_copyist 3 (Option.some FieldType.int)) ({ frames := 2, cells := 0, slots := 0, locals := 46 }) (va_Pc [.ref mo, .int v] (gB D dA A E ((mo, .inr (4, [.ref ag, .ref ab, .ref ah, .int (nI cn), .ref asv, .int hs, .ref ai, .int ty, .int wy, .int wd, .ref al, .int li, .int pl, .int iw, .ref at_])) :: (ag, .inl (dA 0, 310, .inl g)) :: (ab, .inl (dA 0, 310, .inl bf)) :: (ah, .inl (dA 0, 2480, .inl hf)) :: R))) (va_Qi (fun (r : Int32) (bu : gG) => r = gr_v (p_copyistI g v)) (fun bu => gE D A ((mo, .inr (4, [.ref ag, .ref ab, .ref ah, .int (if gr_v (p_copyistI g v) < 0 then nI cn else nI (pushN cn)), .ref asv, .int hs, .ref ai, .int ty, .int (gr_w wy (p_copyistI g v)), .int (gr_d wd (p_copyistI g v)), .ref al, .int li, .int pl, .int iw, .ref at_])) :: (ag, .inl (dA 0, 310, .inl (if gr_v (p_copyistI g v) < 0 then g else gr_g g (p_copyistI g v)))) :: (ab, .inl (dA 0, 310, .inl bu)) :: (ah, .inl (dA 0, 2480, .inl (if gr_v (p_copyistI g v) < 0 then hf else pushH hf cn g))) :: R)) A) (0) (0) A := by
  refine g_start rfl rfl ?_
  intro p e s m args below meth c ls X hr hlocks hin hw hl
  have hx := X.1.1
  have hb := X.1.2.1
  have hl : lv_has ls 3 [(0, .ref mo), (1, .int v)] := hl
  have hI2 := hI.c.2
  have hI4 := hI.m.2
  have hI6 := hI.k.2
  refine lv_iload_n hx hb dX4_copyist_0 rfl (lv_at hl 1 rfl) ?_
  refine lv_iconst (v := 0) hx hb dX4_copyist_1 (by decide) ?_
  refine lv_iconst (v := 2) hx hb dX4_copyist_2 (by decide) ?_
  refine va_calli (va_runS (As := [.int v, .int 0, .int 2]) (rest := []) X.1 (m_X4_in l D dA A E hE ((mo, .inr (4, [.ref ag, .ref ab, .ref ah, .int (nI cn), .ref asv, .int hs, .ref ai, .int ty, .int wy, .int wd, .ref al, .int li, .int pl, .int iw, .ref at_])) :: (ag, .inl (dA 0, 310, .inl g)) :: (ab, .inl (dA 0, 310, .inl bf)) :: (ah, .inl (dA 0, 2480, .inl hf)) :: R) v 0 2) (va_cwS 3 X.1.2.2.2.2 (lw_S q1888 q1889 q80 q1890) rfl rfl rfl (by decide +kernel) ⟨Nat.le_of_ble_eq_true rfl, Nat.le_of_ble_eq_true rfl⟩) (g_preS hE X.2 hw) rfl rfl hl.1 rfl (lv_room (Nat.le_of_ble_eq_true rfl)) dX4_copyist_3 ⟨Nat.le_of_ble_eq_true rfl, Nat.le_of_ble_eq_true rfl⟩) hw.2.2 (fun q _ h => h) (fun q h => h) (fun r_2 u t H locs ht hvm h_1 hB hz9 hk9 hS => ?_)
  have hw : gW D A ((mo, .inr (4, [.ref ag, .ref ab, .ref ah, .int (nI cn), .ref asv, .int hs, .ref ai, .int ty, .int wy, .int wd, .ref al, .int li, .int pl, .int iw, .ref at_])) :: (ag, .inl (dA 0, 310, .inl g)) :: (ab, .inl (dA 0, 310, .inl bf)) :: (ah, .inl (dA 0, 2480, .inl hf)) :: R) s H locs := g_aft ht hB hS
  obtain rfl : r_2 = bZ (inR v 0 2) := h_1
  refine lv_if_ne (tgt := 12) hx hb dX4_copyist_6 (by decide) (fun c_3 => ?_) (fun c_3 => ?_)
  · skip
    have c_3 := bZ_1 c_3
    refine lv_aload_n hx hb dX4_copyist_12 rfl (lv_at hl 0 rfl) ?_
    refine g_get X cfX4 hw 0 0 rfl rfl q1834 rfl rfl dX4_copyist_13 ?_
    refine lv_sipush (v := 191) hx hb dX4_copyist_16 (by decide) ?_
    refine g_iald X hw 1 rfl (i := 191) (by decide) (by decide) dX4_copyist_19 ?_
    refine lv_istore_n (lv' := [(2, .int (g 191)), (0, .ref mo), (1, .int v)]) hx hb dX4_copyist_20 rfl hl (by decide) rfl (fun ls hl => ?_)
    refine lv_iload_n hx hb dX4_copyist_21 rfl (lv_at hl 0 rfl) ?_
    refine lv_iconst (v := 4) hx hb dX4_copyist_22 (by decide) ?_
    refine lv_icmp_ne (tgt := 33) hx hb dX4_copyist_23 (by decide) (fun c_4 => ?_) (fun c_4 => ?_)
    · skip
      have c_4n := c_4
      rw [hI.m.1] at c_4n
      have c_4n : ¬ (nn g 191 = 4) := fun q => c_4n ((nI_eq (a := nn g 191) (b := 4) (by omega) (by omega)).mpr q)
      refine lv_aload_n hx hb dX4_copyist_33 rfl (lv_at hl 1 rfl) ?_
      refine va_callv (va_runV (As := []) (rest := []) X.1 (m_X4_looksBack l D dA A E hE ((ah, .inl (dA 0, 2480, .inl hf)) :: R) mo ag ab ah asv ai al at_ (nI cn) hs ty wy wd li pl iw g bf) (cwV 0 X.1.2.2.2.2 (lw_V q1909 q1911 qs25 q80 q1912) rfl rfl rfl (by decide +kernel) ⟨Nat.le_of_ble_eq_true rfl, Nat.le_of_ble_eq_true rfl⟩) (g_preV hE X.2 hw 0 rfl rfl) rfl rfl hl.1 rfl (lv_room (Nat.le_of_ble_eq_true rfl)) dX4_copyist_34 ⟨Nat.le_of_ble_eq_true rfl, Nat.le_of_ble_eq_true rfl⟩) hw.2.2 (fun q _ h => h) (fun q h => h) (fun u t H locs ht hvm h_5 hB hz9 hk9 hS => ?_)
      have hw : gW D A ((mo, .inr (4, [.ref ag, .ref ab, .ref ah, .int (nI cn), .ref asv, .int hs, .ref ai, .int ty, .int wy, .int wd, .ref al, .int li, .int pl, .int iw, .ref at_])) :: (ag, .inl (dA 0, 310, .inl g)) :: (ab, .inl (dA 0, 310, .inl g)) :: (ah, .inl (dA 0, 2480, .inl hf)) :: R) s H locs := g_aft ht hB hS
      refine lv_aload_n hx hb dX4_copyist_37 rfl (lv_at hl 1 rfl) ?_
      refine g_get X cfX4 hw 0 0 rfl rfl q1834 rfl rfl dX4_copyist_38 ?_
      refine lv_sipush (v := 192) hx hb dX4_copyist_41 (by decide) ?_
      refine lv_iload_n hx hb dX4_copyist_44 rfl (lv_at hl 0 rfl) ?_
      refine lv_iadd hx hb dX4_copyist_45 ?_
      refine g_addE (a := 192) (b := nn g 191) rfl hI.m.1 ?_
      refine lv_iload_n hx hb dX4_copyist_46 rfl (lv_at hl 2 rfl) ?_
      refine g_iast (ws' := (mo, .inr (4, [.ref ag, .ref ab, .ref ah, .int (nI cn), .ref asv, .int hs, .ref ai, .int ty, .int wy, .int wd, .ref al, .int li, .int pl, .int iw, .ref at_])) :: (ag, .inl (dA 0, 310, .inl (upd g (192 + nn g 191) v))) :: (ab, .inl (dA 0, 310, .inl g)) :: (ah, .inl (dA 0, 2480, .inl hf)) :: R) X hw 1 rfl (i := 192 + nn g 191) (by omega) (by first | decide | omega) rfl dX4_copyist_47 (fun H locs hw => ?_)
      refine lv_aload_n hx hb dX4_copyist_48 rfl (lv_at hl 1 rfl) ?_
      refine g_get X cfX4 hw 0 0 rfl rfl q1834 rfl rfl dX4_copyist_49 ?_
      refine lv_sipush (v := 200) hx hb dX4_copyist_52 (by decide) ?_
      refine lv_iload_n hx hb dX4_copyist_55 rfl (lv_at hl 0 rfl) ?_
      refine lv_iadd hx hb dX4_copyist_56 ?_
      refine g_addE (a := 200) (b := nn g 191) rfl hI.m.1 ?_
      refine lv_sipush (v := 600) hx hb dX4_copyist_57 (by decide) ?_
      refine g_iast (ws' := (mo, .inr (4, [.ref ag, .ref ab, .ref ah, .int (nI cn), .ref asv, .int hs, .ref ai, .int ty, .int wy, .int wd, .ref al, .int li, .int pl, .int iw, .ref at_])) :: (ag, .inl (dA 0, 310, .inl (upd (upd g (192 + nn g 191) v) (200 + nn g 191) 600))) :: (ab, .inl (dA 0, 310, .inl g)) :: (ah, .inl (dA 0, 2480, .inl hf)) :: R) X hw 1 rfl (i := 200 + nn g 191) (by omega) (by first | decide | omega) rfl dX4_copyist_60 (fun H locs hw => ?_)
      refine lv_aload_n hx hb dX4_copyist_61 rfl (lv_at hl 1 rfl) ?_
      refine g_get X cfX4 hw 0 0 rfl rfl q1834 rfl rfl dX4_copyist_62 ?_
      refine lv_sipush (v := 208) hx hb dX4_copyist_65 (by decide) ?_
      refine lv_iload_n hx hb dX4_copyist_68 rfl (lv_at hl 0 rfl) ?_
      refine lv_iadd hx hb dX4_copyist_69 ?_
      refine g_addE (a := 208) (b := nn g 191) rfl hI.m.1 ?_
      refine lv_iconst (v := 1) hx hb dX4_copyist_70 (by decide) ?_
      refine g_iast (ws' := (mo, .inr (4, [.ref ag, .ref ab, .ref ah, .int (nI cn), .ref asv, .int hs, .ref ai, .int ty, .int wy, .int wd, .ref al, .int li, .int pl, .int iw, .ref at_])) :: (ag, .inl (dA 0, 310, .inl (upd (upd (upd g (192 + nn g 191) v) (200 + nn g 191) 600) (208 + nn g 191) 1))) :: (ab, .inl (dA 0, 310, .inl g)) :: (ah, .inl (dA 0, 2480, .inl hf)) :: R) X hw 1 rfl (i := 208 + nn g 191) (by omega) (by first | decide | omega) rfl dX4_copyist_71 (fun H locs hw => ?_)
      refine lv_aload_n hx hb dX4_copyist_72 rfl (lv_at hl 1 rfl) ?_
      refine g_get X cfX4 hw 0 0 rfl rfl q1834 rfl rfl dX4_copyist_73 ?_
      refine lv_sipush (v := 191) hx hb dX4_copyist_76 (by decide) ?_
      refine lv_dup2_11 hx hb dX4_copyist_79 rfl rfl ?_
      refine g_iald X hw 1 rfl (i := 191) (by decide) (by decide) dX4_copyist_80 ?_
      refine g_top (y := g 191) ((upd_n (by omega)).trans ((upd_n (by omega)).trans (upd_n (by omega)))) ?_
      refine lv_iconst (v := 1) hx hb dX4_copyist_81 (by decide) ?_
      refine lv_iadd hx hb dX4_copyist_82 ?_
      refine g_iast (ws' := (mo, .inr (4, [.ref ag, .ref ab, .ref ah, .int (nI cn), .ref asv, .int hs, .ref ai, .int ty, .int wy, .int wd, .ref al, .int li, .int pl, .int iw, .ref at_])) :: (ag, .inl (dA 0, 310, .inl (upd (upd (upd (upd g (192 + nn g 191) v) (200 + nn g 191) 600) (208 + nn g 191) 1) 191 ((g 191) + 1)))) :: (ab, .inl (dA 0, 310, .inl g)) :: (ah, .inl (dA 0, 2480, .inl hf)) :: R) X hw 1 rfl (i := 191) (by decide) (by decide) rfl dX4_copyist_83 (fun H locs hw => ?_)
      refine lv_aload_n hx hb dX4_copyist_84 rfl (lv_at hl 1 rfl) ?_
      refine lv_iload_n hx hb dX4_copyist_85 rfl (lv_at hl 0 rfl) ?_
      refine va_calli (va_runV (As := [.int (g 191)]) (rest := []) X.1 (m_X4_kept l D dA A E hE R mo ag ab ah asv ai al at_ hs ty wy wd li pl iw (upd (upd (upd (upd g (192 + nn g 191) v) (200 + nn g 191) 600) (208 + nn g 191) 1) 191 ((g 191) + 1)) g hf cn (by first | assumption | omega) (g 191)) (cwV 1 X.1.2.2.2.2 (lw_V q1928 q1930 qs29 q80 q1931) rfl rfl rfl (by decide +kernel) ⟨Nat.le_of_ble_eq_true rfl, Nat.le_of_ble_eq_true rfl⟩) (g_preV hE X.2 hw 0 rfl rfl) rfl rfl hl.1 rfl (lv_room (Nat.le_of_ble_eq_true rfl)) dX4_copyist_86 ⟨Nat.le_of_ble_eq_true rfl, Nat.le_of_ble_eq_true rfl⟩) hw.2.2 (fun q _ h => h) (fun q h => h) (fun r_7 u t H locs ht hvm h_6 hB hz9 hk9 hS => ?_)
      have hw : gW D A ((mo, .inr (4, [.ref ag, .ref ab, .ref ah, .int (if (g 191) < 0 then nI cn else nI (pushN cn)), .ref asv, .int hs, .ref ai, .int ty, .int wy, .int wd, .ref al, .int li, .int pl, .int iw, .ref at_])) :: (ag, .inl (dA 0, 310, .inl (if (g 191) < 0 then g else (upd (upd (upd (upd g (192 + nn g 191) v) (200 + nn g 191) 600) (208 + nn g 191) 1) 191 ((g 191) + 1))))) :: (ab, .inl (dA 0, 310, .inl g)) :: (ah, .inl (dA 0, 2480, .inl (if (g 191) < 0 then hf else pushH hf cn g))) :: R) s H locs := g_aft ht hB hS
      obtain rfl : r_7 = g 191 := h_6
      have hop : p_copyistI g v = .inr (g 191, upd (upd (upd (upd g (192 + nn g 191) v) (200 + nn g 191) 600) (208 + nn g 191) 1) 191 ((g 191) + 1)) := by simp [p_copyistI, p_comes, c_3, c_4]
      exact g_iret (v := g 191) g X hw hr hlocks  (by rw [hop]; rfl) (by rw [hop]; rfl) dX4_copyist_89
    · skip
      have c_4n := c_4
      rw [hI.m.1] at c_4n
      have c_4n : nn g 191 = 4 := (nI_eq (a := nn g 191) (b := 4) (by omega) (by omega)).mp c_4n
      refine lv_aload_n hx hb dX4_copyist_26 rfl (lv_at hl 1 rfl) ?_
      refine lv_iconst (v := 1) hx hb dX4_copyist_27 (by decide) ?_
      refine lv_iconst (v := 4) hx hb dX4_copyist_28 (by decide) ?_
      refine va_calli (va_runV (As := [.int 1, .int 4]) (rest := []) X.1 (m_X4_refused l D dA A E hE ((ag, .inl (dA 0, 310, .inl g)) :: (ab, .inl (dA 0, 310, .inl bf)) :: (ah, .inl (dA 0, 2480, .inl hf)) :: R) mo ag ab ah asv ai al at_ (nI cn) hs ty wy wd li pl iw (by first | assumption | omega) 1 4) (cwV 2 X.1.2.2.2.2 (lw_V q1924 q1926 qs28 q80 q1927) rfl rfl rfl (by decide +kernel) ⟨Nat.le_of_ble_eq_true rfl, Nat.le_of_ble_eq_true rfl⟩) (g_preV hE X.2 hw 0 rfl rfl) rfl rfl hl.1 rfl (lv_room (Nat.le_of_ble_eq_true rfl)) dX4_copyist_29 ⟨Nat.le_of_ble_eq_true rfl, Nat.le_of_ble_eq_true rfl⟩) hw.2.2 (fun q _ h => h) (fun q h => h) (fun r_9 u t H locs ht hvm h_8 hB hz9 hk9 hS => ?_)
      have hw : gW D A ((mo, .inr (4, [.ref ag, .ref ab, .ref ah, .int (nI cn), .ref asv, .int hs, .ref ai, .int ty, .int 1, .int 4, .ref al, .int li, .int pl, .int iw, .ref at_])) :: (ag, .inl (dA 0, 310, .inl g)) :: (ab, .inl (dA 0, 310, .inl bf)) :: (ah, .inl (dA 0, 2480, .inl hf)) :: R) s H locs := g_aft ht hB hS
      obtain rfl : r_9 = -14 := h_8
      have hop : p_copyistI g v = .inl (1, 4) := by simp [p_copyistI, p_comes, c_3, c_4]
      exact g_iret (v := -14) bf X hw hr hlocks  (by rw [hop]; rfl) (by rw [hop]; rfl) dX4_copyist_32
  · skip
    have c_3 := bZ_0.mp c_3
    refine lv_bipush (v := (-12)) hx hb dX4_copyist_9 (by decide) ?_
    have hop : p_copyistI g v = .inr ((-12), g) := by simp [p_copyistI, p_comes, c_3]
    exact g_iret (v := (-12)) bf X hw hr hlocks  (by rw [hop]; rfl) (by rw [hop]; rfl) dX4_copyist_11

set_option maxHeartbeats 4000000 in
theorem m_X4_sacks (l : Launch) (D : va_G) (dA : Nat → ClassId) (A : Nat → Prop) (E : State → Prop) (hE : gSt A E) (R : va_W) (mo ag ab ah asv ai al at_ : Nat) (hs ty wy wd li pl iw : Int32) (g : gG) (bf hf : gG) (cn : Nat) (hcn : cn ≤ 8) (hI : gInv g) (v : Int32) : Met l yX4_sacks (ws_ yX4_sacks cX4_sacks 2 (Option.some FieldType.int)) ({ frames := 2, cells := 0, slots := 0, locals := 46 }) (va_Pc [.ref mo, .int v] (gB D dA A E ((mo, .inr (4, [.ref ag, .ref ab, .ref ah, .int (nI cn), .ref asv, .int hs, .ref ai, .int ty, .int wy, .int wd, .ref al, .int li, .int pl, .int iw, .ref at_])) :: (ag, .inl (dA 0, 310, .inl g)) :: (ab, .inl (dA 0, 310, .inl bf)) :: (ah, .inl (dA 0, 2480, .inl hf)) :: R))) (va_Qi (fun (r : Int32) (bu : gG) => r = gr_v (p_sacksI g v)) (fun bu => gE D A ((mo, .inr (4, [.ref ag, .ref ab, .ref ah, .int (if gr_v (p_sacksI g v) < 0 then nI cn else nI (pushN cn)), .ref asv, .int hs, .ref ai, .int ty, .int (gr_w wy (p_sacksI g v)), .int (gr_d wd (p_sacksI g v)), .ref al, .int li, .int pl, .int iw, .ref at_])) :: (ag, .inl (dA 0, 310, .inl (if gr_v (p_sacksI g v) < 0 then g else gr_g g (p_sacksI g v)))) :: (ab, .inl (dA 0, 310, .inl bu)) :: (ah, .inl (dA 0, 2480, .inl (if gr_v (p_sacksI g v) < 0 then hf else pushH hf cn g))) :: R)) A) (0) (0) A := by
  refine g_start rfl rfl ?_
  intro p e s m args below meth c ls X hr hlocks hin hw hl
  have hx := X.1.1
  have hb := X.1.2.1
  have hl : lv_has ls 2 [(0, .ref mo), (1, .int v)] := hl
  have hI2 := hI.c.2
  have hI4 := hI.m.2
  have hI6 := hI.k.2
  refine lv_iload_n hx hb dX4_sacks_0 rfl (lv_at hl 1 rfl) ?_
  refine lv_iconst (v := 1) hx hb dX4_sacks_1 (by decide) ?_
  refine lv_bipush (v := 20) hx hb dX4_sacks_2 (by decide) ?_
  refine va_calli (va_runS (As := [.int v, .int 1, .int 20]) (rest := []) X.1 (m_X4_in l D dA A E hE ((mo, .inr (4, [.ref ag, .ref ab, .ref ah, .int (nI cn), .ref asv, .int hs, .ref ai, .int ty, .int wy, .int wd, .ref al, .int li, .int pl, .int iw, .ref at_])) :: (ag, .inl (dA 0, 310, .inl g)) :: (ab, .inl (dA 0, 310, .inl bf)) :: (ah, .inl (dA 0, 2480, .inl hf)) :: R) v 1 20) (va_cwS 3 X.1.2.2.2.2 (lw_S q1888 q1889 q80 q1890) rfl rfl rfl (by decide +kernel) ⟨Nat.le_of_ble_eq_true rfl, Nat.le_of_ble_eq_true rfl⟩) (g_preS hE X.2 hw) rfl rfl hl.1 rfl (lv_room (Nat.le_of_ble_eq_true rfl)) dX4_sacks_4 ⟨Nat.le_of_ble_eq_true rfl, Nat.le_of_ble_eq_true rfl⟩) hw.2.2 (fun q _ h => h) (fun q h => h) (fun r_2 u t H locs ht hvm h_1 hB hz9 hk9 hS => ?_)
  have hw : gW D A ((mo, .inr (4, [.ref ag, .ref ab, .ref ah, .int (nI cn), .ref asv, .int hs, .ref ai, .int ty, .int wy, .int wd, .ref al, .int li, .int pl, .int iw, .ref at_])) :: (ag, .inl (dA 0, 310, .inl g)) :: (ab, .inl (dA 0, 310, .inl bf)) :: (ah, .inl (dA 0, 2480, .inl hf)) :: R) s H locs := g_aft ht hB hS
  obtain rfl : r_2 = bZ (inR v 1 20) := h_1
  refine lv_if_ne (tgt := 13) hx hb dX4_sacks_7 (by decide) (fun c_3 => ?_) (fun c_3 => ?_)
  · skip
    have c_3 := bZ_1 c_3
    refine lv_aload_n hx hb dX4_sacks_13 rfl (lv_at hl 0 rfl) ?_
    refine va_callv (va_runV (As := []) (rest := []) X.1 (m_X4_looksBack l D dA A E hE ((ah, .inl (dA 0, 2480, .inl hf)) :: R) mo ag ab ah asv ai al at_ (nI cn) hs ty wy wd li pl iw g bf) (cwV 0 X.1.2.2.2.2 (lw_V q1909 q1911 qs25 q80 q1912) rfl rfl rfl (by decide +kernel) ⟨Nat.le_of_ble_eq_true rfl, Nat.le_of_ble_eq_true rfl⟩) (g_preV hE X.2 hw 0 rfl rfl) rfl rfl hl.1 rfl (lv_room (Nat.le_of_ble_eq_true rfl)) dX4_sacks_14 ⟨Nat.le_of_ble_eq_true rfl, Nat.le_of_ble_eq_true rfl⟩) hw.2.2 (fun q _ h => h) (fun q h => h) (fun u t H locs ht hvm h_4 hB hz9 hk9 hS => ?_)
    have hw : gW D A ((mo, .inr (4, [.ref ag, .ref ab, .ref ah, .int (nI cn), .ref asv, .int hs, .ref ai, .int ty, .int wy, .int wd, .ref al, .int li, .int pl, .int iw, .ref at_])) :: (ag, .inl (dA 0, 310, .inl g)) :: (ab, .inl (dA 0, 310, .inl g)) :: (ah, .inl (dA 0, 2480, .inl hf)) :: R) s H locs := g_aft ht hB hS
    refine lv_aload_n hx hb dX4_sacks_17 rfl (lv_at hl 0 rfl) ?_
    refine lv_iconst (v := 2) hx hb dX4_sacks_18 (by decide) ?_
    refine lv_iload_n hx hb dX4_sacks_19 rfl (lv_at hl 1 rfl) ?_
    refine lv_imul hx hb dX4_sacks_20 ?_
    refine va_calli (va_runV (As := [.int (2 * v)]) (rest := []) X.1 (m_X4_pays l D dA A E hE ((ab, .inl (dA 0, 310, .inl g)) :: (ah, .inl (dA 0, 2480, .inl hf)) :: R) mo ag ab ah asv ai al at_ (nI cn) hs ty wy wd li pl iw g (2 * v)) (cwV 1 X.1.2.2.2.2 (lw_V q1916 q1918 qs26 q80 q1919) rfl rfl rfl (by decide +kernel) ⟨Nat.le_of_ble_eq_true rfl, Nat.le_of_ble_eq_true rfl⟩) (g_preV hE X.2 hw 0 rfl rfl) rfl rfl hl.1 rfl (lv_room (Nat.le_of_ble_eq_true rfl)) dX4_sacks_21 ⟨Nat.le_of_ble_eq_true rfl, Nat.le_of_ble_eq_true rfl⟩) hw.2.2 (fun q _ h => h) (fun q h => h) (fun r_6 u t H locs ht hvm h_5 hB hz9 hk9 hS => ?_)
    have hw : gW D A ((mo, .inr (4, [.ref ag, .ref ab, .ref ah, .int (nI cn), .ref asv, .int hs, .ref ai, .int ty, .int wy, .int wd, .ref al, .int li, .int pl, .int iw, .ref at_])) :: (ag, .inl (dA 0, 310, .inl (if g 4 < (2 * v) then g else p_pays g (2 * v)))) :: (ab, .inl (dA 0, 310, .inl g)) :: (ah, .inl (dA 0, 2480, .inl hf)) :: R) s H locs := g_aft ht hB hS
    obtain rfl : r_6 = bZ (!decide (g 4 < (2 * v))) := h_5
    refine lv_if_ne (tgt := 35) hx hb dX4_sacks_24 (by decide) (fun c_7 => ?_) (fun c_7 => ?_)
    · skip
      have c_7 := bZ_1 c_7
      have c_7 := bnd_t c_7
      have hw : gW D A ((mo, .inr (4, [.ref ag, .ref ab, .ref ah, .int (nI cn), .ref asv, .int hs, .ref ai, .int ty, .int wy, .int wd, .ref al, .int li, .int pl, .int iw, .ref at_])) :: (ag, .inl (dA 0, 310, .inl (upd (upd g 4 (g 4 - 2 * v)) 6 (g 6 + 2 * v)))) :: (ab, .inl (dA 0, 310, .inl g)) :: (ah, .inl (dA 0, 2480, .inl hf)) :: R) s _ _ := g_ws hw (by rw [if_neg c_7]; rfl)
      refine lv_aload_n hx hb dX4_sacks_35 rfl (lv_at hl 0 rfl) ?_
      refine g_get X cfX4 hw 0 0 rfl rfl q1834 rfl rfl dX4_sacks_36 ?_
      refine lv_iconst (v := 3) hx hb dX4_sacks_39 (by decide) ?_
      refine lv_aload_n hx hb dX4_sacks_40 rfl (lv_at hl 0 rfl) ?_
      refine g_get X cfX4 hw 0 0 rfl rfl q1834 rfl rfl dX4_sacks_41 ?_
      refine lv_iconst (v := 3) hx hb dX4_sacks_44 (by decide) ?_
      refine g_iald X hw 1 rfl (i := 3) (by decide) (by decide) dX4_sacks_45 ?_
      refine g_top (y := g 3) ((upd_n (by omega)).trans (upd_n (by omega))) ?_
      refine lv_iload_n hx hb dX4_sacks_46 rfl (lv_at hl 1 rfl) ?_
      refine lv_iadd hx hb dX4_sacks_47 ?_
      refine lv_bipush (v := 60) hx hb dX4_sacks_48 (by decide) ?_
      refine lv_icmp_le (tgt := 58) hx hb dX4_sacks_50 (by decide) (fun c_8 => ?_) (fun c_8 => ?_)
      · skip
        have c_8 := Int32.not_lt.mpr c_8
        refine lv_aload_n hx hb dX4_sacks_58 rfl (lv_at hl 0 rfl) ?_
        refine g_get X cfX4 hw 0 0 rfl rfl q1834 rfl rfl dX4_sacks_59 ?_
        refine lv_iconst (v := 3) hx hb dX4_sacks_62 (by decide) ?_
        refine g_iald X hw 1 rfl (i := 3) (by decide) (by decide) dX4_sacks_63 ?_
        refine g_top (y := g 3) ((upd_n (by omega)).trans (upd_n (by omega))) ?_
        refine lv_iload_n hx hb dX4_sacks_64 rfl (lv_at hl 1 rfl) ?_
        refine lv_iadd hx hb dX4_sacks_65 ?_
        refine g_iast (ws' := (mo, .inr (4, [.ref ag, .ref ab, .ref ah, .int (nI cn), .ref asv, .int hs, .ref ai, .int ty, .int wy, .int wd, .ref al, .int li, .int pl, .int iw, .ref at_])) :: (ag, .inl (dA 0, 310, .inl (upd (upd (upd g 4 (g 4 - 2 * v)) 6 (g 6 + 2 * v)) 3 ((g 3) + v)))) :: (ab, .inl (dA 0, 310, .inl g)) :: (ah, .inl (dA 0, 2480, .inl hf)) :: R) X hw 1 rfl (i := 3) (by decide) (by decide) rfl dX4_sacks_66 (fun H locs hw => ?_)
        refine lv_aload_n hx hb dX4_sacks_67 rfl (lv_at hl 0 rfl) ?_
        refine lv_aload_n hx hb dX4_sacks_68 rfl (lv_at hl 0 rfl) ?_
        refine g_get X cfX4 hw 0 0 rfl rfl q1834 rfl rfl dX4_sacks_69 ?_
        refine lv_iconst (v := 3) hx hb dX4_sacks_72 (by decide) ?_
        refine g_iald X hw 1 rfl (i := 3) (by decide) (by decide) dX4_sacks_73 ?_
        refine g_top (y := (g 3) + v) (upd_s) ?_
        refine va_calli (va_runV (As := [.int ((g 3) + v)]) (rest := []) X.1 (m_X4_kept l D dA A E hE R mo ag ab ah asv ai al at_ hs ty wy wd li pl iw (upd (upd (upd g 4 (g 4 - 2 * v)) 6 (g 6 + 2 * v)) 3 ((g 3) + v)) g hf cn (by first | assumption | omega) ((g 3) + v)) (cwV 1 X.1.2.2.2.2 (lw_V q1928 q1930 qs29 q80 q1931) rfl rfl rfl (by decide +kernel) ⟨Nat.le_of_ble_eq_true rfl, Nat.le_of_ble_eq_true rfl⟩) (g_preV hE X.2 hw 0 rfl rfl) rfl rfl hl.1 rfl (lv_room (Nat.le_of_ble_eq_true rfl)) dX4_sacks_74 ⟨Nat.le_of_ble_eq_true rfl, Nat.le_of_ble_eq_true rfl⟩) hw.2.2 (fun q _ h => h) (fun q h => h) (fun r_10 u t H locs ht hvm h_9 hB hz9 hk9 hS => ?_)
        have hw : gW D A ((mo, .inr (4, [.ref ag, .ref ab, .ref ah, .int (if ((g 3) + v) < 0 then nI cn else nI (pushN cn)), .ref asv, .int hs, .ref ai, .int ty, .int wy, .int wd, .ref al, .int li, .int pl, .int iw, .ref at_])) :: (ag, .inl (dA 0, 310, .inl (if ((g 3) + v) < 0 then g else (upd (upd (upd g 4 (g 4 - 2 * v)) 6 (g 6 + 2 * v)) 3 ((g 3) + v))))) :: (ab, .inl (dA 0, 310, .inl g)) :: (ah, .inl (dA 0, 2480, .inl (if ((g 3) + v) < 0 then hf else pushH hf cn g))) :: R) s H locs := g_aft ht hB hS
        obtain rfl : r_10 = (g 3) + v := h_9
        have hop : p_sacksI g v = .inr ((g 3) + v, upd (upd (upd g 4 (g 4 - 2 * v)) 6 (g 6 + 2 * v)) 3 ((g 3) + v)) := by simp [p_sacksI, p_sacks, p_pays, c_3, c_7, c_8]
        exact g_iret (v := (g 3) + v) g X hw hr hlocks  (by rw [hop]; rfl) (by rw [hop]; rfl) dX4_sacks_77
      · skip
        have c_8 := Int32.not_le.mp c_8
        refine lv_bipush (v := 60) hx hb dX4_sacks_53 (by decide) ?_
        refine lv_goto (tgt := 66) hx hb dX4_sacks_55 (by decide) ?_
        refine g_iast (ws' := (mo, .inr (4, [.ref ag, .ref ab, .ref ah, .int (nI cn), .ref asv, .int hs, .ref ai, .int ty, .int wy, .int wd, .ref al, .int li, .int pl, .int iw, .ref at_])) :: (ag, .inl (dA 0, 310, .inl (upd (upd (upd g 4 (g 4 - 2 * v)) 6 (g 6 + 2 * v)) 3 60))) :: (ab, .inl (dA 0, 310, .inl g)) :: (ah, .inl (dA 0, 2480, .inl hf)) :: R) X hw 1 rfl (i := 3) (by decide) (by decide) rfl dX4_sacks_66 (fun H locs hw => ?_)
        refine lv_aload_n hx hb dX4_sacks_67 rfl (lv_at hl 0 rfl) ?_
        refine lv_aload_n hx hb dX4_sacks_68 rfl (lv_at hl 0 rfl) ?_
        refine g_get X cfX4 hw 0 0 rfl rfl q1834 rfl rfl dX4_sacks_69 ?_
        refine lv_iconst (v := 3) hx hb dX4_sacks_72 (by decide) ?_
        refine g_iald X hw 1 rfl (i := 3) (by decide) (by decide) dX4_sacks_73 ?_
        refine g_top (y := 60) (upd_s) ?_
        refine va_calli (va_runV (As := [.int 60]) (rest := []) X.1 (m_X4_kept l D dA A E hE R mo ag ab ah asv ai al at_ hs ty wy wd li pl iw (upd (upd (upd g 4 (g 4 - 2 * v)) 6 (g 6 + 2 * v)) 3 60) g hf cn (by first | assumption | omega) 60) (cwV 1 X.1.2.2.2.2 (lw_V q1928 q1930 qs29 q80 q1931) rfl rfl rfl (by decide +kernel) ⟨Nat.le_of_ble_eq_true rfl, Nat.le_of_ble_eq_true rfl⟩) (g_preV hE X.2 hw 0 rfl rfl) rfl rfl hl.1 rfl (lv_room (Nat.le_of_ble_eq_true rfl)) dX4_sacks_74 ⟨Nat.le_of_ble_eq_true rfl, Nat.le_of_ble_eq_true rfl⟩) hw.2.2 (fun q _ h => h) (fun q h => h) (fun r_12 u t H locs ht hvm h_11 hB hz9 hk9 hS => ?_)
        have hw : gW D A ((mo, .inr (4, [.ref ag, .ref ab, .ref ah, .int (if 60 < 0 then nI cn else nI (pushN cn)), .ref asv, .int hs, .ref ai, .int ty, .int wy, .int wd, .ref al, .int li, .int pl, .int iw, .ref at_])) :: (ag, .inl (dA 0, 310, .inl (if 60 < 0 then g else (upd (upd (upd g 4 (g 4 - 2 * v)) 6 (g 6 + 2 * v)) 3 60)))) :: (ab, .inl (dA 0, 310, .inl g)) :: (ah, .inl (dA 0, 2480, .inl (if 60 < 0 then hf else pushH hf cn g))) :: R) s H locs := g_aft ht hB hS
        obtain rfl : r_12 = 60 := h_11
        have hop : p_sacksI g v = .inr (60, upd (upd (upd g 4 (g 4 - 2 * v)) 6 (g 6 + 2 * v)) 3 60) := by simp [p_sacksI, p_sacks, p_pays, c_3, c_7, c_8]
        exact g_iret (v := 60) g X hw hr hlocks  (by rw [hop]; rfl) (by rw [hop]; rfl) dX4_sacks_77
    · skip
      have c_7 := bZ_0.mp c_7
      have c_7 := bnd_f c_7
      have hw : gW D A ((mo, .inr (4, [.ref ag, .ref ab, .ref ah, .int (nI cn), .ref asv, .int hs, .ref ai, .int ty, .int wy, .int wd, .ref al, .int li, .int pl, .int iw, .ref at_])) :: (ag, .inl (dA 0, 310, .inl g)) :: (ab, .inl (dA 0, 310, .inl g)) :: (ah, .inl (dA 0, 2480, .inl hf)) :: R) s _ _ := g_ws hw (by rw [if_pos c_7])
      refine lv_aload_n hx hb dX4_sacks_27 rfl (lv_at hl 0 rfl) ?_
      refine lv_iconst (v := 2) hx hb dX4_sacks_28 (by decide) ?_
      refine lv_iload_n hx hb dX4_sacks_29 rfl (lv_at hl 1 rfl) ?_
      refine lv_imul hx hb dX4_sacks_30 ?_
      refine va_calli (va_runV (As := [.int (2 * v)]) (rest := []) X.1 (m_X4_tooFew l D dA A E hE ((ab, .inl (dA 0, 310, .inl g)) :: (ah, .inl (dA 0, 2480, .inl hf)) :: R) mo ag ab ah asv ai al at_ (nI cn) hs ty wy wd li pl iw g (2 * v)) (cwV 1 X.1.2.2.2.2 (lw_V q1920 q1922 qs27 q80 q1923) rfl rfl rfl (by decide +kernel) ⟨Nat.le_of_ble_eq_true rfl, Nat.le_of_ble_eq_true rfl⟩) (g_preV hE X.2 hw 0 rfl rfl) rfl rfl hl.1 rfl (lv_room (Nat.le_of_ble_eq_true rfl)) dX4_sacks_31 ⟨Nat.le_of_ble_eq_true rfl, Nat.le_of_ble_eq_true rfl⟩) hw.2.2 (fun q _ h => h) (fun q h => h) (fun r_14 u t H locs ht hvm h_13 hB hz9 hk9 hS => ?_)
      have hw : gW D A ((mo, .inr (4, [.ref ag, .ref ab, .ref ah, .int (nI cn), .ref asv, .int hs, .ref ai, .int ty, .int 14, .int ((2 * v) - g 4), .ref al, .int li, .int pl, .int iw, .ref at_])) :: (ag, .inl (dA 0, 310, .inl g)) :: (ab, .inl (dA 0, 310, .inl g)) :: (ah, .inl (dA 0, 2480, .inl hf)) :: R) s H locs := g_aft ht hB hS
      obtain rfl : r_14 = -14 := h_13
      have hop : p_sacksI g v = .inl (14, (2 * v) - g 4) := by simp [p_sacksI, p_sacks, p_pays, c_3, c_7]
      exact g_iret (v := -14) g X hw hr hlocks  (by rw [hop]; rfl) (by rw [hop]; rfl) dX4_sacks_34
  · skip
    have c_3 := bZ_0.mp c_3
    refine lv_bipush (v := (-12)) hx hb dX4_sacks_10 (by decide) ?_
    have hop : p_sacksI g v = .inr ((-12), g) := by simp [p_sacksI, p_sacks, p_pays, c_3]
    exact g_iret (v := (-12)) bf X hw hr hlocks  (by rw [hop]; rfl) (by rw [hop]; rfl) dX4_sacks_12
