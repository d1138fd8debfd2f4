set_option maxHeartbeats 4000000 in
theorem m_X4_undo (l : Launch) (D : va_G) (dA : Nat → ClassId) (A : Nat → Prop) (E : State → Prop) (hE : gSt A E) (R : va_W) (mo ag ab ah asv ai al at_ : Nat) (hs ty wy wd li pl iw : Int32) (g : gG) (hf : gG) (cn : Nat) (hcn : cn ≤ 8) : Met l yX4_undo (ws_ yX4_undo cX4_undo 1 (Option.some FieldType.int)) ({ frames := 1, cells := 0, slots := 0, locals := 24 }) (va_Pc [.ref mo] (gB D dA A E ((mo, .inr (4, [.ref ag, .ref ab, .ref ah, .int (nI cn), .ref asv, .int hs, .ref ai, .int ty, .int wy, .int wd, .ref al, .int li, .int pl, .int iw, .ref at_])) :: (ag, .inl (dA 0, 310, .inl g)) :: (ah, .inl (dA 0, 2480, .inl hf)) :: R))) (va_Qi (fun (r : Int32) (_ : Unit) => r = if cn = 0 then -15 else nI (cn - 1)) (fun _ => gE D A ((mo, .inr (4, [.ref ag, .ref ab, .ref ah, .int (if cn = 0 then nI cn else nI (cn - 1)), .ref asv, .int hs, .ref ai, .int ty, .int wy, .int wd, .ref al, .int li, .int pl, .int iw, .ref at_])) :: (ag, .inl (dA 0, 310, .inl (if cn = 0 then g else histAt hf (cn - 1)))) :: (ah, .inl (dA 0, 2480, .inl hf)) :: R)) A) (0) (0) A := by
  refine g_start rfl rfl ?_
  intro p e s m args below meth c ls X hr hlocks hin hw hl
  have hx := X.1.1
  have hb := X.1.2.1
  have hl : lv_has ls 1 [(0, .ref mo)] := hl
  refine lv_aload_n hx hb dX4_undo_0 rfl (lv_at hl 0 rfl) ?_
  refine g_get X cfX4 hw 0 3 rfl rfl q1837 rfl rfl dX4_undo_1 ?_
  refine lv_if_ne (tgt := 10) hx hb dX4_undo_4 (by decide) (fun c_1 => ?_) (fun c_1 => ?_)
  · skip
    have c_1 : ¬ (cn = 0) := fun q => c_1 ((nI_eq (a := cn) (b := 0) (by omega) (by omega)).mpr q)
    refine lv_aload_n hx hb dX4_undo_10 rfl (lv_at hl 0 rfl) ?_
    refine lv_dup hx hb dX4_undo_11 rfl ?_
    refine g_get X cfX4 hw 0 3 rfl rfl q1837 rfl rfl dX4_undo_12 ?_
    refine lv_iconst (v := 1) hx hb dX4_undo_15 (by decide) ?_
    refine lv_isub hx hb dX4_undo_16 ?_
    refine g_subN (a := cn) (b := 1) (by omega) ?_
    refine g_put (ws' := (mo, .inr (4, [.ref ag, .ref ab, .ref ah, .int (nI (cn - 1)), .ref asv, .int hs, .ref ai, .int ty, .int wy, .int wd, .ref al, .int li, .int pl, .int iw, .ref at_])) :: (ag, .inl (dA 0, 310, .inl g)) :: (ah, .inl (dA 0, 2480, .inl hf)) :: R) X cfX4 hw 0 3 rfl rfl q1837 rfl rfl rfl rfl rfl rfl dX4_undo_17 (fun H locs hw => ?_)
    refine lv_aload_n hx hb dX4_undo_20 rfl (lv_at hl 0 rfl) ?_
    refine g_get X cfX4 hw 0 2 rfl rfl q1836 rfl rfl dX4_undo_21 ?_
    refine lv_aload_n hx hb dX4_undo_24 rfl (lv_at hl 0 rfl) ?_
    refine g_get X cfX4 hw 0 3 rfl rfl q1837 rfl rfl dX4_undo_25 ?_
    refine lv_sipush (v := 310) hx hb dX4_undo_28 (by decide) ?_
    refine lv_imul hx hb dX4_undo_31 ?_
    refine g_mulN (a := cn - 1) (b := 310) ?_
    refine lv_aload_n hx hb dX4_undo_32 rfl (lv_at hl 0 rfl) ?_
    refine g_get X cfX4 hw 0 0 rfl rfl q1834 rfl rfl dX4_undo_33 ?_
    refine lv_iconst (v := 0) hx hb dX4_undo_36 (by decide) ?_
    have hw : gW D A ((ah, .inl (dA 0, 2480, .inl hf)) :: (ag, .inl (dA 0, 310, .inl g)) :: (mo, .inr (4, [.ref ag, .ref ab, .ref ah, .int (nI (cn - 1)), .ref asv, .int hs, .ref ai, .int ty, .int wy, .int wd, .ref al, .int li, .int pl, .int iw, .ref at_])) :: R) s _ _ := g_perm (X := [(mo, .inr (4, [.ref ag, .ref ab, .ref ah, .int (nI (cn - 1)), .ref asv, .int hs, .ref ai, .int ty, .int wy, .int wd, .ref al, .int li, .int pl, .int iw, .ref at_])), (ag, .inl (dA 0, 310, .inl g)), (ah, .inl (dA 0, 2480, .inl hf))]) (cx := [(ah, .inl (dA 0, 2480, .inl hf)), (ag, .inl (dA 0, 310, .inl g)), (mo, .inr (4, [.ref ag, .ref ab, .ref ah, .int (nI (cn - 1)), .ref asv, .int hs, .ref ai, .int ty, .int wy, .int wd, .ref al, .int li, .int pl, .int iw, .ref at_]))]) (pl := R) hw [2, 1, 0] rfl rfl rfl rfl
    refine va_callv (va_runS (As := [.ref ah, .int (nI ((cn - 1) * 310)), .ref ag, .int 0]) (rest := []) X.1 (m_X4_copy l D dA A E hE ((mo, .inr (4, [.ref ag, .ref ab, .ref ah, .int (nI (cn - 1)), .ref asv, .int hs, .ref ai, .int ty, .int wy, .int wd, .ref al, .int li, .int pl, .int iw, .ref at_])) :: R) ah ag 2480 310 ((cn - 1) * 310) 0 hf g (by first | assumption | omega) (by first | assumption | omega) (by first | assumption | omega) (by first | assumption | omega)) (va_cwS 4 X.1.2.2.2.2 (lw_S q1913 q1914 q80 q1915) rfl rfl rfl (by decide +kernel) ⟨Nat.le_of_ble_eq_true rfl, Nat.le_of_ble_eq_true rfl⟩) (g_preS hE X.2 hw) rfl rfl hl.1 rfl (lv_room (Nat.le_of_ble_eq_true rfl)) dX4_undo_37 ⟨Nat.le_of_ble_eq_true rfl, Nat.le_of_ble_eq_true rfl⟩) hw.2.2 (fun q _ h => h) (fun q h => h) (fun u t H locs ht hvm h_2 hB hz9 hk9 hS => ?_)
    have hw : gW D A ((ah, .inl (dA 0, 2480, .inl hf)) :: (ag, .inl (dA 0, 310, .inl (va_cpy hf g ((cn - 1) * 310) 0 310))) :: (mo, .inr (4, [.ref ag, .ref ab, .ref ah, .int (nI (cn - 1)), .ref asv, .int hs, .ref ai, .int ty, .int wy, .int wd, .ref al, .int li, .int pl, .int iw, .ref at_])) :: R) s H locs := g_aft ht hB hS
    have hw : gW D A ((ah, .inl (dA 0, 2480, .inl hf)) :: (ag, .inl (dA 0, 310, .inl (histAt hf (cn - 1)))) :: (mo, .inr (4, [.ref ag, .ref ab, .ref ah, .int (nI (cn - 1)), .ref asv, .int hs, .ref ai, .int ty, .int wy, .int wd, .ref al, .int li, .int pl, .int iw, .ref at_])) :: R) s _ _ := g_arr hw 1 (histAt hf (cn - 1)) rfl cpy_hist rfl
    refine lv_aload_n hx hb dX4_undo_40 rfl (lv_at hl 0 rfl) ?_
    refine g_get X cfX4 hw 2 3 rfl rfl q1837 rfl rfl dX4_undo_41 ?_
    have hw : gW D A ((mo, .inr (4, [.ref ag, .ref ab, .ref ah, .int (nI (cn - 1)), .ref asv, .int hs, .ref ai, .int ty, .int wy, .int wd, .ref al, .int li, .int pl, .int iw, .ref at_])) :: (ag, .inl (dA 0, 310, .inl (histAt hf (cn - 1)))) :: (ah, .inl (dA 0, 2480, .inl hf)) :: R) s _ _ := g_perm (X := [(ah, .inl (dA 0, 2480, .inl hf)), (ag, .inl (dA 0, 310, .inl (histAt hf (cn - 1)))), (mo, .inr (4, [.ref ag, .ref ab, .ref ah, .int (nI (cn - 1)), .ref asv, .int hs, .ref ai, .int ty, .int wy, .int wd, .ref al, .int li, .int pl, .int iw, .ref at_]))]) (cx := [(mo, .inr (4, [.ref ag, .ref ab, .ref ah, .int (nI (cn - 1)), .ref asv, .int hs, .ref ai, .int ty, .int wy, .int wd, .ref al, .int li, .int pl, .int iw, .ref at_])), (ag, .inl (dA 0, 310, .inl (histAt hf (cn - 1)))), (ah, .inl (dA 0, 2480, .inl hf))]) (pl := R) hw [2, 1, 0] rfl rfl rfl rfl
    exact g_iret (v := nI (cn - 1)) () X hw hr hlocks  (by rw [if_neg c_1]) (by simp only [if_neg c_1]) dX4_undo_44
  · skip
    have c_1 : cn = 0 := (nI_eq (a := cn) (b := 0) (by omega) (by omega)).mp c_1
    refine lv_bipush (v := (-15)) hx hb dX4_undo_7 (by decide) ?_
    exact g_iret (v := (-15)) () X hw hr hlocks  (by rw [if_pos c_1]) (by simp only [if_pos c_1]) dX4_undo_9

set_option maxHeartbeats 4000000 in
theorem m_X4_save (l : Launch) (D : va_G) (dA : Nat → ClassId) (A : Nat → Prop) (E : State → Prop) (hE : gSt A E) (R : va_W) (mo ag ab ah asv ai al at_ : Nat) (ch hs ty wy wd li pl iw : Int32) (g : gG) (sf : gG) : Met l yX4_save (ws_ yX4_save cX4_save 1 (Option.some FieldType.int)) ({ frames := 1, cells := 0, slots := 0, locals := 24 }) (va_Pc [.ref mo] (gB D dA A E ((mo, .inr (4, [.ref ag, .ref ab, .ref ah, .int ch, .ref asv, .int hs, .ref ai, .int ty, .int wy, .int wd, .ref al, .int li, .int pl, .int iw, .ref at_])) :: (ag, .inl (dA 0, 310, .inl g)) :: (asv, .inl (dA 0, 310, .inl sf)) :: R))) (va_Qi (fun (r : Int32) (_ : Unit) => r = g 50) (fun _ => gE D A ((mo, .inr (4, [.ref ag, .ref ab, .ref ah, .int ch, .ref asv, .int 1, .ref ai, .int ty, .int wy, .int wd, .ref al, .int li, .int pl, .int iw, .ref at_])) :: (ag, .inl (dA 0, 310, .inl g)) :: (asv, .inl (dA 0, 310, .inl g)) :: R)) A) (0) (0) A := by
  refine g_start rfl rfl ?_
  intro p e s m args below meth c ls X hr hlocks hin hw hl
  have hx := X.1.1
  have hb := X.1.2.1
  have hl : lv_has ls 1 [(0, .ref mo)] := hl
  refine lv_aload_n hx hb dX4_save_0 rfl (lv_at hl 0 rfl) ?_
  refine g_get X cfX4 hw 0 0 rfl rfl q1834 rfl rfl dX4_save_1 ?_
  refine lv_iconst (v := 0) hx hb dX4_save_4 (by decide) ?_
  refine lv_aload_n hx hb dX4_save_5 rfl (lv_at hl 0 rfl) ?_
  refine g_get X cfX4 hw 0 4 rfl rfl q1838 rfl rfl dX4_save_6 ?_
  refine lv_iconst (v := 0) hx hb dX4_save_9 (by decide) ?_
  have hw : gW D A ((ag, .inl (dA 0, 310, .inl g)) :: (asv, .inl (dA 0, 310, .inl sf)) :: (mo, .inr (4, [.ref ag, .ref ab, .ref ah, .int ch, .ref asv, .int hs, .ref ai, .int ty, .int wy, .int wd, .ref al, .int li, .int pl, .int iw, .ref at_])) :: R) s _ _ := g_perm (X := [(mo, .inr (4, [.ref ag, .ref ab, .ref ah, .int ch, .ref asv, .int hs, .ref ai, .int ty, .int wy, .int wd, .ref al, .int li, .int pl, .int iw, .ref at_])), (ag, .inl (dA 0, 310, .inl g)), (asv, .inl (dA 0, 310, .inl sf))]) (cx := [(ag, .inl (dA 0, 310, .inl g)), (asv, .inl (dA 0, 310, .inl sf)), (mo, .inr (4, [.ref ag, .ref ab, .ref ah, .int ch, .ref asv, .int hs, .ref ai, .int ty, .int wy, .int wd, .ref al, .int li, .int pl, .int iw, .ref at_]))]) (pl := R) hw [1, 2, 0] rfl rfl rfl rfl
  refine va_callv (va_runS (As := [.ref ag, .int 0, .ref asv, .int 0]) (rest := []) X.1 (m_X4_copy l D dA A E hE ((mo, .inr (4, [.ref ag, .ref ab, .ref ah, .int ch, .ref asv, .int hs, .ref ai, .int ty, .int wy, .int wd, .ref al, .int li, .int pl, .int iw, .ref at_])) :: R) ag asv 310 310 0 0 g sf (by first | assumption | omega) (by first | assumption | omega) (by first | assumption | omega) (by first | assumption | omega)) (va_cwS 4 X.1.2.2.2.2 (lw_S q1913 q1914 q80 q1915) rfl rfl rfl (by decide +kernel) ⟨Nat.le_of_ble_eq_true rfl, Nat.le_of_ble_eq_true rfl⟩) (g_preS hE X.2 hw) rfl rfl hl.1 rfl (lv_room (Nat.le_of_ble_eq_true rfl)) dX4_save_10 ⟨Nat.le_of_ble_eq_true rfl, Nat.le_of_ble_eq_true rfl⟩) hw.2.2 (fun q _ h => h) (fun q h => h) (fun u t H locs ht hvm h_1 hB hz9 hk9 hS => ?_)
  have hw : gW D A ((ag, .inl (dA 0, 310, .inl g)) :: (asv, .inl (dA 0, 310, .inl (va_cpy g sf 0 0 310))) :: (mo, .inr (4, [.ref ag, .ref ab, .ref ah, .int ch, .ref asv, .int hs, .ref ai, .int ty, .int wy, .int wd, .ref al, .int li, .int pl, .int iw, .ref at_])) :: R) s H locs := g_aft ht hB hS
  have hw : gW D A ((ag, .inl (dA 0, 310, .inl g)) :: (asv, .inl (dA 0, 310, .inl g)) :: (mo, .inr (4, [.ref ag, .ref ab, .ref ah, .int ch, .ref asv, .int hs, .ref ai, .int ty, .int wy, .int wd, .ref al, .int li, .int pl, .int iw, .ref at_])) :: R) s _ _ := g_arr hw 1 g rfl cpy_all rfl
  refine lv_aload_n hx hb dX4_save_13 rfl (lv_at hl 0 rfl) ?_
  refine lv_iconst (v := 1) hx hb dX4_save_14 (by decide) ?_
  refine g_put (ws' := (ag, .inl (dA 0, 310, .inl g)) :: (asv, .inl (dA 0, 310, .inl g)) :: (mo, .inr (4, [.ref ag, .ref ab, .ref ah, .int ch, .ref asv, .int 1, .ref ai, .int ty, .int wy, .int wd, .ref al, .int li, .int pl, .int iw, .ref at_])) :: R) X cfX4 hw 2 5 rfl rfl q1839 rfl rfl rfl rfl rfl rfl dX4_save_15 (fun H locs hw => ?_)
  refine lv_aload_n hx hb dX4_save_18 rfl (lv_at hl 0 rfl) ?_
  refine g_get X cfX4 hw 2 0 rfl rfl q1834 rfl rfl dX4_save_19 ?_
  refine lv_bipush (v := 50) hx hb dX4_save_22 (by decide) ?_
  refine g_iald X hw 0 rfl (i := 50) (by decide) (by decide) dX4_save_24 ?_
  have hw : gW D A ((mo, .inr (4, [.ref ag, .ref ab, .ref ah, .int ch, .ref asv, .int 1, .ref ai, .int ty, .int wy, .int wd, .ref al, .int li, .int pl, .int iw, .ref at_])) :: (ag, .inl (dA 0, 310, .inl g)) :: (asv, .inl (dA 0, 310, .inl g)) :: R) s _ _ := g_perm (X := [(ag, .inl (dA 0, 310, .inl g)), (asv, .inl (dA 0, 310, .inl g)), (mo, .inr (4, [.ref ag, .ref ab, .ref ah, .int ch, .ref asv, .int 1, .ref ai, .int ty, .int wy, .int wd, .ref al, .int li, .int pl, .int iw, .ref at_]))]) (cx := [(mo, .inr (4, [.ref ag, .ref ab, .ref ah, .int ch, .ref asv, .int 1, .ref ai, .int ty, .int wy, .int wd, .ref al, .int li, .int pl, .int iw, .ref at_])), (ag, .inl (dA 0, 310, .inl g)), (asv, .inl (dA 0, 310, .inl g))]) (pl := R) hw [2, 0, 1] rfl rfl rfl rfl
  exact g_iret (v := g 50) () X hw hr hlocks  rfl rfl dX4_save_25

set_option maxHeartbeats 4000000 in
theorem m_X4_restore (l : Launch) (D : va_G) (dA : Nat → ClassId) (A : Nat → Prop) (E : State → Prop) (hE : gSt A E) (R : va_W) (mo ag ab ah asv ai al at_ : Nat) (ch ty wy wd li pl iw : Int32) (g : gG) (hv : Bool) (sf : gG) : Met l yX4_restore (ws_ yX4_restore cX4_restore 1 (Option.some FieldType.int)) ({ frames := 1, cells := 0, slots := 0, locals := 24 }) (va_Pc [.ref mo] (gB D dA A E ((mo, .inr (4, [.ref ag, .ref ab, .ref ah, .int ch, .ref asv, .int (bZ hv), .ref ai, .int ty, .int wy, .int wd, .ref al, .int li, .int pl, .int iw, .ref at_])) :: (ag, .inl (dA 0, 310, .inl g)) :: (asv, .inl (dA 0, 310, .inl sf)) :: R))) (va_Qi (fun (r : Int32) (_ : Unit) => r = bif hv then sf 50 else -15) (fun _ => gE D A ((mo, .inr (4, [.ref ag, .ref ab, .ref ah, .int (bif hv then 0 else ch), .ref asv, .int (bZ hv), .ref ai, .int ty, .int wy, .int wd, .ref al, .int li, .int pl, .int iw, .ref at_])) :: (ag, .inl (dA 0, 310, .inl (bif hv then sf else g))) :: (asv, .inl (dA 0, 310, .inl sf)) :: R)) A) (0) (0) A := by
  refine g_start rfl rfl ?_
  intro p e s m args below meth c ls X hr hlocks hin hw hl
  have hx := X.1.1
  have hb := X.1.2.1
  have hl : lv_has ls 1 [(0, .ref mo)] := hl
  refine lv_aload_n hx hb dX4_restore_0 rfl (lv_at hl 0 rfl) ?_
  refine g_get X cfX4 hw 0 5 rfl rfl q1839 rfl rfl dX4_restore_1 ?_
  refine lv_if_ne (tgt := 10) hx hb dX4_restore_4 (by decide) (fun c_1 => ?_) (fun c_1 => ?_)
  · skip
    have c_1 := bZ_1 c_1
    refine lv_aload_n hx hb dX4_restore_10 rfl (lv_at hl 0 rfl) ?_
    refine g_get X cfX4 hw 0 4 rfl rfl q1838 rfl rfl dX4_restore_11 ?_
    refine lv_iconst (v := 0) hx hb dX4_restore_14 (by decide) ?_
    refine lv_aload_n hx hb dX4_restore_15 rfl (lv_at hl 0 rfl) ?_
    refine g_get X cfX4 hw 0 0 rfl rfl q1834 rfl rfl dX4_restore_16 ?_
    refine lv_iconst (v := 0) hx hb dX4_restore_19 (by decide) ?_
    have hw : gW D A ((asv, .inl (dA 0, 310, .inl sf)) :: (ag, .inl (dA 0, 310, .inl g)) :: (mo, .inr (4, [.ref ag, .ref ab, .ref ah, .int ch, .ref asv, .int (bZ hv), .ref ai, .int ty, .int wy, .int wd, .ref al, .int li, .int pl, .int iw, .ref at_])) :: R) s _ _ := g_perm (X := [(mo, .inr (4, [.ref ag, .ref ab, .ref ah, .int ch, .ref asv, .int (bZ hv), .ref ai, .int ty, .int wy, .int wd, .ref al, .int li, .int pl, .int iw, .ref at_])), (ag, .inl (dA 0, 310, .inl g)), (asv, .inl (dA 0, 310, .inl sf))]) (cx := [(asv, .inl (dA 0, 310, .inl sf)), (ag, .inl (dA 0, 310, .inl g)), (mo, .inr (4, [.ref ag, .ref ab, .ref ah, .int ch, .ref asv, .int (bZ hv), .ref ai, .int ty, .int wy, .int wd, .ref al, .int li, .int pl, .int iw, .ref at_]))]) (pl := R) hw [2, 1, 0] rfl rfl rfl rfl
    refine va_callv (va_runS (As := [.ref asv, .int 0, .ref ag, .int 0]) (rest := []) X.1 (m_X4_copy l D dA A E hE ((mo, .inr (4, [.ref ag, .ref ab, .ref ah, .int ch, .ref asv, .int (bZ hv), .ref ai, .int ty, .int wy, .int wd, .ref al, .int li, .int pl, .int iw, .ref at_])) :: R) asv ag 310 310 0 0 sf g (by first | assumption | omega) (by first | assumption | omega) (by first | assumption | omega) (by first | assumption | omega)) (va_cwS 4 X.1.2.2.2.2 (lw_S q1913 q1914 q80 q1915) rfl rfl rfl (by decide +kernel) ⟨Nat.le_of_ble_eq_true rfl, Nat.le_of_ble_eq_true rfl⟩) (g_preS hE X.2 hw) rfl rfl hl.1 rfl (lv_room (Nat.le_of_ble_eq_true rfl)) dX4_restore_20 ⟨Nat.le_of_ble_eq_true rfl, Nat.le_of_ble_eq_true rfl⟩) hw.2.2 (fun q _ h => h) (fun q h => h) (fun u t H locs ht hvm h_2 hB hz9 hk9 hS => ?_)
    have hw : gW D A ((asv, .inl (dA 0, 310, .inl sf)) :: (ag, .inl (dA 0, 310, .inl (va_cpy sf g 0 0 310))) :: (mo, .inr (4, [.ref ag, .ref ab, .ref ah, .int ch, .ref asv, .int (bZ hv), .ref ai, .int ty, .int wy, .int wd, .ref al, .int li, .int pl, .int iw, .ref at_])) :: R) s H locs := g_aft ht hB hS
    have hw : gW D A ((asv, .inl (dA 0, 310, .inl sf)) :: (ag, .inl (dA 0, 310, .inl sf)) :: (mo, .inr (4, [.ref ag, .ref ab, .ref ah, .int ch, .ref asv, .int (bZ hv), .ref ai, .int ty, .int wy, .int wd, .ref al, .int li, .int pl, .int iw, .ref at_])) :: R) s _ _ := g_arr hw 1 sf rfl cpy_all rfl
    refine lv_aload_n hx hb dX4_restore_23 rfl (lv_at hl 0 rfl) ?_
    refine lv_iconst (v := 0) hx hb dX4_restore_24 (by decide) ?_
    refine g_put (ws' := (asv, .inl (dA 0, 310, .inl sf)) :: (ag, .inl (dA 0, 310, .inl sf)) :: (mo, .inr (4, [.ref ag, .ref ab, .ref ah, .int 0, .ref asv, .int (bZ hv), .ref ai, .int ty, .int wy, .int wd, .ref al, .int li, .int pl, .int iw, .ref at_])) :: R) X cfX4 hw 2 3 rfl rfl q1837 rfl rfl rfl rfl rfl rfl dX4_restore_25 (fun H locs hw => ?_)
    refine lv_aload_n hx hb dX4_restore_28 rfl (lv_at hl 0 rfl) ?_
    refine g_get X cfX4 hw 2 0 rfl rfl q1834 rfl rfl dX4_restore_29 ?_
    refine lv_bipush (v := 50) hx hb dX4_restore_32 (by decide) ?_
    refine g_iald X hw 1 rfl (i := 50) (by decide) (by decide) dX4_restore_34 ?_
    have hw : gW D A ((mo, .inr (4, [.ref ag, .ref ab, .ref ah, .int 0, .ref asv, .int (bZ hv), .ref ai, .int ty, .int wy, .int wd, .ref al, .int li, .int pl, .int iw, .ref at_])) :: (ag, .inl (dA 0, 310, .inl sf)) :: (asv, .inl (dA 0, 310, .inl sf)) :: R) s _ _ := g_perm (X := [(asv, .inl (dA 0, 310, .inl sf)), (ag, .inl (dA 0, 310, .inl sf)), (mo, .inr (4, [.ref ag, .ref ab, .ref ah, .int 0, .ref asv, .int (bZ hv), .ref ai, .int ty, .int wy, .int wd, .ref al, .int li, .int pl, .int iw, .ref at_]))]) (cx := [(mo, .inr (4, [.ref ag, .ref ab, .ref ah, .int 0, .ref asv, .int (bZ hv), .ref ai, .int ty, .int wy, .int wd, .ref al, .int li, .int pl, .int iw, .ref at_])), (ag, .inl (dA 0, 310, .inl sf)), (asv, .inl (dA 0, 310, .inl sf))]) (pl := R) hw [2, 1, 0] rfl rfl rfl rfl
    exact g_iret (v := sf 50) () X hw hr hlocks  (by rw [c_1]; rfl) (by rw [c_1]; rfl) dX4_restore_35
  · skip
    have c_1 := bZ_0.mp c_1
    refine lv_bipush (v := (-15)) hx hb dX4_restore_7 (by decide) ?_
    exact g_iret (v := (-15)) () X hw hr hlocks  (by rw [c_1]; rfl) (by rw [c_1]; rfl) dX4_restore_9

set_option maxHeartbeats 4000000 in
theorem m_X4_append (l : Launch) (D : va_G) (dA : Nat → ClassId) (A : Nat → Prop) (E : State → Prop) (hE : gSt A E) (R : va_W) (mo ag ab ah asv ai al at_ : Nat) (ch hs wy wd li pl iw : Int32) (g : gG) (tf : gG) (tn : Nat) (htn : tn ≤ 60) (v : Int32) : Met l yX4_append (ws_ yX4_append cX4_append 2 (Option.some FieldType.int)) ({ frames := 1, cells := 0, slots := 0, locals := 22 }) (va_Pc [.ref mo, .int v] (gB D dA A E ((mo, .inr (4, [.ref ag, .ref ab, .ref ah, .int ch, .ref asv, .int hs, .ref ai, .int (nI tn), .int wy, .int wd, .ref al, .int li, .int pl, .int iw, .ref at_])) :: (ai, .inl (dA 1, 60, .inl tf)) :: R))) (va_Qi (fun (r : Int32) (_ : Unit) => r = if inR v 32 126 = true then (if tn = 60 then -13 else nI (tn + 1)) else -12) (fun _ => gE D A ((mo, .inr (4, [.ref ag, .ref ab, .ref ah, .int ch, .ref asv, .int hs, .ref ai, .int (if inR v 32 126 = true then (if tn = 60 then nI tn else nI (tn + 1)) else nI tn), .int wy, .int wd, .ref al, .int li, .int pl, .int iw, .ref at_])) :: (ai, .inl (dA 1, 60, .inl (if inR v 32 126 = true then (if tn = 60 then tf else upd tf tn v) else tf))) :: R)) A) (0) (0) A := by
  refine g_start rfl rfl ?_
  intro p e s m args below meth c ls X hr hlocks hin hw hl
  have hx := X.1.1
  have hb := X.1.2.1
  have hl : lv_has ls 2 [(0, .ref mo), (1, .int v)] := hl
  refine lv_iload_n hx hb dX4_append_0 rfl (lv_at hl 1 rfl) ?_
  refine lv_bipush (v := 32) hx hb dX4_append_1 (by decide) ?_
  refine lv_bipush (v := 126) hx hb dX4_append_3 (by decide) ?_
  refine va_calli (va_runS (As := [.int v, .int 32, .int 126]) (rest := []) X.1 (m_X4_in l D dA A E hE ((mo, .inr (4, [.ref ag, .ref ab, .ref ah, .int ch, .ref asv, .int hs, .ref ai, .int (nI tn), .int wy, .int wd, .ref al, .int li, .int pl, .int iw, .ref at_])) :: (ai, .inl (dA 1, 60, .inl tf)) :: R) v 32 126) (va_cwS 3 X.1.2.2.2.2 (lw_S q1888 q1889 q80 q1890) rfl rfl rfl (by decide +kernel) ⟨Nat.le_of_ble_eq_true rfl, Nat.le_of_ble_eq_true rfl⟩) (g_preS hE X.2 hw) rfl rfl hl.1 rfl (lv_room (Nat.le_of_ble_eq_true rfl)) dX4_append_5 ⟨Nat.le_of_ble_eq_true rfl, Nat.le_of_ble_eq_true rfl⟩) hw.2.2 (fun q _ h => h) (fun q h => h) (fun r_2 u t H locs ht hvm h_1 hB hz9 hk9 hS => ?_)
  have hw : gW D A ((mo, .inr (4, [.ref ag, .ref ab, .ref ah, .int ch, .ref asv, .int hs, .ref ai, .int (nI tn), .int wy, .int wd, .ref al, .int li, .int pl, .int iw, .ref at_])) :: (ai, .inl (dA 1, 60, .inl tf)) :: R) s H locs := g_aft ht hB hS
  obtain rfl : r_2 = bZ (inR v 32 126) := h_1
  refine lv_if_ne (tgt := 14) hx hb dX4_append_8 (by decide) (fun c_3 => ?_) (fun c_3 => ?_)
  · skip
    have c_3 := bZ_1 c_3
    refine lv_aload_n hx hb dX4_append_14 rfl (lv_at hl 0 rfl) ?_
    refine g_get X cfX4 hw 0 7 rfl rfl q1841 rfl rfl dX4_append_15 ?_
    refine lv_bipush (v := 60) hx hb dX4_append_18 (by decide) ?_
    refine lv_icmp_ne (tgt := 26) hx hb dX4_append_20 (by decide) (fun c_4 => ?_) (fun c_4 => ?_)
    · skip
      have c_4 : ¬ (tn = 60) := fun q => c_4 ((nI_eq (a := tn) (b := 60) (by omega) (by omega)).mpr q)
      refine lv_aload_n hx hb dX4_append_26 rfl (lv_at hl 0 rfl) ?_
      refine g_get X cfX4 hw 0 6 rfl rfl q1840 rfl rfl dX4_append_27 ?_
      refine lv_aload_n hx hb dX4_append_30 rfl (lv_at hl 0 rfl) ?_
      refine g_get X cfX4 hw 0 7 rfl rfl q1841 rfl rfl dX4_append_31 ?_
      refine lv_iload_n hx hb dX4_append_34 rfl (lv_at hl 1 rfl) ?_
      refine lv_i2c (v := (v.toUInt32 % 65536).toInt32) hx hb dX4_append_35 rfl ?_
      refine g_cast (ws' := (mo, .inr (4, [.ref ag, .ref ab, .ref ah, .int ch, .ref asv, .int hs, .ref ai, .int (nI tn), .int wy, .int wd, .ref al, .int li, .int pl, .int iw, .ref at_])) :: (ai, .inl (dA 1, 60, .inl (upd tf tn (vp_nar .char ((v.toUInt32 % 65536).toInt32))))) :: R) X hw 1 rfl (i := tn) (by omega) (by first | decide | omega) rfl dX4_append_36 (fun H locs hw => ?_)
      have hw : gW D A ((mo, .inr (4, [.ref ag, .ref ab, .ref ah, .int ch, .ref asv, .int hs, .ref ai, .int (nI tn), .int wy, .int wd, .ref al, .int li, .int pl, .int iw, .ref at_])) :: (ai, .inl (dA 1, 60, .inl (upd tf tn v))) :: R) s _ _ := g_ws hw (by rw [narC c_3])
      refine lv_aload_n hx hb dX4_append_37 rfl (lv_at hl 0 rfl) ?_
      refine lv_dup hx hb dX4_append_38 rfl ?_
      refine g_get X cfX4 hw 0 7 rfl rfl q1841 rfl rfl dX4_append_39 ?_
      refine lv_iconst (v := 1) hx hb dX4_append_42 (by decide) ?_
      refine lv_iadd hx hb dX4_append_43 ?_
      refine g_addN (a := tn) (b := 1) ?_
      refine g_put (ws' := (mo, .inr (4, [.ref ag, .ref ab, .ref ah, .int ch, .ref asv, .int hs, .ref ai, .int (nI (tn + 1)), .int wy, .int wd, .ref al, .int li, .int pl, .int iw, .ref at_])) :: (ai, .inl (dA 1, 60, .inl (upd tf tn v))) :: R) X cfX4 hw 0 7 rfl rfl q1841 rfl rfl rfl rfl rfl rfl dX4_append_44 (fun H locs hw => ?_)
      refine lv_aload_n hx hb dX4_append_47 rfl (lv_at hl 0 rfl) ?_
      refine g_get X cfX4 hw 0 7 rfl rfl q1841 rfl rfl dX4_append_48 ?_
      exact g_iret (v := nI (tn + 1)) () X hw hr hlocks  (by simp [c_3, c_4]) (by simp [c_3, c_4]) dX4_append_51
    · skip
      have c_4 : tn = 60 := (nI_eq (a := tn) (b := 60) (by omega) (by omega)).mp c_4
      refine lv_bipush (v := (-13)) hx hb dX4_append_23 (by decide) ?_
      exact g_iret (v := (-13)) () X hw hr hlocks  (by simp [c_3, c_4]) (by simp [c_3, c_4]) dX4_append_25
  · skip
    have c_3 := bZ_0.mp c_3
    refine lv_bipush (v := (-12)) hx hb dX4_append_11 (by decide) ?_
    exact g_iret (v := (-12)) () X hw hr hlocks  (by simp [c_3]) (by simp [c_3]) dX4_append_13

set_option maxHeartbeats 4000000 in
theorem m_X4_character (l : Launch) (D : va_G) (dA : Nat → ClassId) (A : Nat → Prop) (E : State → Prop) (hE : gSt A E) (R : va_W) (mo ag ab ah asv ai al at_ : Nat) (ch hs ty wy wd pl iw : Int32) (g : gG) (lf : gG) (ln : Nat) (hln : ln ≤ 40) (v : Int32) : Met l yX4_character (ws_ yX4_character cX4_character 2 (Option.some FieldType.int)) ({ frames := 1, cells := 0, slots := 0, locals := 22 }) (va_Pc [.ref mo, .int v] (gB D dA A E ((mo, .inr (4, [.ref ag, .ref ab, .ref ah, .int ch, .ref asv, .int hs, .ref ai, .int ty, .int wy, .int wd, .ref al, .int (nI ln), .int pl, .int iw, .ref at_])) :: (al, .inl (dA 1, 40, .inl lf)) :: R))) (va_Qi (fun (r : Int32) (_ : Unit) => r = q_char lf ln v) (fun _ => gE D A ((mo, .inr (4, [.ref ag, .ref ab, .ref ah, .int ch, .ref asv, .int hs, .ref ai, .int ty, .int wy, .int wd, .ref al, .int (nI ln), .int pl, .int iw, .ref at_])) :: (al, .inl (dA 1, 40, .inl lf)) :: R)) A) (0) (0) A := by
  refine g_start rfl rfl ?_
  intro p e s m args below meth c ls X hr hlocks hin hw hl
  have hx := X.1.1
  have hb := X.1.2.1
  have hl : lv_has ls 2 [(0, .ref mo), (1, .int v)] := hl
  refine lv_iload_n hx hb dX4_character_0 rfl (lv_at hl 1 rfl) ?_
  refine lv_iconst (v := 0) hx hb dX4_character_1 (by decide) ?_
  refine lv_aload_n hx hb dX4_character_2 rfl (lv_at hl 0 rfl) ?_
  refine g_get X cfX4 hw 0 11 rfl rfl q1845 rfl rfl dX4_character_3 ?_
  refine lv_iconst (v := 1) hx hb dX4_character_6 (by decide) ?_
  refine lv_isub hx hb dX4_character_7 ?_
  refine va_calli (va_runS (As := [.int v, .int 0, .int ((nI ln) - 1)]) (rest := []) X.1 (m_X4_in l D dA A E hE ((mo, .inr (4, [.ref ag, .ref ab, .ref ah, .int ch, .ref asv, .int hs, .ref ai, .int ty, .int wy, .int wd, .ref al, .int (nI ln), .int pl, .int iw, .ref at_])) :: (al, .inl (dA 1, 40, .inl lf)) :: R) v 0 ((nI ln) - 1)) (va_cwS 3 X.1.2.2.2.2 (lw_S q1888 q1889 q80 q1890) rfl rfl rfl (by decide +kernel) ⟨Nat.le_of_ble_eq_true rfl, Nat.le_of_ble_eq_true rfl⟩) (g_preS hE X.2 hw) rfl rfl hl.1 rfl (lv_room (Nat.le_of_ble_eq_true rfl)) dX4_character_8 ⟨Nat.le_of_ble_eq_true rfl, Nat.le_of_ble_eq_true rfl⟩) hw.2.2 (fun q _ h => h) (fun q h => h) (fun r_2 u t H locs ht hvm h_1 hB hz9 hk9 hS => ?_)
  have hw : gW D A ((mo, .inr (4, [.ref ag, .ref ab, .ref ah, .int ch, .ref asv, .int hs, .ref ai, .int ty, .int wy, .int wd, .ref al, .int (nI ln), .int pl, .int iw, .ref at_])) :: (al, .inl (dA 1, 40, .inl lf)) :: R) s H locs := g_aft ht hB hS
  obtain rfl : r_2 = bZ (inR v 0 ((nI ln) - 1)) := h_1
  refine lv_if_eq (tgt := 23) hx hb dX4_character_11 (by decide) (fun c_3 => ?_) (fun c_3 => ?_)
  · skip
    have c_3 := bZ_0.mp c_3
    refine lv_bipush (v := (-11)) hx hb dX4_character_23 (by decide) ?_
    exact g_iret (v := (-11)) () X hw hr hlocks  (by simp [q_char, c_3]) rfl dX4_character_25
  · skip
    have c_3 := bZ_1 c_3
    obtain ⟨j, hj, ej⟩ := (inR_nat (by omega)).mp c_3
    subst ej
    have kj : (nI j).toNatClampNeg = j := nI_clamp (by omega)
    refine lv_aload_n hx hb dX4_character_14 rfl (lv_at hl 0 rfl) ?_
    refine g_get X cfX4 hw 0 10 rfl rfl q1844 rfl rfl dX4_character_15 ?_
    refine lv_iload_n hx hb dX4_character_18 rfl (lv_at hl 1 rfl) ?_
    refine g_cald X hw 1 rfl (i := j) (by omega) (by first | decide | omega) dX4_character_19 ?_
    refine lv_goto (tgt := 25) hx hb dX4_character_20 (by decide) ?_
    exact g_iret (v := lf j) () X hw hr hlocks  (by simp [q_char, c_3, kj]) rfl dX4_character_25

set_option maxHeartbeats 4000000 in
theorem m_X4_reason (l : Launch) (D : va_G) (dA : Nat → ClassId) (A : Nat → Prop) (E : State → Prop) (hE : gSt A E) (R : va_W) (mo ag ab ah asv ai al at_ : Nat) (ch hs ty wy wd li pl iw : Int32) (g : gG) (z : Int32) : Met l yX4_reason (ws_ yX4_reason cX4_reason 2 (Option.some FieldType.int)) ({ frames := 0, cells := 0, slots := 0, locals := 0 }) (va_Pc [.ref mo, .int z] (gB D dA A E ((mo, .inr (4, [.ref ag, .ref ab, .ref ah, .int ch, .ref asv, .int hs, .ref ai, .int ty, .int wy, .int wd, .ref al, .int li, .int pl, .int iw, .ref at_])) :: R))) (va_Qi (fun (r : Int32) (_ : Unit) => r = q_reason wy wd z) (fun _ => gE D A ((mo, .inr (4, [.ref ag, .ref ab, .ref ah, .int ch, .ref asv, .int hs, .ref ai, .int ty, .int wy, .int wd, .ref al, .int li, .int pl, .int iw, .ref at_])) :: R)) A) (0) (0) A := by
  refine g_start rfl rfl ?_
  intro p e s m args below meth c ls X hr hlocks hin hw hl
  have hx := X.1.1
  have hb := X.1.2.1
  have hl : lv_has ls 2 [(0, .ref mo), (1, .int z)] := hl
  refine lv_aload_n hx hb dX4_reason_0 rfl (lv_at hl 0 rfl) ?_
  refine g_get X cfX4 hw 0 8 rfl rfl q1842 rfl rfl dX4_reason_1 ?_
  refine lv_if_ne (tgt := 12) hx hb dX4_reason_4 (by decide) (fun c_1 => ?_) (fun c_1 => ?_)
  · skip
    refine lv_iload_n hx hb dX4_reason_12 rfl (lv_at hl 1 rfl) ?_
    refine lv_if_eq (tgt := 23) hx hb dX4_reason_13 (by decide) (fun c_2 => ?_) (fun c_2 => ?_)
    · skip
      refine lv_aload_n hx hb dX4_reason_23 rfl (lv_at hl 0 rfl) ?_
      refine g_get X cfX4 hw 0 8 rfl rfl q1842 rfl rfl dX4_reason_24 ?_
      exact g_iret (v := wy) () X hw hr hlocks  (by simp [q_reason, c_1, c_2]) rfl dX4_reason_27
    · skip
      refine lv_aload_n hx hb dX4_reason_16 rfl (lv_at hl 0 rfl) ?_
      refine g_get X cfX4 hw 0 9 rfl rfl q1843 rfl rfl dX4_reason_17 ?_
      refine lv_goto (tgt := 27) hx hb dX4_reason_20 (by decide) ?_
      exact g_iret (v := wd) () X hw hr hlocks  (by simp [q_reason, c_1, c_2]) rfl dX4_reason_27
  · skip
    refine lv_bipush (v := (-15)) hx hb dX4_reason_7 (by decide) ?_
    refine lv_goto (tgt := 27) hx hb dX4_reason_9 (by decide) ?_
    exact g_iret (v := (-15)) () X hw hr hlocks  (by simp [q_reason, c_1]) rfl dX4_reason_27

set_option maxHeartbeats 4000000 in
theorem m_X4_account (l : Launch) (D : va_G) (dA : Nat → ClassId) (A : Nat → Prop) (E : State → Prop) (hE : gSt A E) (R : va_W) (mo ag ab ah asv ai al at_ : Nat) (hs wy wd li pl iw : Int32) (g : gG) (hI : gInv g) (cn tn : Nat) (w : Int32) : Met l yX4_account (ws_ yX4_account cX4_account 2 (Option.some FieldType.int)) ({ frames := 1, cells := 0, slots := 0, locals := 24 }) (va_Pc [.ref mo, .int w] (gB D dA A E ((mo, .inr (4, [.ref ag, .ref ab, .ref ah, .int (nI cn), .ref asv, .int hs, .ref ai, .int (nI tn), .int wy, .int wd, .ref al, .int li, .int pl, .int iw, .ref at_])) :: (ag, .inl (dA 0, 310, .inl g)) :: R))) (va_Qi (fun (r : Int32) (_ : Unit) => r = q_account g tn cn w) (fun _ => gE D A ((mo, .inr (4, [.ref ag, .ref ab, .ref ah, .int (nI cn), .ref asv, .int hs, .ref ai, .int (nI tn), .int wy, .int wd, .ref al, .int li, .int pl, .int iw, .ref at_])) :: (ag, .inl (dA 0, 310, .inl g)) :: R)) A) (0) (0) A := by
  refine g_start rfl rfl ?_
  intro p e s m args below meth c ls X hr hlocks hin hw hl
  have hx := X.1.1
  have hb := X.1.2.1
  have hl : lv_has ls 2 [(0, .ref mo), (1, .int w)] := hl
  have hI2 := hI.c.2
  have hI4 := hI.m.2
  have hI6 := hI.k.2
  refine lv_iload_n hx hb dX4_account_0 rfl (lv_at hl 1 rfl) ?_
  by_cases c_1 : w = 0
  · refine lv_tableIn (tgt := 92) hx hb dX4_account_1 (by rw [c_1]; decide) (by rw [c_1]; decide) (by rw [c_1]; rfl) (by decide) ?_
    subst c_1
    refine lv_aload_n hx hb dX4_account_92 rfl (lv_at hl 0 rfl) ?_
    refine g_get X cfX4 hw 0 0 rfl rfl q1834 rfl rfl dX4_account_93 ?_
    refine lv_iload_n hx hb dX4_account_96 rfl (lv_at hl 1 rfl) ?_
    refine g_iald X hw 1 rfl (i := 0) (by decide) (by decide) dX4_account_97 ?_
    exact g_iret (v := g 0) () X hw hr hlocks  (by simp [q_account]) rfl dX4_account_98
  by_cases c_2 : w = 1
  · refine lv_tableIn (tgt := 92) hx hb dX4_account_1 (by rw [c_2]; decide) (by rw [c_2]; decide) (by rw [c_2]; rfl) (by decide) ?_
    subst c_2
    refine lv_aload_n hx hb dX4_account_92 rfl (lv_at hl 0 rfl) ?_
    refine g_get X cfX4 hw 0 0 rfl rfl q1834 rfl rfl dX4_account_93 ?_
    refine lv_iload_n hx hb dX4_account_96 rfl (lv_at hl 1 rfl) ?_
    refine g_iald X hw 1 rfl (i := 1) (by decide) (by decide) dX4_account_97 ?_
    exact g_iret (v := g 1) () X hw hr hlocks  (by simp [q_account, c_1]) rfl dX4_account_98
  by_cases c_3 : w = 2
  · refine lv_tableIn (tgt := 92) hx hb dX4_account_1 (by rw [c_3]; decide) (by rw [c_3]; decide) (by rw [c_3]; rfl) (by decide) ?_
    subst c_3
    refine lv_aload_n hx hb dX4_account_92 rfl (lv_at hl 0 rfl) ?_
    refine g_get X cfX4 hw 0 0 rfl rfl q1834 rfl rfl dX4_account_93 ?_
    refine lv_iload_n hx hb dX4_account_96 rfl (lv_at hl 1 rfl) ?_
    refine g_iald X hw 1 rfl (i := 2) (by decide) (by decide) dX4_account_97 ?_
    exact g_iret (v := g 2) () X hw hr hlocks  (by simp [q_account, c_1, c_2]) rfl dX4_account_98
  by_cases c_4 : w = 3
  · refine lv_tableIn (tgt := 92) hx hb dX4_account_1 (by rw [c_4]; decide) (by rw [c_4]; decide) (by rw [c_4]; rfl) (by decide) ?_
    subst c_4
    refine lv_aload_n hx hb dX4_account_92 rfl (lv_at hl 0 rfl) ?_
    refine g_get X cfX4 hw 0 0 rfl rfl q1834 rfl rfl dX4_account_93 ?_
    refine lv_iload_n hx hb dX4_account_96 rfl (lv_at hl 1 rfl) ?_
    refine g_iald X hw 1 rfl (i := 3) (by decide) (by decide) dX4_account_97 ?_
    exact g_iret (v := g 3) () X hw hr hlocks  (by simp [q_account, c_1, c_2, c_3]) rfl dX4_account_98
  by_cases c_5 : w = 4
  · refine lv_tableIn (tgt := 99) hx hb dX4_account_1 (by rw [c_5]; decide) (by rw [c_5]; decide) (by rw [c_5]; rfl) (by decide) ?_
    subst c_5
    refine lv_aload_n hx hb dX4_account_99 rfl (lv_at hl 0 rfl) ?_
    refine g_get X cfX4 hw 0 0 rfl rfl q1834 rfl rfl dX4_account_100 ?_
    refine lv_bipush (v := 50) hx hb dX4_account_103 (by decide) ?_
    refine g_iald X hw 1 rfl (i := 50) (by decide) (by decide) dX4_account_105 ?_
    exact g_iret (v := g 50) () X hw hr hlocks  (by simp [q_account, c_1, c_2, c_3, c_4]) rfl dX4_account_106
  by_cases c_6 : w = 5
  · refine lv_tableIn (tgt := 107) hx hb dX4_account_1 (by rw [c_6]; decide) (by rw [c_6]; decide) (by rw [c_6]; rfl) (by decide) ?_
    subst c_6
    refine lv_aload_n hx hb dX4_account_107 rfl (lv_at hl 0 rfl) ?_
    refine lv_bipush (v := 71) hx hb dX4_account_108 (by decide) ?_
    refine lv_aload_n hx hb dX4_account_110 rfl (lv_at hl 0 rfl) ?_
    refine g_get X cfX4 hw 0 0 rfl rfl q1834 rfl rfl dX4_account_111 ?_
    refine lv_bipush (v := 50) hx hb dX4_account_114 (by decide) ?_
    refine g_iald X hw 1 rfl (i := 50) (by decide) (by decide) dX4_account_116 ?_
    refine g_stk (st' := [.int (nI (nn g 50)), .int 71, .ref mo]) (by rw [hI.c.1]) ?_
    refine va_calli (va_runV (As := [.int 71, .int (nI (nn g 50))]) (rest := []) X.1 (m_X4_sum l D dA A E hE R mo ag ab ah asv ai al at_ (nI cn) hs (nI tn) wy wd li pl iw g 71 (nn g 50) (by first | assumption | omega)) (cwV 2 X.1.2.2.2.2 (lw_V q2189 q2191 qs62 q80 q2192) rfl rfl rfl (by decide +kernel) ⟨Nat.le_of_ble_eq_true rfl, Nat.le_of_ble_eq_true rfl⟩) (g_preV hE X.2 hw 0 rfl rfl) rfl rfl hl.1 rfl (lv_room (Nat.le_of_ble_eq_true rfl)) dX4_account_117 ⟨Nat.le_of_ble_eq_true rfl, Nat.le_of_ble_eq_true rfl⟩) hw.2.2 (fun q _ h => h) (fun q h => h) (fun r_8 u t H locs ht hvm h_7 hB hz9 hk9 hS => ?_)
    have hw : gW D A ((mo, .inr (4, [.ref ag, .ref ab, .ref ah, .int (nI cn), .ref asv, .int hs, .ref ai, .int (nI tn), .int wy, .int wd, .ref al, .int li, .int pl, .int iw, .ref at_])) :: (ag, .inl (dA 0, 310, .inl g)) :: R) s H locs := g_aft ht hB hS
    obtain rfl : r_8 = sumL g 71 (nn g 50) := h_7
    exact g_iret (v := sumL g 71 (nn g 50)) () X hw hr hlocks  (by simp [q_account, c_1, c_2, c_3, c_4, c_5]) rfl dX4_account_120
  by_cases c_9 : w = 6
  · refine lv_tableIn (tgt := 121) hx hb dX4_account_1 (by rw [c_9]; decide) (by rw [c_9]; decide) (by rw [c_9]; rfl) (by decide) ?_
    subst c_9
    refine lv_aload_n hx hb dX4_account_121 rfl (lv_at hl 0 rfl) ?_
    refine g_get X cfX4 hw 0 0 rfl rfl q1834 rfl rfl dX4_account_122 ?_
    refine lv_sipush (v := 191) hx hb dX4_account_125 (by decide) ?_
    refine g_iald X hw 1 rfl (i := 191) (by decide) (by decide) dX4_account_128 ?_
    exact g_iret (v := g 191) () X hw hr hlocks  (by simp [q_account, c_1, c_2, c_3, c_4, c_5, c_6]) rfl dX4_account_129
  by_cases c_10 : w = 7
  · refine lv_tableIn (tgt := 130) hx hb dX4_account_1 (by rw [c_10]; decide) (by rw [c_10]; decide) (by rw [c_10]; rfl) (by decide) ?_
    subst c_10
    refine lv_aload_n hx hb dX4_account_130 rfl (lv_at hl 0 rfl) ?_
    refine g_get X cfX4 hw 0 0 rfl rfl q1834 rfl rfl dX4_account_131 ?_
    refine lv_sipush (v := 212) hx hb dX4_account_134 (by decide) ?_
    refine g_iald X hw 1 rfl (i := 212) (by decide) (by decide) dX4_account_137 ?_
    exact g_iret (v := g 212) () X hw hr hlocks  (by simp [q_account, c_1, c_2, c_3, c_4, c_5, c_6, c_9]) rfl dX4_account_138
  by_cases c_11 : w = 8
  · refine lv_tableIn (tgt := 139) hx hb dX4_account_1 (by rw [c_11]; decide) (by rw [c_11]; decide) (by rw [c_11]; rfl) (by decide) ?_
    subst c_11
    refine lv_aload_n hx hb dX4_account_139 rfl (lv_at hl 0 rfl) ?_
    refine lv_sipush (v := 221) hx hb dX4_account_140 (by decide) ?_
    refine lv_aload_n hx hb dX4_account_143 rfl (lv_at hl 0 rfl) ?_
    refine g_get X cfX4 hw 0 0 rfl rfl q1834 rfl rfl dX4_account_144 ?_
    refine lv_sipush (v := 212) hx hb dX4_account_147 (by decide) ?_
    refine g_iald X hw 1 rfl (i := 212) (by decide) (by decide) dX4_account_150 ?_
    refine g_stk (st' := [.int (nI (nn g 212)), .int 221, .ref mo]) (by rw [hI.k.1]) ?_
    refine va_calli (va_runV (As := [.int 221, .int (nI (nn g 212))]) (rest := []) X.1 (m_X4_sum l D dA A E hE R mo ag ab ah asv ai al at_ (nI cn) hs (nI tn) wy wd li pl iw g 221 (nn g 212) (by first | assumption | omega)) (cwV 2 X.1.2.2.2.2 (lw_V q2189 q2191 qs62 q80 q2192) rfl rfl rfl (by decide +kernel) ⟨Nat.le_of_ble_eq_true rfl, Nat.le_of_ble_eq_true rfl⟩) (g_preV hE X.2 hw 0 rfl rfl) rfl rfl hl.1 rfl (lv_room (Nat.le_of_ble_eq_true rfl)) dX4_account_151 ⟨Nat.le_of_ble_eq_true rfl, Nat.le_of_ble_eq_true rfl⟩) hw.2.2 (fun q _ h => h) (fun q h => h) (fun r_13 u t H locs ht hvm h_12 hB hz9 hk9 hS => ?_)
    have hw : gW D A ((mo, .inr (4, [.ref ag, .ref ab, .ref ah, .int (nI cn), .ref asv, .int hs, .ref ai, .int (nI tn), .int wy, .int wd, .ref al, .int li, .int pl, .int iw, .ref at_])) :: (ag, .inl (dA 0, 310, .inl g)) :: R) s H locs := g_aft ht hB hS
    obtain rfl : r_13 = sumL g 221 (nn g 212) := h_12
    exact g_iret (v := sumL g 221 (nn g 212)) () X hw hr hlocks  (by simp [q_account, c_1, c_2, c_3, c_4, c_5, c_6, c_9, c_10]) rfl dX4_account_154
  by_cases c_14 : w = 9
  · refine lv_tableIn (tgt := 155) hx hb dX4_account_1 (by rw [c_14]; decide) (by rw [c_14]; decide) (by rw [c_14]; rfl) (by decide) ?_
    subst c_14
    refine lv_aload_n hx hb dX4_account_155 rfl (lv_at hl 0 rfl) ?_
    refine g_get X cfX4 hw 0 0 rfl rfl q1834 rfl rfl dX4_account_156 ?_
    refine lv_sipush (v := 309) hx hb dX4_account_159 (by decide) ?_
    refine g_iald X hw 1 rfl (i := 309) (by decide) (by decide) dX4_account_162 ?_
    exact g_iret (v := g 309) () X hw hr hlocks  (by simp [q_account, c_1, c_2, c_3, c_4, c_5, c_6, c_9, c_10, c_11]) rfl dX4_account_163
  by_cases c_15 : w = 10
  · refine lv_tableIn (tgt := 164) hx hb dX4_account_1 (by rw [c_15]; decide) (by rw [c_15]; decide) (by rw [c_15]; rfl) (by decide) ?_
    subst c_15
    refine lv_aload_n hx hb dX4_account_164 rfl (lv_at hl 0 rfl) ?_
    refine g_get X cfX4 hw 0 0 rfl rfl q1834 rfl rfl dX4_account_165 ?_
    refine lv_iconst (v := 4) hx hb dX4_account_168 (by decide) ?_
    refine lv_iload_n hx hb dX4_account_169 rfl (lv_at hl 1 rfl) ?_
    refine lv_iadd hx hb dX4_account_170 ?_
    refine g_top (y := 14) (by decide) ?_
    refine lv_bipush (v := 10) hx hb dX4_account_171 (by decide) ?_
    refine lv_isub hx hb dX4_account_173 ?_
    refine g_top (y := 4) (by decide) ?_
    refine g_iald X hw 1 rfl (i := 4) (by decide) (by decide) dX4_account_174 ?_
    exact g_iret (v := g 4) () X hw hr hlocks  (by simp [q_account, c_1, c_2, c_3, c_4, c_5, c_6, c_9, c_10, c_11, c_14]) rfl dX4_account_175
  by_cases c_16 : w = 11
  · refine lv_tableIn (tgt := 164) hx hb dX4_account_1 (by rw [c_16]; decide) (by rw [c_16]; decide) (by rw [c_16]; rfl) (by decide) ?_
    subst c_16
    refine lv_aload_n hx hb dX4_account_164 rfl (lv_at hl 0 rfl) ?_
    refine g_get X cfX4 hw 0 0 rfl rfl q1834 rfl rfl dX4_account_165 ?_
    refine lv_iconst (v := 4) hx hb dX4_account_168 (by decide) ?_
    refine lv_iload_n hx hb dX4_account_169 rfl (lv_at hl 1 rfl) ?_
    refine lv_iadd hx hb dX4_account_170 ?_
    refine g_top (y := 15) (by decide) ?_
    refine lv_bipush (v := 10) hx hb dX4_account_171 (by decide) ?_
    refine lv_isub hx hb dX4_account_173 ?_
    refine g_top (y := 5) (by decide) ?_
    refine g_iald X hw 1 rfl (i := 5) (by decide) (by decide) dX4_account_174 ?_
    exact g_iret (v := g 5) () X hw hr hlocks  (by simp [q_account, c_1, c_2, c_3, c_4, c_5, c_6, c_9, c_10, c_11, c_14, c_15]) rfl dX4_account_175
  by_cases c_17 : w = 12
  · refine lv_tableIn (tgt := 164) hx hb dX4_account_1 (by rw [c_17]; decide) (by rw [c_17]; decide) (by rw [c_17]; rfl) (by decide) ?_
    subst c_17
    refine lv_aload_n hx hb dX4_account_164 rfl (lv_at hl 0 rfl) ?_
    refine g_get X cfX4 hw 0 0 rfl rfl q1834 rfl rfl dX4_account_165 ?_
    refine lv_iconst (v := 4) hx hb dX4_account_168 (by decide) ?_
    refine lv_iload_n hx hb dX4_account_169 rfl (lv_at hl 1 rfl) ?_
    refine lv_iadd hx hb dX4_account_170 ?_
    refine g_top (y := 16) (by decide) ?_
    refine lv_bipush (v := 10) hx hb dX4_account_171 (by decide) ?_
    refine lv_isub hx hb dX4_account_173 ?_
    refine g_top (y := 6) (by decide) ?_
    refine g_iald X hw 1 rfl (i := 6) (by decide) (by decide) dX4_account_174 ?_
    exact g_iret (v := g 6) () X hw hr hlocks  (by simp [q_account, c_1, c_2, c_3, c_4, c_5, c_6, c_9, c_10, c_11, c_14, c_15, c_16]) rfl dX4_account_175
  by_cases c_18 : w = 13
  · refine lv_tableIn (tgt := 164) hx hb dX4_account_1 (by rw [c_18]; decide) (by rw [c_18]; decide) (by rw [c_18]; rfl) (by decide) ?_
    subst c_18
    refine lv_aload_n hx hb dX4_account_164 rfl (lv_at hl 0 rfl) ?_
    refine g_get X cfX4 hw 0 0 rfl rfl q1834 rfl rfl dX4_account_165 ?_
    refine lv_iconst (v := 4) hx hb dX4_account_168 (by decide) ?_
    refine lv_iload_n hx hb dX4_account_169 rfl (lv_at hl 1 rfl) ?_
    refine lv_iadd hx hb dX4_account_170 ?_
    refine g_top (y := 17) (by decide) ?_
    refine lv_bipush (v := 10) hx hb dX4_account_171 (by decide) ?_
    refine lv_isub hx hb dX4_account_173 ?_
    refine g_top (y := 7) (by decide) ?_
    refine g_iald X hw 1 rfl (i := 7) (by decide) (by decide) dX4_account_174 ?_
    exact g_iret (v := g 7) () X hw hr hlocks  (by simp [q_account, c_1, c_2, c_3, c_4, c_5, c_6, c_9, c_10, c_11, c_14, c_15, c_16, c_17]) rfl dX4_account_175
  by_cases c_19 : w = 14
  · refine lv_tableIn (tgt := 176) hx hb dX4_account_1 (by rw [c_19]; decide) (by rw [c_19]; decide) (by rw [c_19]; rfl) (by decide) ?_
    subst c_19
    refine lv_aload_n hx hb dX4_account_176 rfl (lv_at hl 0 rfl) ?_
    refine lv_bipush (v := 32) hx hb dX4_account_177 (by decide) ?_
    refine lv_bipush (v := 6) hx hb dX4_account_179 (by decide) ?_
    refine lv_iload_n hx hb dX4_account_181 rfl (lv_at hl 1 rfl) ?_
    refine lv_bipush (v := 14) hx hb dX4_account_182 (by decide) ?_
    refine lv_isub hx hb dX4_account_184 ?_
    refine g_top (y := 0) (by decide) ?_
    refine lv_imul hx hb dX4_account_185 ?_
    refine g_top (y := 0) (by decide) ?_
    refine lv_iadd hx hb dX4_account_186 ?_
    refine g_top (y := 32) (by decide) ?_
    refine lv_bipush (v := 6) hx hb dX4_account_187 (by decide) ?_
    refine va_calli (va_runV (As := [.int 32, .int 6]) (rest := []) X.1 (m_X4_sum l D dA A E hE R mo ag ab ah asv ai al at_ (nI cn) hs (nI tn) wy wd li pl iw g 32 6 (by first | assumption | omega)) (cwV 2 X.1.2.2.2.2 (lw_V q2189 q2191 qs62 q80 q2192) rfl rfl rfl (by decide +kernel) ⟨Nat.le_of_ble_eq_true rfl, Nat.le_of_ble_eq_true rfl⟩) (g_preV hE X.2 hw 0 rfl rfl) rfl rfl hl.1 rfl (lv_room (Nat.le_of_ble_eq_true rfl)) dX4_account_189 ⟨Nat.le_of_ble_eq_true rfl, Nat.le_of_ble_eq_true rfl⟩) hw.2.2 (fun q _ h => h) (fun q h => h) (fun r_21 u t H locs ht hvm h_20 hB hz9 hk9 hS => ?_)
    have hw : gW D A ((mo, .inr (4, [.ref ag, .ref ab, .ref ah, .int (nI cn), .ref asv, .int hs, .ref ai, .int (nI tn), .int wy, .int wd, .ref al, .int li, .int pl, .int iw, .ref at_])) :: (ag, .inl (dA 0, 310, .inl g)) :: R) s H locs := g_aft ht hB hS
    obtain rfl : r_21 = sumL g 32 6 := h_20
    exact g_iret (v := sumL g 32 6) () X hw hr hlocks  (by simp [q_account, c_1, c_2, c_3, c_4, c_5, c_6, c_9, c_10, c_11, c_14, c_15, c_16, c_17, c_18]) rfl dX4_account_192
  by_cases c_22 : w = 15
  · refine lv_tableIn (tgt := 176) hx hb dX4_account_1 (by rw [c_22]; decide) (by rw [c_22]; decide) (by rw [c_22]; rfl) (by decide) ?_
    subst c_22
    refine lv_aload_n hx hb dX4_account_176 rfl (lv_at hl 0 rfl) ?_
    refine lv_bipush (v := 32) hx hb dX4_account_177 (by decide) ?_
    refine lv_bipush (v := 6) hx hb dX4_account_179 (by decide) ?_
    refine lv_iload_n hx hb dX4_account_181 rfl (lv_at hl 1 rfl) ?_
    refine lv_bipush (v := 14) hx hb dX4_account_182 (by decide) ?_
    refine lv_isub hx hb dX4_account_184 ?_
    refine g_top (y := 1) (by decide) ?_
    refine lv_imul hx hb dX4_account_185 ?_
    refine g_top (y := 6) (by decide) ?_
    refine lv_iadd hx hb dX4_account_186 ?_
    refine g_top (y := 38) (by decide) ?_
    refine lv_bipush (v := 6) hx hb dX4_account_187 (by decide) ?_
    refine va_calli (va_runV (As := [.int 38, .int 6]) (rest := []) X.1 (m_X4_sum l D dA A E hE R mo ag ab ah asv ai al at_ (nI cn) hs (nI tn) wy wd li pl iw g 38 6 (by first | assumption | omega)) (cwV 2 X.1.2.2.2.2 (lw_V q2189 q2191 qs62 q80 q2192) rfl rfl rfl (by decide +kernel) ⟨Nat.le_of_ble_eq_true rfl, Nat.le_of_ble_eq_true rfl⟩) (g_preV hE X.2 hw 0 rfl rfl) rfl rfl hl.1 rfl (lv_room (Nat.le_of_ble_eq_true rfl)) dX4_account_189 ⟨Nat.le_of_ble_eq_true rfl, Nat.le_of_ble_eq_true rfl⟩) hw.2.2 (fun q _ h => h) (fun q h => h) (fun r_24 u t H locs ht hvm h_23 hB hz9 hk9 hS => ?_)
    have hw : gW D A ((mo, .inr (4, [.ref ag, .ref ab, .ref ah, .int (nI cn), .ref asv, .int hs, .ref ai, .int (nI tn), .int wy, .int wd, .ref al, .int li, .int pl, .int iw, .ref at_])) :: (ag, .inl (dA 0, 310, .inl g)) :: R) s H locs := g_aft ht hB hS
    obtain rfl : r_24 = sumL g 38 6 := h_23
    exact g_iret (v := sumL g 38 6) () X hw hr hlocks  (by simp [q_account, c_1, c_2, c_3, c_4, c_5, c_6, c_9, c_10, c_11, c_14, c_15, c_16, c_17, c_18, c_19]) rfl dX4_account_192
  by_cases c_25 : w = 16
  · refine lv_tableIn (tgt := 193) hx hb dX4_account_1 (by rw [c_25]; decide) (by rw [c_25]; decide) (by rw [c_25]; rfl) (by decide) ?_
    subst c_25
    refine lv_aload_n hx hb dX4_account_193 rfl (lv_at hl 0 rfl) ?_
    refine lv_bipush (v := 8) hx hb dX4_account_194 (by decide) ?_
    refine lv_bipush (v := 6) hx hb dX4_account_196 (by decide) ?_
    refine va_calli (va_runV (As := [.int 8, .int 6]) (rest := []) X.1 (m_X4_sum l D dA A E hE R mo ag ab ah asv ai al at_ (nI cn) hs (nI tn) wy wd li pl iw g 8 6 (by first | assumption | omega)) (cwV 2 X.1.2.2.2.2 (lw_V q2189 q2191 qs62 q80 q2192) rfl rfl rfl (by decide +kernel) ⟨Nat.le_of_ble_eq_true rfl, Nat.le_of_ble_eq_true rfl⟩) (g_preV hE X.2 hw 0 rfl rfl) rfl rfl hl.1 rfl (lv_room (Nat.le_of_ble_eq_true rfl)) dX4_account_198 ⟨Nat.le_of_ble_eq_true rfl, Nat.le_of_ble_eq_true rfl⟩) hw.2.2 (fun q _ h => h) (fun q h => h) (fun r_27 u t H locs ht hvm h_26 hB hz9 hk9 hS => ?_)
    have hw : gW D A ((mo, .inr (4, [.ref ag, .ref ab, .ref ah, .int (nI cn), .ref asv, .int hs, .ref ai, .int (nI tn), .int wy, .int wd, .ref al, .int li, .int pl, .int iw, .ref at_])) :: (ag, .inl (dA 0, 310, .inl g)) :: R) s H locs := g_aft ht hB hS
    obtain rfl : r_27 = sumL g 8 6 := h_26
    exact g_iret (v := sumL g 8 6) () X hw hr hlocks  (by simp [q_account, c_1, c_2, c_3, c_4, c_5, c_6, c_9, c_10, c_11, c_14, c_15, c_16, c_17, c_18, c_19, c_22]) rfl dX4_account_201
  by_cases c_28 : w = 17
  · refine lv_tableIn (tgt := 202) hx hb dX4_account_1 (by rw [c_28]; decide) (by rw [c_28]; decide) (by rw [c_28]; rfl) (by decide) ?_
    subst c_28
    refine lv_aload_n hx hb dX4_account_202 rfl (lv_at hl 0 rfl) ?_
    refine g_get X cfX4 hw 0 7 rfl rfl q1841 rfl rfl dX4_account_203 ?_
    exact g_iret (v := nI tn) () X hw hr hlocks  (by simp [q_account, c_1, c_2, c_3, c_4, c_5, c_6, c_9, c_10, c_11, c_14, c_15, c_16, c_17, c_18, c_19, c_22, c_25]) rfl dX4_account_206
  by_cases c_29 : w = 18
  · refine lv_tableIn (tgt := 207) hx hb dX4_account_1 (by rw [c_29]; decide) (by rw [c_29]; decide) (by rw [c_29]; rfl) (by decide) ?_
    subst c_29
    refine lv_aload_n hx hb dX4_account_207 rfl (lv_at hl 0 rfl) ?_
    refine g_get X cfX4 hw 0 3 rfl rfl q1837 rfl rfl dX4_account_208 ?_
    exact g_iret (v := nI cn) () X hw hr hlocks  (by simp [q_account, c_1, c_2, c_3, c_4, c_5, c_6, c_9, c_10, c_11, c_14, c_15, c_16, c_17, c_18, c_19, c_22, c_25, c_28]) rfl dX4_account_211
  refine g_tabOut19 (tgt := 212) hx hb dX4_account_1 c_1 c_2 c_3 c_4 c_5 c_6 c_9 c_10 c_11 c_14 c_15 c_16 c_17 c_18 c_19 c_22 c_25 c_28 c_29 (by decide) ?_
  refine lv_bipush (v := (-12)) hx hb dX4_account_212 (by decide) ?_
  exact g_iret (v := (-12)) () X hw hr hlocks  (by simp [q_account, c_1, c_2, c_3, c_4, c_5, c_6, c_9, c_10, c_11, c_14, c_15, c_16, c_17, c_18, c_19, c_22, c_25, c_28, c_29]) rfl dX4_account_214

set_option maxHeartbeats 4000000 in
theorem m_X4_isBalanced (l : Launch) (D : va_G) (dA : Nat → ClassId) (A : Nat → Prop) (E : State → Prop) (hE : gSt A E) (R : va_W) (mo ag ab ah asv ai al at_ : Nat) (ch hs ty wy wd li pl iw : Int32) (g : gG) : Met l yX4_isBalanced (ws_ yX4_isBalanced cX4_isBalanced 1 (Option.some FieldType.int)) ({ frames := 1, cells := 0, slots := 0, locals := 24 }) (va_Pc [.ref mo] (gB D dA A E ((mo, .inr (4, [.ref ag, .ref ab, .ref ah, .int ch, .ref asv, .int hs, .ref ai, .int ty, .int wy, .int wd, .ref al, .int li, .int pl, .int iw, .ref at_])) :: (ag, .inl (dA 0, 310, .inl g)) :: R))) (va_Qi (fun (r : Int32) (_ : Unit) => r = q_balanced g) (fun _ => gE D A ((mo, .inr (4, [.ref ag, .ref ab, .ref ah, .int ch, .ref asv, .int hs, .ref ai, .int ty, .int wy, .int wd, .ref al, .int li, .int pl, .int iw, .ref at_])) :: (ag, .inl (dA 0, 310, .inl g)) :: R)) A) (0) (0) A := by
  refine g_start rfl rfl ?_
  intro p e s m args below meth c ls X hr hlocks hin hw hl
  have hx := X.1.1
  have hb := X.1.2.1
  have hl : lv_has ls 1 [(0, .ref mo)] := hl
  refine lv_aload_n hx hb dX4_isBalanced_0 rfl (lv_at hl 0 rfl) ?_
  refine g_get X cfX4 hw 0 0 rfl rfl q1834 rfl rfl dX4_isBalanced_1 ?_
  refine lv_bipush (v := 7) hx hb dX4_isBalanced_4 (by decide) ?_
  refine g_iald X hw 1 rfl (i := 7) (by decide) (by decide) dX4_isBalanced_6 ?_
  refine lv_aload_n hx hb dX4_isBalanced_7 rfl (lv_at hl 0 rfl) ?_
  refine lv_bipush (v := 32) hx hb dX4_isBalanced_8 (by decide) ?_
  refine lv_bipush (v := 12) hx hb dX4_isBalanced_10 (by decide) ?_
  refine va_calli (va_runV (As := [.int 32, .int 12]) (rest := [.int (g 7)]) X.1 (m_X4_sum l D dA A E hE R mo ag ab ah asv ai al at_ ch hs ty wy wd li pl iw g 32 12 (by first | assumption | omega)) (cwV 2 X.1.2.2.2.2 (lw_V q2189 q2191 qs62 q80 q2192) rfl rfl rfl (by decide +kernel) ⟨Nat.le_of_ble_eq_true rfl, Nat.le_of_ble_eq_true rfl⟩) (g_preV hE X.2 hw 0 rfl rfl) rfl rfl hl.1 rfl (lv_room (Nat.le_of_ble_eq_true rfl)) dX4_isBalanced_12 ⟨Nat.le_of_ble_eq_true rfl, Nat.le_of_ble_eq_true rfl⟩) hw.2.2 (fun q _ h => h) (fun q h => h) (fun r_2 u t H locs ht hvm h_1 hB hz9 hk9 hS => ?_)
  have hw : gW D A ((mo, .inr (4, [.ref ag, .ref ab, .ref ah, .int ch, .ref asv, .int hs, .ref ai, .int ty, .int wy, .int wd, .ref al, .int li, .int pl, .int iw, .ref at_])) :: (ag, .inl (dA 0, 310, .inl g)) :: R) s H locs := g_aft ht hB hS
  obtain rfl : r_2 = sumL g 32 12 := h_1
  refine lv_icmp_ne (tgt := 48) hx hb dX4_isBalanced_15 (by decide) (fun c_3 => ?_) (fun c_3 => ?_)
  · skip
    refine lv_iconst (v := 0) hx hb dX4_isBalanced_48 (by decide) ?_
    exact g_iret (v := 0) () X hw hr hlocks  (by simp [q_balanced, c_3]) rfl dX4_isBalanced_49
  · skip
    refine lv_aload_n hx hb dX4_isBalanced_18 rfl (lv_at hl 0 rfl) ?_
    refine g_get X cfX4 hw 0 0 rfl rfl q1834 rfl rfl dX4_isBalanced_19 ?_
    refine lv_iconst (v := 4) hx hb dX4_isBalanced_22 (by decide) ?_
    refine g_iald X hw 1 rfl (i := 4) (by decide) (by decide) dX4_isBalanced_23 ?_
    refine lv_bipush (v := 20) hx hb dX4_isBalanced_24 (by decide) ?_
    refine lv_aload_n hx hb dX4_isBalanced_26 rfl (lv_at hl 0 rfl) ?_
    refine g_get X cfX4 hw 0 0 rfl rfl q1834 rfl rfl dX4_isBalanced_27 ?_
    refine lv_iconst (v := 5) hx hb dX4_isBalanced_30 (by decide) ?_
    refine g_iald X hw 1 rfl (i := 5) (by decide) (by decide) dX4_isBalanced_31 ?_
    refine lv_iadd hx hb dX4_isBalanced_32 ?_
    refine lv_aload_n hx hb dX4_isBalanced_33 rfl (lv_at hl 0 rfl) ?_
    refine g_get X cfX4 hw 0 0 rfl rfl q1834 rfl rfl dX4_isBalanced_34 ?_
    refine lv_bipush (v := 6) hx hb dX4_isBalanced_37 (by decide) ?_
    refine g_iald X hw 1 rfl (i := 6) (by decide) (by decide) dX4_isBalanced_39 ?_
    refine lv_isub hx hb dX4_isBalanced_40 ?_
    refine lv_icmp_ne (tgt := 48) hx hb dX4_isBalanced_41 (by decide) (fun c_4 => ?_) (fun c_4 => ?_)
    · skip
      refine lv_iconst (v := 0) hx hb dX4_isBalanced_48 (by decide) ?_
      exact g_iret (v := 0) () X hw hr hlocks  (by simp [q_balanced, c_3, c_4]) rfl dX4_isBalanced_49
    · skip
      refine lv_iconst (v := 1) hx hb dX4_isBalanced_44 (by decide) ?_
      refine lv_goto (tgt := 49) hx hb dX4_isBalanced_45 (by decide) ?_
      exact g_iret (v := 1) () X hw hr hlocks  (by simp [q_balanced, c_3, c_4]) rfl dX4_isBalanced_49

set_option maxHeartbeats 4000000 in
theorem m_X4_puts (l : Launch) (D : va_G) (dA : Nat → ClassId) (A : Nat → Prop) (E : State → Prop) (hE : gSt A E) (R : va_W) (mo ag ab ah asv ai al at_ : Nat) (ch hs ty wy wd pl iw : Int32) (g : gG) (lf : gG) (ln : Nat) (v : Int32) (hln : ln < 40) : Met l yX4_puts (ws_ yX4_puts cX4_puts 2 (Option.none : Option FieldType)) ({ frames := 0, cells := 0, slots := 0, locals := 0 }) (va_Pc [.ref mo, .int v] (gB D dA A E ((mo, .inr (4, [.ref ag, .ref ab, .ref ah, .int ch, .ref asv, .int hs, .ref ai, .int ty, .int wy, .int wd, .ref al, .int (nI ln), .int pl, .int iw, .ref at_])) :: (al, .inl (dA 1, 40, .inl lf)) :: R))) (va_Qv (fun (_ : Unit) => True) (fun _ => gE D A ((mo, .inr (4, [.ref ag, .ref ab, .ref ah, .int ch, .ref asv, .int hs, .ref ai, .int ty, .int wy, .int wd, .ref al, .int (nI (ln + 1)), .int pl, .int iw, .ref at_])) :: (al, .inl (dA 1, 40, .inl (upd lf ln (chC v)))) :: R)) A) (0) (0) A := by
  refine g_start rfl rfl ?_
  intro p e s m args below meth c ls X hr hlocks hin hw hl
  have hx := X.1.1
  have hb := X.1.2.1
  have hl : lv_has ls 2 [(0, .ref mo), (1, .int v)] := hl
  refine lv_aload_n hx hb dX4_puts_0 rfl (lv_at hl 0 rfl) ?_
  refine g_get X cfX4 hw 0 10 rfl rfl q1844 rfl rfl dX4_puts_1 ?_
  refine lv_aload_n hx hb dX4_puts_4 rfl (lv_at hl 0 rfl) ?_
  refine g_get X cfX4 hw 0 11 rfl rfl q1845 rfl rfl dX4_puts_5 ?_
  refine lv_iload_n hx hb dX4_puts_8 rfl (lv_at hl 1 rfl) ?_
  refine lv_i2c (v := (v.toUInt32 % 65536).toInt32) hx hb dX4_puts_9 rfl ?_
  refine g_cast (ws' := (mo, .inr (4, [.ref ag, .ref ab, .ref ah, .int ch, .ref asv, .int hs, .ref ai, .int ty, .int wy, .int wd, .ref al, .int (nI ln), .int pl, .int iw, .ref at_])) :: (al, .inl (dA 1, 40, .inl (upd lf ln (vp_nar .char ((v.toUInt32 % 65536).toInt32))))) :: R) X hw 1 rfl (i := ln) (by omega) (by first | decide | omega) rfl dX4_puts_10 (fun H locs hw => ?_)
  refine lv_aload_n hx hb dX4_puts_11 rfl (lv_at hl 0 rfl) ?_
  refine lv_dup hx hb dX4_puts_12 rfl ?_
  refine g_get X cfX4 hw 0 11 rfl rfl q1845 rfl rfl dX4_puts_13 ?_
  refine lv_iconst (v := 1) hx hb dX4_puts_16 (by decide) ?_
  refine lv_iadd hx hb dX4_puts_17 ?_
  refine g_addN (a := ln) (b := 1) ?_
  refine g_put (ws' := (mo, .inr (4, [.ref ag, .ref ab, .ref ah, .int ch, .ref asv, .int hs, .ref ai, .int ty, .int wy, .int wd, .ref al, .int (nI (ln + 1)), .int pl, .int iw, .ref at_])) :: (al, .inl (dA 1, 40, .inl (upd lf ln (vp_nar .char ((v.toUInt32 % 65536).toInt32))))) :: R) X cfX4 hw 0 11 rfl rfl q1845 rfl rfl rfl rfl rfl rfl dX4_puts_18 (fun H locs hw => ?_)
  exact g_vret () X hw hr hlocks trivial rfl dX4_puts_21
