set_option maxHeartbeats 4000000 in
theorem m_X8_copy (l : Launch) (D : va_G) (dA : Nat → ClassId) (A : Nat → Prop) (E : State → Prop) (hE : gSt A E) (R : va_W) (ky ka : Nat) (kn kc ku : Int32) (kf : gG) (hku : ku = 0 ∨ ku = 1) : Met l yX8_copy (ws_ yX8_copy cX8_copy 2 (Option.some (FieldType.object "GargoyleCopyists$Copy"))) ({ frames := 2, cells := 2, slots := 14, locals := 40 }) (va_Pc [.ref ky] (gB D dA A E ((ky, .inr (8, [.int kn, .int kc, .ref ka, .int ku])) :: (ka, .inl (dA 0, 10, .inl kf)) :: R))) (va_Qr (fun (u : Nat) => True) (fun u a => gE D A ((a, .inr (8, [.int kn, .int kc, .ref u, .int ku])) :: (u, .inl (dA 0, 10, .inl kf)) :: (ky, .inr (8, [.int kn, .int kc, .ref ka, .int ku])) :: (ka, .inl (dA 0, 10, .inl kf)) :: R)) A) (2) (14) A := by
  refine g_start rfl rfl ?_
  intro p e s m args below meth c ls X hr hlocks hin hw hl
  have hx := X.1.1
  have hb := X.1.2.1
  have hl : lv_has ls 2 [(0, .ref ky)] := hl
  refine g_new (fs := [.int 0, .int 0, .null, .int 0]) X cfX8 hw q660 q661 q90 (fun j hj => by rcases (show j = 0 ∨ j = 1 ∨ j = 2 ∨ j = 3 by omega) with rfl | rfl | rfl | rfl <;> rfl) (Nat.le_of_ble_eq_true rfl) (Nat.le_of_ble_eq_true rfl) dX8_copy_0 (fun q_1 H hw => ?_)
  refine lv_dup hx hb dX8_copy_3 rfl ?_
  refine lv_aload_n hx hb dX8_copy_4 rfl (lv_at hl 0 rfl) ?_
  refine g_get X cfX8 hw 1 0 rfl rfl q666 rfl rfl dX8_copy_5 ?_
  refine lv_aload_n hx hb dX8_copy_8 rfl (lv_at hl 0 rfl) ?_
  refine g_get X cfX8 hw 1 1 rfl rfl q667 rfl rfl dX8_copy_9 ?_
  refine va_callv (va_runI (As := [.int kn, .int kc]) (rest := [.ref q_1]) X.1 (m_X8_init l D dA A E hE ((ky, .inr (8, [.int kn, .int kc, .ref ka, .int ku])) :: (ka, .inl (dA 0, 10, .inl kf)) :: R) q_1 kn kc) (cwI 2 X.1.2.2.2.2 (lw_meth q664) rfl rfl rfl (X.1.2.2.2.2 _ q90) (X.1.2.2.2.2 _ q662) (X.1.2.2.2.2 _ q663) rfl (by decide +kernel) ⟨Nat.le_of_ble_eq_true rfl, Nat.le_of_ble_eq_true rfl⟩) (g_preS hE X.2 hw) rfl rfl hl.1 rfl (lv_room (Nat.le_of_ble_eq_true rfl)) dX8_copy_12 ⟨Nat.le_of_ble_eq_true rfl, Nat.le_of_ble_eq_true rfl⟩) hw.2.2 (fun q _ h => h) (fun q h => h) (fun u t H locs ht hvm h_2 hB hz9 hk9 hS => ?_)
  obtain ⟨u_3, rfl⟩ : ∃ z, z = u := ⟨_, rfl⟩
  have hw : gW D A ((q_1, .inr (8, [.int kn, .int kc, .ref u_3, .int 0])) :: (u_3, .inl (dA 0, 10, .inl (fun _ => -1))) :: (ky, .inr (8, [.int kn, .int kc, .ref ka, .int ku])) :: (ka, .inl (dA 0, 10, .inl kf)) :: R) s H locs := g_aft ht hB hS
  refine lv_astore_n (lv' := [(1, .ref q_1), (0, .ref ky)]) hx hb dX8_copy_15 rfl hl (by decide) rfl (fun ls hl => ?_)
  refine lv_aload_n hx hb dX8_copy_16 rfl (lv_at hl 1 rfl) ?_
  refine g_get X cfX8 hw 2 2 rfl rfl q670 rfl rfl dX8_copy_17 ?_
  refine lv_iconst (v := 0) hx hb dX8_copy_20 (by decide) ?_
  refine lv_aload_n hx hb dX8_copy_21 rfl (lv_at hl 0 rfl) ?_
  refine g_get X cfX8 hw 0 2 rfl rfl q670 rfl rfl dX8_copy_22 ?_
  refine lv_iconst (v := 0) hx hb dX8_copy_25 (by decide) ?_
  refine lv_bipush (v := 10) hx hb dX8_copy_26 (by decide) ?_
  refine g_copyI (ws' := (q_1, .inr (8, [.int kn, .int kc, .ref u_3, .int 0])) :: (u_3, .inl (dA 0, 10, .inl (va_cpy kf (fun _ => -1) 0 0 10))) :: (ky, .inr (8, [.int kn, .int kc, .ref ka, .int ku])) :: (ka, .inl (dA 0, 10, .inl kf)) :: R) X hl.1 hw q683 q268 q267 q74 (gT0.of X.2.1 0 rfl (hw.1 3 _ rfl)) 1 rfl (sp := 0) (dp := 0) (n := 10) (by omega) (by omega) (by first | decide | omega) (by first | decide | omega) (Nat.le_of_ble_eq_true rfl) (by first | decide +kernel | (dsimp only; decide +kernel)) rfl dX8_copy_28 (fun H locs hw => ?_)
  have hw : gW D A ((q_1, .inr (8, [.int kn, .int kc, .ref u_3, .int 0])) :: (u_3, .inl (dA 0, 10, .inl kf)) :: (ky, .inr (8, [.int kn, .int kc, .ref ka, .int ku])) :: (ka, .inl (dA 0, 10, .inl kf)) :: R) s _ _ := g_arr hw 1 kf rfl cpy10 rfl
  refine lv_aload_n hx hb dX8_copy_31 rfl (lv_at hl 0 rfl) ?_
  refine lv_aload_n hx hb dX8_copy_32 rfl (lv_at hl 1 rfl) ?_
  refine g_get X cfX8 hw 2 3 rfl rfl q672 rfl rfl dX8_copy_33 ?_
  refine g_put (ws' := (q_1, .inr (8, [.int kn, .int kc, .ref u_3, .int ku])) :: (u_3, .inl (dA 0, 10, .inl kf)) :: (ky, .inr (8, [.int kn, .int kc, .ref ka, .int ku])) :: (ka, .inl (dA 0, 10, .inl kf)) :: R) X cfX8 hw 0 3 rfl rfl q672 rfl rfl (g_narZ (by first | assumption | exact bZ_01 _)) (g_fitZ (by first | assumption | exact bZ_01 _)) rfl rfl dX8_copy_36 (fun H locs hw => ?_)
  refine lv_aload_n hx hb dX8_copy_39 rfl (lv_at hl 0 rfl) ?_
  exact g_aret u_3 X hw hr (Or.inl ⟨_, rfl⟩) hlocks trivial rfl dX8_copy_40

set_option maxHeartbeats 4000000 in
theorem m_X10_difference (l : Launch) (D : va_G) (dA : Nat → ClassId) (A : Nat → Prop) (E : State → Prop) (hE : gSt A E) (R : va_W) (ky ka : Nat) (kn kc ku : Int32) (kf : gG) (co ca : Nat) (le ho cn : Int32) (df : gG) (q : Nat) (hq : q < 10) : Met l yX10_difference (ws_ yX10_difference cX10_difference 3 (Option.some FieldType.int)) ({ frames := 1, cells := 0, slots := 0, locals := 21 }) (va_Pc [.ref ky, .ref co, .int (nI q)] (gB D dA A E ((ky, .inr (8, [.int kn, .int kc, .ref ka, .int ku])) :: (ka, .inl (dA 0, 10, .inl kf)) :: (co, .inr (6, [.int le, .ref ca, .int ho, .int cn])) :: (ca, .inl (dA 0, 10, .inl df)) :: R))) (va_Qi (fun (r : Int32) (_ : Unit) => r = kf q - df q) (fun _ => gE D A ((ky, .inr (8, [.int kn, .int kc, .ref ka, .int ku])) :: (ka, .inl (dA 0, 10, .inl kf)) :: (co, .inr (6, [.int le, .ref ca, .int ho, .int cn])) :: (ca, .inl (dA 0, 10, .inl df)) :: R)) A) (0) (0) A := by
  refine g_start rfl rfl ?_
  intro p e s m args below meth c ls X hr hlocks hin hw hl
  have hx := X.1.1
  have hb := X.1.2.1
  have hl : lv_has ls 3 [(0, .ref ky), (1, .ref co), (2, .int (nI q))] := hl
  refine lv_aload_n hx hb dX10_difference_0 rfl (lv_at hl 0 rfl) ?_
  refine lv_iload_n hx hb dX10_difference_1 rfl (lv_at hl 2 rfl) ?_
  refine va_callFi (va_runF (g_cat X.2.1 8 rfl) (As := [.int (nI q)]) (rest := []) X.1 (m_X8_depth l D dA A E hE ((co, .inr (6, [.int le, .ref ca, .int ho, .int cn])) :: (ca, .inl (dA 0, 10, .inl df)) :: R) ky ka kn kc ku kf q (by first | assumption | omega)) (va_cwF 1 X.1.2.2.2.2 (lw_app (lw_in4 q934 q598 q600 q90) (lw_meth q602)) rfl rfl rfl (X.2.2.1.fw 2 rfl) (by decide +kernel) ⟨Nat.le_of_ble_eq_true rfl, Nat.le_of_ble_eq_true rfl⟩) (g_preV hE X.2 hw 0 rfl rfl) rfl rfl hl.1 rfl (lv_room (Nat.le_of_ble_eq_true rfl)) dX10_difference_2 ⟨Nat.le_of_ble_eq_true rfl, Nat.le_of_ble_eq_true rfl⟩) hw.2.2 (fun q _ h => h) (fun q h => h) (fun r_2 u t H locs ht hvm h_1 hB hz9 hk9 hS => ?_)
  have hw : gW D A ((ky, .inr (8, [.int kn, .int kc, .ref ka, .int ku])) :: (ka, .inl (dA 0, 10, .inl kf)) :: (co, .inr (6, [.int le, .ref ca, .int ho, .int cn])) :: (ca, .inl (dA 0, 10, .inl df)) :: R) s H locs := g_aft ht hB hS
  obtain rfl : r_2 = kf q := h_1
  refine lv_aload_n hx hb dX10_difference_7 rfl (lv_at hl 1 rfl) ?_
  refine lv_iload_n hx hb dX10_difference_8 rfl (lv_at hl 2 rfl) ?_
  have hw : gW D A ((co, .inr (6, [.int le, .ref ca, .int ho, .int cn])) :: (ca, .inl (dA 0, 10, .inl df)) :: (ky, .inr (8, [.int kn, .int kc, .ref ka, .int ku])) :: (ka, .inl (dA 0, 10, .inl kf)) :: R) s _ _ := g_perm (X := [(ky, .inr (8, [.int kn, .int kc, .ref ka, .int ku])), (ka, .inl (dA 0, 10, .inl kf)), (co, .inr (6, [.int le, .ref ca, .int ho, .int cn])), (ca, .inl (dA 0, 10, .inl df))]) (cx := [(co, .inr (6, [.int le, .ref ca, .int ho, .int cn])), (ca, .inl (dA 0, 10, .inl df)), (ky, .inr (8, [.int kn, .int kc, .ref ka, .int ku])), (ka, .inl (dA 0, 10, .inl kf))]) (pl := R) hw [2, 3, 0, 1] rfl rfl rfl rfl
  refine va_callFi (va_runF (g_cat X.2.1 6 rfl) (As := [.int (nI q)]) (rest := [.int (kf q)]) X.1 (m_X6_depth l D dA A E hE ((ky, .inr (8, [.int kn, .int kc, .ref ka, .int ku])) :: (ka, .inl (dA 0, 10, .inl kf)) :: R) co ca le ho cn df q (by first | assumption | omega)) (va_cwF 1 X.1.2.2.2.2 (lw_app (lw_in4 q934 q592 q594 q88) (lw_meth q596)) rfl rfl rfl (X.2.2.1.fw 1 rfl) (by decide +kernel) ⟨Nat.le_of_ble_eq_true rfl, Nat.le_of_ble_eq_true rfl⟩) (g_preV hE X.2 hw 0 rfl rfl) rfl rfl hl.1 rfl (lv_room (Nat.le_of_ble_eq_true rfl)) dX10_difference_9 ⟨Nat.le_of_ble_eq_true rfl, Nat.le_of_ble_eq_true rfl⟩) hw.2.2 (fun q _ h => h) (fun q h => h) (fun r_4 u t H locs ht hvm h_3 hB hz9 hk9 hS => ?_)
  have hw : gW D A ((co, .inr (6, [.int le, .ref ca, .int ho, .int cn])) :: (ca, .inl (dA 0, 10, .inl df)) :: (ky, .inr (8, [.int kn, .int kc, .ref ka, .int ku])) :: (ka, .inl (dA 0, 10, .inl kf)) :: R) s H locs := g_aft ht hB hS
  obtain rfl : r_4 = df q := h_3
  refine lv_isub hx hb dX10_difference_14 ?_
  have hw : gW D A ((ky, .inr (8, [.int kn, .int kc, .ref ka, .int ku])) :: (ka, .inl (dA 0, 10, .inl kf)) :: (co, .inr (6, [.int le, .ref ca, .int ho, .int cn])) :: (ca, .inl (dA 0, 10, .inl df)) :: R) s _ _ := g_perm (X := [(co, .inr (6, [.int le, .ref ca, .int ho, .int cn])), (ca, .inl (dA 0, 10, .inl df)), (ky, .inr (8, [.int kn, .int kc, .ref ka, .int ku])), (ka, .inl (dA 0, 10, .inl kf))]) (cx := [(ky, .inr (8, [.int kn, .int kc, .ref ka, .int ku])), (ka, .inl (dA 0, 10, .inl kf)), (co, .inr (6, [.int le, .ref ca, .int ho, .int cn])), (ca, .inl (dA 0, 10, .inl df))]) (pl := R) hw [2, 3, 0, 1] rfl rfl rfl rfl
  exact g_iret (v := (kf q) - (df q)) () X hw hr hlocks  rfl rfl dX10_difference_15

set_option maxHeartbeats 4000000 in
theorem m_X8_right (l : Launch) (D : va_G) (dA : Nat → ClassId) (A : Nat → Prop) (E : State → Prop) (hE : gSt A E) (R : va_W) (ky ka : Nat) (kn kc ku : Int32) (kf : gG) (co ca : Nat) (le ho cn : Int32) (df : gG)  : Met l yX8_right (ws_ yX8_right cX8_right 4 (Option.some FieldType.int)) ({ frames := 2, cells := 0, slots := 0, locals := 43 }) (va_Pc [.ref ky, .ref co] (gB D dA A E ((ky, .inr (8, [.int kn, .int kc, .ref ka, .int ku])) :: (ka, .inl (dA 0, 10, .inl kf)) :: (co, .inr (6, [.int le, .ref ca, .int ho, .int cn])) :: (ca, .inl (dA 0, 10, .inl df)) :: R))) (va_Qi (fun (r : Int32) (_ : Unit) => r = rightL kf df 10) (fun _ => gE D A ((ky, .inr (8, [.int kn, .int kc, .ref ka, .int ku])) :: (ka, .inl (dA 0, 10, .inl kf)) :: (co, .inr (6, [.int le, .ref ca, .int ho, .int cn])) :: (ca, .inl (dA 0, 10, .inl df)) :: R)) A) (0) (0) A := by
  refine g_start rfl rfl ?_
  intro p e s m args below meth c ls X hr hlocks hin hw hl
  have hx := X.1.1
  have hb := X.1.2.1
  have hl : lv_has ls 4 [(0, .ref ky), (1, .ref co)] := hl
  refine lv_iconst (v := 0) hx hb dX8_right_0 (by decide) ?_
  refine lv_istore_n (lv' := [(2, .int 0), (0, .ref ky), (1, .ref co)]) hx hb dX8_right_1 rfl hl (by decide) rfl (fun ls hl => ?_)
  refine lv_iconst (v := 0) hx hb dX8_right_2 (by decide) ?_
  refine lv_istore_n (lv' := [(3, .int 0), (2, .int 0), (0, .ref ky), (1, .ref co)]) hx hb dX8_right_3 rfl hl (by decide) rfl (fun ls hl => ?_)
  have loop_1 : ∀ (fuel : Nat) (i : Nat), ∀ (hi : i ≤ 10), (10 - i) < fuel → ∀ (H : Heap) (locs : List Loc) (hw : gW D A ((ky, .inr (8, [.int kn, .int kc, .ref ka, .int ku])) :: (ka, .inl (dA 0, 10, .inl kf)) :: (co, .inr (6, [.int le, .ref ca, .int ho, .int cn])) :: (ca, .inl (dA 0, 10, .inl df)) :: R) s H locs) (ls : Array Slot) (hl : lv_has ls 4 [(3, .int (nI i)), (2, .int (rightL kf df i)), (0, .ref ky), (1, .ref co)]), W p l e ({ frames := 2, cells := 0, slots := 0, locals := 43 }) s m args below meth c H locs (0) (0) (MQ below (va_Qi (fun (r : Int32) (_ : Unit) => r = rightL kf df 10) (fun _ => gE D A ((ky, .inr (8, [.int kn, .int kc, .ref ka, .int ku])) :: (ka, .inl (dA 0, 10, .inl kf)) :: (co, .inr (6, [.int le, .ref ca, .int ho, .int cn])) :: (ca, .inl (dA 0, 10, .inl df)) :: R)) A) args s (0) (0) A) (F0 m 4 ls []) := by
    intro fuel
    induction fuel with
    | zero => intro i hi hf; exact absurd hf (Nat.not_lt_zero _)
    | succ fuel ih_loop_1 =>
      intro i hi hfuel_loop_1 H locs hw ls hl
      refine lv_iload_n hx hb dX8_right_4 rfl (lv_at hl 0 rfl) ?_
      refine lv_bipush (v := 10) hx hb dX8_right_5 (by decide) ?_
      refine lv_icmp_ge (tgt := 41) hx hb dX8_right_7 (by decide) (fun c_2 => ?_) (fun c_2 => ?_)
      · skip
        have c_2 := Int32.not_lt.mpr c_2
        have c_2 : ¬ (i < 10) := fun q => c_2 ((nI_ltI (a := i) (b := 10) (by omega) (by omega)).mpr q)
        refine lv_iload_n hx hb dX8_right_41 rfl (lv_at hl 1 rfl) ?_
        exact g_iret (v := rightL kf df i) () X hw hr hlocks  (by exact congrArg (rightL kf df) (by omega)) rfl dX8_right_42
      · skip
        have c_2 := Int32.not_le.mp c_2
        have c_2 : i < 10 := (nI_ltI (a := i) (b := 10) (by omega) (by omega)).mp c_2
        refine lv_iload_n hx hb dX8_right_10 rfl (lv_at hl 1 rfl) ?_
        refine lv_aload_n hx hb dX8_right_11 rfl (lv_at hl 2 rfl) ?_
        refine lv_iload_n hx hb dX8_right_12 rfl (lv_at hl 0 rfl) ?_
        refine va_calli (va_runV (As := [.int (nI i)]) (rest := [.int (rightL kf df i)]) X.1 (m_X8_isCut l D dA A E hE ((co, .inr (6, [.int le, .ref ca, .int ho, .int cn])) :: (ca, .inl (dA 0, 10, .inl df)) :: R) ky ka kn kc ku kf i (by first | assumption | omega)) (cwV 1 X.1.2.2.2.2 (lw_V q924 q860 q861 q90 q862) rfl rfl rfl (by decide +kernel) ⟨Nat.le_of_ble_eq_true rfl, Nat.le_of_ble_eq_true rfl⟩) (g_preV hE X.2 hw 0 rfl rfl) rfl rfl hl.1 rfl (lv_room (Nat.le_of_ble_eq_true rfl)) dX8_right_13 ⟨Nat.le_of_ble_eq_true rfl, Nat.le_of_ble_eq_true rfl⟩) hw.2.2 (fun q _ h => h) (fun q h => h) (fun r_4 u t H locs ht hvm h_3 hB hz9 hk9 hS => ?_)
        have hw : gW D A ((ky, .inr (8, [.int kn, .int kc, .ref ka, .int ku])) :: (ka, .inl (dA 0, 10, .inl kf)) :: (co, .inr (6, [.int le, .ref ca, .int ho, .int cn])) :: (ca, .inl (dA 0, 10, .inl df)) :: R) s H locs := g_aft ht hB hS
        obtain rfl : r_4 = bZ (!decide (kf i = -1)) := h_3
        refine lv_if_eq (tgt := 32) hx hb dX8_right_16 (by decide) (fun c_5 => ?_) (fun c_5 => ?_)
        · skip
          have c_5 := bZ_0.mp c_5
          have c_5 := bnd_f c_5
          refine lv_iconst (v := 0) hx hb dX8_right_32 (by decide) ?_
          refine lv_iadd hx hb dX8_right_33 ?_
          refine lv_istore_n (lv' := [(2, .int ((rightL kf df i) + 0)), (3, .int (nI i)), (0, .ref ky), (1, .ref co)]) hx hb dX8_right_34 rfl hl (by decide) rfl (fun ls hl => ?_)
          refine lv_iinc (v := nI (i + 1)) (lv' := [(3, .int (nI (i + 1))), (2, .int ((rightL kf df i) + 0)), (0, .ref ky), (1, .ref co)]) hx hb dX8_right_35 hl (k := 1) rfl (nI_add i 1) (by decide) rfl (fun ls hl => ?_)
          refine lv_goto (tgt := 4) hx hb dX8_right_38 (by decide) ?_
          have hl : lv_has ls 4 [(3, .int (nI (i + 1))), (2, .int ((rightL kf df i) + 0)), (0, .ref ky), (1, .ref co)] := (lv_sub hl [0, 1, 2, 3] rfl)
          rw [show (rightL kf df i) + 0 = rightL kf df (i + 1) from by simp [rightL, absI, c_2, c_5]] at hl
          have hl : lv_has ls 4 [(3, .int (nI (i + 1))), (2, .int (rightL kf df (i + 1))), (0, .ref ky), (1, .ref co)] := hl
          exact ih_loop_1 (i + 1) (by first | assumption | omega) (by omega) _ _ hw _ (hl)
        · skip
          have c_5 := bZ_1 c_5
          have c_5 := bnd_t c_5
          refine lv_aload_n hx hb dX8_right_19 rfl (lv_at hl 2 rfl) ?_
          refine lv_aload_n hx hb dX8_right_20 rfl (lv_at hl 3 rfl) ?_
          refine lv_iload_n hx hb dX8_right_21 rfl (lv_at hl 0 rfl) ?_
          refine va_calli (va_runS (As := [.ref ky, .ref co, .int (nI i)]) (rest := [.int (rightL kf df i)]) X.1 (m_X10_difference l D dA A E hE R ky ka kn kc ku kf co ca le ho cn df i (by first | assumption | omega)) (va_cwS 3 X.1.2.2.2.2 (lw_S q930 q931 q92 q932) rfl rfl rfl (by decide +kernel) ⟨Nat.le_of_ble_eq_true rfl, Nat.le_of_ble_eq_true rfl⟩) (g_preS hE X.2 hw) rfl rfl hl.1 rfl (lv_room (Nat.le_of_ble_eq_true rfl)) dX8_right_22 ⟨Nat.le_of_ble_eq_true rfl, Nat.le_of_ble_eq_true rfl⟩) hw.2.2 (fun q _ h => h) (fun q h => h) (fun r_7 u t H locs ht hvm h_6 hB hz9 hk9 hS => ?_)
          have hw : gW D A ((ky, .inr (8, [.int kn, .int kc, .ref ka, .int ku])) :: (ka, .inl (dA 0, 10, .inl kf)) :: (co, .inr (6, [.int le, .ref ca, .int ho, .int cn])) :: (ca, .inl (dA 0, 10, .inl df)) :: R) s H locs := g_aft ht hB hS
          obtain rfl : r_7 = kf i - df i := h_6
          refine lv_if_ne (tgt := 32) hx hb dX8_right_25 (by decide) (fun c_8 => ?_) (fun c_8 => ?_)
          · skip
            refine lv_iconst (v := 0) hx hb dX8_right_32 (by decide) ?_
            refine lv_iadd hx hb dX8_right_33 ?_
            refine lv_istore_n (lv' := [(2, .int ((rightL kf df i) + 0)), (3, .int (nI i)), (0, .ref ky), (1, .ref co)]) hx hb dX8_right_34 rfl hl (by decide) rfl (fun ls hl => ?_)
            refine lv_iinc (v := nI (i + 1)) (lv' := [(3, .int (nI (i + 1))), (2, .int ((rightL kf df i) + 0)), (0, .ref ky), (1, .ref co)]) hx hb dX8_right_35 hl (k := 1) rfl (nI_add i 1) (by decide) rfl (fun ls hl => ?_)
            refine lv_goto (tgt := 4) hx hb dX8_right_38 (by decide) ?_
            have hl : lv_has ls 4 [(3, .int (nI (i + 1))), (2, .int ((rightL kf df i) + 0)), (0, .ref ky), (1, .ref co)] := (lv_sub hl [0, 1, 2, 3] rfl)
            rw [show (rightL kf df i) + 0 = rightL kf df (i + 1) from by simp [rightL, absI, c_2, c_5, c_8]] at hl
            have hl : lv_has ls 4 [(3, .int (nI (i + 1))), (2, .int (rightL kf df (i + 1))), (0, .ref ky), (1, .ref co)] := hl
            exact ih_loop_1 (i + 1) (by first | assumption | omega) (by omega) _ _ hw _ (hl)
          · skip
            refine lv_iconst (v := 1) hx hb dX8_right_28 (by decide) ?_
            refine lv_goto (tgt := 33) hx hb dX8_right_29 (by decide) ?_
            refine lv_iadd hx hb dX8_right_33 ?_
            refine lv_istore_n (lv' := [(2, .int ((rightL kf df i) + 1)), (3, .int (nI i)), (0, .ref ky), (1, .ref co)]) hx hb dX8_right_34 rfl hl (by decide) rfl (fun ls hl => ?_)
            refine lv_iinc (v := nI (i + 1)) (lv' := [(3, .int (nI (i + 1))), (2, .int ((rightL kf df i) + 1)), (0, .ref ky), (1, .ref co)]) hx hb dX8_right_35 hl (k := 1) rfl (nI_add i 1) (by decide) rfl (fun ls hl => ?_)
            refine lv_goto (tgt := 4) hx hb dX8_right_38 (by decide) ?_
            have hl : lv_has ls 4 [(3, .int (nI (i + 1))), (2, .int ((rightL kf df i) + 1)), (0, .ref ky), (1, .ref co)] := (lv_sub hl [0, 1, 2, 3] rfl)
            rw [show (rightL kf df i) + 1 = rightL kf df (i + 1) from by simp [rightL, absI, c_2, c_5, c_8]] at hl
            have hl : lv_has ls 4 [(3, .int (nI (i + 1))), (2, .int (rightL kf df (i + 1))), (0, .ref ky), (1, .ref co)] := hl
            exact ih_loop_1 (i + 1) (by first | assumption | omega) (by omega) _ _ hw _ (hl)
  have hl : lv_has ls 4 [(3, .int 0), (2, .int 0), (0, .ref ky), (1, .ref co)] := (lv_sub hl [0, 1, 2, 3] rfl)
  have hl : lv_has ls 4 [(3, .int 0), (2, .int (rightL kf df 0)), (0, .ref ky), (1, .ref co)] := by exact hl
  exact loop_1 ((10 - 0) + 1) 0 (by first | assumption | omega) (Nat.lt_succ_self _) _ _ hw _ (hl)

set_option maxHeartbeats 4000000 in
theorem m_X8_wrong (l : Launch) (D : va_G) (dA : Nat → ClassId) (A : Nat → Prop) (E : State → Prop) (hE : gSt A E) (R : va_W) (ky ka : Nat) (kn kc ku : Int32) (kf : gG) (co ca : Nat) (le ho cn : Int32) (df : gG)  : Met l yX8_wrong (ws_ yX8_wrong cX8_wrong 4 (Option.some FieldType.int)) ({ frames := 2, cells := 0, slots := 0, locals := 43 }) (va_Pc [.ref ky, .ref co] (gB D dA A E ((ky, .inr (8, [.int kn, .int kc, .ref ka, .int ku])) :: (ka, .inl (dA 0, 10, .inl kf)) :: (co, .inr (6, [.int le, .ref ca, .int ho, .int cn])) :: (ca, .inl (dA 0, 10, .inl df)) :: R))) (va_Qi (fun (r : Int32) (_ : Unit) => r = wrL kf df 10) (fun _ => gE D A ((ky, .inr (8, [.int kn, .int kc, .ref ka, .int ku])) :: (ka, .inl (dA 0, 10, .inl kf)) :: (co, .inr (6, [.int le, .ref ca, .int ho, .int cn])) :: (ca, .inl (dA 0, 10, .inl df)) :: R)) A) (0) (0) A := by
  refine g_start rfl rfl ?_
  intro p e s m args below meth c ls X hr hlocks hin hw hl
  have hx := X.1.1
  have hb := X.1.2.1
  have hl : lv_has ls 4 [(0, .ref ky), (1, .ref co)] := hl
  refine lv_iconst (v := 0) hx hb dX8_wrong_0 (by decide) ?_
  refine lv_istore_n (lv' := [(2, .int 0), (0, .ref ky), (1, .ref co)]) hx hb dX8_wrong_1 rfl hl (by decide) rfl (fun ls hl => ?_)
  refine lv_iconst (v := 0) hx hb dX8_wrong_2 (by decide) ?_
  refine lv_istore_n (lv' := [(3, .int 0), (2, .int 0), (0, .ref ky), (1, .ref co)]) hx hb dX8_wrong_3 rfl hl (by decide) rfl (fun ls hl => ?_)
  have loop_1 : ∀ (fuel : Nat) (i : Nat), ∀ (hi : i ≤ 10), (10 - i) < fuel → ∀ (H : Heap) (locs : List Loc) (hw : gW D A ((ky, .inr (8, [.int kn, .int kc, .ref ka, .int ku])) :: (ka, .inl (dA 0, 10, .inl kf)) :: (co, .inr (6, [.int le, .ref ca, .int ho, .int cn])) :: (ca, .inl (dA 0, 10, .inl df)) :: R) s H locs) (ls : Array Slot) (hl : lv_has ls 4 [(3, .int (nI i)), (2, .int (wrL kf df i)), (0, .ref ky), (1, .ref co)]), W p l e ({ frames := 2, cells := 0, slots := 0, locals := 43 }) s m args below meth c H locs (0) (0) (MQ below (va_Qi (fun (r : Int32) (_ : Unit) => r = wrL kf df 10) (fun _ => gE D A ((ky, .inr (8, [.int kn, .int kc, .ref ka, .int ku])) :: (ka, .inl (dA 0, 10, .inl kf)) :: (co, .inr (6, [.int le, .ref ca, .int ho, .int cn])) :: (ca, .inl (dA 0, 10, .inl df)) :: R)) A) args s (0) (0) A) (F0 m 4 ls []) := by
    intro fuel
    induction fuel with
    | zero => intro i hi hf; exact absurd hf (Nat.not_lt_zero _)
    | succ fuel ih_loop_1 =>
      intro i hi hfuel_loop_1 H locs hw ls hl
      refine lv_iload_n hx hb dX8_wrong_4 rfl (lv_at hl 0 rfl) ?_
      refine lv_bipush (v := 10) hx hb dX8_wrong_5 (by decide) ?_
      refine lv_icmp_ge (tgt := 40) hx hb dX8_wrong_7 (by decide) (fun c_2 => ?_) (fun c_2 => ?_)
      · skip
        have c_2 := Int32.not_lt.mpr c_2
        have c_2 : ¬ (i < 10) := fun q => c_2 ((nI_ltI (a := i) (b := 10) (by omega) (by omega)).mpr q)
        refine lv_iload_n hx hb dX8_wrong_40 rfl (lv_at hl 1 rfl) ?_
        exact g_iret (v := wrL kf df i) () X hw hr hlocks  (by exact congrArg (wrL kf df) (by omega)) rfl dX8_wrong_41
      · skip
        have c_2 := Int32.not_le.mp c_2
        have c_2 : i < 10 := (nI_ltI (a := i) (b := 10) (by omega) (by omega)).mp c_2
        refine lv_iload_n hx hb dX8_wrong_10 rfl (lv_at hl 1 rfl) ?_
        refine lv_aload_n hx hb dX8_wrong_11 rfl (lv_at hl 2 rfl) ?_
        refine lv_iload_n hx hb dX8_wrong_12 rfl (lv_at hl 0 rfl) ?_
        refine va_calli (va_runV (As := [.int (nI i)]) (rest := [.int (wrL kf df i)]) X.1 (m_X8_isCut l D dA A E hE ((co, .inr (6, [.int le, .ref ca, .int ho, .int cn])) :: (ca, .inl (dA 0, 10, .inl df)) :: R) ky ka kn kc ku kf i (by first | assumption | omega)) (cwV 1 X.1.2.2.2.2 (lw_V q924 q860 q861 q90 q862) rfl rfl rfl (by decide +kernel) ⟨Nat.le_of_ble_eq_true rfl, Nat.le_of_ble_eq_true rfl⟩) (g_preV hE X.2 hw 0 rfl rfl) rfl rfl hl.1 rfl (lv_room (Nat.le_of_ble_eq_true rfl)) dX8_wrong_13 ⟨Nat.le_of_ble_eq_true rfl, Nat.le_of_ble_eq_true rfl⟩) hw.2.2 (fun q _ h => h) (fun q h => h) (fun r_4 u t H locs ht hvm h_3 hB hz9 hk9 hS => ?_)
        have hw : gW D A ((ky, .inr (8, [.int kn, .int kc, .ref ka, .int ku])) :: (ka, .inl (dA 0, 10, .inl kf)) :: (co, .inr (6, [.int le, .ref ca, .int ho, .int cn])) :: (ca, .inl (dA 0, 10, .inl df)) :: R) s H locs := g_aft ht hB hS
        obtain rfl : r_4 = bZ (!decide (kf i = -1)) := h_3
        refine lv_if_eq (tgt := 31) hx hb dX8_wrong_16 (by decide) (fun c_5 => ?_) (fun c_5 => ?_)
        · skip
          have c_5 := bZ_0.mp c_5
          have c_5 := bnd_f c_5
          refine lv_iconst (v := 0) hx hb dX8_wrong_31 (by decide) ?_
          refine lv_iadd hx hb dX8_wrong_32 ?_
          refine lv_istore_n (lv' := [(2, .int ((wrL kf df i) + 0)), (3, .int (nI i)), (0, .ref ky), (1, .ref co)]) hx hb dX8_wrong_33 rfl hl (by decide) rfl (fun ls hl => ?_)
          refine lv_iinc (v := nI (i + 1)) (lv' := [(3, .int (nI (i + 1))), (2, .int ((wrL kf df i) + 0)), (0, .ref ky), (1, .ref co)]) hx hb dX8_wrong_34 hl (k := 1) rfl (nI_add i 1) (by decide) rfl (fun ls hl => ?_)
          refine lv_goto (tgt := 4) hx hb dX8_wrong_37 (by decide) ?_
          have hl : lv_has ls 4 [(3, .int (nI (i + 1))), (2, .int ((wrL kf df i) + 0)), (0, .ref ky), (1, .ref co)] := (lv_sub hl [0, 1, 2, 3] rfl)
          rw [show (wrL kf df i) + 0 = wrL kf df (i + 1) from by simp [wrL, absI, c_2, c_5]] at hl
          have hl : lv_has ls 4 [(3, .int (nI (i + 1))), (2, .int (wrL kf df (i + 1))), (0, .ref ky), (1, .ref co)] := hl
          exact ih_loop_1 (i + 1) (by first | assumption | omega) (by omega) _ _ hw _ (hl)
        · skip
          have c_5 := bZ_1 c_5
          have c_5 := bnd_t c_5
          refine lv_aload_n hx hb dX8_wrong_19 rfl (lv_at hl 2 rfl) ?_
          refine lv_aload_n hx hb dX8_wrong_20 rfl (lv_at hl 3 rfl) ?_
          refine lv_iload_n hx hb dX8_wrong_21 rfl (lv_at hl 0 rfl) ?_
          refine va_calli (va_runS (As := [.ref ky, .ref co, .int (nI i)]) (rest := [.int (wrL kf df i)]) X.1 (m_X10_difference l D dA A E hE R ky ka kn kc ku kf co ca le ho cn df i (by first | assumption | omega)) (va_cwS 3 X.1.2.2.2.2 (lw_S q930 q931 q92 q932) rfl rfl rfl (by decide +kernel) ⟨Nat.le_of_ble_eq_true rfl, Nat.le_of_ble_eq_true rfl⟩) (g_preS hE X.2 hw) rfl rfl hl.1 rfl (lv_room (Nat.le_of_ble_eq_true rfl)) dX8_wrong_22 ⟨Nat.le_of_ble_eq_true rfl, Nat.le_of_ble_eq_true rfl⟩) hw.2.2 (fun q _ h => h) (fun q h => h) (fun r_7 u t H locs ht hvm h_6 hB hz9 hk9 hS => ?_)
          have hw : gW D A ((ky, .inr (8, [.int kn, .int kc, .ref ka, .int ku])) :: (ka, .inl (dA 0, 10, .inl kf)) :: (co, .inr (6, [.int le, .ref ca, .int ho, .int cn])) :: (ca, .inl (dA 0, 10, .inl df)) :: R) s H locs := g_aft ht hB hS
          obtain rfl : r_7 = kf i - df i := h_6
          refine va_mabs hx hb (by rw [X.1.2.2.1, hl.1]) X.1.2.2.2.1 (X.1.2.2.2.2 _ q960) (X.1.2.2.2.2 _ q892) (X.1.2.2.2.2 _ q72) (X.1.2.2.2.2 _ q893) (Nat.le_of_ble_eq_true rfl) (Nat.le_of_ble_eq_true rfl) (by first | exact Nat.le_of_ble_eq_true rfl | (dsimp only; omega)) (by first | exact Nat.le_of_ble_eq_true rfl | (dsimp only; omega)) dX8_wrong_25 ?_
          refine lv_goto (tgt := 32) hx hb dX8_wrong_28 (by decide) ?_
          refine lv_iadd hx hb dX8_wrong_32 ?_
          refine lv_istore_n (lv' := [(2, .int ((wrL kf df i) + (if 0 ≤ (kf i - df i) then kf i - df i else 0 - (kf i - df i)))), (3, .int (nI i)), (0, .ref ky), (1, .ref co)]) hx hb dX8_wrong_33 rfl hl (by decide) rfl (fun ls hl => ?_)
          refine lv_iinc (v := nI (i + 1)) (lv' := [(3, .int (nI (i + 1))), (2, .int ((wrL kf df i) + (if 0 ≤ (kf i - df i) then kf i - df i else 0 - (kf i - df i)))), (0, .ref ky), (1, .ref co)]) hx hb dX8_wrong_34 hl (k := 1) rfl (nI_add i 1) (by decide) rfl (fun ls hl => ?_)
          refine lv_goto (tgt := 4) hx hb dX8_wrong_37 (by decide) ?_
          have hl : lv_has ls 4 [(3, .int (nI (i + 1))), (2, .int ((wrL kf df i) + (if 0 ≤ (kf i - df i) then kf i - df i else 0 - (kf i - df i)))), (0, .ref ky), (1, .ref co)] := (lv_sub hl [0, 1, 2, 3] rfl)
          rw [show (wrL kf df i) + (if 0 ≤ (kf i - df i) then kf i - df i else 0 - (kf i - df i)) = wrL kf df (i + 1) from by simp [wrL, absI, c_2, c_5]] at hl
          have hl : lv_has ls 4 [(3, .int (nI (i + 1))), (2, .int (wrL kf df (i + 1))), (0, .ref ky), (1, .ref co)] := hl
          exact ih_loop_1 (i + 1) (by first | assumption | omega) (by omega) _ _ hw _ (hl)
  have hl : lv_has ls 4 [(3, .int 0), (2, .int 0), (0, .ref ky), (1, .ref co)] := (lv_sub hl [0, 1, 2, 3] rfl)
  have hl : lv_has ls 4 [(3, .int 0), (2, .int (wrL kf df 0)), (0, .ref ky), (1, .ref co)] := by exact hl
  exact loop_1 ((10 - 0) + 1) 0 (by first | assumption | omega) (Nat.lt_succ_self _) _ _ hw _ (hl)

set_option maxHeartbeats 4000000 in
theorem m_X11_init (l : Launch) (D : va_G) (dA : Nat → ClassId) (A : Nat → Prop) (E : State → Prop) (hE : gSt A E) (R : va_W) (bo ky : Nat) : Met l yX11_init (ws_ yX11_init cX11_init 2 (Option.none : Option FieldType)) ({ frames := 1, cells := 0, slots := 0, locals := 12 }) (va_Pc [.ref bo, .ref ky] (gB D dA A E ((bo, .inr (10, [.int 0, .int 0, .null])) :: R))) (va_Qv (fun (_ : Unit) => True) (fun _ => gE D A ((bo, .inr (10, [.int 0, .int 0, .ref ky])) :: R)) A) (0) (0) A := by
  refine g_start rfl rfl ?_
  intro p e s m args below meth c ls X hr hlocks hin hw hl
  have hx := X.1.1
  have hb := X.1.2.1
  have hl : lv_has ls 2 [(0, .ref bo), (1, .ref ky)] := hl
  refine lv_aload_n hx hb dX11_init_0 rfl (lv_at hl 0 rfl) ?_
  refine lv_aload_n hx hb dX11_init_1 rfl (lv_at hl 1 rfl) ?_
  refine g_putF (ws' := (bo, .inr (10, [.int 0, .int 0, .ref ky])) :: R) X (hin rfl) cfX11 hw 0 2 rfl rfl q979 rfl rfl rfl rfl rfl rfl rfl dX11_init_2 (fun H locs hw => ?_)
  refine lv_aload_n hx hb dX11_init_5 rfl (lv_at hl 0 rfl) ?_
  refine W.objInit hx hb X.1.2.2.2.1 (X.1.2.2.2.2 _ q974) (X.1.2.2.2.2 _ q109) (X.1.2.2.2.2 _ q110) rfl (by rw [X.1.2.2.1]; exact hl.1) rfl dX11_init_6 (Nat.le_of_ble_eq_true rfl) (Nat.le_of_ble_eq_true rfl) ?_
  refine W.eq (g2 := F0 m 9 ls []) rfl ?_
  exact g_vret () X hw hr hlocks trivial rfl dX11_init_9

set_option maxHeartbeats 4000000 in
theorem m_X11_takes (l : Launch) (D : va_G) (dA : Nat → ClassId) (A : Nat → Prop) (E : State → Prop) (hE : gSt A E) (R : va_W) (bo ky : Nat) (bg bm x : Int32) : Met l yX11_takes (ws_ yX11_takes cX11_takes 2 (Option.none : Option FieldType)) ({ frames := 0, cells := 0, slots := 0, locals := 0 }) (va_Pc [.ref bo, .int x] (gB D dA A E ((bo, .inr (10, [.int bg, .int bm, .ref ky])) :: R))) (va_Qv (fun (_ : Unit) => True) (fun _ => gE D A ((bo, .inr (10, [.int (bg + (if 0 < x then x else 0)), .int (bm + (if x < 0 then x else 0)), .ref ky])) :: R)) A) (0) (0) A := by
  refine g_start rfl rfl ?_
  intro p e s m args below meth c ls X hr hlocks hin hw hl
  have hx := X.1.1
  have hb := X.1.2.1
  have hl : lv_has ls 2 [(0, .ref bo), (1, .int x)] := hl
  refine lv_aload_n hx hb dX11_takes_0 rfl (lv_at hl 0 rfl) ?_
  refine lv_dup hx hb dX11_takes_1 rfl ?_
  refine g_get X cfX11 hw 0 0 rfl rfl q975 rfl rfl dX11_takes_2 ?_
  refine lv_iload_n hx hb dX11_takes_5 rfl (lv_at hl 1 rfl) ?_
  refine lv_if_le (tgt := 13) hx hb dX11_takes_6 (by decide) (fun c_1 => ?_) (fun c_1 => ?_)
  · skip
    have c_1 := Int32.not_lt.mpr c_1
    refine lv_iconst (v := 0) hx hb dX11_takes_13 (by decide) ?_
    refine lv_iadd hx hb dX11_takes_14 ?_
    refine g_put (ws' := (bo, .inr (10, [.int (bg + 0), .int bm, .ref ky])) :: R) X cfX11 hw 0 0 rfl rfl q975 rfl rfl rfl rfl rfl rfl dX11_takes_15 (fun H locs hw => ?_)
    refine lv_aload_n hx hb dX11_takes_18 rfl (lv_at hl 0 rfl) ?_
    refine lv_dup hx hb dX11_takes_19 rfl ?_
    refine g_get X cfX11 hw 0 1 rfl rfl q977 rfl rfl dX11_takes_20 ?_
    refine lv_iload_n hx hb dX11_takes_23 rfl (lv_at hl 1 rfl) ?_
    refine lv_if_ge (tgt := 31) hx hb dX11_takes_24 (by decide) (fun c_2 => ?_) (fun c_2 => ?_)
    · skip
      have c_2 := Int32.not_lt.mpr c_2
      refine lv_iconst (v := 0) hx hb dX11_takes_31 (by decide) ?_
      refine lv_iadd hx hb dX11_takes_32 ?_
      refine g_put (ws' := (bo, .inr (10, [.int (bg + 0), .int (bm + 0), .ref ky])) :: R) X cfX11 hw 0 1 rfl rfl q977 rfl rfl rfl rfl rfl rfl dX11_takes_33 (fun H locs hw => ?_)
      exact g_vret () X hw hr hlocks trivial (by simp [c_1, c_2]) dX11_takes_36
    · skip
      have c_2 := Int32.not_le.mp c_2
      refine lv_iload_n hx hb dX11_takes_27 rfl (lv_at hl 1 rfl) ?_
      refine lv_goto (tgt := 32) hx hb dX11_takes_28 (by decide) ?_
      refine lv_iadd hx hb dX11_takes_32 ?_
      refine g_put (ws' := (bo, .inr (10, [.int (bg + 0), .int (bm + x), .ref ky])) :: R) X cfX11 hw 0 1 rfl rfl q977 rfl rfl rfl rfl rfl rfl dX11_takes_33 (fun H locs hw => ?_)
      exact g_vret () X hw hr hlocks trivial (by simp [c_1, c_2]) dX11_takes_36
  · skip
    have c_1 := Int32.not_le.mp c_1
    refine lv_iload_n hx hb dX11_takes_9 rfl (lv_at hl 1 rfl) ?_
    refine lv_goto (tgt := 14) hx hb dX11_takes_10 (by decide) ?_
    refine lv_iadd hx hb dX11_takes_14 ?_
    refine g_put (ws' := (bo, .inr (10, [.int (bg + x), .int bm, .ref ky])) :: R) X cfX11 hw 0 0 rfl rfl q975 rfl rfl rfl rfl rfl rfl dX11_takes_15 (fun H locs hw => ?_)
    refine lv_aload_n hx hb dX11_takes_18 rfl (lv_at hl 0 rfl) ?_
    refine lv_dup hx hb dX11_takes_19 rfl ?_
    refine g_get X cfX11 hw 0 1 rfl rfl q977 rfl rfl dX11_takes_20 ?_
    refine lv_iload_n hx hb dX11_takes_23 rfl (lv_at hl 1 rfl) ?_
    refine lv_if_ge (tgt := 31) hx hb dX11_takes_24 (by decide) (fun c_3 => ?_) (fun c_3 => ?_)
    · skip
      have c_3 := Int32.not_lt.mpr c_3
      refine lv_iconst (v := 0) hx hb dX11_takes_31 (by decide) ?_
      refine lv_iadd hx hb dX11_takes_32 ?_
      refine g_put (ws' := (bo, .inr (10, [.int (bg + x), .int (bm + 0), .ref ky])) :: R) X cfX11 hw 0 1 rfl rfl q977 rfl rfl rfl rfl rfl rfl dX11_takes_33 (fun H locs hw => ?_)
      exact g_vret () X hw hr hlocks trivial (by simp [c_1, c_3]) dX11_takes_36
    · skip
      have c_3 := Int32.not_le.mp c_3
      refine lv_iload_n hx hb dX11_takes_27 rfl (lv_at hl 1 rfl) ?_
      refine lv_goto (tgt := 32) hx hb dX11_takes_28 (by decide) ?_
      refine lv_iadd hx hb dX11_takes_32 ?_
      refine g_put (ws' := (bo, .inr (10, [.int (bg + x), .int (bm + x), .ref ky])) :: R) X cfX11 hw 0 1 rfl rfl q977 rfl rfl rfl rfl rfl rfl dX11_takes_33 (fun H locs hw => ?_)
      exact g_vret () X hw hr hlocks trivial (by simp [c_1, c_3]) dX11_takes_36

set_option maxHeartbeats 4000000 in
theorem m_X10_sum (l : Launch) (D : va_G) (dA : Nat → ClassId) (A : Nat → Prop) (E : State → Prop) (hE : gSt A E) (R : va_W) (ky ka : Nat) (kn kc ku : Int32) (kf : gG)  : Met l yX10_sum (ws_ yX10_sum cX10_sum 3 (Option.some FieldType.int)) ({ frames := 1, cells := 0, slots := 0, locals := 21 }) (va_Pc [.ref ky] (gB D dA A E ((ky, .inr (8, [.int kn, .int kc, .ref ka, .int ku])) :: (ka, .inl (dA 0, 10, .inl kf)) :: R))) (va_Qi (fun (r : Int32) (_ : Unit) => r = sumP kf 10) (fun _ => gE D A ((ky, .inr (8, [.int kn, .int kc, .ref ka, .int ku])) :: (ka, .inl (dA 0, 10, .inl kf)) :: R)) A) (0) (0) A := by
  refine g_start rfl rfl ?_
  intro p e s m args below meth c ls X hr hlocks hin hw hl
  have hx := X.1.1
  have hb := X.1.2.1
  have hl : lv_has ls 3 [(0, .ref ky)] := hl
  refine lv_iconst (v := 0) hx hb dX10_sum_0 (by decide) ?_
  refine lv_istore_n (lv' := [(1, .int 0), (0, .ref ky)]) hx hb dX10_sum_1 rfl hl (by decide) rfl (fun ls hl => ?_)
  refine lv_iconst (v := 0) hx hb dX10_sum_2 (by decide) ?_
  refine lv_istore_n (lv' := [(2, .int 0), (1, .int 0), (0, .ref ky)]) hx hb dX10_sum_3 rfl hl (by decide) rfl (fun ls hl => ?_)
  have loop_1 : ∀ (fuel : Nat) (i : Nat), ∀ (hi : i ≤ 10), (10 - i) < fuel → ∀ (H : Heap) (locs : List Loc) (hw : gW D A ((ky, .inr (8, [.int kn, .int kc, .ref ka, .int ku])) :: (ka, .inl (dA 0, 10, .inl kf)) :: R) s H locs) (ls : Array Slot) (hl : lv_has ls 3 [(2, .int (nI i)), (1, .int (sumP kf i)), (0, .ref ky)]), W p l e ({ frames := 1, cells := 0, slots := 0, locals := 21 }) s m args below meth c H locs (0) (0) (MQ below (va_Qi (fun (r : Int32) (_ : Unit) => r = sumP kf 10) (fun _ => gE D A ((ky, .inr (8, [.int kn, .int kc, .ref ka, .int ku])) :: (ka, .inl (dA 0, 10, .inl kf)) :: R)) A) args s (0) (0) A) (F0 m 4 ls []) := by
    intro fuel
    induction fuel with
    | zero => intro i hi hf; exact absurd hf (Nat.not_lt_zero _)
    | succ fuel ih_loop_1 =>
      intro i hi hfuel_loop_1 H locs hw ls hl
      refine lv_iload_n hx hb dX10_sum_4 rfl (lv_at hl 0 rfl) ?_
      refine lv_bipush (v := 10) hx hb dX10_sum_5 (by decide) ?_
      refine lv_icmp_ge (tgt := 30) hx hb dX10_sum_7 (by decide) (fun c_2 => ?_) (fun c_2 => ?_)
      · skip
        have c_2 := Int32.not_lt.mpr c_2
        have c_2 : ¬ (i < 10) := fun q => c_2 ((nI_ltI (a := i) (b := 10) (by omega) (by omega)).mpr q)
        refine lv_iload_n hx hb dX10_sum_30 rfl (lv_at hl 1 rfl) ?_
        exact g_iret (v := sumP kf i) () X hw hr hlocks  (by exact congrArg (sumP kf) (by omega)) rfl dX10_sum_31
      · skip
        have c_2 := Int32.not_le.mp c_2
        have c_2 : i < 10 := (nI_ltI (a := i) (b := 10) (by omega) (by omega)).mp c_2
        refine lv_iload_n hx hb dX10_sum_10 rfl (lv_at hl 1 rfl) ?_
        refine lv_iconst (v := 0) hx hb dX10_sum_11 (by decide) ?_
        refine lv_aload_n hx hb dX10_sum_12 rfl (lv_at hl 2 rfl) ?_
        refine lv_iload_n hx hb dX10_sum_13 rfl (lv_at hl 0 rfl) ?_
        refine va_callFi (va_runF (g_cat X.2.1 8 rfl) (As := [.int (nI i)]) (rest := [.int 0, .int (sumP kf i)]) X.1 (m_X8_depth l D dA A E hE R ky ka kn kc ku kf i (by first | assumption | omega)) (va_cwF 1 X.1.2.2.2.2 (lw_app (lw_in4 q934 q598 q600 q90) (lw_meth q602)) rfl rfl rfl (X.2.2.1.fw 2 rfl) (by decide +kernel) ⟨Nat.le_of_ble_eq_true rfl, Nat.le_of_ble_eq_true rfl⟩) (g_preV hE X.2 hw 0 rfl rfl) rfl rfl hl.1 rfl (lv_room (Nat.le_of_ble_eq_true rfl)) dX10_sum_14 ⟨Nat.le_of_ble_eq_true rfl, Nat.le_of_ble_eq_true rfl⟩) hw.2.2 (fun q _ h => h) (fun q h => h) (fun r_4 u t H locs ht hvm h_3 hB hz9 hk9 hS => ?_)
        have hw : gW D A ((ky, .inr (8, [.int kn, .int kc, .ref ka, .int ku])) :: (ka, .inl (dA 0, 10, .inl kf)) :: R) s H locs := g_aft ht hB hS
        obtain rfl : r_4 = kf i := h_3
        refine va_mmax hx hb (by rw [X.1.2.2.1, hl.1]) X.1.2.2.2.1 (X.1.2.2.2.2 _ q944) (X.1.2.2.2.2 _ q224) (X.1.2.2.2.2 _ q72) (X.1.2.2.2.2 _ q225) (Nat.le_of_ble_eq_true rfl) (Nat.le_of_ble_eq_true rfl) (by first | exact Nat.le_of_ble_eq_true rfl | (dsimp only; omega)) (by first | exact Nat.le_of_ble_eq_true rfl | (dsimp only; omega)) dX10_sum_19 ?_
        refine lv_iadd hx hb dX10_sum_22 ?_
        refine lv_istore_n (lv' := [(1, .int ((sumP kf i) + (if 0 < (kf i) then kf i else 0))), (2, .int (nI i)), (0, .ref ky)]) hx hb dX10_sum_23 rfl hl (by decide) rfl (fun ls hl => ?_)
        refine lv_iinc (v := nI (i + 1)) (lv' := [(2, .int (nI (i + 1))), (1, .int ((sumP kf i) + (if 0 < (kf i) then kf i else 0))), (0, .ref ky)]) hx hb dX10_sum_24 hl (k := 1) rfl (nI_add i 1) (by decide) rfl (fun ls hl => ?_)
        refine lv_goto (tgt := 4) hx hb dX10_sum_27 (by decide) ?_
        have hl : lv_has ls 3 [(2, .int (nI (i + 1))), (1, .int ((sumP kf i) + (if 0 < (kf i) then kf i else 0))), (0, .ref ky)] := (lv_sub hl [0, 1, 2] rfl)
        rw [show (sumP kf i) + (if 0 < (kf i) then kf i else 0) = sumP kf (i + 1) from by rfl] at hl
        have hl : lv_has ls 3 [(2, .int (nI (i + 1))), (1, .int (sumP kf (i + 1))), (0, .ref ky)] := hl
        exact ih_loop_1 (i + 1) (by first | assumption | omega) (by omega) _ _ hw _ (hl)
  have hl : lv_has ls 3 [(2, .int 0), (1, .int 0), (0, .ref ky)] := (lv_sub hl [0, 1, 2] rfl)
  have hl : lv_has ls 3 [(2, .int 0), (1, .int (sumP kf 0)), (0, .ref ky)] := by exact hl
  exact loop_1 ((10 - 0) + 1) 0 (by first | assumption | omega) (Nat.lt_succ_self _) _ _ hw _ (hl)

set_option maxHeartbeats 4000000 in
theorem m_X2_init (l : Launch) (D : va_G) (dA : Nat → ClassId) (A : Nat → Prop) (E : State → Prop) (hE : gSt A E) (R : va_W) (ro mo : Nat) (h1 : 0 < mo) (h2 : mo ≤ 100) : Met l yX2_init (ws_ yX2_init cX2_init 2 (Option.none : Option FieldType)) ({ frames := 4, cells := 2, slots := 103, locals := 73 }) (va_Pc [.ref ro, .int (nI mo)] (gB D dA A E ((ro, .inr (2, [.null, .int 0])) :: R))) (va_Qv (fun (u : Nat × Nat) => True) (fun u => gE D A ((ro, .inr (2, [.ref u.1, .int (nI mo)])) :: (u.1, .inr (14, [.int 0, .ref u.2, .int 0])) :: (u.2, .inl (dA 3, mo, .inr (.inr (.inr (.inr (fun _ => none)))))) :: R)) A) (2) (103) A := by
  refine g_start rfl rfl ?_
  intro p e s m args below meth c ls X hr hlocks hin hw hl
  have hx := X.1.1
  have hb := X.1.2.1
  have hl : lv_has ls 2 [(0, .ref ro), (1, .int (nI mo))] := hl
  refine lv_aload_n hx hb dX2_init_0 rfl (lv_at hl 0 rfl) ?_
  refine W.objInit hx hb X.1.2.2.2.1 (X.1.2.2.2.2 _ q125) (X.1.2.2.2.2 _ q109) (X.1.2.2.2.2 _ q110) rfl (by rw [X.1.2.2.1]; exact hl.1) rfl dX2_init_1 (Nat.le_of_ble_eq_true rfl) (Nat.le_of_ble_eq_true rfl) ?_
  refine W.eq (g2 := F0 m 4 ls []) rfl ?_
  refine lv_aload_n hx hb dX2_init_4 rfl (lv_at hl 0 rfl) ?_
  refine lv_iload_n hx hb dX2_init_5 rfl (lv_at hl 1 rfl) ?_
  refine g_putF (ws' := (ro, .inr (2, [.null, .int (nI mo)])) :: R) X (hin rfl) cfX2 hw 0 1 rfl rfl q156 rfl rfl rfl rfl rfl rfl rfl dX2_init_6 (fun H locs hw => ?_)
  refine lv_aload_n hx hb dX2_init_9 rfl (lv_at hl 0 rfl) ?_
  refine g_new (fs := [.int 0, .null, .int 0]) X cfJ2 hw q126 q127 q69 (fun j hj => by rcases (show j = 0 ∨ j = 1 ∨ j = 2 by omega) with rfl | rfl | rfl <;> rfl) (Nat.le_of_ble_eq_true rfl) (Nat.le_of_ble_eq_true rfl) dX2_init_10 (fun q_1 H hw => ?_)
  refine lv_dup hx hb dX2_init_13 rfl ?_
  refine lv_iload_n hx hb dX2_init_14 rfl (lv_at hl 1 rfl) ?_
  refine va_callv (va_runI (As := [.int (nI mo)]) (rest := [.ref q_1, .ref ro]) X.1 (m_J2_init l D dA A E hE ((ro, .inr (2, [.null, .int (nI mo)])) :: R) q_1 mo (by first | assumption | omega) (by first | assumption | omega)) (cwI 1 X.1.2.2.2.2 (lw_meth q130) rfl rfl rfl (X.1.2.2.2.2 _ q69) (X.1.2.2.2.2 _ q128) (X.1.2.2.2.2 _ q129) rfl (by decide +kernel) ⟨Nat.le_of_ble_eq_true rfl, Nat.le_of_ble_eq_true rfl⟩) (g_preS hE X.2 hw) rfl rfl hl.1 rfl (lv_room (Nat.le_of_ble_eq_true rfl)) dX2_init_15 ⟨by dsimp only; omega, by dsimp only; omega⟩) hw.2.2 (fun q _ h => h) (fun q h => h) (fun u t H locs ht hvm h_2 hB hz9 hk9 hS => ?_)
  obtain ⟨u_3, rfl⟩ : ∃ z, z = u := ⟨_, rfl⟩
  have hw : gW D A ((q_1, .inr (14, [.int 0, .ref u_3, .int 0])) :: (u_3, .inl (dA 3, mo, .inr (.inr (.inr (.inr (fun _ => none)))))) :: (ro, .inr (2, [.null, .int (nI mo)])) :: R) s H locs := g_aft ht hB hS
  refine g_putF (ws' := (q_1, .inr (14, [.int 0, .ref u_3, .int 0])) :: (u_3, .inl (dA 3, mo, .inr (.inr (.inr (.inr (fun _ => none)))))) :: (ro, .inr (2, [.ref q_1, .int (nI mo)])) :: R) X (hin rfl) cfX2 hw 2 0 rfl rfl q154 rfl rfl rfl rfl rfl rfl rfl dX2_init_18 (fun H locs hw => ?_)
  refine W.widen (k := 2) (n := 103) (by first | exact Nat.le_of_ble_eq_true rfl | omega) (by first | exact Nat.le_of_ble_eq_true rfl | omega) ?_
  have hw : gW D A ((ro, .inr (2, [.ref q_1, .int (nI mo)])) :: (q_1, .inr (14, [.int 0, .ref u_3, .int 0])) :: (u_3, .inl (dA 3, mo, .inr (.inr (.inr (.inr (fun _ => none)))))) :: R) s _ _ := g_perm (X := [(q_1, .inr (14, [.int 0, .ref u_3, .int 0])), (u_3, .inl (dA 3, mo, .inr (.inr (.inr (.inr (fun _ => none)))))), (ro, .inr (2, [.ref q_1, .int (nI mo)]))]) (cx := [(ro, .inr (2, [.ref q_1, .int (nI mo)])), (q_1, .inr (14, [.int 0, .ref u_3, .int 0])), (u_3, .inl (dA 3, mo, .inr (.inr (.inr (.inr (fun _ => none))))))]) (pl := R) hw [2, 0, 1] rfl rfl rfl rfl
  exact g_vret (q_1, u_3) X hw hr hlocks trivial rfl dX2_init_21

set_option maxHeartbeats 4000000 in
theorem m_X2_size (l : Launch) (D : va_G) (dA : Nat → ClassId) (A : Nat → Prop) (E : State → Prop) (hE : gSt A E) (R : va_W) (ro lo la sz mo : Nat)  : Met l yX2_size (ws_ yX2_size cX2_size 1 (Option.some FieldType.int)) ({ frames := 1, cells := 0, slots := 0, locals := 20 }) (va_Pc [.ref ro] (gB D dA A E ((ro, .inr (2, [.ref lo, .int (nI mo)])) :: (lo, .inr (14, [.int (nI sz), .ref la, .int (nI sz)])) :: R))) (va_Qi (fun (r : Int32) (_ : Unit) => r = nI sz) (fun _ => gE D A ((ro, .inr (2, [.ref lo, .int (nI mo)])) :: (lo, .inr (14, [.int (nI sz), .ref la, .int (nI sz)])) :: R)) A) (0) (0) A := by
  refine g_start rfl rfl ?_
  intro p e s m args below meth c ls X hr hlocks hin hw hl
  have hx := X.1.1
  have hb := X.1.2.1
  have hl : lv_has ls 1 [(0, .ref ro)] := hl
  refine lv_aload_n hx hb dX2_size_0 rfl (lv_at hl 0 rfl) ?_
  refine g_get X cfX2 hw 0 0 rfl rfl q154 rfl rfl dX2_size_1 ?_
  have hw : gW D A ((lo, .inr (14, [.int (nI sz), .ref la, .int (nI sz)])) :: (ro, .inr (2, [.ref lo, .int (nI mo)])) :: R) s _ _ := g_perm (X := [(ro, .inr (2, [.ref lo, .int (nI mo)])), (lo, .inr (14, [.int (nI sz), .ref la, .int (nI sz)]))]) (cx := [(lo, .inr (14, [.int (nI sz), .ref la, .int (nI sz)])), (ro, .inr (2, [.ref lo, .int (nI mo)]))]) (pl := R) hw [1, 0] rfl rfl rfl rfl
  refine va_calli (va_runV (As := []) (rest := []) X.1 (m_J2_size l D dA A E hE ((ro, .inr (2, [.ref lo, .int (nI mo)])) :: R) lo la sz) (cwV 0 X.1.2.2.2.2 (lw_V q270 q271 q272 q69 q273) rfl rfl rfl (by decide +kernel) ⟨Nat.le_of_ble_eq_true rfl, Nat.le_of_ble_eq_true rfl⟩) (g_preV hE X.2 hw 0 rfl rfl) rfl rfl hl.1 rfl (lv_room (Nat.le_of_ble_eq_true rfl)) dX2_size_4 ⟨Nat.le_of_ble_eq_true rfl, Nat.le_of_ble_eq_true rfl⟩) hw.2.2 (fun q _ h => h) (fun q h => h) (fun r_2 u t H locs ht hvm h_1 hB hz9 hk9 hS => ?_)
  have hw : gW D A ((lo, .inr (14, [.int (nI sz), .ref la, .int (nI sz)])) :: (ro, .inr (2, [.ref lo, .int (nI mo)])) :: R) s H locs := g_aft ht hB hS
  obtain rfl : r_2 = nI sz := h_1
  have hw : gW D A ((ro, .inr (2, [.ref lo, .int (nI mo)])) :: (lo, .inr (14, [.int (nI sz), .ref la, .int (nI sz)])) :: R) s _ _ := g_perm (X := [(lo, .inr (14, [.int (nI sz), .ref la, .int (nI sz)])), (ro, .inr (2, [.ref lo, .int (nI mo)]))]) (cx := [(ro, .inr (2, [.ref lo, .int (nI mo)])), (lo, .inr (14, [.int (nI sz), .ref la, .int (nI sz)]))]) (pl := R) hw [1, 0] rfl rfl rfl rfl
  exact g_iret (v := nI sz) () X hw hr hlocks  rfl rfl dX2_size_7

set_option maxHeartbeats 4000000 in
theorem m_X0_isIn (l : Launch) (D : va_G) (dA : Nat → ClassId) (A : Nat → Prop) (E : State → Prop) (hE : gSt A E) (R : va_W) (v lo hi : Int32) : Met l yX0_isIn (ws_ yX0_isIn cX0_isIn 3 (Option.some FieldType.boolean)) ({ frames := 0, cells := 0, slots := 0, locals := 0 }) (va_Pc [.int v, .int lo, .int hi] (gB D dA A E (R))) (va_Qi (fun (r : Int32) (_ : Unit) => r = bZ (inR v lo hi)) (fun _ => gE D A (R)) A) (0) (0) A := by
  refine g_start rfl rfl ?_
  intro p e s m args below meth c ls X hr hlocks hin hw hl
  have hx := X.1.1
  have hb := X.1.2.1
  have hl : lv_has ls 3 [(0, .int v), (1, .int lo), (2, .int hi)] := hl
  refine lv_iload_n hx hb dX0_isIn_0 rfl (lv_at hl 0 rfl) ?_
  refine lv_iload_n hx hb dX0_isIn_1 rfl (lv_at hl 1 rfl) ?_
  refine lv_icmp_lt (tgt := 14) hx hb dX0_isIn_2 (by decide) (fun c_1 => ?_) (fun c_1 => ?_)
  · skip
    refine lv_iconst (v := 0) hx hb dX0_isIn_14 (by decide) ?_
    exact g_zret (v := 0) () X hw hr hlocks rfl (by simp [inR, bZ, *]) rfl dX0_isIn_15
  · skip
    refine lv_iload_n hx hb dX0_isIn_5 rfl (lv_at hl 0 rfl) ?_
    refine lv_iload_n hx hb dX0_isIn_6 rfl (lv_at hl 2 rfl) ?_
    refine lv_icmp_gt (tgt := 14) hx hb dX0_isIn_7 (by decide) (fun c_2 => ?_) (fun c_2 => ?_)
    · skip
      refine lv_iconst (v := 0) hx hb dX0_isIn_14 (by decide) ?_
      exact g_zret (v := 0) () X hw hr hlocks rfl (by simp [inR, bZ, *]) rfl dX0_isIn_15
    · skip
      refine lv_iconst (v := 1) hx hb dX0_isIn_10 (by decide) ?_
      refine lv_goto (tgt := 15) hx hb dX0_isIn_11 (by decide) ?_
      exact g_zret (v := 1) () X hw hr hlocks rfl (by simp [inR, bZ, *]) rfl dX0_isIn_15

set_option maxHeartbeats 4000000 in
theorem m_X0_isLedge (l : Launch) (D : va_G) (dA : Nat → ClassId) (A : Nat → Prop) (E : State → Prop) (hE : gSt A E) (R : va_W) (v : Int32) : Met l yX0_isLedge (ws_ yX0_isLedge cX0_isLedge 1 (Option.some FieldType.boolean)) ({ frames := 1, cells := 0, slots := 0, locals := 22 }) (va_Pc [.int v] (gB D dA A E (R))) (va_Qi (fun (r : Int32) (_ : Unit) => r = bZ (inR v 0 5)) (fun _ => gE D A (R)) A) (0) (0) A := by
  refine g_start rfl rfl ?_
  intro p e s m args below meth c ls X hr hlocks hin hw hl
  have hx := X.1.1
  have hb := X.1.2.1
  have hl : lv_has ls 1 [(0, .int v)] := hl
  refine lv_iload_n hx hb dX0_isLedge_0 rfl (lv_at hl 0 rfl) ?_
  refine lv_iconst (v := 0) hx hb dX0_isLedge_1 (by decide) ?_
  refine lv_iconst (v := 5) hx hb dX0_isLedge_2 (by decide) ?_
  refine va_calli (va_runS (As := [.int v, .int 0, .int 5]) (rest := []) X.1 (m_X0_isIn l D dA A E hE R v 0 5) (va_cwS 3 X.1.2.2.2.2 (lw_S q417 q418 q64 q419) rfl rfl rfl (by decide +kernel) ⟨Nat.le_of_ble_eq_true rfl, Nat.le_of_ble_eq_true rfl⟩) (g_preS hE X.2 hw) rfl rfl hl.1 rfl (lv_room (Nat.le_of_ble_eq_true rfl)) dX0_isLedge_3 ⟨Nat.le_of_ble_eq_true rfl, Nat.le_of_ble_eq_true rfl⟩) hw.2.2 (fun q _ h => h) (fun q h => h) (fun r_2 u t H locs ht hvm h_1 hB hz9 hk9 hS => ?_)
  have hw : gW D A (R) s H locs := g_aft ht hB hS
  obtain rfl : r_2 = bZ (inR v 0 5) := h_1
  exact g_zret (v := bZ (inR v 0 5)) () X hw hr hlocks (g_narZ (by first | assumption | exact bZ_01 _)) rfl rfl dX0_isLedge_6

set_option maxHeartbeats 4000000 in
theorem m_X0_isPoint (l : Launch) (D : va_G) (dA : Nat → ClassId) (A : Nat → Prop) (E : State → Prop) (hE : gSt A E) (R : va_W) (v : Int32) : Met l yX0_isPoint (ws_ yX0_isPoint cX0_isPoint 1 (Option.some FieldType.boolean)) ({ frames := 1, cells := 0, slots := 0, locals := 22 }) (va_Pc [.int v] (gB D dA A E (R))) (va_Qi (fun (r : Int32) (_ : Unit) => r = bZ (inR v 0 9)) (fun _ => gE D A (R)) A) (0) (0) A := by
  refine g_start rfl rfl ?_
  intro p e s m args below meth c ls X hr hlocks hin hw hl
  have hx := X.1.1
  have hb := X.1.2.1
  have hl : lv_has ls 1 [(0, .int v)] := hl
  refine lv_iload_n hx hb dX0_isPoint_0 rfl (lv_at hl 0 rfl) ?_
  refine lv_iconst (v := 0) hx hb dX0_isPoint_1 (by decide) ?_
  refine lv_bipush (v := 9) hx hb dX0_isPoint_2 (by decide) ?_
  refine va_calli (va_runS (As := [.int v, .int 0, .int 9]) (rest := []) X.1 (m_X0_isIn l D dA A E hE R v 0 9) (va_cwS 3 X.1.2.2.2.2 (lw_S q417 q418 q64 q419) rfl rfl rfl (by decide +kernel) ⟨Nat.le_of_ble_eq_true rfl, Nat.le_of_ble_eq_true rfl⟩) (g_preS hE X.2 hw) rfl rfl hl.1 rfl (lv_room (Nat.le_of_ble_eq_true rfl)) dX0_isPoint_4 ⟨Nat.le_of_ble_eq_true rfl, Nat.le_of_ble_eq_true rfl⟩) hw.2.2 (fun q _ h => h) (fun q h => h) (fun r_2 u t H locs ht hvm h_1 hB hz9 hk9 hS => ?_)
  have hw : gW D A (R) s H locs := g_aft ht hB hS
  obtain rfl : r_2 = bZ (inR v 0 9) := h_1
  exact g_zret (v := bZ (inR v 0 9)) () X hw hr hlocks (g_narZ (by first | assumption | exact bZ_01 _)) rfl rfl dX0_isPoint_7

set_option maxHeartbeats 4000000 in
theorem m_X0_isSky (l : Launch) (D : va_G) (dA : Nat → ClassId) (A : Nat → Prop) (E : State → Prop) (hE : gSt A E) (R : va_W) (v w : Int32) : Met l yX0_isSky (ws_ yX0_isSky cX0_isSky 2 (Option.some FieldType.boolean)) ({ frames := 1, cells := 0, slots := 0, locals := 22 }) (va_Pc [.int v, .int w] (gB D dA A E (R))) (va_Qi (fun (r : Int32) (_ : Unit) => r = bZ (inR v 0 9 && inR w 0 9)) (fun _ => gE D A (R)) A) (0) (0) A := by
  refine g_start rfl rfl ?_
  intro p e s m args below meth c ls X hr hlocks hin hw hl
  have hx := X.1.1
  have hb := X.1.2.1
  have hl : lv_has ls 2 [(0, .int v), (1, .int w)] := hl
  refine lv_iload_n hx hb dX0_isSky_0 rfl (lv_at hl 0 rfl) ?_
  refine lv_iconst (v := 0) hx hb dX0_isSky_1 (by decide) ?_
  refine lv_bipush (v := 9) hx hb dX0_isSky_2 (by decide) ?_
  refine va_calli (va_runS (As := [.int v, .int 0, .int 9]) (rest := []) X.1 (m_X0_isIn l D dA A E hE R v 0 9) (va_cwS 3 X.1.2.2.2.2 (lw_S q417 q418 q64 q419) rfl rfl rfl (by decide +kernel) ⟨Nat.le_of_ble_eq_true rfl, Nat.le_of_ble_eq_true rfl⟩) (g_preS hE X.2 hw) rfl rfl hl.1 rfl (lv_room (Nat.le_of_ble_eq_true rfl)) dX0_isSky_4 ⟨Nat.le_of_ble_eq_true rfl, Nat.le_of_ble_eq_true rfl⟩) hw.2.2 (fun q _ h => h) (fun q h => h) (fun r_2 u t H locs ht hvm h_1 hB hz9 hk9 hS => ?_)
  have hw : gW D A (R) s H locs := g_aft ht hB hS
  obtain rfl : r_2 = bZ (inR v 0 9) := h_1
  refine lv_if_eq (tgt := 24) hx hb dX0_isSky_7 (by decide) (fun c_3 => ?_) (fun c_3 => ?_)
  · skip
    have c_3 := bZ_0.mp c_3
    refine lv_iconst (v := 0) hx hb dX0_isSky_24 (by decide) ?_
    exact g_zret (v := 0) () X hw hr hlocks rfl (by simp [bZ, *]) rfl dX0_isSky_25
  · skip
    have c_3 := bZ_1 c_3
    refine lv_iload_n hx hb dX0_isSky_10 rfl (lv_at hl 1 rfl) ?_
    refine lv_iconst (v := 0) hx hb dX0_isSky_11 (by decide) ?_
    refine lv_bipush (v := 9) hx hb dX0_isSky_12 (by decide) ?_
    refine va_calli (va_runS (As := [.int w, .int 0, .int 9]) (rest := []) X.1 (m_X0_isIn l D dA A E hE R w 0 9) (va_cwS 3 X.1.2.2.2.2 (lw_S q417 q418 q64 q419) rfl rfl rfl (by decide +kernel) ⟨Nat.le_of_ble_eq_true rfl, Nat.le_of_ble_eq_true rfl⟩) (g_preS hE X.2 hw) rfl rfl hl.1 rfl (lv_room (Nat.le_of_ble_eq_true rfl)) dX0_isSky_14 ⟨Nat.le_of_ble_eq_true rfl, Nat.le_of_ble_eq_true rfl⟩) hw.2.2 (fun q _ h => h) (fun q h => h) (fun r_5 u t H locs ht hvm h_4 hB hz9 hk9 hS => ?_)
    have hw : gW D A (R) s H locs := g_aft ht hB hS
    obtain rfl : r_5 = bZ (inR w 0 9) := h_4
    refine lv_if_eq (tgt := 24) hx hb dX0_isSky_17 (by decide) (fun c_6 => ?_) (fun c_6 => ?_)
    · skip
      have c_6 := bZ_0.mp c_6
      refine lv_iconst (v := 0) hx hb dX0_isSky_24 (by decide) ?_
      exact g_zret (v := 0) () X hw hr hlocks rfl (by simp [bZ, *]) rfl dX0_isSky_25
    · skip
      have c_6 := bZ_1 c_6
      refine lv_iconst (v := 1) hx hb dX0_isSky_20 (by decide) ?_
      refine lv_goto (tgt := 25) hx hb dX0_isSky_21 (by decide) ?_
      exact g_zret (v := 1) () X hw hr hlocks rfl (by simp [bZ, *]) rfl dX0_isSky_25

set_option maxHeartbeats 4000000 in
theorem m_X0_areHours (l : Launch) (D : va_G) (dA : Nat → ClassId) (A : Nat → Prop) (E : State → Prop) (hE : gSt A E) (R : va_W) (v : Int32) : Met l yX0_areHours (ws_ yX0_areHours cX0_areHours 1 (Option.some FieldType.boolean)) ({ frames := 1, cells := 0, slots := 0, locals := 22 }) (va_Pc [.int v] (gB D dA A E (R))) (va_Qi (fun (r : Int32) (_ : Unit) => r = bZ (inR v 1 72)) (fun _ => gE D A (R)) A) (0) (0) A := by
  refine g_start rfl rfl ?_
  intro p e s m args below meth c ls X hr hlocks hin hw hl
  have hx := X.1.1
  have hb := X.1.2.1
  have hl : lv_has ls 1 [(0, .int v)] := hl
  refine lv_iload_n hx hb dX0_areHours_0 rfl (lv_at hl 0 rfl) ?_
  refine lv_iconst (v := 1) hx hb dX0_areHours_1 (by decide) ?_
  refine lv_bipush (v := 72) hx hb dX0_areHours_2 (by decide) ?_
  refine va_calli (va_runS (As := [.int v, .int 1, .int 72]) (rest := []) X.1 (m_X0_isIn l D dA A E hE R v 1 72) (va_cwS 3 X.1.2.2.2.2 (lw_S q417 q418 q64 q419) rfl rfl rfl (by decide +kernel) ⟨Nat.le_of_ble_eq_true rfl, Nat.le_of_ble_eq_true rfl⟩) (g_preS hE X.2 hw) rfl rfl hl.1 rfl (lv_room (Nat.le_of_ble_eq_true rfl)) dX0_areHours_4 ⟨Nat.le_of_ble_eq_true rfl, Nat.le_of_ble_eq_true rfl⟩) hw.2.2 (fun q _ h => h) (fun q h => h) (fun r_2 u t H locs ht hvm h_1 hB hz9 hk9 hS => ?_)
  have hw : gW D A (R) s H locs := g_aft ht hB hS
  obtain rfl : r_2 = bZ (inR v 1 72) := h_1
  exact g_zret (v := bZ (inR v 1 72)) () X hw hr hlocks (g_narZ (by first | assumption | exact bZ_01 _)) rfl rfl dX0_areHours_7

set_option maxHeartbeats 4000000 in
theorem m_X2_has (l : Launch) (D : va_G) (dA : Nat → ClassId) (A : Nat → Prop) (E : State → Prop) (hE : gSt A E) (R : va_W) (ro lo la sz mo : Nat) (v : Int32) : Met l yX2_has (ws_ yX2_has cX2_has 2 (Option.some FieldType.boolean)) ({ frames := 1, cells := 0, slots := 0, locals := 22 }) (va_Pc [.ref ro, .int v] (gB D dA A E ((ro, .inr (2, [.ref lo, .int (nI mo)])) :: (lo, .inr (14, [.int (nI sz), .ref la, .int (nI sz)])) :: R))) (va_Qi (fun (r : Int32) (_ : Unit) => r = bZ (inR v 0 (nI sz - 1))) (fun _ => gE D A ((ro, .inr (2, [.ref lo, .int (nI mo)])) :: (lo, .inr (14, [.int (nI sz), .ref la, .int (nI sz)])) :: R)) A) (0) (0) A := by
  refine g_start rfl rfl ?_
  intro p e s m args below meth c ls X hr hlocks hin hw hl
  have hx := X.1.1
  have hb := X.1.2.1
  have hl : lv_has ls 2 [(0, .ref ro), (1, .int v)] := hl
  refine lv_iload_n hx hb dX2_has_0 rfl (lv_at hl 1 rfl) ?_
  refine lv_iconst (v := 0) hx hb dX2_has_1 (by decide) ?_
  refine lv_aload_n hx hb dX2_has_2 rfl (lv_at hl 0 rfl) ?_
  refine g_get X cfX2 hw 0 0 rfl rfl q154 rfl rfl dX2_has_3 ?_
  have hw : gW D A ((lo, .inr (14, [.int (nI sz), .ref la, .int (nI sz)])) :: (ro, .inr (2, [.ref lo, .int (nI mo)])) :: R) s _ _ := g_perm (X := [(ro, .inr (2, [.ref lo, .int (nI mo)])), (lo, .inr (14, [.int (nI sz), .ref la, .int (nI sz)]))]) (cx := [(lo, .inr (14, [.int (nI sz), .ref la, .int (nI sz)])), (ro, .inr (2, [.ref lo, .int (nI mo)]))]) (pl := R) hw [1, 0] rfl rfl rfl rfl
  refine va_calli (va_runV (As := []) (rest := [.int 0, .int v]) X.1 (m_J2_size l D dA A E hE ((ro, .inr (2, [.ref lo, .int (nI mo)])) :: R) lo la sz) (cwV 0 X.1.2.2.2.2 (lw_V q270 q271 q272 q69 q273) rfl rfl rfl (by decide +kernel) ⟨Nat.le_of_ble_eq_true rfl, Nat.le_of_ble_eq_true rfl⟩) (g_preV hE X.2 hw 0 rfl rfl) rfl rfl hl.1 rfl (lv_room (Nat.le_of_ble_eq_true rfl)) dX2_has_6 ⟨Nat.le_of_ble_eq_true rfl, Nat.le_of_ble_eq_true rfl⟩) hw.2.2 (fun q _ h => h) (fun q h => h) (fun r_2 u t H locs ht hvm h_1 hB hz9 hk9 hS => ?_)
  have hw : gW D A ((lo, .inr (14, [.int (nI sz), .ref la, .int (nI sz)])) :: (ro, .inr (2, [.ref lo, .int (nI mo)])) :: R) s H locs := g_aft ht hB hS
  obtain rfl : r_2 = nI sz := h_1
  refine lv_iconst (v := 1) hx hb dX2_has_9 (by decide) ?_
  refine lv_isub hx hb dX2_has_10 ?_
  refine va_calli (va_runSN (As := [.int v, .int 0, .int ((nI sz) - 1)]) (rest := []) X.1 (m_X0_isIn l D dA A E hE ((lo, .inr (14, [.int (nI sz), .ref la, .int (nI sz)])) :: (ro, .inr (2, [.ref lo, .int (nI mo)])) :: R) v 0 ((nI sz) - 1)) ⟨va_cnB 3 X.1.2.2.2.2 (lw_meth q419) rfl rfl rfl (X.2.2.1.nw q795 rfl) (X.1.2.2.2.2 _ q64) (by decide +kernel) ⟨Nat.le_of_ble_eq_true rfl, Nat.le_of_ble_eq_true rfl⟩, X.1.2.2.2.2 _ q418, trivial⟩ (g_preS hE X.2 hw) rfl rfl hl.1 rfl (lv_room (Nat.le_of_ble_eq_true rfl)) dX2_has_11 ⟨Nat.le_of_ble_eq_true rfl, Nat.le_of_ble_eq_true rfl⟩) hw.2.2 (fun q _ h => h) (fun q h => h) (fun r_4 u t H locs ht hvm h_3 hB hz9 hk9 hS => ?_)
  have hw : gW D A ((lo, .inr (14, [.int (nI sz), .ref la, .int (nI sz)])) :: (ro, .inr (2, [.ref lo, .int (nI mo)])) :: R) s H locs := g_aft ht hB hS
  obtain rfl : r_4 = bZ (inR v 0 ((nI sz) - 1)) := h_3
  have hw : gW D A ((ro, .inr (2, [.ref lo, .int (nI mo)])) :: (lo, .inr (14, [.int (nI sz), .ref la, .int (nI sz)])) :: R) s _ _ := g_perm (X := [(lo, .inr (14, [.int (nI sz), .ref la, .int (nI sz)])), (ro, .inr (2, [.ref lo, .int (nI mo)]))]) (cx := [(ro, .inr (2, [.ref lo, .int (nI mo)])), (lo, .inr (14, [.int (nI sz), .ref la, .int (nI sz)]))]) (pl := R) hw [1, 0] rfl rfl rfl rfl
  exact g_zret (v := bZ (inR v 0 ((nI sz) - 1))) () X hw hr hlocks (g_narZ (by first | assumption | exact bZ_01 _)) rfl rfl dX2_has_14

set_option maxHeartbeats 4000000 in
theorem m_X2_at (l : Launch) (D : va_G) (dA : Nat → ClassId) (A : Nat → Prop) (E : State → Prop) (hE : gSt A E) (R : va_W) (ro : Nat) (lo la ln sz : Nat) (lf : Nat → Option Nat) (mo : Nat) (i x : Nat) (hi : i < sz) (hsz : sz ≤ ln) (hln : ln ≤ 100) (hfx : lf i = some x) : Met l yX2_at (ws_ yX2_at cX2_at 2 (Option.some (FieldType.object "java/lang/Object"))) ({ frames := 3, cells := 0, slots := 0, locals := 64 }) (va_Pc [.ref ro, .int (nI i)] (gB D dA A E ((ro, .inr (2, [.ref lo, .int (nI mo)])) :: (lo, .inr (14, [.int (nI sz), .ref la, .int (nI sz)])) :: (la, .inl (dA 3, ln, .inr (.inr (.inr (.inr lf))))) :: R))) (va_Qr (fun (_ : Unit) => True) (fun _ a t => a = x ∧ gE D A ((ro, .inr (2, [.ref lo, .int (nI mo)])) :: (lo, .inr (14, [.int (nI sz), .ref la, .int (nI sz)])) :: (la, .inl (dA 3, ln, .inr (.inr (.inr (.inr lf))))) :: R) t) A) (0) (0) A := by
  refine g_start rfl rfl ?_
  intro p e s m args below meth c ls X hr hlocks hin hw hl
  have hx := X.1.1
  have hb := X.1.2.1
  have hl : lv_has ls 2 [(0, .ref ro), (1, .int (nI i))] := hl
  refine lv_aload_n hx hb dX2_at_0 rfl (lv_at hl 0 rfl) ?_
  refine g_get X cfX2 hw 0 0 rfl rfl q154 rfl rfl dX2_at_1 ?_
  refine lv_iload_n hx hb dX2_at_4 rfl (lv_at hl 1 rfl) ?_
  have hw : gW D A ((lo, .inr (14, [.int (nI sz), .ref la, .int (nI sz)])) :: (la, .inl (dA 3, ln, .inr (.inr (.inr (.inr lf))))) :: (ro, .inr (2, [.ref lo, .int (nI mo)])) :: R) s _ _ := g_perm (X := [(ro, .inr (2, [.ref lo, .int (nI mo)])), (lo, .inr (14, [.int (nI sz), .ref la, .int (nI sz)])), (la, .inl (dA 3, ln, .inr (.inr (.inr (.inr lf)))))]) (cx := [(lo, .inr (14, [.int (nI sz), .ref la, .int (nI sz)])), (la, .inl (dA 3, ln, .inr (.inr (.inr (.inr lf))))), (ro, .inr (2, [.ref lo, .int (nI mo)]))]) (pl := R) hw [1, 2, 0] rfl rfl rfl rfl
  refine va_callr (va_runV (As := [.int (nI i)]) (rest := []) X.1 (m_J2_get l D dA A E hE ((ro, .inr (2, [.ref lo, .int (nI mo)])) :: R) lo la ln sz lf i x (by first | assumption | omega) (by first | assumption | omega) (by first | assumption | omega) hfx) (cwV 1 X.1.2.2.2.2 (lw_V q424 q425 q426 q69 q427) rfl rfl rfl (by decide +kernel) ⟨Nat.le_of_ble_eq_true rfl, Nat.le_of_ble_eq_true rfl⟩) (g_preV hE X.2 hw 0 rfl rfl) rfl rfl hl.1 rfl (lv_room (Nat.le_of_ble_eq_true rfl)) dX2_at_5 ⟨Nat.le_of_ble_eq_true rfl, Nat.le_of_ble_eq_true rfl⟩) hw.2.2 (fun q _ h => h) (fun q h => h) (fun u q_2 t H locs ht hvm h_1 hB hz9 hk9 hS => ?_)
  obtain ⟨er_q_2, hB⟩ := hB
  obtain rfl := er_q_2.symm
  have hw : gW D A ((lo, .inr (14, [.int (nI sz), .ref la, .int (nI sz)])) :: (la, .inl (dA 3, ln, .inr (.inr (.inr (.inr lf))))) :: (ro, .inr (2, [.ref lo, .int (nI mo)])) :: R) s H locs := g_aft ht hB hS
  have hw : gW D A ((ro, .inr (2, [.ref lo, .int (nI mo)])) :: (lo, .inr (14, [.int (nI sz), .ref la, .int (nI sz)])) :: (la, .inl (dA 3, ln, .inr (.inr (.inr (.inr lf))))) :: R) s _ _ := g_perm (X := [(lo, .inr (14, [.int (nI sz), .ref la, .int (nI sz)])), (la, .inl (dA 3, ln, .inr (.inr (.inr (.inr lf))))), (ro, .inr (2, [.ref lo, .int (nI mo)]))]) (cx := [(ro, .inr (2, [.ref lo, .int (nI mo)])), (lo, .inr (14, [.int (nI sz), .ref la, .int (nI sz)])), (la, .inl (dA 3, ln, .inr (.inr (.inr (.inr lf)))))]) (pl := R) hw [2, 0, 1] rfl rfl rfl rfl
  exact g_aretK (ad := fun _ => x) () X hw hr (Or.inl ⟨_, rfl⟩) hlocks trivial (rfl) rfl dX2_at_8

set_option maxHeartbeats 4000000 in
theorem m_X2_adds (l : Launch) (D : va_G) (dA : Nat → ClassId) (A : Nat → Prop) (E : State → Prop) (hE : gSt A E) (R : va_W) (ro : Nat) (lo la ln sz : Nat) (lf : Nat → Option Nat) (mo : Nat) (v : Nat) (hv : gObj R v) (hsz : sz < ln) (hln : ln ≤ 100) : Met l yX2_adds (ws_ yX2_adds cX2_adds 2 (Option.some FieldType.int)) ({ frames := 2, cells := 0, slots := 0, locals := 44 }) (va_Pc [.ref ro, .ref v] (gB D dA A E ((ro, .inr (2, [.ref lo, .int (nI mo)])) :: (lo, .inr (14, [.int (nI sz), .ref la, .int (nI sz)])) :: (la, .inl (dA 3, ln, .inr (.inr (.inr (.inr lf))))) :: R))) (va_Qi (fun (r : Int32) (_ : Unit) => r = nI sz) (fun _ => gE D A ((ro, .inr (2, [.ref lo, .int (nI mo)])) :: (lo, .inr (14, [.int (nI (sz + 1)), .ref la, .int (nI (sz + 1))])) :: (la, .inl (dA 3, ln, .inr (.inr (.inr (.inr (va_up lf sz (some v))))))) :: R)) A) (0) (0) A := by
  refine g_start rfl rfl ?_
  intro p e s m args below meth c ls X hr hlocks hin hw hl
  have hx := X.1.1
  have hb := X.1.2.1
  have hl : lv_has ls 2 [(0, .ref ro), (1, .ref v)] := hl
  refine lv_aload_n hx hb dX2_adds_0 rfl (lv_at hl 0 rfl) ?_
  refine g_get X cfX2 hw 0 0 rfl rfl q154 rfl rfl dX2_adds_1 ?_
  refine lv_aload_n hx hb dX2_adds_4 rfl (lv_at hl 1 rfl) ?_
  have hw : gW D A ((lo, .inr (14, [.int (nI sz), .ref la, .int (nI sz)])) :: (la, .inl (dA 3, ln, .inr (.inr (.inr (.inr lf))))) :: (ro, .inr (2, [.ref lo, .int (nI mo)])) :: R) s _ _ := g_perm (X := [(ro, .inr (2, [.ref lo, .int (nI mo)])), (lo, .inr (14, [.int (nI sz), .ref la, .int (nI sz)])), (la, .inl (dA 3, ln, .inr (.inr (.inr (.inr lf)))))]) (cx := [(lo, .inr (14, [.int (nI sz), .ref la, .int (nI sz)])), (la, .inl (dA 3, ln, .inr (.inr (.inr (.inr lf))))), (ro, .inr (2, [.ref lo, .int (nI mo)]))]) (pl := R) hw [1, 2, 0] rfl rfl rfl rfl
  refine va_calli (va_runV (As := [.ref v]) (rest := []) X.1 (m_J2_add l D dA A E hE ((ro, .inr (2, [.ref lo, .int (nI mo)])) :: R) lo la ln sz lf v (hv.mono (fun q h => List.mem_cons_of_mem _ h)) (by first | assumption | omega) (by first | assumption | omega)) (cwV 1 X.1.2.2.2.2 (lw_V q202 q203 q204 q69 q205) rfl rfl rfl (by decide +kernel) ⟨Nat.le_of_ble_eq_true rfl, Nat.le_of_ble_eq_true rfl⟩) (g_preV hE X.2 hw 0 rfl rfl) rfl rfl hl.1 rfl (lv_room (Nat.le_of_ble_eq_true rfl)) dX2_adds_5 ⟨Nat.le_of_ble_eq_true rfl, Nat.le_of_ble_eq_true rfl⟩) hw.2.2 (fun q _ h => h) (fun q h => h) (fun r_2 u t H locs ht hvm h_1 hB hz9 hk9 hS => ?_)
  have hw : gW D A ((lo, .inr (14, [.int (nI (sz + 1)), .ref la, .int (nI (sz + 1))])) :: (la, .inl (dA 3, ln, .inr (.inr (.inr (.inr (va_up lf sz (some v))))))) :: (ro, .inr (2, [.ref lo, .int (nI mo)])) :: R) s H locs := g_aft ht hB hS
  obtain rfl : r_2 = 1 := h_1
  refine lv_pop hx hb dX2_adds_8 rfl ?_
  refine lv_aload_n hx hb dX2_adds_9 rfl (lv_at hl 0 rfl) ?_
  refine g_get X cfX2 hw 2 0 rfl rfl q154 rfl rfl dX2_adds_10 ?_
  refine va_calli (va_runV (As := []) (rest := []) X.1 (m_J2_size l D dA A E hE ((la, .inl (dA 3, ln, .inr (.inr (.inr (.inr (va_up lf sz (some v))))))) :: (ro, .inr (2, [.ref lo, .int (nI mo)])) :: R) lo la (sz + 1)) (cwV 0 X.1.2.2.2.2 (lw_V q270 q271 q272 q69 q273) rfl rfl rfl (by decide +kernel) ⟨Nat.le_of_ble_eq_true rfl, Nat.le_of_ble_eq_true rfl⟩) (g_preV hE X.2 hw 0 rfl rfl) rfl rfl hl.1 rfl (lv_room (Nat.le_of_ble_eq_true rfl)) dX2_adds_13 ⟨Nat.le_of_ble_eq_true rfl, Nat.le_of_ble_eq_true rfl⟩) hw.2.2 (fun q _ h => h) (fun q h => h) (fun r_4 u t H locs ht hvm h_3 hB hz9 hk9 hS => ?_)
  have hw : gW D A ((lo, .inr (14, [.int (nI (sz + 1)), .ref la, .int (nI (sz + 1))])) :: (la, .inl (dA 3, ln, .inr (.inr (.inr (.inr (va_up lf sz (some v))))))) :: (ro, .inr (2, [.ref lo, .int (nI mo)])) :: R) s H locs := g_aft ht hB hS
  obtain rfl : r_4 = nI (sz + 1) := h_3
  refine lv_iconst (v := 1) hx hb dX2_adds_16 (by decide) ?_
  refine lv_isub hx hb dX2_adds_17 ?_
  have hw : gW D A ((ro, .inr (2, [.ref lo, .int (nI mo)])) :: (lo, .inr (14, [.int (nI (sz + 1)), .ref la, .int (nI (sz + 1))])) :: (la, .inl (dA 3, ln, .inr (.inr (.inr (.inr (va_up lf sz (some v))))))) :: R) s _ _ := g_perm (X := [(lo, .inr (14, [.int (nI (sz + 1)), .ref la, .int (nI (sz + 1))])), (la, .inl (dA 3, ln, .inr (.inr (.inr (.inr (va_up lf sz (some v))))))), (ro, .inr (2, [.ref lo, .int (nI mo)]))]) (cx := [(ro, .inr (2, [.ref lo, .int (nI mo)])), (lo, .inr (14, [.int (nI (sz + 1)), .ref la, .int (nI (sz + 1))])), (la, .inl (dA 3, ln, .inr (.inr (.inr (.inr (va_up lf sz (some v)))))))]) (pl := R) hw [2, 0, 1] rfl rfl rfl rfl
  exact g_iret (v := (nI (sz + 1)) - 1) () X hw hr hlocks  (by exact nI_pred sz) rfl dX2_adds_18

set_option maxHeartbeats 4000000 in
theorem m_X5_init (l : Launch) (D : va_G) (dA : Nat → ClassId) (A : Nat → Prop) (E : State → Prop) (hE : gSt A E) (R : va_W) (wk ro : Nat) : Met l yX5_init (ws_ yX5_init cX5_init 2 (Option.none : Option FieldType)) ({ frames := 1, cells := 0, slots := 0, locals := 12 }) (va_Pc [.ref wk, .ref ro] (gB D dA A E ((wk, .inr (5, [.int 0, .null])) :: R))) (va_Qv (fun (_ : Unit) => True) (fun _ => gE D A ((wk, .inr (5, [.int 0, .ref ro])) :: R)) A) (0) (0) A := by
  refine g_start rfl rfl ?_
  intro p e s m args below meth c ls X hr hlocks hin hw hl
  have hx := X.1.1
  have hb := X.1.2.1
  have hl : lv_has ls 2 [(0, .ref wk), (1, .ref ro)] := hl
  refine lv_aload_n hx hb dX5_init_0 rfl (lv_at hl 0 rfl) ?_
  refine lv_aload_n hx hb dX5_init_1 rfl (lv_at hl 1 rfl) ?_
  refine g_putF (ws' := (wk, .inr (5, [.int 0, .ref ro])) :: R) X (hin rfl) cfX5 hw 0 1 rfl rfl q479 rfl rfl rfl rfl rfl rfl rfl dX5_init_2 (fun H locs hw => ?_)
  refine lv_aload_n hx hb dX5_init_5 rfl (lv_at hl 0 rfl) ?_
  refine W.objInit hx hb X.1.2.2.2.1 (X.1.2.2.2.2 _ q477) (X.1.2.2.2.2 _ q109) (X.1.2.2.2.2 _ q110) rfl (by rw [X.1.2.2.1]; exact hl.1) rfl dX5_init_6 (Nat.le_of_ble_eq_true rfl) (Nat.le_of_ble_eq_true rfl) ?_
  refine W.eq (g2 := F0 m 9 ls []) rfl ?_
  exact g_vret () X hw hr hlocks trivial rfl dX5_init_9

set_option maxHeartbeats 4000000 in
theorem m_X2_iterator (l : Launch) (D : va_G) (dA : Nat → ClassId) (A : Nat → Prop) (E : State → Prop) (hE : gSt A E) (R : va_W) (ro lo mo : Nat) : Met l yX2_iterator (ws_ yX2_iterator cX2_iterator 1 (Option.some (FieldType.object "java/util/Iterator"))) ({ frames := 2, cells := 1, slots := 2, locals := 33 }) (va_Pc [.ref ro] (gB D dA A E ((ro, .inr (2, [.ref lo, .int (nI mo)])) :: R))) (va_Qr (fun (_ : Unit) => True) (fun _ a => gE D A ((a, .inr (5, [.int 0, .ref ro])) :: (ro, .inr (2, [.ref lo, .int (nI mo)])) :: R)) A) (1) (2) A := by
  refine g_start rfl rfl ?_
  intro p e s m args below meth c ls X hr hlocks hin hw hl
  have hx := X.1.1
  have hb := X.1.2.1
  have hl : lv_has ls 1 [(0, .ref ro)] := hl
  refine g_new (fs := [.int 0, .null]) X cfX5 hw q472 q473 q83 (fun j hj => by rcases (show j = 0 ∨ j = 1 by omega) with rfl | rfl <;> rfl) (Nat.le_of_ble_eq_true rfl) (Nat.le_of_ble_eq_true rfl) dX2_iterator_0 (fun q_1 H hw => ?_)
  refine lv_dup hx hb dX2_iterator_3 rfl ?_
  refine lv_aload_n hx hb dX2_iterator_4 rfl (lv_at hl 0 rfl) ?_
  refine va_callv (va_runIN (As := [.ref ro]) (rest := [.ref q_1]) X.1 (m_X5_init l D dA A E hE ((ro, .inr (2, [.ref lo, .int (nI mo)])) :: R) q_1 ro) ⟨va_cnB 1 X.1.2.2.2.2 (lw_meth q476) rfl rfl rfl (X.2.2.1.nw q474 rfl) (X.1.2.2.2.2 _ q83) (by decide +kernel) ⟨Nat.le_of_ble_eq_true rfl, Nat.le_of_ble_eq_true rfl⟩, rfl, X.1.2.2.2.2 _ q475⟩ (g_preS hE X.2 hw) rfl rfl hl.1 rfl (lv_room (Nat.le_of_ble_eq_true rfl)) dX2_iterator_5 ⟨Nat.le_of_ble_eq_true rfl, Nat.le_of_ble_eq_true rfl⟩) hw.2.2 (fun q _ h => h) (fun q h => h) (fun u t H locs ht hvm h_2 hB hz9 hk9 hS => ?_)
  have hw : gW D A ((q_1, .inr (5, [.int 0, .ref ro])) :: (ro, .inr (2, [.ref lo, .int (nI mo)])) :: R) s H locs := g_aft ht hB hS
  exact g_aret () X hw hr (Or.inl ⟨_, rfl⟩) hlocks trivial rfl dX2_iterator_8

set_option maxHeartbeats 4000000 in
theorem m_X5_hasNext (l : Launch) (D : va_G) (dA : Nat → ClassId) (A : Nat → Prop) (E : State → Prop) (hE : gSt A E) (R : va_W) (wk nx : Nat) (ro lo la sz mo : Nat) (hnx : nx ≤ 100) (hsz : sz ≤ 100) : Met l yX5_hasNext (ws_ yX5_hasNext cX5_hasNext 1 (Option.some FieldType.boolean)) ({ frames := 1, cells := 0, slots := 0, locals := 20 }) (va_Pc [.ref wk] (gB D dA A E ((wk, .inr (5, [.int (nI nx), .ref ro])) :: (ro, .inr (2, [.ref lo, .int (nI mo)])) :: (lo, .inr (14, [.int (nI sz), .ref la, .int (nI sz)])) :: R))) (va_Qi (fun (r : Int32) (_ : Unit) => r = bZ (decide (nx < sz))) (fun _ => gE D A ((wk, .inr (5, [.int (nI nx), .ref ro])) :: (ro, .inr (2, [.ref lo, .int (nI mo)])) :: (lo, .inr (14, [.int (nI sz), .ref la, .int (nI sz)])) :: R)) A) (0) (0) A := by
  refine g_start rfl rfl ?_
  intro p e s m args below meth c ls X hr hlocks hin hw hl
  have hx := X.1.1
  have hb := X.1.2.1
  have hl : lv_has ls 1 [(0, .ref wk)] := hl
  refine lv_aload_n hx hb dX5_hasNext_0 rfl (lv_at hl 0 rfl) ?_
  refine g_get X cfX5 hw 0 0 rfl rfl q478 rfl rfl dX5_hasNext_1 ?_
  refine lv_aload_n hx hb dX5_hasNext_4 rfl (lv_at hl 0 rfl) ?_
  refine g_get X cfX5 hw 0 1 rfl rfl q479 rfl rfl dX5_hasNext_5 ?_
  refine g_getN X cfX2 hw 1 0 rfl rfl q155 rfl rfl dX5_hasNext_8 ?_
  have hw : gW D A ((lo, .inr (14, [.int (nI sz), .ref la, .int (nI sz)])) :: (wk, .inr (5, [.int (nI nx), .ref ro])) :: (ro, .inr (2, [.ref lo, .int (nI mo)])) :: R) s _ _ := g_perm (X := [(wk, .inr (5, [.int (nI nx), .ref ro])), (ro, .inr (2, [.ref lo, .int (nI mo)])), (lo, .inr (14, [.int (nI sz), .ref la, .int (nI sz)]))]) (cx := [(lo, .inr (14, [.int (nI sz), .ref la, .int (nI sz)])), (wk, .inr (5, [.int (nI nx), .ref ro])), (ro, .inr (2, [.ref lo, .int (nI mo)]))]) (pl := R) hw [2, 0, 1] rfl rfl rfl rfl
  refine va_calli (va_runV (As := []) (rest := [.int (nI nx)]) X.1 (m_J2_size l D dA A E hE ((wk, .inr (5, [.int (nI nx), .ref ro])) :: (ro, .inr (2, [.ref lo, .int (nI mo)])) :: R) lo la sz) (cwV 0 X.1.2.2.2.2 (lw_V q495 q271 q272 q69 q273) rfl rfl rfl (by decide +kernel) ⟨Nat.le_of_ble_eq_true rfl, Nat.le_of_ble_eq_true rfl⟩) (g_preV hE X.2 hw 0 rfl rfl) rfl rfl hl.1 rfl (lv_room (Nat.le_of_ble_eq_true rfl)) dX5_hasNext_11 ⟨Nat.le_of_ble_eq_true rfl, Nat.le_of_ble_eq_true rfl⟩) hw.2.2 (fun q _ h => h) (fun q h => h) (fun r_2 u t H locs ht hvm h_1 hB hz9 hk9 hS => ?_)
  have hw : gW D A ((lo, .inr (14, [.int (nI sz), .ref la, .int (nI sz)])) :: (wk, .inr (5, [.int (nI nx), .ref ro])) :: (ro, .inr (2, [.ref lo, .int (nI mo)])) :: R) s H locs := g_aft ht hB hS
  obtain rfl : r_2 = nI sz := h_1
  refine lv_icmp_ge (tgt := 21) hx hb dX5_hasNext_14 (by decide) (fun c_3 => ?_) (fun c_3 => ?_)
  · skip
    have c_3 := Int32.not_lt.mpr c_3
    have c_3 : ¬ (nx < sz) := fun q => c_3 ((nI_ltI (a := nx) (b := sz) (by omega) (by omega)).mpr q)
    refine lv_iconst (v := 0) hx hb dX5_hasNext_21 (by decide) ?_
    have hw : gW D A ((wk, .inr (5, [.int (nI nx), .ref ro])) :: (ro, .inr (2, [.ref lo, .int (nI mo)])) :: (lo, .inr (14, [.int (nI sz), .ref la, .int (nI sz)])) :: R) s _ _ := g_perm (X := [(lo, .inr (14, [.int (nI sz), .ref la, .int (nI sz)])), (wk, .inr (5, [.int (nI nx), .ref ro])), (ro, .inr (2, [.ref lo, .int (nI mo)]))]) (cx := [(wk, .inr (5, [.int (nI nx), .ref ro])), (ro, .inr (2, [.ref lo, .int (nI mo)])), (lo, .inr (14, [.int (nI sz), .ref la, .int (nI sz)]))]) (pl := R) hw [1, 2, 0] rfl rfl rfl rfl
    exact g_zret (v := 0) () X hw hr hlocks rfl (by exact bZ_f (fun q => absurd (of_decide_eq_true q) (by omega))) rfl dX5_hasNext_22
  · skip
    have c_3 := Int32.not_le.mp c_3
    have c_3 : nx < sz := (nI_ltI (a := nx) (b := sz) (by omega) (by omega)).mp c_3
    refine lv_iconst (v := 1) hx hb dX5_hasNext_17 (by decide) ?_
    refine lv_goto (tgt := 22) hx hb dX5_hasNext_18 (by decide) ?_
    have hw : gW D A ((wk, .inr (5, [.int (nI nx), .ref ro])) :: (ro, .inr (2, [.ref lo, .int (nI mo)])) :: (lo, .inr (14, [.int (nI sz), .ref la, .int (nI sz)])) :: R) s _ _ := g_perm (X := [(lo, .inr (14, [.int (nI sz), .ref la, .int (nI sz)])), (wk, .inr (5, [.int (nI nx), .ref ro])), (ro, .inr (2, [.ref lo, .int (nI mo)]))]) (cx := [(wk, .inr (5, [.int (nI nx), .ref ro])), (ro, .inr (2, [.ref lo, .int (nI mo)])), (lo, .inr (14, [.int (nI sz), .ref la, .int (nI sz)]))]) (pl := R) hw [1, 2, 0] rfl rfl rfl rfl
    exact g_zret (v := 1) () X hw hr hlocks rfl (by exact bZ_t (decide_eq_true (by omega))) rfl dX5_hasNext_22

set_option maxHeartbeats 4000000 in
theorem m_X5_next (l : Launch) (D : va_G) (dA : Nat → ClassId) (A : Nat → Prop) (E : State → Prop) (hE : gSt A E) (R : va_W) (wk nx : Nat) (ro : Nat) (lo la ln sz : Nat) (lf : Nat → Option Nat) (mo : Nat) (x : Nat) (hi : nx < sz) (hsz : sz ≤ ln) (hln : ln ≤ 100) (hfx : lf nx = some x) : Met l yX5_next (ws_ yX5_next cX5_next 2 (Option.some (FieldType.object "java/lang/Object"))) ({ frames := 3, cells := 0, slots := 0, locals := 64 }) (va_Pc [.ref wk] (gB D dA A E ((wk, .inr (5, [.int (nI nx), .ref ro])) :: (ro, .inr (2, [.ref lo, .int (nI mo)])) :: (lo, .inr (14, [.int (nI sz), .ref la, .int (nI sz)])) :: (la, .inl (dA 3, ln, .inr (.inr (.inr (.inr lf))))) :: R))) (va_Qr (fun (_ : Unit) => True) (fun _ a t => a = x ∧ gE D A ((wk, .inr (5, [.int (nI (nx + 1)), .ref ro])) :: (ro, .inr (2, [.ref lo, .int (nI mo)])) :: (lo, .inr (14, [.int (nI sz), .ref la, .int (nI sz)])) :: (la, .inl (dA 3, ln, .inr (.inr (.inr (.inr lf))))) :: R) t) A) (0) (0) A := by
  refine g_start rfl rfl ?_
  intro p e s m args below meth c ls X hr hlocks hin hw hl
  have hx := X.1.1
  have hb := X.1.2.1
  have hl : lv_has ls 2 [(0, .ref wk)] := hl
  refine lv_aload_n hx hb dX5_next_0 rfl (lv_at hl 0 rfl) ?_
  refine g_get X cfX5 hw 0 0 rfl rfl q478 rfl rfl dX5_next_1 ?_
  refine lv_aload_n hx hb dX5_next_4 rfl (lv_at hl 0 rfl) ?_
  refine g_get X cfX5 hw 0 1 rfl rfl q479 rfl rfl dX5_next_5 ?_
  refine g_getN X cfX2 hw 1 0 rfl rfl q155 rfl rfl dX5_next_8 ?_
  have hw : gW D A ((lo, .inr (14, [.int (nI sz), .ref la, .int (nI sz)])) :: (wk, .inr (5, [.int (nI nx), .ref ro])) :: (ro, .inr (2, [.ref lo, .int (nI mo)])) :: (la, .inl (dA 3, ln, .inr (.inr (.inr (.inr lf))))) :: R) s _ _ := g_perm (X := [(wk, .inr (5, [.int (nI nx), .ref ro])), (ro, .inr (2, [.ref lo, .int (nI mo)])), (lo, .inr (14, [.int (nI sz), .ref la, .int (nI sz)])), (la, .inl (dA 3, ln, .inr (.inr (.inr (.inr lf)))))]) (cx := [(lo, .inr (14, [.int (nI sz), .ref la, .int (nI sz)])), (wk, .inr (5, [.int (nI nx), .ref ro])), (ro, .inr (2, [.ref lo, .int (nI mo)])), (la, .inl (dA 3, ln, .inr (.inr (.inr (.inr lf)))))]) (pl := R) hw [2, 0, 1, 3] rfl rfl rfl rfl
  refine va_calli (va_runV (As := []) (rest := [.int (nI nx)]) X.1 (m_J2_size l D dA A E hE ((wk, .inr (5, [.int (nI nx), .ref ro])) :: (ro, .inr (2, [.ref lo, .int (nI mo)])) :: (la, .inl (dA 3, ln, .inr (.inr (.inr (.inr lf))))) :: R) lo la sz) (cwV 0 X.1.2.2.2.2 (lw_V q495 q271 q272 q69 q273) rfl rfl rfl (by decide +kernel) ⟨Nat.le_of_ble_eq_true rfl, Nat.le_of_ble_eq_true rfl⟩) (g_preV hE X.2 hw 0 rfl rfl) rfl rfl hl.1 rfl (lv_room (Nat.le_of_ble_eq_true rfl)) dX5_next_11 ⟨Nat.le_of_ble_eq_true rfl, Nat.le_of_ble_eq_true rfl⟩) hw.2.2 (fun q _ h => h) (fun q h => h) (fun r_2 u t H locs ht hvm h_1 hB hz9 hk9 hS => ?_)
  have hw : gW D A ((lo, .inr (14, [.int (nI sz), .ref la, .int (nI sz)])) :: (wk, .inr (5, [.int (nI nx), .ref ro])) :: (ro, .inr (2, [.ref lo, .int (nI mo)])) :: (la, .inl (dA 3, ln, .inr (.inr (.inr (.inr lf))))) :: R) s H locs := g_aft ht hB hS
  obtain rfl : r_2 = nI sz := h_1
  refine lv_icmp_lt (tgt := 25) hx hb dX5_next_14 (by decide) (fun c_3 => ?_) (fun c_3 => absurd (nI_lt (a := nx) (b := sz) (by omega) (by omega)) c_3)
  refine lv_aload_n hx hb dX5_next_25 rfl (lv_at hl 0 rfl) ?_
  refine g_get X cfX5 hw 1 1 rfl rfl q479 rfl rfl dX5_next_26 ?_
  refine g_getN X cfX2 hw 2 0 rfl rfl q155 rfl rfl dX5_next_29 ?_
  refine lv_aload_n hx hb dX5_next_32 rfl (lv_at hl 0 rfl) ?_
  refine g_get X cfX5 hw 1 0 rfl rfl q478 rfl rfl dX5_next_33 ?_
  have hw : gW D A ((lo, .inr (14, [.int (nI sz), .ref la, .int (nI sz)])) :: (la, .inl (dA 3, ln, .inr (.inr (.inr (.inr lf))))) :: (wk, .inr (5, [.int (nI nx), .ref ro])) :: (ro, .inr (2, [.ref lo, .int (nI mo)])) :: R) s _ _ := g_perm (X := [(lo, .inr (14, [.int (nI sz), .ref la, .int (nI sz)])), (wk, .inr (5, [.int (nI nx), .ref ro])), (ro, .inr (2, [.ref lo, .int (nI mo)])), (la, .inl (dA 3, ln, .inr (.inr (.inr (.inr lf)))))]) (cx := [(lo, .inr (14, [.int (nI sz), .ref la, .int (nI sz)])), (la, .inl (dA 3, ln, .inr (.inr (.inr (.inr lf))))), (wk, .inr (5, [.int (nI nx), .ref ro])), (ro, .inr (2, [.ref lo, .int (nI mo)]))]) (pl := R) hw [0, 3, 1, 2] rfl rfl rfl rfl
  refine va_callr (va_runV (As := [.int (nI nx)]) (rest := []) X.1 (m_J2_get l D dA A E hE ((wk, .inr (5, [.int (nI nx), .ref ro])) :: (ro, .inr (2, [.ref lo, .int (nI mo)])) :: R) lo la ln sz lf nx x (by first | assumption | omega) (by first | assumption | omega) (by first | assumption | omega) hfx) (cwV 1 X.1.2.2.2.2 (lw_V q569 q425 q426 q69 q427) rfl rfl rfl (by decide +kernel) ⟨Nat.le_of_ble_eq_true rfl, Nat.le_of_ble_eq_true rfl⟩) (g_preV hE X.2 hw 0 rfl rfl) rfl rfl hl.1 rfl (lv_room (Nat.le_of_ble_eq_true rfl)) dX5_next_36 ⟨Nat.le_of_ble_eq_true rfl, Nat.le_of_ble_eq_true rfl⟩) hw.2.2 (fun q _ h => h) (fun q h => h) (fun u q_5 t H locs ht hvm h_4 hB hz9 hk9 hS => ?_)
  obtain ⟨er_q_5, hB⟩ := hB
  obtain rfl := er_q_5.symm
  have hw : gW D A ((lo, .inr (14, [.int (nI sz), .ref la, .int (nI sz)])) :: (la, .inl (dA 3, ln, .inr (.inr (.inr (.inr lf))))) :: (wk, .inr (5, [.int (nI nx), .ref ro])) :: (ro, .inr (2, [.ref lo, .int (nI mo)])) :: R) s H locs := g_aft ht hB hS
  refine lv_astore_n (lv' := [(1, .ref x), (0, .ref wk)]) hx hb dX5_next_39 rfl hl (by decide) rfl (fun ls hl => ?_)
  refine lv_aload_n hx hb dX5_next_40 rfl (lv_at hl 1 rfl) ?_
  refine lv_dup hx hb dX5_next_41 rfl ?_
  refine g_get X cfX5 hw 2 0 rfl rfl q478 rfl rfl dX5_next_42 ?_
  refine lv_iconst (v := 1) hx hb dX5_next_45 (by decide) ?_
  refine lv_iadd hx hb dX5_next_46 ?_
  refine g_addN (a := nx) (b := 1) ?_
  refine g_put (ws' := (lo, .inr (14, [.int (nI sz), .ref la, .int (nI sz)])) :: (la, .inl (dA 3, ln, .inr (.inr (.inr (.inr lf))))) :: (wk, .inr (5, [.int (nI (nx + 1)), .ref ro])) :: (ro, .inr (2, [.ref lo, .int (nI mo)])) :: R) X cfX5 hw 2 0 rfl rfl q478 rfl rfl rfl rfl rfl rfl dX5_next_47 (fun H locs hw => ?_)
  refine lv_aload_n hx hb dX5_next_50 rfl (lv_at hl 0 rfl) ?_
  have hw : gW D A ((wk, .inr (5, [.int (nI (nx + 1)), .ref ro])) :: (ro, .inr (2, [.ref lo, .int (nI mo)])) :: (lo, .inr (14, [.int (nI sz), .ref la, .int (nI sz)])) :: (la, .inl (dA 3, ln, .inr (.inr (.inr (.inr lf))))) :: R) s _ _ := g_perm (X := [(lo, .inr (14, [.int (nI sz), .ref la, .int (nI sz)])), (la, .inl (dA 3, ln, .inr (.inr (.inr (.inr lf))))), (wk, .inr (5, [.int (nI (nx + 1)), .ref ro])), (ro, .inr (2, [.ref lo, .int (nI mo)]))]) (cx := [(wk, .inr (5, [.int (nI (nx + 1)), .ref ro])), (ro, .inr (2, [.ref lo, .int (nI mo)])), (lo, .inr (14, [.int (nI sz), .ref la, .int (nI sz)])), (la, .inl (dA 3, ln, .inr (.inr (.inr (.inr lf)))))]) (pl := R) hw [2, 3, 0, 1] rfl rfl rfl rfl
  exact g_aretK (ad := fun _ => x) () X hw hr (Or.inl ⟨_, rfl⟩) hlocks trivial (rfl) rfl dX5_next_51
