set_option maxHeartbeats 4000000 in
theorem m_X0_lambda_new_0 (l : Launch) (D : va_G) (dA : Nat → ClassId) (A : Nat → Prop) (E : State → Prop) (hE : gSt A E) (R : va_W) (w : Int32) : Met l yX0_lambda_new_0 (ws_ yX0_lambda_new_0 cX0_lambda_new_0 2 (Option.some FieldType.int)) ({ frames := 0, cells := 0, slots := 0, locals := 0 }) (va_Pc [.int 3, .int w] (gB D dA A E (R))) (va_Qi (fun (r : Int32) (_ : Unit) => r = moreI 0 w) (fun _ => gE D A (R)) A) (0) (0) A := by
  refine g_start rfl rfl ?_
  intro p e s m args below meth c ls X hr hlocks hin hw hl
  have hx := X.1.1
  have hb := X.1.2.1
  have hl : lv_has ls 2 [(0, .int 3), (1, .int w)] := hl
  refine lv_iload_n hx hb dX0_lambda_new_0_0 rfl (lv_at hl 1 rfl) ?_
  refine lv_iload_n hx hb dX0_lambda_new_0_1 rfl (lv_at hl 0 rfl) ?_
  refine lv_iconst (v := 2) hx hb dX0_lambda_new_0_2 (by decide) ?_
  refine lv_iadd hx hb dX0_lambda_new_0_3 ?_
  refine g_top (y := 5) (by decide) ?_
  refine lv_idiv hx hb dX0_lambda_new_0_4 (by decide) ?_
  exact g_iret (v := w / 5) () X hw hr hlocks  (by simp [moreI]) rfl dX0_lambda_new_0_5

set_option maxHeartbeats 4000000 in
theorem m_X0_lambda_new_1 (l : Launch) (D : va_G) (dA : Nat → ClassId) (A : Nat → Prop) (E : State → Prop) (hE : gSt A E) (R : va_W) (w : Int32) : Met l yX0_lambda_new_1 (ws_ yX0_lambda_new_1 cX0_lambda_new_1 2 (Option.some FieldType.int)) ({ frames := 0, cells := 0, slots := 0, locals := 0 }) (va_Pc [.int 3, .int w] (gB D dA A E (R))) (va_Qi (fun (r : Int32) (_ : Unit) => r = moreI 1 w) (fun _ => gE D A (R)) A) (0) (0) A := by
  refine g_start rfl rfl ?_
  intro p e s m args below meth c ls X hr hlocks hin hw hl
  have hx := X.1.1
  have hb := X.1.2.1
  have hl : lv_has ls 2 [(0, .int 3), (1, .int w)] := hl
  refine lv_iload_n hx hb dX0_lambda_new_1_0 rfl (lv_at hl 1 rfl) ?_
  refine lv_iload_n hx hb dX0_lambda_new_1_1 rfl (lv_at hl 0 rfl) ?_
  refine lv_iconst (v := 1) hx hb dX0_lambda_new_1_2 (by decide) ?_
  refine lv_iadd hx hb dX0_lambda_new_1_3 ?_
  refine g_top (y := 4) (by decide) ?_
  refine lv_idiv hx hb dX0_lambda_new_1_4 (by decide) ?_
  refine lv_iconst (v := 1) hx hb dX0_lambda_new_1_5 (by decide) ?_
  refine lv_isub hx hb dX0_lambda_new_1_6 ?_
  exact g_iret (v := (w / 4) - 1) () X hw hr hlocks  (by simp [moreI]) rfl dX0_lambda_new_1_7

set_option maxHeartbeats 4000000 in
theorem m_X0_lambda_new_2 (l : Launch) (D : va_G) (dA : Nat → ClassId) (A : Nat → Prop) (E : State → Prop) (hE : gSt A E) (R : va_W) (w : Int32) : Met l yX0_lambda_new_2 (ws_ yX0_lambda_new_2 cX0_lambda_new_2 2 (Option.some FieldType.int)) ({ frames := 0, cells := 0, slots := 0, locals := 0 }) (va_Pc [.int 3, .int w] (gB D dA A E (R))) (va_Qi (fun (r : Int32) (_ : Unit) => r = moreI 2 w) (fun _ => gE D A (R)) A) (0) (0) A := by
  refine g_start rfl rfl ?_
  intro p e s m args below meth c ls X hr hlocks hin hw hl
  have hx := X.1.1
  have hb := X.1.2.1
  have hl : lv_has ls 2 [(0, .int 3), (1, .int w)] := hl
  refine lv_iload_n hx hb dX0_lambda_new_2_0 rfl (lv_at hl 1 rfl) ?_
  refine lv_iload_n hx hb dX0_lambda_new_2_1 rfl (lv_at hl 0 rfl) ?_
  refine lv_idiv hx hb dX0_lambda_new_2_2 (by decide) ?_
  refine lv_iconst (v := 1) hx hb dX0_lambda_new_2_3 (by decide) ?_
  refine lv_iadd hx hb dX0_lambda_new_2_4 ?_
  exact g_iret (v := (w / 3) + 1) () X hw hr hlocks  (by simp [moreI]) rfl dX0_lambda_new_2_5

set_option maxHeartbeats 4000000 in
theorem m_X7_wouldCut (l : Launch) (D : va_G) (dA : Nat → ClassId) (A : Nat → Prop) (E : State → Prop) (hE : gSt A E) (R : va_W) (fl : Nat → Nat) (dL : Nat → ClassId) (hLE : ∀ U, E U → lmU dL U) (my : Nat) (mh mw mt mq mn : Int32) (cu : Nat) (hmh : mh = 0 ∨ mh = 1 ∨ mh = 2) (du : Int32) : Met l yX7_wouldCut (ws_ yX7_wouldCut cX7_wouldCut 3 (Option.some FieldType.int)) ({ frames := 2, cells := 0, slots := 0, locals := 28 }) (va_Pc [.ref my, .int du, .ref cu] (gB D dA A E ((my, .inr (7, [.int mh, .int mw, .int mt, .int mq, .int mn])) :: (cu, .inl (dA 4, 3, .inr (.inr (.inr (.inr (rowF fl 0 3)))))) :: (fl 0, .inl (dL 0, 1, .inl (fun _ => 3))) :: (fl 1, .inl (dL 1, 1, .inl (fun _ => 3))) :: (fl 2, .inl (dL 2, 1, .inl (fun _ => 3))) :: R))) (va_Qi (fun (r : Int32) (_ : Unit) => r = wouldI du (moreI mh mw)) (fun _ => gE D A ((my, .inr (7, [.int mh, .int mw, .int mt, .int mq, .int mn])) :: (cu, .inl (dA 4, 3, .inr (.inr (.inr (.inr (rowF fl 0 3)))))) :: (fl 0, .inl (dL 0, 1, .inl (fun _ => 3))) :: (fl 1, .inl (dL 1, 1, .inl (fun _ => 3))) :: (fl 2, .inl (dL 2, 1, .inl (fun _ => 3))) :: R)) A) (0) (0) A := by
  refine g_start rfl rfl ?_
  intro p e s m args below meth c ls X hr hlocks hin hw hl
  have hx := X.1.1
  have hb := X.1.2.1
  have hl : lv_has ls 3 [(0, .ref my), (1, .int du), (2, .ref cu)] := hl
  rcases hmh with rfl | rfl | rfl
  · skip
    refine lv_iconst (v := 0) hx hb dX7_wouldCut_0 (by decide) ?_
    refine lv_iload_n hx hb dX7_wouldCut_1 rfl (lv_at hl 1 rfl) ?_
    refine lv_aload_n hx hb dX7_wouldCut_2 rfl (lv_at hl 2 rfl) ?_
    refine lv_aload_n hx hb dX7_wouldCut_3 rfl (lv_at hl 0 rfl) ?_
    refine g_get X cfX7 hw 0 0 rfl rfl q635 rfl rfl dX7_wouldCut_4 ?_
    refine g_aald X hw 1 4 rfl rfl (i := 0) (by decide) (by decide) dX7_wouldCut_7 ?_
    refine g_stk (st' := [.ref (fl 0), .int du, .int 0]) (by rw [rowF_at (by decide)]; rfl) ?_
    refine lv_aload_n hx hb dX7_wouldCut_8 rfl (lv_at hl 0 rfl) ?_
    refine g_get X cfX7 hw 0 1 rfl rfl q636 rfl rfl dX7_wouldCut_9 ?_
    obtain ⟨hl0_z_1, hl1_z_1, hl2_z_1, hif_z_1⟩ := hLE s X.2.2.2.1
    obtain ⟨d9_z_1, dk9_z_1, hmd_z_1, hcn_z_1, hd9_z_1, hnm_z_1⟩ := hl0_z_1
    refine g_lam (sh := lm0_s) (d := d9_z_1) (y := yX0_lambda_new_0) (bytes := cX0_lambda_new_0) (maxL := 2) (v := moreI 0 mw) (w := mw) X hE hl.1 hw 2 rfl rfl rfl (by decide +kernel) hmd_z_1 hcn_z_1 (lm0_F X.1.2.2.2.2 hmd_z_1 hd9_z_1 hnm_z_1) q843 hif_z_1 (m_X0_lambda_new_0 l D dA A E hE ((my, .inr (7, [.int 0, .int mw, .int mt, .int mq, .int mn])) :: (cu, .inl (dA 4, 3, .inr (.inr (.inr (.inr (rowF fl 0 3)))))) :: (fl 0, .inl (dL 0, 1, .inl (fun _ => 3))) :: (fl 1, .inl (dL 1, 1, .inl (fun _ => 3))) :: (fl 2, .inl (dL 2, 1, .inl (fun _ => 3))) :: R) mw) rfl rfl (by first | exact Nat.le_of_ble_eq_true rfl | (dsimp only; omega)) (by first | exact Nat.le_of_ble_eq_true rfl | (dsimp only; omega)) rfl rfl q380 q379 q64 (by first | exact Nat.le_of_ble_eq_true rfl | (dsimp only; omega)) (by first | exact Nat.le_of_ble_eq_true rfl | (dsimp only; omega)) dX7_wouldCut_12 (fun H locs hw9 => ?_)
    replace hw := hw9
    clear hw9
    refine lv_iadd hx hb dX7_wouldCut_17 ?_
    refine va_mmax hx hb (by rw [X.1.2.2.1, hl.1]) X.1.2.2.2.1 (X.1.2.2.2.2 _ q846) (X.1.2.2.2.2 _ q224) (X.1.2.2.2.2 _ q72) (X.1.2.2.2.2 _ q225) (Nat.le_of_ble_eq_true rfl) (Nat.le_of_ble_eq_true rfl) (by first | exact Nat.le_of_ble_eq_true rfl | (dsimp only; omega)) (by first | exact Nat.le_of_ble_eq_true rfl | (dsimp only; omega)) dX7_wouldCut_18 ?_
    refine g_top (y := if (du + (moreI 0 mw)) < 0 then 0 else du + (moreI 0 mw)) max_0 ?_
    exact g_iret (v := if (du + (moreI 0 mw)) < 0 then 0 else du + (moreI 0 mw)) () X hw hr hlocks  rfl rfl dX7_wouldCut_21
  · skip
    refine lv_iconst (v := 0) hx hb dX7_wouldCut_0 (by decide) ?_
    refine lv_iload_n hx hb dX7_wouldCut_1 rfl (lv_at hl 1 rfl) ?_
    refine lv_aload_n hx hb dX7_wouldCut_2 rfl (lv_at hl 2 rfl) ?_
    refine lv_aload_n hx hb dX7_wouldCut_3 rfl (lv_at hl 0 rfl) ?_
    refine g_get X cfX7 hw 0 0 rfl rfl q635 rfl rfl dX7_wouldCut_4 ?_
    refine g_aald X hw 1 4 rfl rfl (i := 1) (by decide) (by decide) dX7_wouldCut_7 ?_
    refine g_stk (st' := [.ref (fl 1), .int du, .int 0]) (by rw [rowF_at (by decide)]; rfl) ?_
    refine lv_aload_n hx hb dX7_wouldCut_8 rfl (lv_at hl 0 rfl) ?_
    refine g_get X cfX7 hw 0 1 rfl rfl q636 rfl rfl dX7_wouldCut_9 ?_
    obtain ⟨hl0_z_2, hl1_z_2, hl2_z_2, hif_z_2⟩ := hLE s X.2.2.2.1
    obtain ⟨d9_z_2, dk9_z_2, hmd_z_2, hcn_z_2, hd9_z_2, hnm_z_2⟩ := hl1_z_2
    refine g_lam (sh := lm1_s) (d := d9_z_2) (y := yX0_lambda_new_1) (bytes := cX0_lambda_new_1) (maxL := 2) (v := moreI 1 mw) (w := mw) X hE hl.1 hw 3 rfl rfl rfl (by decide +kernel) hmd_z_2 hcn_z_2 (lm1_F X.1.2.2.2.2 hmd_z_2 hd9_z_2 hnm_z_2) q843 hif_z_2 (m_X0_lambda_new_1 l D dA A E hE ((my, .inr (7, [.int 1, .int mw, .int mt, .int mq, .int mn])) :: (cu, .inl (dA 4, 3, .inr (.inr (.inr (.inr (rowF fl 0 3)))))) :: (fl 0, .inl (dL 0, 1, .inl (fun _ => 3))) :: (fl 1, .inl (dL 1, 1, .inl (fun _ => 3))) :: (fl 2, .inl (dL 2, 1, .inl (fun _ => 3))) :: R) mw) rfl rfl (by first | exact Nat.le_of_ble_eq_true rfl | (dsimp only; omega)) (by first | exact Nat.le_of_ble_eq_true rfl | (dsimp only; omega)) rfl rfl q382 q381 q64 (by first | exact Nat.le_of_ble_eq_true rfl | (dsimp only; omega)) (by first | exact Nat.le_of_ble_eq_true rfl | (dsimp only; omega)) dX7_wouldCut_12 (fun H locs hw9 => ?_)
    replace hw := hw9
    clear hw9
    refine lv_iadd hx hb dX7_wouldCut_17 ?_
    refine va_mmax hx hb (by rw [X.1.2.2.1, hl.1]) X.1.2.2.2.1 (X.1.2.2.2.2 _ q846) (X.1.2.2.2.2 _ q224) (X.1.2.2.2.2 _ q72) (X.1.2.2.2.2 _ q225) (Nat.le_of_ble_eq_true rfl) (Nat.le_of_ble_eq_true rfl) (by first | exact Nat.le_of_ble_eq_true rfl | (dsimp only; omega)) (by first | exact Nat.le_of_ble_eq_true rfl | (dsimp only; omega)) dX7_wouldCut_18 ?_
    refine g_top (y := if (du + (moreI 1 mw)) < 0 then 0 else du + (moreI 1 mw)) max_0 ?_
    exact g_iret (v := if (du + (moreI 1 mw)) < 0 then 0 else du + (moreI 1 mw)) () X hw hr hlocks  rfl rfl dX7_wouldCut_21
  · skip
    refine lv_iconst (v := 0) hx hb dX7_wouldCut_0 (by decide) ?_
    refine lv_iload_n hx hb dX7_wouldCut_1 rfl (lv_at hl 1 rfl) ?_
    refine lv_aload_n hx hb dX7_wouldCut_2 rfl (lv_at hl 2 rfl) ?_
    refine lv_aload_n hx hb dX7_wouldCut_3 rfl (lv_at hl 0 rfl) ?_
    refine g_get X cfX7 hw 0 0 rfl rfl q635 rfl rfl dX7_wouldCut_4 ?_
    refine g_aald X hw 1 4 rfl rfl (i := 2) (by decide) (by decide) dX7_wouldCut_7 ?_
    refine g_stk (st' := [.ref (fl 2), .int du, .int 0]) (by rw [rowF_at (by decide)]; rfl) ?_
    refine lv_aload_n hx hb dX7_wouldCut_8 rfl (lv_at hl 0 rfl) ?_
    refine g_get X cfX7 hw 0 1 rfl rfl q636 rfl rfl dX7_wouldCut_9 ?_
    obtain ⟨hl0_z_3, hl1_z_3, hl2_z_3, hif_z_3⟩ := hLE s X.2.2.2.1
    obtain ⟨d9_z_3, dk9_z_3, hmd_z_3, hcn_z_3, hd9_z_3, hnm_z_3⟩ := hl2_z_3
    refine g_lam (sh := lm2_s) (d := d9_z_3) (y := yX0_lambda_new_2) (bytes := cX0_lambda_new_2) (maxL := 2) (v := moreI 2 mw) (w := mw) X hE hl.1 hw 4 rfl rfl rfl (by decide +kernel) hmd_z_3 hcn_z_3 (lm2_F X.1.2.2.2.2 hmd_z_3 hd9_z_3 hnm_z_3) q843 hif_z_3 (m_X0_lambda_new_2 l D dA A E hE ((my, .inr (7, [.int 2, .int mw, .int mt, .int mq, .int mn])) :: (cu, .inl (dA 4, 3, .inr (.inr (.inr (.inr (rowF fl 0 3)))))) :: (fl 0, .inl (dL 0, 1, .inl (fun _ => 3))) :: (fl 1, .inl (dL 1, 1, .inl (fun _ => 3))) :: (fl 2, .inl (dL 2, 1, .inl (fun _ => 3))) :: R) mw) rfl rfl (by first | exact Nat.le_of_ble_eq_true rfl | (dsimp only; omega)) (by first | exact Nat.le_of_ble_eq_true rfl | (dsimp only; omega)) rfl rfl q384 q383 q64 (by first | exact Nat.le_of_ble_eq_true rfl | (dsimp only; omega)) (by first | exact Nat.le_of_ble_eq_true rfl | (dsimp only; omega)) dX7_wouldCut_12 (fun H locs hw9 => ?_)
    replace hw := hw9
    clear hw9
    refine lv_iadd hx hb dX7_wouldCut_17 ?_
    refine va_mmax hx hb (by rw [X.1.2.2.1, hl.1]) X.1.2.2.2.1 (X.1.2.2.2.2 _ q846) (X.1.2.2.2.2 _ q224) (X.1.2.2.2.2 _ q72) (X.1.2.2.2.2 _ q225) (Nat.le_of_ble_eq_true rfl) (Nat.le_of_ble_eq_true rfl) (by first | exact Nat.le_of_ble_eq_true rfl | (dsimp only; omega)) (by first | exact Nat.le_of_ble_eq_true rfl | (dsimp only; omega)) dX7_wouldCut_18 ?_
    refine g_top (y := if (du + (moreI 2 mw)) < 0 then 0 else du + (moreI 2 mw)) max_0 ?_
    exact g_iret (v := if (du + (moreI 2 mw)) < 0 then 0 else du + (moreI 2 mw)) () X hw hr hlocks  rfl rfl dX7_wouldCut_21
