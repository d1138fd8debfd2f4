set_option maxHeartbeats 4000000 in
theorem m_X3_init (l : Launch) (D : va_G) (dA : Nat → ClassId) (A : Nat → Prop) (E : State → Prop) (hE : gSt A E) (R : va_W) (lo j : Nat) : Met l yX3_init (ws_ yX3_init cX3_init 2 (Option.none : Option FieldType)) ({ frames := 1, cells := 0, slots := 0, locals := 12 }) (va_Pc [.ref lo, .int (nI j)] (gB D dA A E ((lo, .inr (3, [.int 0, .int 0, .int 0, .int 0, .int 0, .int 0, .int 0, .int 0])) :: R))) (va_Qv (fun (_ : Unit) => True) (fun _ => gE D A ((lo, .inr (3, [.int (nI j), .int 2, .int 0, .int 0, .int 0, .int (-15), .int 0, .int 0])) :: R)) A) (0) (0) A := by
  refine g_start rfl rfl ?_
  intro p e s m args below meth c ls X hr hlocks hin hw hl
  have hx := X.1.1
  have hb := X.1.2.1
  have hl : lv_has ls 2 [(0, .ref lo), (1, .int (nI j))] := hl
  refine lv_aload_n hx hb dX3_init_0 rfl (lv_at hl 0 rfl) ?_
  refine W.objInit hx hb X.1.2.2.2.1 (X.1.2.2.2.2 _ q167) (X.1.2.2.2.2 _ q109) (X.1.2.2.2.2 _ q110) rfl (by rw [X.1.2.2.1]; exact hl.1) rfl dX3_init_1 (Nat.le_of_ble_eq_true rfl) (Nat.le_of_ble_eq_true rfl) ?_
  refine W.eq (g2 := F0 m 4 ls []) rfl ?_
  refine lv_aload_n hx hb dX3_init_4 rfl (lv_at hl 0 rfl) ?_
  refine lv_iconst (v := 2) hx hb dX3_init_5 (by decide) ?_
  refine g_put (ws' := (lo, .inr (3, [.int 0, .int 2, .int 0, .int 0, .int 0, .int 0, .int 0, .int 0])) :: R) X cfX3 hw 0 1 rfl rfl q169 rfl rfl rfl rfl rfl rfl dX3_init_6 (fun H locs hw => ?_)
  refine lv_aload_n hx hb dX3_init_9 rfl (lv_at hl 0 rfl) ?_
  refine lv_iconst (v := 0) hx hb dX3_init_10 (by decide) ?_
  refine g_put (ws' := (lo, .inr (3, [.int 0, .int 2, .int 0, .int 0, .int 0, .int 0, .int 0, .int 0])) :: R) X cfX3 hw 0 2 rfl rfl q171 rfl rfl rfl rfl rfl rfl dX3_init_11 (fun H locs hw => ?_)
  refine lv_aload_n hx hb dX3_init_14 rfl (lv_at hl 0 rfl) ?_
  refine lv_bipush (v := (-15)) hx hb dX3_init_15 (by decide) ?_
  refine g_put (ws' := (lo, .inr (3, [.int 0, .int 2, .int 0, .int 0, .int 0, .int (-15), .int 0, .int 0])) :: R) X cfX3 hw 0 5 rfl rfl q177 rfl rfl rfl rfl rfl rfl dX3_init_17 (fun H locs hw => ?_)
  refine lv_aload_n hx hb dX3_init_20 rfl (lv_at hl 0 rfl) ?_
  refine lv_iload_n hx hb dX3_init_21 rfl (lv_at hl 1 rfl) ?_
  refine g_putF (ws' := (lo, .inr (3, [.int (nI j), .int 2, .int 0, .int 0, .int 0, .int (-15), .int 0, .int 0])) :: R) X (hin rfl) cfX3 hw 0 0 rfl rfl q168 rfl rfl rfl rfl rfl rfl rfl dX3_init_22 (fun H locs hw => ?_)
  exact g_vret () X hw hr hlocks trivial rfl dX3_init_25

set_option maxHeartbeats 4000000 in
theorem m_X3_height (l : Launch) (D : va_G) (dA : Nat → ClassId) (A : Nat → Prop) (E : State → Prop) (hE : gSt A E) (R : va_W) (lo j : Nat) (lp lq lw lh lc lr ld : Int32)  : Met l yX3_height (ws_ yX3_height cX3_height 1 (Option.some FieldType.int)) ({ frames := 0, cells := 0, slots := 0, locals := 0 }) (va_Pc [.ref lo] (gB D dA A E ((lo, .inr (3, [.int (nI j), .int lp, .int lq, .int lw, .int lh, .int lc, .int lr, .int ld])) :: R))) (va_Qi (fun (r : Int32) (_ : Unit) => r = heightI j) (fun _ => gE D A ((lo, .inr (3, [.int (nI j), .int lp, .int lq, .int lw, .int lh, .int lc, .int lr, .int ld])) :: R)) A) (0) (0) A := by
  refine g_start rfl rfl ?_
  intro p e s m args below meth c ls X hr hlocks hin hw hl
  have hx := X.1.1
  have hb := X.1.2.1
  have hl : lv_has ls 1 [(0, .ref lo)] := hl
  refine lv_iconst (v := 4) hx hb dX3_height_0 (by decide) ?_
  refine lv_iconst (v := 3) hx hb dX3_height_1 (by decide) ?_
  refine lv_aload_n hx hb dX3_height_2 rfl (lv_at hl 0 rfl) ?_
  refine g_get X cfX3 hw 0 0 rfl rfl q168 rfl rfl dX3_height_3 ?_
  refine lv_imul hx hb dX3_height_6 ?_
  refine g_mulN (a := 3) (b := j) ?_
  refine lv_iadd hx hb dX3_height_7 ?_
  refine g_addN (a := 4) (b := 3 * j) ?_
  exact g_iret (v := nI (4 + 3 * j)) () X hw hr hlocks  rfl rfl dX3_height_8

set_option maxHeartbeats 4000000 in
theorem m_X3_value (l : Launch) (D : va_G) (dA : Nat → ClassId) (A : Nat → Prop) (E : State → Prop) (hE : gSt A E) (R : va_W) (lo j : Nat) (lp lq lw lh lc lr ld : Int32) (w : Int32) : Met l yX3_value (ws_ yX3_value cX3_value 2 (Option.some FieldType.int)) ({ frames := 1, cells := 0, slots := 0, locals := 20 }) (va_Pc [.ref lo, .int w] (gB D dA A E ((lo, .inr (3, [.int (nI j), .int lp, .int lq, .int lw, .int lh, .int lc, .int lr, .int ld])) :: R))) (va_Qi (fun (r : Int32) (_ : Unit) => r = ledV j lp lq lw lc lr ld w) (fun _ => gE D A ((lo, .inr (3, [.int (nI j), .int lp, .int lq, .int lw, .int lh, .int lc, .int lr, .int ld])) :: R)) A) (0) (0) A := by
  refine g_start rfl rfl ?_
  intro p e s m args below meth c ls X hr hlocks hin hw hl
  have hx := X.1.1
  have hb := X.1.2.1
  have hl : lv_has ls 2 [(0, .ref lo), (1, .int w)] := hl
  refine lv_iload_n hx hb dX3_value_0 rfl (lv_at hl 1 rfl) ?_
  by_cases c_1 : w = 0
  · refine lv_tableIn (tgt := 44) hx hb dX3_value_1 (by rw [c_1]; decide) (by rw [c_1]; decide) (by rw [c_1]; rfl) (by decide) ?_
    subst c_1
    refine lv_aload_n hx hb dX3_value_44 rfl (lv_at hl 0 rfl) ?_
    refine va_calli (va_runV (As := []) (rest := []) X.1 (m_X3_height l D dA A E hE R lo j lp lq lw lh lc lr ld) (cwV 0 X.1.2.2.2.2 (lw_V q443 q444 q445 q70 q446) rfl rfl rfl (by decide +kernel) ⟨Nat.le_of_ble_eq_true rfl, Nat.le_of_ble_eq_true rfl⟩) (g_preV hE X.2 hw 0 rfl rfl) rfl rfl hl.1 rfl (lv_room (Nat.le_of_ble_eq_true rfl)) dX3_value_45 ⟨Nat.le_of_ble_eq_true rfl, Nat.le_of_ble_eq_true rfl⟩) hw.2.2 (fun q _ h => h) (fun q h => h) (fun r_3 u t H locs ht hvm h_2 hB hz9 hk9 hS => ?_)
    have hw : gW D A ((lo, .inr (3, [.int (nI j), .int lp, .int lq, .int lw, .int lh, .int lc, .int lr, .int ld])) :: R) s H locs := g_aft ht hB hS
    obtain rfl : r_3 = heightI j := h_2
    refine lv_goto (tgt := 95) hx hb dX3_value_48 (by decide) ?_
    exact g_iret (v := heightI j) () X hw hr hlocks  (by simp [ledV]) (by first | rfl | (simp [ledV]; done)) dX3_value_95
  by_cases c_4 : w = 1
  · refine lv_tableIn (tgt := 51) hx hb dX3_value_1 (by rw [c_4]; decide) (by rw [c_4]; decide) (by rw [c_4]; rfl) (by decide) ?_
    subst c_4
    refine lv_aload_n hx hb dX3_value_51 rfl (lv_at hl 0 rfl) ?_
    refine g_get X cfX3 hw 0 1 rfl rfl q169 rfl rfl dX3_value_52 ?_
    refine lv_goto (tgt := 95) hx hb dX3_value_55 (by decide) ?_
    exact g_iret (v := lp) () X hw hr hlocks  (by simp [ledV, c_1]) (by first | rfl | (simp [ledV, c_1]; done) | (simp [ledV, c_1]; rfl)) dX3_value_95
  by_cases c_5 : w = 2
  · refine lv_tableIn (tgt := 58) hx hb dX3_value_1 (by rw [c_5]; decide) (by rw [c_5]; decide) (by rw [c_5]; rfl) (by decide) ?_
    subst c_5
    refine lv_aload_n hx hb dX3_value_58 rfl (lv_at hl 0 rfl) ?_
    refine g_get X cfX3 hw 0 2 rfl rfl q171 rfl rfl dX3_value_59 ?_
    refine lv_goto (tgt := 95) hx hb dX3_value_62 (by decide) ?_
    exact g_iret (v := lq) () X hw hr hlocks  (by simp [ledV, c_1, c_4]) (by first | rfl | (simp [ledV, c_1, c_4]; done) | (simp [ledV, c_1, c_4]; rfl)) dX3_value_95
  by_cases c_6 : w = 3
  · refine lv_tableIn (tgt := 65) hx hb dX3_value_1 (by rw [c_6]; decide) (by rw [c_6]; decide) (by rw [c_6]; rfl) (by decide) ?_
    subst c_6
    refine lv_aload_n hx hb dX3_value_65 rfl (lv_at hl 0 rfl) ?_
    refine g_get X cfX3 hw 0 3 rfl rfl q173 rfl rfl dX3_value_66 ?_
    refine lv_goto (tgt := 95) hx hb dX3_value_69 (by decide) ?_
    exact g_iret (v := lw) () X hw hr hlocks  (by simp [ledV, c_1, c_4, c_5]) (by first | rfl | (simp [ledV, c_1, c_4, c_5]; done) | (simp [ledV, c_1, c_4, c_5]; rfl)) dX3_value_95
  by_cases c_7 : w = 4
  · refine lv_tableIn (tgt := 72) hx hb dX3_value_1 (by rw [c_7]; decide) (by rw [c_7]; decide) (by rw [c_7]; rfl) (by decide) ?_
    subst c_7
    refine lv_aload_n hx hb dX3_value_72 rfl (lv_at hl 0 rfl) ?_
    refine g_get X cfX3 hw 0 5 rfl rfl q177 rfl rfl dX3_value_73 ?_
    refine lv_goto (tgt := 95) hx hb dX3_value_76 (by decide) ?_
    exact g_iret (v := lc) () X hw hr hlocks  (by simp [ledV, c_1, c_4, c_5, c_6]) (by first | rfl | (simp [ledV, c_1, c_4, c_5, c_6]; done) | (simp [ledV, c_1, c_4, c_5, c_6]; rfl)) dX3_value_95
  by_cases c_8 : w = 5
  · refine lv_tableIn (tgt := 79) hx hb dX3_value_1 (by rw [c_8]; decide) (by rw [c_8]; decide) (by rw [c_8]; rfl) (by decide) ?_
    subst c_8
    refine lv_aload_n hx hb dX3_value_79 rfl (lv_at hl 0 rfl) ?_
    refine g_get X cfX3 hw 0 6 rfl rfl q179 rfl rfl dX3_value_80 ?_
    refine lv_goto (tgt := 95) hx hb dX3_value_83 (by decide) ?_
    exact g_iret (v := lr) () X hw hr hlocks  (by simp [ledV, c_1, c_4, c_5, c_6, c_7]) (by first | rfl | (simp [ledV, c_1, c_4, c_5, c_6, c_7]; done) | (simp [ledV, c_1, c_4, c_5, c_6, c_7]; rfl)) dX3_value_95
  by_cases c_9 : w = 6
  · refine lv_tableIn (tgt := 86) hx hb dX3_value_1 (by rw [c_9]; decide) (by rw [c_9]; decide) (by rw [c_9]; rfl) (by decide) ?_
    subst c_9
    refine lv_aload_n hx hb dX3_value_86 rfl (lv_at hl 0 rfl) ?_
    refine g_get X cfX3 hw 0 7 rfl rfl q180 rfl rfl dX3_value_87 ?_
    refine lv_goto (tgt := 95) hx hb dX3_value_90 (by decide) ?_
    exact g_iret (v := ld) () X hw hr hlocks  (by simp [ledV, c_1, c_4, c_5, c_6, c_7, c_8]) (by first | rfl | (simp [ledV, c_1, c_4, c_5, c_6, c_7, c_8]; done) | (simp [ledV, c_1, c_4, c_5, c_6, c_7, c_8]; rfl)) dX3_value_95
  refine g_tabOut7 (tgt := 93) hx hb dX3_value_1 c_1 c_4 c_5 c_6 c_7 c_8 c_9 (by decide) ?_
  refine lv_bipush (v := (-12)) hx hb dX3_value_93 (by decide) ?_
  exact g_iret (v := (-12)) () X hw hr hlocks  (by simp [ledV, c_1, c_4, c_5, c_6, c_7, c_8, c_9]) (by first | rfl | (simp [ledV, c_1, c_4, c_5, c_6, c_7, c_8, c_9]; done) | (simp [ledV, c_1, c_4, c_5, c_6, c_7, c_8, c_9]; rfl)) dX3_value_95

set_option maxHeartbeats 4000000 in
theorem m_X3_depth (l : Launch) (D : va_G) (dA : Nat → ClassId) (A : Nat → Prop) (E : State → Prop) (hE : gSt A E) (R : va_W) (lo j : Nat) (lp lq lw lh lc lr ld : Int32) (hj : j < 1000) (q : Nat) (hq : q < 1000) : Met l yX3_depth (ws_ yX3_depth cX3_depth 2 (Option.some FieldType.int)) ({ frames := 0, cells := 0, slots := 0, locals := 0 }) (va_Pc [.ref lo, .int (nI q)] (gB D dA A E ((lo, .inr (3, [.int (nI j), .int lp, .int lq, .int lw, .int lh, .int lc, .int lr, .int ld])) :: R))) (va_Qi (fun (r : Int32) (_ : Unit) => r = dpL lw j q) (fun _ => gE D A ((lo, .inr (3, [.int (nI j), .int lp, .int lq, .int lw, .int lh, .int lc, .int lr, .int ld])) :: R)) A) (0) (0) A := by
  refine g_start rfl rfl ?_
  intro p e s m args below meth c ls X hr hlocks hin hw hl
  have hx := X.1.1
  have hb := X.1.2.1
  have hl : lv_has ls 2 [(0, .ref lo), (1, .int (nI q))] := hl
  refine lv_bipush (v := 9) hx hb dX3_depth_0 (by decide) ?_
  refine lv_bipush (v := 11) hx hb dX3_depth_2 (by decide) ?_
  refine lv_aload_n hx hb dX3_depth_4 rfl (lv_at hl 0 rfl) ?_
  refine g_get X cfX3 hw 0 0 rfl rfl q168 rfl rfl dX3_depth_5 ?_
  refine lv_imul hx hb dX3_depth_8 ?_
  refine g_mulN (a := 11) (b := j) ?_
  refine lv_bipush (v := 7) hx hb dX3_depth_9 (by decide) ?_
  refine lv_iload_n hx hb dX3_depth_11 rfl (lv_at hl 1 rfl) ?_
  refine lv_imul hx hb dX3_depth_12 ?_
  refine g_mulN (a := 7) (b := q) ?_
  refine lv_iadd hx hb dX3_depth_13 ?_
  refine g_addN (a := 11 * j) (b := 7 * q) ?_
  refine lv_bipush (v := 30) hx hb dX3_depth_14 (by decide) ?_
  refine lv_irem hx hb dX3_depth_16 (by decide) ?_
  refine lv_iadd hx hb dX3_depth_17 ?_
  refine lv_aload_n hx hb dX3_depth_18 rfl (lv_at hl 0 rfl) ?_
  refine g_get X cfX3 hw 0 3 rfl rfl q173 rfl rfl dX3_depth_19 ?_
  refine lv_isub hx hb dX3_depth_22 ?_
  exact g_iret (v := (9 + ((nI (11 * j + 7 * q)) - (nI (11 * j + 7 * q)) / 30 * 30)) - lw) () X hw hr hlocks  (by exact dpL_eq (by omega) (by omega)) rfl dX3_depth_23

set_option maxHeartbeats 4000000 in
theorem m_X3_bears (l : Launch) (D : va_G) (dA : Nat → ClassId) (A : Nat → Prop) (E : State → Prop) (hE : gSt A E) (R : va_W) (lo j : Nat) (lp lq lw lh lc lr ld : Int32)  : Met l yX3_bears (ws_ yX3_bears cX3_bears 1 (Option.some FieldType.int)) ({ frames := 1, cells := 0, slots := 0, locals := 20 }) (va_Pc [.ref lo] (gB D dA A E ((lo, .inr (3, [.int (nI j), .int lp, .int lq, .int lw, .int lh, .int lc, .int lr, .int ld])) :: R))) (va_Qi (fun (r : Int32) (_ : Unit) => r = bearI j) (fun _ => gE D A ((lo, .inr (3, [.int (nI j), .int lp, .int lq, .int lw, .int lh, .int lc, .int lr, .int ld])) :: R)) A) (0) (0) A := by
  refine g_start rfl rfl ?_
  intro p e s m args below meth c ls X hr hlocks hin hw hl
  have hx := X.1.1
  have hb := X.1.2.1
  have hl : lv_has ls 1 [(0, .ref lo)] := hl
  refine lv_bipush (v := 120) hx hb dX3_bears_0 (by decide) ?_
  refine lv_iconst (v := 3) hx hb dX3_bears_2 (by decide) ?_
  refine lv_aload_n hx hb dX3_bears_3 rfl (lv_at hl 0 rfl) ?_
  refine va_calli (va_runV (As := []) (rest := [.int 3, .int 120]) X.1 (m_X3_height l D dA A E hE R lo j lp lq lw lh lc lr ld) (cwV 0 X.1.2.2.2.2 (lw_V q443 q444 q445 q70 q446) rfl rfl rfl (by decide +kernel) ⟨Nat.le_of_ble_eq_true rfl, Nat.le_of_ble_eq_true rfl⟩) (g_preV hE X.2 hw 0 rfl rfl) rfl rfl hl.1 rfl (lv_room (Nat.le_of_ble_eq_true rfl)) dX3_bears_4 ⟨Nat.le_of_ble_eq_true rfl, Nat.le_of_ble_eq_true rfl⟩) hw.2.2 (fun q _ h => h) (fun q h => h) (fun r_2 u t H locs ht hvm h_1 hB hz9 hk9 hS => ?_)
  have hw : gW D A ((lo, .inr (3, [.int (nI j), .int lp, .int lq, .int lw, .int lh, .int lc, .int lr, .int ld])) :: R) s H locs := g_aft ht hB hS
  obtain rfl : r_2 = heightI j := h_1
  refine lv_imul hx hb dX3_bears_7 ?_
  refine lv_iconst (v := 2) hx hb dX3_bears_8 (by decide) ?_
  refine lv_idiv hx hb dX3_bears_9 (by decide) ?_
  refine lv_isub hx hb dX3_bears_10 ?_
  exact g_iret (v := 120 - ((3 * (heightI j)) / 2)) () X hw hr hlocks  rfl rfl dX3_bears_11

set_option maxHeartbeats 4000000 in
theorem m_X3_isRainedOn (l : Launch) (D : va_G) (dA : Nat → ClassId) (A : Nat → Prop) (E : State → Prop) (hE : gSt A E) (R : va_W) (lo j : Nat) (lp lq lw lh lc lr ld : Int32) (ra sp : Int32) : Met l yX3_isRainedOn (ws_ yX3_isRainedOn cX3_isRainedOn 5 (Option.some FieldType.int)) ({ frames := 1, cells := 0, slots := 0, locals := 13 }) (va_Pc [.ref lo, .int ra, .int sp] (gB D dA A E ((lo, .inr (3, [.int (nI j), .int lp, .int lq, .int lw, .int lh, .int lc, .int lr, .int ld])) :: R))) (va_Qi (fun (r : Int32) (_ : Unit) => r = 10 * ra - runsI ra sp) (fun _ => gE D A ((lo, .inr (3, [.int (nI j), .int lp, .int lq, .int lw, .int lh, .int lc, .int (lr + runsI ra sp), .int (ld + (10 * ra - runsI ra sp))])) :: R)) A) (0) (0) A := by
  refine g_start rfl rfl ?_
  intro p e s m args below meth c ls X hr hlocks hin hw hl
  have hx := X.1.1
  have hb := X.1.2.1
  have hl : lv_has ls 5 [(0, .ref lo), (1, .int ra), (2, .int sp)] := hl
  refine lv_bipush (v := 10) hx hb dX3_isRainedOn_0 (by decide) ?_
  refine lv_iload_n hx hb dX3_isRainedOn_2 rfl (lv_at hl 1 rfl) ?_
  refine lv_imul hx hb dX3_isRainedOn_3 ?_
  refine lv_istore_n (lv' := [(3, .int (10 * ra)), (0, .ref lo), (1, .int ra), (2, .int sp)]) hx hb dX3_isRainedOn_4 rfl hl (by decide) rfl (fun ls hl => ?_)
  refine lv_iload_n hx hb dX3_isRainedOn_5 rfl (lv_at hl 0 rfl) ?_
  refine lv_iconst (v := 3) hx hb dX3_isRainedOn_6 (by decide) ?_
  refine lv_iload_n hx hb dX3_isRainedOn_7 rfl (lv_at hl 3 rfl) ?_
  refine lv_imul hx hb dX3_isRainedOn_8 ?_
  refine va_mmin hx hb (by rw [X.1.2.2.1, hl.1]) X.1.2.2.2.1 (X.1.2.2.2.2 _ q1058) (X.1.2.2.2.2 _ q264) (X.1.2.2.2.2 _ q72) (X.1.2.2.2.2 _ q265) (Nat.le_of_ble_eq_true rfl) (Nat.le_of_ble_eq_true rfl) (by first | exact Nat.le_of_ble_eq_true rfl | (dsimp only; omega)) (by first | exact Nat.le_of_ble_eq_true rfl | (dsimp only; omega)) dX3_isRainedOn_9 ?_
  refine lv_istore (lv' := [(4, .int (if (3 * sp) < (10 * ra) then 3 * sp else 10 * ra)), (3, .int (10 * ra)), (0, .ref lo), (1, .int ra), (2, .int sp)]) hx hb dX3_isRainedOn_12 hl (by decide) rfl (fun ls hl => ?_)
  refine lv_aload_n hx hb dX3_isRainedOn_14 rfl (lv_at hl 2 rfl) ?_
  refine lv_dup hx hb dX3_isRainedOn_15 rfl ?_
  refine g_get X cfX3 hw 0 6 rfl rfl q179 rfl rfl dX3_isRainedOn_16 ?_
  refine lv_iload hx hb dX3_isRainedOn_19 (lv_at hl 0 rfl) ?_
  refine lv_iadd hx hb dX3_isRainedOn_21 ?_
  refine g_put (ws' := (lo, .inr (3, [.int (nI j), .int lp, .int lq, .int lw, .int lh, .int lc, .int (lr + (if (3 * sp) < (10 * ra) then 3 * sp else 10 * ra)), .int ld])) :: R) X cfX3 hw 0 6 rfl rfl q179 rfl rfl rfl rfl rfl rfl dX3_isRainedOn_22 (fun H locs hw => ?_)
  refine lv_aload_n hx hb dX3_isRainedOn_25 rfl (lv_at hl 2 rfl) ?_
  refine lv_dup hx hb dX3_isRainedOn_26 rfl ?_
  refine g_get X cfX3 hw 0 7 rfl rfl q180 rfl rfl dX3_isRainedOn_27 ?_
  refine lv_iload_n hx hb dX3_isRainedOn_30 rfl (lv_at hl 1 rfl) ?_
  refine lv_iload hx hb dX3_isRainedOn_31 (lv_at hl 0 rfl) ?_
  refine lv_isub hx hb dX3_isRainedOn_33 ?_
  refine lv_iadd hx hb dX3_isRainedOn_34 ?_
  refine g_put (ws' := (lo, .inr (3, [.int (nI j), .int lp, .int lq, .int lw, .int lh, .int lc, .int (lr + (if (3 * sp) < (10 * ra) then 3 * sp else 10 * ra)), .int (ld + ((10 * ra) - (if (3 * sp) < (10 * ra) then 3 * sp else 10 * ra)))])) :: R) X cfX3 hw 0 7 rfl rfl q180 rfl rfl rfl rfl rfl rfl dX3_isRainedOn_35 (fun H locs hw => ?_)
  refine lv_iload_n hx hb dX3_isRainedOn_38 rfl (lv_at hl 1 rfl) ?_
  refine lv_iload hx hb dX3_isRainedOn_39 (lv_at hl 0 rfl) ?_
  refine lv_isub hx hb dX3_isRainedOn_41 ?_
  exact g_iret (v := (10 * ra) - (if (3 * sp) < (10 * ra) then 3 * sp else 10 * ra)) () X hw hr hlocks  rfl rfl dX3_isRainedOn_42

set_option maxHeartbeats 4000000 in
theorem m_X3_isWornBy (l : Launch) (D : va_G) (dA : Nat → ClassId) (A : Nat → Prop) (E : State → Prop) (hE : gSt A E) (R : va_W) (lo j : Nat) (lp lq lw lh lc lr ld : Int32) (ra : Int32) : Met l yX3_isWornBy (ws_ yX3_isWornBy cX3_isWornBy 2 (Option.none : Option FieldType)) ({ frames := 1, cells := 0, slots := 0, locals := 14 }) (va_Pc [.ref lo, .int ra] (gB D dA A E ((lo, .inr (3, [.int (nI j), .int lp, .int lq, .int lw, .int lh, .int lc, .int lr, .int ld])) :: R))) (va_Qv (fun (_ : Unit) => True) (fun _ => gE D A ((lo, .inr (3, [.int (nI j), .int lp, .int lq, .int (wornN lq lh lw ra), .int (hardN lq lh ra), .int lc, .int lr, .int ld])) :: R)) A) (0) (0) A := by
  refine g_start rfl rfl ?_
  intro p e s m args below meth c ls X hr hlocks hin hw hl
  have hx := X.1.1
  have hb := X.1.2.1
  have hl : lv_has ls 2 [(0, .ref lo), (1, .int ra)] := hl
  refine lv_aload_n hx hb dX3_isWornBy_0 rfl (lv_at hl 0 rfl) ?_
  refine g_get X cfX3 hw 0 2 rfl rfl q171 rfl rfl dX3_isWornBy_1 ?_
  refine lv_if_ne (tgt := 12) hx hb dX3_isWornBy_4 (by decide) (fun c_1 => ?_) (fun c_1 => ?_)
  · skip
    exact g_vret () X hw hr hlocks trivial (by first | rfl | (simp [hardN, wornN, c_1]; done) | (simp [hardN, wornN, c_1]; rfl)) dX3_isWornBy_12
  · skip
    refine lv_iload_n hx hb dX3_isWornBy_7 rfl (lv_at hl 1 rfl) ?_
    refine lv_iconst (v := 5) hx hb dX3_isWornBy_8 (by decide) ?_
    refine lv_icmp_ge (tgt := 13) hx hb dX3_isWornBy_9 (by decide) (fun c_2 => ?_) (fun c_2 => ?_)
    · skip
      have c_2 := Int32.not_lt.mpr c_2
      refine lv_aload_n hx hb dX3_isWornBy_13 rfl (lv_at hl 0 rfl) ?_
      refine lv_dup hx hb dX3_isWornBy_14 rfl ?_
      refine g_get X cfX3 hw 0 4 rfl rfl q175 rfl rfl dX3_isWornBy_15 ?_
      refine lv_iconst (v := 1) hx hb dX3_isWornBy_18 (by decide) ?_
      refine lv_iadd hx hb dX3_isWornBy_19 ?_
      refine g_put (ws' := (lo, .inr (3, [.int (nI j), .int lp, .int lq, .int lw, .int (lh + 1), .int lc, .int lr, .int ld])) :: R) X cfX3 hw 0 4 rfl rfl q175 rfl rfl rfl rfl rfl rfl dX3_isWornBy_20 (fun H locs hw => ?_)
      refine lv_aload_n hx hb dX3_isWornBy_23 rfl (lv_at hl 0 rfl) ?_
      refine g_get X cfX3 hw 0 4 rfl rfl q175 rfl rfl dX3_isWornBy_24 ?_
      refine lv_bipush (v := 8) hx hb dX3_isWornBy_27 (by decide) ?_
      refine lv_icmp_ne (tgt := 52) hx hb dX3_isWornBy_29 (by decide) (fun c_3 => ?_) (fun c_3 => ?_)
      · skip
        exact g_vret () X hw hr hlocks trivial (by first | rfl | (simp [hardN, wornN, c_1, c_2, c_3]; done) | (simp [hardN, wornN, c_1, c_2, c_3]; rfl)) dX3_isWornBy_52
      · skip
        refine lv_aload_n hx hb dX3_isWornBy_32 rfl (lv_at hl 0 rfl) ?_
        refine lv_iconst (v := 0) hx hb dX3_isWornBy_33 (by decide) ?_
        refine g_put (ws' := (lo, .inr (3, [.int (nI j), .int lp, .int lq, .int lw, .int 0, .int lc, .int lr, .int ld])) :: R) X cfX3 hw 0 4 rfl rfl q175 rfl rfl rfl rfl rfl rfl dX3_isWornBy_34 (fun H locs hw => ?_)
        refine lv_aload_n hx hb dX3_isWornBy_37 rfl (lv_at hl 0 rfl) ?_
        refine lv_bipush (v := 9) hx hb dX3_isWornBy_38 (by decide) ?_
        refine lv_aload_n hx hb dX3_isWornBy_40 rfl (lv_at hl 0 rfl) ?_
        refine g_get X cfX3 hw 0 3 rfl rfl q173 rfl rfl dX3_isWornBy_41 ?_
        refine lv_iconst (v := 1) hx hb dX3_isWornBy_44 (by decide) ?_
        refine lv_iadd hx hb dX3_isWornBy_45 ?_
        refine va_mmin hx hb (by rw [X.1.2.2.1, hl.1]) X.1.2.2.2.1 (X.1.2.2.2.2 _ q1058) (X.1.2.2.2.2 _ q264) (X.1.2.2.2.2 _ q72) (X.1.2.2.2.2 _ q265) (Nat.le_of_ble_eq_true rfl) (Nat.le_of_ble_eq_true rfl) (by first | exact Nat.le_of_ble_eq_true rfl | (dsimp only; omega)) (by first | exact Nat.le_of_ble_eq_true rfl | (dsimp only; omega)) dX3_isWornBy_46 ?_
        refine g_put (ws' := (lo, .inr (3, [.int (nI j), .int lp, .int lq, .int (if (lw + 1) < 9 then lw + 1 else 9), .int 0, .int lc, .int lr, .int ld])) :: R) X cfX3 hw 0 3 rfl rfl q173 rfl rfl rfl rfl rfl rfl dX3_isWornBy_49 (fun H locs hw => ?_)
        exact g_vret () X hw hr hlocks trivial (by first | rfl | (simp [hardN, wornN, c_1, c_2, c_3]; done) | (simp [hardN, wornN, c_1, c_2, c_3]; rfl)) dX3_isWornBy_52
    · skip
      have c_2 := Int32.not_le.mp c_2
      exact g_vret () X hw hr hlocks trivial (by first | rfl | (simp [hardN, wornN, c_1, c_2]; done) | (simp [hardN, wornN, c_1, c_2]; rfl)) dX3_isWornBy_12

set_option maxHeartbeats 4000000 in
theorem m_X3_dayEnds (l : Launch) (D : va_G) (dA : Nat → ClassId) (A : Nat → Prop) (E : State → Prop) (hE : gSt A E) (R : va_W) (lo j : Nat) (lp lq lw lh lc lr ld : Int32)  : Met l yX3_dayEnds (ws_ yX3_dayEnds cX3_dayEnds 1 (Option.none : Option FieldType)) ({ frames := 1, cells := 0, slots := 0, locals := 14 }) (va_Pc [.ref lo] (gB D dA A E ((lo, .inr (3, [.int (nI j), .int lp, .int lq, .int lw, .int lh, .int lc, .int lr, .int ld])) :: R))) (va_Qv (fun (_ : Unit) => True) (fun _ => gE D A ((lo, .inr (3, [.int (nI j), .int (dayL lp lq), .int lq, .int lw, .int lh, .int lc, .int lr, .int ld])) :: R)) A) (0) (0) A := by
  refine g_start rfl rfl ?_
  intro p e s m args below meth c ls X hr hlocks hin hw hl
  have hx := X.1.1
  have hb := X.1.2.1
  have hl : lv_has ls 1 [(0, .ref lo)] := hl
  refine lv_aload_n hx hb dX3_dayEnds_0 rfl (lv_at hl 0 rfl) ?_
  refine lv_bipush (v := 9) hx hb dX3_dayEnds_1 (by decide) ?_
  refine lv_aload_n hx hb dX3_dayEnds_3 rfl (lv_at hl 0 rfl) ?_
  refine g_get X cfX3 hw 0 1 rfl rfl q169 rfl rfl dX3_dayEnds_4 ?_
  refine lv_aload_n hx hb dX3_dayEnds_7 rfl (lv_at hl 0 rfl) ?_
  refine g_get X cfX3 hw 0 2 rfl rfl q171 rfl rfl dX3_dayEnds_8 ?_
  refine lv_iconst (v := 1) hx hb dX3_dayEnds_11 (by decide) ?_
  refine lv_icmp_ne (tgt := 19) hx hb dX3_dayEnds_12 (by decide) (fun c_1 => ?_) (fun c_1 => ?_)
  · skip
    refine lv_iconst (v := 1) hx hb dX3_dayEnds_19 (by decide) ?_
    refine lv_iadd hx hb dX3_dayEnds_20 ?_
    refine va_mmin hx hb (by rw [X.1.2.2.1, hl.1]) X.1.2.2.2.1 (X.1.2.2.2.2 _ q1058) (X.1.2.2.2.2 _ q264) (X.1.2.2.2.2 _ q72) (X.1.2.2.2.2 _ q265) (Nat.le_of_ble_eq_true rfl) (Nat.le_of_ble_eq_true rfl) (by first | exact Nat.le_of_ble_eq_true rfl | (dsimp only; omega)) (by first | exact Nat.le_of_ble_eq_true rfl | (dsimp only; omega)) dX3_dayEnds_21 ?_
    refine g_put (ws' := (lo, .inr (3, [.int (nI j), .int (if (lp + 1) < 9 then lp + 1 else 9), .int lq, .int lw, .int lh, .int lc, .int lr, .int ld])) :: R) X cfX3 hw 0 1 rfl rfl q169 rfl rfl rfl rfl rfl rfl dX3_dayEnds_24 (fun H locs hw => ?_)
    exact g_vret () X hw hr hlocks trivial (by first | rfl | (simp [dayL, c_1]; done) | (simp [dayL, c_1]; rfl)) dX3_dayEnds_27
  · skip
    refine lv_iconst (v := 2) hx hb dX3_dayEnds_15 (by decide) ?_
    refine lv_goto (tgt := 20) hx hb dX3_dayEnds_16 (by decide) ?_
    refine lv_iadd hx hb dX3_dayEnds_20 ?_
    refine va_mmin hx hb (by rw [X.1.2.2.1, hl.1]) X.1.2.2.2.1 (X.1.2.2.2.2 _ q1058) (X.1.2.2.2.2 _ q264) (X.1.2.2.2.2 _ q72) (X.1.2.2.2.2 _ q265) (Nat.le_of_ble_eq_true rfl) (Nat.le_of_ble_eq_true rfl) (by first | exact Nat.le_of_ble_eq_true rfl | (dsimp only; omega)) (by first | exact Nat.le_of_ble_eq_true rfl | (dsimp only; omega)) dX3_dayEnds_21 ?_
    refine g_put (ws' := (lo, .inr (3, [.int (nI j), .int (if (lp + 2) < 9 then lp + 2 else 9), .int lq, .int lw, .int lh, .int lc, .int lr, .int ld])) :: R) X cfX3 hw 0 1 rfl rfl q169 rfl rfl rfl rfl rfl rfl dX3_dayEnds_24 (fun H locs hw => ?_)
    exact g_vret () X hw hr hlocks trivial (by first | rfl | (simp [dayL, c_1]; done) | (simp [dayL, c_1]; rfl)) dX3_dayEnds_27

set_option maxHeartbeats 4000000 in
theorem m_X3_copy (l : Launch) (D : va_G) (dA : Nat → ClassId) (A : Nat → Prop) (E : State → Prop) (hE : gSt A E) (R : va_W) (lo j : Nat) (lp lq lw lh lc lr ld : Int32)  : Met l yX3_copy (ws_ yX3_copy cX3_copy 2 (Option.some (FieldType.object "GargoyleCopyists$Ledge"))) ({ frames := 2, cells := 1, slots := 8, locals := 33 }) (va_Pc [.ref lo] (gB D dA A E ((lo, .inr (3, [.int (nI j), .int lp, .int lq, .int lw, .int lh, .int lc, .int lr, .int ld])) :: R))) (va_Qr (fun (_ : Unit) => True) (fun _ a => gE D A ((a, .inr (3, [.int (nI j), .int lp, .int lq, .int lw, .int lh, .int lc, .int lr, .int ld])) :: (lo, .inr (3, [.int (nI j), .int lp, .int lq, .int lw, .int lh, .int lc, .int lr, .int ld])) :: R)) A) (1) (8) A := by
  refine g_start rfl rfl ?_
  intro p e s m args below meth c ls X hr hlocks hin hw hl
  have hx := X.1.1
  have hb := X.1.2.1
  have hl : lv_has ls 2 [(0, .ref lo)] := hl
  refine g_new (fs := [.int 0, .int 0, .int 0, .int 0, .int 0, .int 0, .int 0, .int 0]) X cfX3 hw q574 q163 q70 (fun j hj => by rcases (show j = 0 ∨ j = 1 ∨ j = 2 ∨ j = 3 ∨ j = 4 ∨ j = 5 ∨ j = 6 ∨ j = 7 by omega) with rfl | rfl | rfl | rfl | rfl | rfl | rfl | rfl <;> rfl) (Nat.le_of_ble_eq_true rfl) (Nat.le_of_ble_eq_true rfl) dX3_copy_0 (fun q_1 H hw => ?_)
  refine lv_dup hx hb dX3_copy_3 rfl ?_
  refine lv_aload_n hx hb dX3_copy_4 rfl (lv_at hl 0 rfl) ?_
  refine g_get X cfX3 hw 1 0 rfl rfl q168 rfl rfl dX3_copy_5 ?_
  refine va_callv (va_runI (As := [.int (nI j)]) (rest := [.ref q_1]) X.1 (m_X3_init l D dA A E hE ((lo, .inr (3, [.int (nI j), .int lp, .int lq, .int lw, .int lh, .int lc, .int lr, .int ld])) :: R) q_1 j) (cwI 1 X.1.2.2.2.2 (lw_meth q166) rfl rfl rfl (X.1.2.2.2.2 _ q70) (X.1.2.2.2.2 _ q575) (X.1.2.2.2.2 _ q165) rfl (by decide +kernel) ⟨Nat.le_of_ble_eq_true rfl, Nat.le_of_ble_eq_true rfl⟩) (g_preS hE X.2 hw) rfl rfl hl.1 rfl (lv_room (Nat.le_of_ble_eq_true rfl)) dX3_copy_8 ⟨Nat.le_of_ble_eq_true rfl, Nat.le_of_ble_eq_true rfl⟩) hw.2.2 (fun q _ h => h) (fun q h => h) (fun u t H locs ht hvm h_2 hB hz9 hk9 hS => ?_)
  have hw : gW D A ((q_1, .inr (3, [.int (nI j), .int 2, .int 0, .int 0, .int 0, .int (-15), .int 0, .int 0])) :: (lo, .inr (3, [.int (nI j), .int lp, .int lq, .int lw, .int lh, .int lc, .int lr, .int ld])) :: R) s H locs := g_aft ht hB hS
  refine lv_astore_n (lv' := [(1, .ref q_1), (0, .ref lo)]) hx hb dX3_copy_11 rfl hl (by decide) rfl (fun ls hl => ?_)
  refine lv_aload_n hx hb dX3_copy_12 rfl (lv_at hl 0 rfl) ?_
  refine lv_aload_n hx hb dX3_copy_13 rfl (lv_at hl 1 rfl) ?_
  refine g_get X cfX3 hw 1 1 rfl rfl q169 rfl rfl dX3_copy_14 ?_
  refine g_put (ws' := (q_1, .inr (3, [.int (nI j), .int lp, .int 0, .int 0, .int 0, .int (-15), .int 0, .int 0])) :: (lo, .inr (3, [.int (nI j), .int lp, .int lq, .int lw, .int lh, .int lc, .int lr, .int ld])) :: R) X cfX3 hw 0 1 rfl rfl q169 rfl rfl rfl rfl rfl rfl dX3_copy_17 (fun H locs hw => ?_)
  refine lv_aload_n hx hb dX3_copy_20 rfl (lv_at hl 0 rfl) ?_
  refine lv_aload_n hx hb dX3_copy_21 rfl (lv_at hl 1 rfl) ?_
  refine g_get X cfX3 hw 1 2 rfl rfl q171 rfl rfl dX3_copy_22 ?_
  refine g_put (ws' := (q_1, .inr (3, [.int (nI j), .int lp, .int lq, .int 0, .int 0, .int (-15), .int 0, .int 0])) :: (lo, .inr (3, [.int (nI j), .int lp, .int lq, .int lw, .int lh, .int lc, .int lr, .int ld])) :: R) X cfX3 hw 0 2 rfl rfl q171 rfl rfl rfl rfl rfl rfl dX3_copy_25 (fun H locs hw => ?_)
  refine lv_aload_n hx hb dX3_copy_28 rfl (lv_at hl 0 rfl) ?_
  refine lv_aload_n hx hb dX3_copy_29 rfl (lv_at hl 1 rfl) ?_
  refine g_get X cfX3 hw 1 3 rfl rfl q173 rfl rfl dX3_copy_30 ?_
  refine g_put (ws' := (q_1, .inr (3, [.int (nI j), .int lp, .int lq, .int lw, .int 0, .int (-15), .int 0, .int 0])) :: (lo, .inr (3, [.int (nI j), .int lp, .int lq, .int lw, .int lh, .int lc, .int lr, .int ld])) :: R) X cfX3 hw 0 3 rfl rfl q173 rfl rfl rfl rfl rfl rfl dX3_copy_33 (fun H locs hw => ?_)
  refine lv_aload_n hx hb dX3_copy_36 rfl (lv_at hl 0 rfl) ?_
  refine lv_aload_n hx hb dX3_copy_37 rfl (lv_at hl 1 rfl) ?_
  refine g_get X cfX3 hw 1 4 rfl rfl q175 rfl rfl dX3_copy_38 ?_
  refine g_put (ws' := (q_1, .inr (3, [.int (nI j), .int lp, .int lq, .int lw, .int lh, .int (-15), .int 0, .int 0])) :: (lo, .inr (3, [.int (nI j), .int lp, .int lq, .int lw, .int lh, .int lc, .int lr, .int ld])) :: R) X cfX3 hw 0 4 rfl rfl q175 rfl rfl rfl rfl rfl rfl dX3_copy_41 (fun H locs hw => ?_)
  refine lv_aload_n hx hb dX3_copy_44 rfl (lv_at hl 0 rfl) ?_
  refine lv_aload_n hx hb dX3_copy_45 rfl (lv_at hl 1 rfl) ?_
  refine g_get X cfX3 hw 1 5 rfl rfl q177 rfl rfl dX3_copy_46 ?_
  refine g_put (ws' := (q_1, .inr (3, [.int (nI j), .int lp, .int lq, .int lw, .int lh, .int lc, .int 0, .int 0])) :: (lo, .inr (3, [.int (nI j), .int lp, .int lq, .int lw, .int lh, .int lc, .int lr, .int ld])) :: R) X cfX3 hw 0 5 rfl rfl q177 rfl rfl rfl rfl rfl rfl dX3_copy_49 (fun H locs hw => ?_)
  refine lv_aload_n hx hb dX3_copy_52 rfl (lv_at hl 0 rfl) ?_
  refine lv_aload_n hx hb dX3_copy_53 rfl (lv_at hl 1 rfl) ?_
  refine g_get X cfX3 hw 1 6 rfl rfl q179 rfl rfl dX3_copy_54 ?_
  refine g_put (ws' := (q_1, .inr (3, [.int (nI j), .int lp, .int lq, .int lw, .int lh, .int lc, .int lr, .int 0])) :: (lo, .inr (3, [.int (nI j), .int lp, .int lq, .int lw, .int lh, .int lc, .int lr, .int ld])) :: R) X cfX3 hw 0 6 rfl rfl q179 rfl rfl rfl rfl rfl rfl dX3_copy_57 (fun H locs hw => ?_)
  refine lv_aload_n hx hb dX3_copy_60 rfl (lv_at hl 0 rfl) ?_
  refine lv_aload_n hx hb dX3_copy_61 rfl (lv_at hl 1 rfl) ?_
  refine g_get X cfX3 hw 1 7 rfl rfl q180 rfl rfl dX3_copy_62 ?_
  refine g_put (ws' := (q_1, .inr (3, [.int (nI j), .int lp, .int lq, .int lw, .int lh, .int lc, .int lr, .int ld])) :: (lo, .inr (3, [.int (nI j), .int lp, .int lq, .int lw, .int lh, .int lc, .int lr, .int ld])) :: R) X cfX3 hw 0 7 rfl rfl q180 rfl rfl rfl rfl rfl rfl dX3_copy_65 (fun H locs hw => ?_)
  refine lv_aload_n hx hb dX3_copy_68 rfl (lv_at hl 0 rfl) ?_
  exact g_aret () X hw hr (Or.inl ⟨_, rfl⟩) hlocks trivial rfl dX3_copy_69

set_option maxHeartbeats 4000000 in
theorem m_X6_depth (l : Launch) (D : va_G) (dA : Nat → ClassId) (A : Nat → Prop) (E : State → Prop) (hE : gSt A E) (R : va_W) (co ca : Nat) (le ho cn : Int32) (df : gG) (k : Nat) (hk : k < 10) : Met l yX6_depth (ws_ yX6_depth cX6_depth 2 (Option.some FieldType.int)) ({ frames := 0, cells := 0, slots := 0, locals := 0 }) (va_Pc [.ref co, .int (nI k)] (gB D dA A E ((co, .inr (6, [.int le, .ref ca, .int ho, .int cn])) :: (ca, .inl (dA 0, 10, .inl df)) :: R))) (va_Qi (fun (r : Int32) (_ : Unit) => r = df k) (fun _ => gE D A ((co, .inr (6, [.int le, .ref ca, .int ho, .int cn])) :: (ca, .inl (dA 0, 10, .inl df)) :: R)) A) (0) (0) A := by
  refine g_start rfl rfl ?_
  intro p e s m args below meth c ls X hr hlocks hin hw hl
  have hx := X.1.1
  have hb := X.1.2.1
  have hl : lv_has ls 2 [(0, .ref co), (1, .int (nI k))] := hl
  refine lv_aload_n hx hb dX6_depth_0 rfl (lv_at hl 0 rfl) ?_
  refine g_get X cfX6 hw 0 1 rfl rfl q609 rfl rfl dX6_depth_1 ?_
  refine lv_iload_n hx hb dX6_depth_4 rfl (lv_at hl 1 rfl) ?_
  refine g_iald X hw 1 rfl (i := k) (by omega) (by first | decide | omega) dX6_depth_5 ?_
  exact g_iret (v := df k) () X hw hr hlocks  rfl rfl dX6_depth_6

set_option maxHeartbeats 4000000 in
theorem m_X6_isSet (l : Launch) (D : va_G) (dA : Nat → ClassId) (A : Nat → Prop) (E : State → Prop) (hE : gSt A E) (R : va_W) (co ca : Nat) (le ho cn : Int32) (df : gG)  : Met l yX6_isSet (ws_ yX6_isSet cX6_isSet 1 (Option.some FieldType.boolean)) ({ frames := 0, cells := 0, slots := 0, locals := 0 }) (va_Pc [.ref co] (gB D dA A E ((co, .inr (6, [.int le, .ref ca, .int ho, .int cn])) :: (ca, .inl (dA 0, 10, .inl df)) :: R))) (va_Qi (fun (r : Int32) (_ : Unit) => r = bZ (decide (ho = 4))) (fun _ => gE D A ((co, .inr (6, [.int le, .ref ca, .int ho, .int cn])) :: (ca, .inl (dA 0, 10, .inl df)) :: R)) A) (0) (0) A := by
  refine g_start rfl rfl ?_
  intro p e s m args below meth c ls X hr hlocks hin hw hl
  have hx := X.1.1
  have hb := X.1.2.1
  have hl : lv_has ls 1 [(0, .ref co)] := hl
  refine lv_aload_n hx hb dX6_isSet_0 rfl (lv_at hl 0 rfl) ?_
  refine g_get X cfX6 hw 0 2 rfl rfl q610 rfl rfl dX6_isSet_1 ?_
  refine lv_iconst (v := 4) hx hb dX6_isSet_4 (by decide) ?_
  refine lv_icmp_ne (tgt := 12) hx hb dX6_isSet_5 (by decide) (fun c_1 => ?_) (fun c_1 => ?_)
  · skip
    refine lv_iconst (v := 0) hx hb dX6_isSet_12 (by decide) ?_
    exact g_zret (v := 0) () X hw hr hlocks rfl (by first | exact bZ_t (decide_eq_true (by assumption)) | exact bZ_f (fun h => absurd (of_decide_eq_true h) (by assumption))) rfl dX6_isSet_13
  · skip
    refine lv_iconst (v := 1) hx hb dX6_isSet_8 (by decide) ?_
    refine lv_goto (tgt := 13) hx hb dX6_isSet_9 (by decide) ?_
    exact g_zret (v := 1) () X hw hr hlocks rfl (by first | exact bZ_t (decide_eq_true (by assumption)) | exact bZ_f (fun h => absurd (of_decide_eq_true h) (by assumption))) rfl dX6_isSet_13

set_option maxHeartbeats 4000000 in
theorem m_X6_hourGoes (l : Launch) (D : va_G) (dA : Nat → ClassId) (A : Nat → Prop) (E : State → Prop) (hE : gSt A E) (R : va_W) (co ca : Nat) (le ho cn : Int32) (df : gG) (ra : Int32) : Met l yX6_hourGoes (ws_ yX6_hourGoes cX6_hourGoes 2 (Option.none : Option FieldType)) ({ frames := 1, cells := 0, slots := 0, locals := 20 }) (va_Pc [.ref co, .int ra] (gB D dA A E ((co, .inr (6, [.int le, .ref ca, .int ho, .int cn])) :: (ca, .inl (dA 0, 10, .inl df)) :: R))) (va_Qv (fun (_ : Unit) => True) (fun _ => gE D A ((co, .inr (6, [.int le, .ref ca, .int (hourC ho ra), .int cn])) :: (ca, .inl (dA 0, 10, .inl df)) :: R)) A) (0) (0) A := by
  refine g_start rfl rfl ?_
  intro p e s m args below meth c ls X hr hlocks hin hw hl
  have hx := X.1.1
  have hb := X.1.2.1
  have hl : lv_has ls 2 [(0, .ref co), (1, .int ra)] := hl
  refine lv_aload_n hx hb dX6_hourGoes_0 rfl (lv_at hl 0 rfl) ?_
  refine va_calli (va_runV (As := []) (rest := []) X.1 (m_X6_isSet l D dA A E hE R co ca le ho cn df) (cwV 0 X.1.2.2.2.2 (lw_V q801 q802 q803 q88 q804) rfl rfl rfl (by decide +kernel) ⟨Nat.le_of_ble_eq_true rfl, Nat.le_of_ble_eq_true rfl⟩) (g_preV hE X.2 hw 0 rfl rfl) rfl rfl hl.1 rfl (lv_room (Nat.le_of_ble_eq_true rfl)) dX6_hourGoes_1 ⟨Nat.le_of_ble_eq_true rfl, Nat.le_of_ble_eq_true rfl⟩) hw.2.2 (fun q _ h => h) (fun q h => h) (fun r_2 u t H locs ht hvm h_1 hB hz9 hk9 hS => ?_)
  have hw : gW D A ((co, .inr (6, [.int le, .ref ca, .int ho, .int cn])) :: (ca, .inl (dA 0, 10, .inl df)) :: R) s H locs := g_aft ht hB hS
  obtain rfl : r_2 = bZ (decide (ho = 4)) := h_1
  refine lv_if_ne (tgt := 25) hx hb dX6_hourGoes_4 (by decide) (fun c_3 => ?_) (fun c_3 => ?_)
  · skip
    have c_3 := bZ_1 c_3
    have c_3 := of_decide_eq_true c_3
    exact g_vret () X hw hr hlocks trivial (by first | rfl | (simp [hourC, c_3]; done) | (simp [hourC, c_3]; rfl)) dX6_hourGoes_25
  · skip
    have c_3 := bZ_0.mp c_3
    have c_3 := of_decide_eq_false c_3
    refine lv_aload_n hx hb dX6_hourGoes_7 rfl (lv_at hl 0 rfl) ?_
    refine lv_iload_n hx hb dX6_hourGoes_8 rfl (lv_at hl 1 rfl) ?_
    refine lv_if_le (tgt := 16) hx hb dX6_hourGoes_9 (by decide) (fun c_4 => ?_) (fun c_4 => ?_)
    · skip
      have c_4 := Int32.not_lt.mpr c_4
      refine lv_aload_n hx hb dX6_hourGoes_16 rfl (lv_at hl 0 rfl) ?_
      refine g_get X cfX6 hw 0 2 rfl rfl q610 rfl rfl dX6_hourGoes_17 ?_
      refine lv_iconst (v := 1) hx hb dX6_hourGoes_20 (by decide) ?_
      refine lv_iadd hx hb dX6_hourGoes_21 ?_
      refine g_put (ws' := (co, .inr (6, [.int le, .ref ca, .int (ho + 1), .int cn])) :: (ca, .inl (dA 0, 10, .inl df)) :: R) X cfX6 hw 0 2 rfl rfl q610 rfl rfl rfl rfl rfl rfl dX6_hourGoes_22 (fun H locs hw => ?_)
      exact g_vret () X hw hr hlocks trivial (by first | rfl | (simp [hourC, c_3, c_4]; done) | (simp [hourC, c_3, c_4]; rfl)) dX6_hourGoes_25
    · skip
      have c_4 := Int32.not_le.mp c_4
      refine lv_iconst (v := 0) hx hb dX6_hourGoes_12 (by decide) ?_
      refine lv_goto (tgt := 22) hx hb dX6_hourGoes_13 (by decide) ?_
      refine g_put (ws' := (co, .inr (6, [.int le, .ref ca, .int 0, .int cn])) :: (ca, .inl (dA 0, 10, .inl df)) :: R) X cfX6 hw 0 2 rfl rfl q610 rfl rfl rfl rfl rfl rfl dX6_hourGoes_22 (fun H locs hw => ?_)
      exact g_vret () X hw hr hlocks trivial (by first | rfl | (simp [hourC, c_3, c_4]; done) | (simp [hourC, c_3, c_4]; rfl)) dX6_hourGoes_25

set_option maxHeartbeats 4000000 in
theorem m_X6_value (l : Launch) (D : va_G) (dA : Nat → ClassId) (A : Nat → Prop) (E : State → Prop) (hE : gSt A E) (R : va_W) (co ca : Nat) (le ho cn : Int32) (df : gG) (w : Int32) : Met l yX6_value (ws_ yX6_value cX6_value 2 (Option.some FieldType.int)) ({ frames := 1, cells := 0, slots := 0, locals := 20 }) (va_Pc [.ref co, .int w] (gB D dA A E ((co, .inr (6, [.int le, .ref ca, .int ho, .int cn])) :: (ca, .inl (dA 0, 10, .inl df)) :: R))) (va_Qi (fun (r : Int32) (_ : Unit) => r = casV le ho cn w) (fun _ => gE D A ((co, .inr (6, [.int le, .ref ca, .int ho, .int cn])) :: (ca, .inl (dA 0, 10, .inl df)) :: R)) A) (0) (0) A := by
  refine g_start rfl rfl ?_
  intro p e s m args below meth c ls X hr hlocks hin hw hl
  have hx := X.1.1
  have hb := X.1.2.1
  have hl : lv_has ls 2 [(0, .ref co), (1, .int w)] := hl
  refine lv_iload_n hx hb dX6_value_0 rfl (lv_at hl 1 rfl) ?_
  by_cases c_1 : w = 0
  · refine lv_tableIn (tgt := 32) hx hb dX6_value_1 (by rw [c_1]; decide) (by rw [c_1]; decide) (by rw [c_1]; rfl) (by decide) ?_
    subst c_1
    refine lv_aload_n hx hb dX6_value_32 rfl (lv_at hl 0 rfl) ?_
    refine g_get X cfX6 hw 0 0 rfl rfl q607 rfl rfl dX6_value_33 ?_
    refine lv_goto (tgt := 70) hx hb dX6_value_36 (by decide) ?_
    exact g_iret (v := le) () X hw hr hlocks  (by simp [casV]) (by first | rfl | (simp [casV]; done)) dX6_value_70
  by_cases c_2 : w = 1
  · refine lv_tableIn (tgt := 39) hx hb dX6_value_1 (by rw [c_2]; decide) (by rw [c_2]; decide) (by rw [c_2]; rfl) (by decide) ?_
    subst c_2
    refine lv_aload_n hx hb dX6_value_39 rfl (lv_at hl 0 rfl) ?_
    refine va_calli (va_runV (As := []) (rest := []) X.1 (m_X6_isSet l D dA A E hE R co ca le ho cn df) (cwV 0 X.1.2.2.2.2 (lw_V q801 q802 q803 q88 q804) rfl rfl rfl (by decide +kernel) ⟨Nat.le_of_ble_eq_true rfl, Nat.le_of_ble_eq_true rfl⟩) (g_preV hE X.2 hw 0 rfl rfl) rfl rfl hl.1 rfl (lv_room (Nat.le_of_ble_eq_true rfl)) dX6_value_40 ⟨Nat.le_of_ble_eq_true rfl, Nat.le_of_ble_eq_true rfl⟩) hw.2.2 (fun q _ h => h) (fun q h => h) (fun r_4 u t H locs ht hvm h_3 hB hz9 hk9 hS => ?_)
    have hw : gW D A ((co, .inr (6, [.int le, .ref ca, .int ho, .int cn])) :: (ca, .inl (dA 0, 10, .inl df)) :: R) s H locs := g_aft ht hB hS
    obtain rfl : r_4 = bZ (decide (ho = 4)) := h_3
    refine lv_if_eq (tgt := 50) hx hb dX6_value_43 (by decide) (fun c_5 => ?_) (fun c_5 => ?_)
    · skip
      have c_5 := bZ_0.mp c_5
      have c_5 := of_decide_eq_false c_5
      refine lv_iconst (v := 0) hx hb dX6_value_50 (by decide) ?_
      refine lv_goto (tgt := 70) hx hb dX6_value_51 (by decide) ?_
      exact g_iret (v := 0) () X hw hr hlocks  (by simp [casV, c_1, c_5]) (by first | rfl | (simp [casV, c_1, c_5]; done) | (simp [casV, c_1, c_5]; rfl)) dX6_value_70
    · skip
      have c_5 := bZ_1 c_5
      have c_5 := of_decide_eq_true c_5
      refine lv_iconst (v := 1) hx hb dX6_value_46 (by decide) ?_
      refine lv_goto (tgt := 70) hx hb dX6_value_47 (by decide) ?_
      exact g_iret (v := 1) () X hw hr hlocks  (by simp [casV, c_1, c_5]) (by first | rfl | (simp [casV, c_1, c_5]; done) | (simp [casV, c_1, c_5]; rfl)) dX6_value_70
  by_cases c_6 : w = 2
  · refine lv_tableIn (tgt := 54) hx hb dX6_value_1 (by rw [c_6]; decide) (by rw [c_6]; decide) (by rw [c_6]; rfl) (by decide) ?_
    subst c_6
    refine lv_aload_n hx hb dX6_value_54 rfl (lv_at hl 0 rfl) ?_
    refine g_get X cfX6 hw 0 2 rfl rfl q610 rfl rfl dX6_value_55 ?_
    refine lv_goto (tgt := 70) hx hb dX6_value_58 (by decide) ?_
    exact g_iret (v := ho) () X hw hr hlocks  (by simp [casV, c_1, c_2]) (by first | rfl | (simp [casV, c_1, c_2]; done) | (simp [casV, c_1, c_2]; rfl)) dX6_value_70
  by_cases c_7 : w = 3
  · refine lv_tableIn (tgt := 61) hx hb dX6_value_1 (by rw [c_7]; decide) (by rw [c_7]; decide) (by rw [c_7]; rfl) (by decide) ?_
    subst c_7
    refine lv_aload_n hx hb dX6_value_61 rfl (lv_at hl 0 rfl) ?_
    refine g_get X cfX6 hw 0 3 rfl rfl q612 rfl rfl dX6_value_62 ?_
    refine lv_goto (tgt := 70) hx hb dX6_value_65 (by decide) ?_
    exact g_iret (v := cn) () X hw hr hlocks  (by simp [casV, c_1, c_2, c_6]) (by first | rfl | (simp [casV, c_1, c_2, c_6]; done) | (simp [casV, c_1, c_2, c_6]; rfl)) dX6_value_70
  refine g_tabOut4 (tgt := 68) hx hb dX6_value_1 c_1 c_2 c_6 c_7 (by decide) ?_
  refine lv_bipush (v := (-12)) hx hb dX6_value_68 (by decide) ?_
  exact g_iret (v := (-12)) () X hw hr hlocks  (by simp [casV, c_1, c_2, c_6, c_7]) (by first | rfl | (simp [casV, c_1, c_2, c_6, c_7]; done) | (simp [casV, c_1, c_2, c_6, c_7]; rfl)) dX6_value_70

set_option maxHeartbeats 4000000 in
theorem m_X6_initL (l : Launch) (D : va_G) (dA : Nat → ClassId) (A : Nat → Prop) (E : State → Prop) (hE : gSt A E) (R : va_W) (no : Nat) (lz : Int32) (lo j : Nat) (lp lq lw lh lc lr ld : Int32) (hj : j < 1000)  : Met l yX6_init (ws_ yX6_init cX6_init 4 (Option.none : Option FieldType)) ({ frames := 1, cells := 1, slots := 10, locals := 21 }) (va_Pc [.ref no, .int lz, .ref lo] (gB D dA A E ((no, .inr (6, [.int 0, .null, .int 0, .int 0])) :: (lo, .inr (3, [.int (nI j), .int lp, .int lq, .int lw, .int lh, .int lc, .int lr, .int ld])) :: R))) (va_Qv (fun (u : Nat) => True) (fun u => gE D A ((no, .inr (6, [.int lz, .ref u, .int 0, .int 0])) :: (u, .inl (dA 0, 10, .inl (fun q => dpL lw j q))) :: (lo, .inr (3, [.int (nI j), .int lp, .int lq, .int lw, .int lh, .int lc, .int lr, .int ld])) :: R)) A) (1) (10) A := by
  refine g_start rfl rfl ?_
  intro p e s m args below meth c ls X hr hlocks hin hw hl
  have hx := X.1.1
  have hb := X.1.2.1
  have hl : lv_has ls 4 [(0, .ref no), (1, .int lz), (2, .ref lo)] := hl
  refine lv_aload_n hx hb dX6_init_0 rfl (lv_at hl 0 rfl) ?_
  refine W.objInit hx hb X.1.2.2.2.1 (X.1.2.2.2.2 _ q586) (X.1.2.2.2.2 _ q109) (X.1.2.2.2.2 _ q110) rfl (by rw [X.1.2.2.1]; exact hl.1) rfl dX6_init_1 (Nat.le_of_ble_eq_true rfl) (Nat.le_of_ble_eq_true rfl) ?_
  refine W.eq (g2 := F0 m 4 ls []) rfl ?_
  refine lv_aload_n hx hb dX6_init_4 rfl (lv_at hl 0 rfl) ?_
  refine lv_bipush (v := 10) hx hb dX6_init_5 (by decide) ?_
  refine g_newi (atype := .int) (ty := .int) (N' := 10) X hw 0 rfl rfl ⟨fun _ h => (by cases h), fun _ => rfl⟩ q623 rfl (by first | decide | omega) (Nat.le_of_ble_eq_true rfl) (Nat.le_of_ble_eq_true rfl) (by first | decide | (simp only [componentBytes]; omega)) dX6_init_7 (fun q_1 H hw => ?_)
  refine g_putF (ws' := (q_1, .inl (dA 0, 10, .inl (fun _ => 0))) :: (no, .inr (6, [.int 0, .ref q_1, .int 0, .int 0])) :: (lo, .inr (3, [.int (nI j), .int lp, .int lq, .int lw, .int lh, .int lc, .int lr, .int ld])) :: R) X (hin rfl) cfX6 hw 1 1 rfl rfl q609 rfl rfl rfl rfl rfl rfl rfl dX6_init_9 (fun H locs hw => ?_)
  refine lv_aload_n hx hb dX6_init_12 rfl (lv_at hl 0 rfl) ?_
  refine lv_iload_n hx hb dX6_init_13 rfl (lv_at hl 1 rfl) ?_
  refine g_putF (ws' := (q_1, .inl (dA 0, 10, .inl (fun _ => 0))) :: (no, .inr (6, [.int lz, .ref q_1, .int 0, .int 0])) :: (lo, .inr (3, [.int (nI j), .int lp, .int lq, .int lw, .int lh, .int lc, .int lr, .int ld])) :: R) X (hin rfl) cfX6 hw 1 0 rfl rfl q607 rfl rfl rfl rfl rfl rfl rfl dX6_init_14 (fun H locs hw => ?_)
  refine lv_iconst (v := 0) hx hb dX6_init_17 (by decide) ?_
  refine lv_istore_n (lv' := [(3, .int 0), (0, .ref no), (1, .int lz), (2, .ref lo)]) hx hb dX6_init_18 rfl hl (by decide) rfl (fun ls hl => ?_)
  have loop_2 : ∀ (fuel : Nat) (i : Nat), ∀ (hi : i ≤ 10), (10 - i) < fuel → ∀ (H : Heap) (locs : List Loc) (hw : gW D A ((q_1, .inl (dA 0, 10, .inl (fillL (fun q => dpL lw j q) i))) :: (no, .inr (6, [.int lz, .ref q_1, .int 0, .int 0])) :: (lo, .inr (3, [.int (nI j), .int lp, .int lq, .int lw, .int lh, .int lc, .int lr, .int ld])) :: R) s H locs) (ls : Array Slot) (hl : lv_has ls 4 [(3, .int (nI i)), (0, .ref no), (1, .int lz), (2, .ref lo)]), W p l e ({ frames := 1, cells := 1, slots := 10, locals := 21 }) s m args below meth c H locs (1) (10) (MQ below (va_Qv (fun (u : Nat) => True) (fun u => gE D A ((no, .inr (6, [.int lz, .ref u, .int 0, .int 0])) :: (u, .inl (dA 0, 10, .inl (fun q => dpL lw j q))) :: (lo, .inr (3, [.int (nI j), .int lp, .int lq, .int lw, .int lh, .int lc, .int lr, .int ld])) :: R)) A) args s (1) (10) A) (F0 m 19 ls []) := by
    intro fuel
    induction fuel with
    | zero => intro i hi hf; exact absurd hf (Nat.not_lt_zero _)
    | succ fuel ih_loop_2 =>
      intro i hi hfuel_loop_2 H locs hw ls hl
      refine lv_iload_n hx hb dX6_init_19 rfl (lv_at hl 0 rfl) ?_
      refine lv_bipush (v := 10) hx hb dX6_init_20 (by decide) ?_
      refine lv_icmp_ge (tgt := 44) hx hb dX6_init_22 (by decide) (fun c_3 => ?_) (fun c_3 => ?_)
      · skip
        have c_3 := Int32.not_lt.mpr c_3
        have c_3 : ¬ (i < 10) := fun q => c_3 ((nI_ltI (a := i) (b := 10) (by omega) (by omega)).mpr q)
        obtain rfl : i = 10 := by omega
        have hw : gW D A ((q_1, .inl (dA 0, 10, .inl (fun q => dpL lw j q))) :: (no, .inr (6, [.int lz, .ref q_1, .int 0, .int 0])) :: (lo, .inr (3, [.int (nI j), .int lp, .int lq, .int lw, .int lh, .int lc, .int lr, .int ld])) :: R) s _ _ := g_arr hw 0 (fun q => dpL lw j q) rfl fillL_n rfl
        have hw : gW D A ((no, .inr (6, [.int lz, .ref q_1, .int 0, .int 0])) :: (q_1, .inl (dA 0, 10, .inl (fun q => dpL lw j q))) :: (lo, .inr (3, [.int (nI j), .int lp, .int lq, .int lw, .int lh, .int lc, .int lr, .int ld])) :: R) s _ _ := g_perm (X := [(q_1, .inl (dA 0, 10, .inl (fun q => dpL lw j q))), (no, .inr (6, [.int lz, .ref q_1, .int 0, .int 0])), (lo, .inr (3, [.int (nI j), .int lp, .int lq, .int lw, .int lh, .int lc, .int lr, .int ld]))]) (cx := [(no, .inr (6, [.int lz, .ref q_1, .int 0, .int 0])), (q_1, .inl (dA 0, 10, .inl (fun q => dpL lw j q))), (lo, .inr (3, [.int (nI j), .int lp, .int lq, .int lw, .int lh, .int lc, .int lr, .int ld]))]) (pl := R) hw [1, 0, 2] rfl rfl rfl rfl
        exact g_vret q_1 X hw hr hlocks trivial rfl dX6_init_44
      · skip
        have c_3 := Int32.not_le.mp c_3
        have c_3 : i < 10 := (nI_ltI (a := i) (b := 10) (by omega) (by omega)).mp c_3
        refine lv_aload_n hx hb dX6_init_25 rfl (lv_at hl 1 rfl) ?_
        refine g_get X cfX6 hw 1 1 rfl rfl q609 rfl rfl dX6_init_26 ?_
        refine lv_iload_n hx hb dX6_init_29 rfl (lv_at hl 0 rfl) ?_
        refine lv_aload_n hx hb dX6_init_30 rfl (lv_at hl 3 rfl) ?_
        refine lv_iload_n hx hb dX6_init_31 rfl (lv_at hl 0 rfl) ?_
        have hw : gW D A ((lo, .inr (3, [.int (nI j), .int lp, .int lq, .int lw, .int lh, .int lc, .int lr, .int ld])) :: (q_1, .inl (dA 0, 10, .inl (fillL (fun q => dpL lw j q) i))) :: (no, .inr (6, [.int lz, .ref q_1, .int 0, .int 0])) :: R) s _ _ := g_perm (X := [(q_1, .inl (dA 0, 10, .inl (fillL (fun q => dpL lw j q) i))), (no, .inr (6, [.int lz, .ref q_1, .int 0, .int 0])), (lo, .inr (3, [.int (nI j), .int lp, .int lq, .int lw, .int lh, .int lc, .int lr, .int ld]))]) (cx := [(lo, .inr (3, [.int (nI j), .int lp, .int lq, .int lw, .int lh, .int lc, .int lr, .int ld])), (q_1, .inl (dA 0, 10, .inl (fillL (fun q => dpL lw j q) i))), (no, .inr (6, [.int lz, .ref q_1, .int 0, .int 0]))]) (pl := R) hw [2, 0, 1] rfl rfl rfl rfl
        refine va_callFi (va_runF (g_cat X.2.1 3 rfl) (As := [.int (nI i)]) (rest := [.int (nI i), .ref q_1]) X.1 (m_X3_depth l D dA A E hE ((q_1, .inl (dA 0, 10, .inl (fillL (fun q => dpL lw j q) i))) :: (no, .inr (6, [.int lz, .ref q_1, .int 0, .int 0])) :: R) lo j lp lq lw lh lc lr ld (by first | assumption | omega) i (by first | assumption | omega)) (va_cwF 1 X.1.2.2.2.2 (lw_app (lw_in4 q588 q604 q455 q70) (lw_meth q457)) rfl rfl rfl (X.2.2.1.fw 0 rfl) (by decide +kernel) ⟨Nat.le_of_ble_eq_true rfl, Nat.le_of_ble_eq_true rfl⟩) (g_preV hE X.2 hw 0 rfl rfl) rfl rfl hl.1 rfl (lv_room (Nat.le_of_ble_eq_true rfl)) dX6_init_32 ⟨Nat.le_of_ble_eq_true rfl, Nat.le_of_ble_eq_true rfl⟩) hw.2.2 (fun q _ h => h) (fun q h => h) (fun r_5 u t H locs ht hvm h_4 hB hz9 hk9 hS => ?_)
        have hw : gW D A ((lo, .inr (3, [.int (nI j), .int lp, .int lq, .int lw, .int lh, .int lc, .int lr, .int ld])) :: (q_1, .inl (dA 0, 10, .inl (fillL (fun q => dpL lw j q) i))) :: (no, .inr (6, [.int lz, .ref q_1, .int 0, .int 0])) :: R) s H locs := g_aft ht hB hS
        obtain rfl : r_5 = dpL lw j i := h_4
        refine g_iast (ws' := (lo, .inr (3, [.int (nI j), .int lp, .int lq, .int lw, .int lh, .int lc, .int lr, .int ld])) :: (q_1, .inl (dA 0, 10, .inl (upd (fillL (fun q => dpL lw j q) i) i (dpL lw j i)))) :: (no, .inr (6, [.int lz, .ref q_1, .int 0, .int 0])) :: R) X hw 1 rfl (i := i) (by omega) (by first | decide | omega) rfl dX6_init_37 (fun H locs hw => ?_)
        refine lv_iinc (v := nI (i + 1)) (lv' := [(3, .int (nI (i + 1))), (0, .ref no), (1, .int lz), (2, .ref lo)]) hx hb dX6_init_38 hl (k := 0) rfl (nI_add i 1) (by decide) rfl (fun ls hl => ?_)
        refine lv_goto (tgt := 19) hx hb dX6_init_41 (by decide) ?_
        have hw : gW D A ((q_1, .inl (dA 0, 10, .inl (upd (fillL (fun q => dpL lw j q) i) i (dpL lw j i)))) :: (no, .inr (6, [.int lz, .ref q_1, .int 0, .int 0])) :: (lo, .inr (3, [.int (nI j), .int lp, .int lq, .int lw, .int lh, .int lc, .int lr, .int ld])) :: R) s _ _ := g_perm (X := [(lo, .inr (3, [.int (nI j), .int lp, .int lq, .int lw, .int lh, .int lc, .int lr, .int ld])), (q_1, .inl (dA 0, 10, .inl (upd (fillL (fun q => dpL lw j q) i) i (dpL lw j i)))), (no, .inr (6, [.int lz, .ref q_1, .int 0, .int 0]))]) (cx := [(q_1, .inl (dA 0, 10, .inl (upd (fillL (fun q => dpL lw j q) i) i (dpL lw j i)))), (no, .inr (6, [.int lz, .ref q_1, .int 0, .int 0])), (lo, .inr (3, [.int (nI j), .int lp, .int lq, .int lw, .int lh, .int lc, .int lr, .int ld]))]) (pl := R) hw [1, 2, 0] rfl rfl rfl rfl
        have hw : gW D A ((q_1, .inl (dA 0, 10, .inl (fillL (fun q => dpL lw j q) (i + 1)))) :: (no, .inr (6, [.int lz, .ref q_1, .int 0, .int 0])) :: (lo, .inr (3, [.int (nI j), .int lp, .int lq, .int lw, .int lh, .int lc, .int lr, .int ld])) :: R) s _ _ := g_ws hw (by rw [fillL_s])
        exact ih_loop_2 (i + 1) (by first | assumption | omega) (by omega) _ _ hw _ (lv_sub hl [0, 1, 2, 3] rfl)
  have hw : gW D A ((q_1, .inl (dA 0, 10, .inl (fillL (fun q => dpL lw j q) 0))) :: (no, .inr (6, [.int lz, .ref q_1, .int 0, .int 0])) :: (lo, .inr (3, [.int (nI j), .int lp, .int lq, .int lw, .int lh, .int lc, .int lr, .int ld])) :: R) s _ _ := g_ws hw (by rw [fillL_0])
  exact loop_2 ((10 - 0) + 1) 0 (by first | assumption | omega) (Nat.lt_succ_self _) _ _ hw _ (lv_sub hl [0, 1, 2, 3] rfl)

set_option maxHeartbeats 4000000 in
theorem m_X6_initC (l : Launch) (D : va_G) (dA : Nat → ClassId) (A : Nat → Prop) (E : State → Prop) (hE : gSt A E) (R : va_W) (no : Nat) (lz : Int32) (co ca : Nat) (le ho cn : Int32) (df : gG)  : Met l yX6_init (ws_ yX6_init cX6_init 4 (Option.none : Option FieldType)) ({ frames := 1, cells := 1, slots := 10, locals := 21 }) (va_Pc [.ref no, .int lz, .ref co] (gB D dA A E ((no, .inr (6, [.int 0, .null, .int 0, .int 0])) :: (co, .inr (6, [.int le, .ref ca, .int ho, .int cn])) :: (ca, .inl (dA 0, 10, .inl df)) :: R))) (va_Qv (fun (u : Nat) => True) (fun u => gE D A ((no, .inr (6, [.int lz, .ref u, .int 0, .int 0])) :: (u, .inl (dA 0, 10, .inl df)) :: (co, .inr (6, [.int le, .ref ca, .int ho, .int cn])) :: (ca, .inl (dA 0, 10, .inl df)) :: R)) A) (1) (10) A := by
  refine g_start rfl rfl ?_
  intro p e s m args below meth c ls X hr hlocks hin hw hl
  have hx := X.1.1
  have hb := X.1.2.1
  have hl : lv_has ls 4 [(0, .ref no), (1, .int lz), (2, .ref co)] := hl
  refine lv_aload_n hx hb dX6_init_0 rfl (lv_at hl 0 rfl) ?_
  refine W.objInit hx hb X.1.2.2.2.1 (X.1.2.2.2.2 _ q586) (X.1.2.2.2.2 _ q109) (X.1.2.2.2.2 _ q110) rfl (by rw [X.1.2.2.1]; exact hl.1) rfl dX6_init_1 (Nat.le_of_ble_eq_true rfl) (Nat.le_of_ble_eq_true rfl) ?_
  refine W.eq (g2 := F0 m 4 ls []) rfl ?_
  refine lv_aload_n hx hb dX6_init_4 rfl (lv_at hl 0 rfl) ?_
  refine lv_bipush (v := 10) hx hb dX6_init_5 (by decide) ?_
  refine g_newi (atype := .int) (ty := .int) (N' := 10) X hw 0 rfl rfl ⟨fun _ h => (by cases h), fun _ => rfl⟩ q623 rfl (by first | decide | omega) (Nat.le_of_ble_eq_true rfl) (Nat.le_of_ble_eq_true rfl) (by first | decide | (simp only [componentBytes]; omega)) dX6_init_7 (fun q_1 H hw => ?_)
  refine g_putF (ws' := (q_1, .inl (dA 0, 10, .inl (fun _ => 0))) :: (no, .inr (6, [.int 0, .ref q_1, .int 0, .int 0])) :: (co, .inr (6, [.int le, .ref ca, .int ho, .int cn])) :: (ca, .inl (dA 0, 10, .inl df)) :: R) X (hin rfl) cfX6 hw 1 1 rfl rfl q609 rfl rfl rfl rfl rfl rfl rfl dX6_init_9 (fun H locs hw => ?_)
  refine lv_aload_n hx hb dX6_init_12 rfl (lv_at hl 0 rfl) ?_
  refine lv_iload_n hx hb dX6_init_13 rfl (lv_at hl 1 rfl) ?_
  refine g_putF (ws' := (q_1, .inl (dA 0, 10, .inl (fun _ => 0))) :: (no, .inr (6, [.int lz, .ref q_1, .int 0, .int 0])) :: (co, .inr (6, [.int le, .ref ca, .int ho, .int cn])) :: (ca, .inl (dA 0, 10, .inl df)) :: R) X (hin rfl) cfX6 hw 1 0 rfl rfl q607 rfl rfl rfl rfl rfl rfl rfl dX6_init_14 (fun H locs hw => ?_)
  refine lv_iconst (v := 0) hx hb dX6_init_17 (by decide) ?_
  refine lv_istore_n (lv' := [(3, .int 0), (0, .ref no), (1, .int lz), (2, .ref co)]) hx hb dX6_init_18 rfl hl (by decide) rfl (fun ls hl => ?_)
  have loop_2 : ∀ (fuel : Nat) (i : Nat), ∀ (hi : i ≤ 10), (10 - i) < fuel → ∀ (H : Heap) (locs : List Loc) (hw : gW D A ((q_1, .inl (dA 0, 10, .inl (fillL df i))) :: (no, .inr (6, [.int lz, .ref q_1, .int 0, .int 0])) :: (co, .inr (6, [.int le, .ref ca, .int ho, .int cn])) :: (ca, .inl (dA 0, 10, .inl df)) :: R) s H locs) (ls : Array Slot) (hl : lv_has ls 4 [(3, .int (nI i)), (0, .ref no), (1, .int lz), (2, .ref co)]), W p l e ({ frames := 1, cells := 1, slots := 10, locals := 21 }) s m args below meth c H locs (1) (10) (MQ below (va_Qv (fun (u : Nat) => True) (fun u => gE D A ((no, .inr (6, [.int lz, .ref u, .int 0, .int 0])) :: (u, .inl (dA 0, 10, .inl df)) :: (co, .inr (6, [.int le, .ref ca, .int ho, .int cn])) :: (ca, .inl (dA 0, 10, .inl df)) :: R)) A) args s (1) (10) A) (F0 m 19 ls []) := by
    intro fuel
    induction fuel with
    | zero => intro i hi hf; exact absurd hf (Nat.not_lt_zero _)
    | succ fuel ih_loop_2 =>
      intro i hi hfuel_loop_2 H locs hw ls hl
      refine lv_iload_n hx hb dX6_init_19 rfl (lv_at hl 0 rfl) ?_
      refine lv_bipush (v := 10) hx hb dX6_init_20 (by decide) ?_
      refine lv_icmp_ge (tgt := 44) hx hb dX6_init_22 (by decide) (fun c_3 => ?_) (fun c_3 => ?_)
      · skip
        have c_3 := Int32.not_lt.mpr c_3
        have c_3 : ¬ (i < 10) := fun q => c_3 ((nI_ltI (a := i) (b := 10) (by omega) (by omega)).mpr q)
        obtain rfl : i = 10 := by omega
        have hw : gW D A ((q_1, .inl (dA 0, 10, .inl df)) :: (no, .inr (6, [.int lz, .ref q_1, .int 0, .int 0])) :: (co, .inr (6, [.int le, .ref ca, .int ho, .int cn])) :: (ca, .inl (dA 0, 10, .inl df)) :: R) s _ _ := g_arr hw 0 df rfl fillL_n rfl
        have hw : gW D A ((no, .inr (6, [.int lz, .ref q_1, .int 0, .int 0])) :: (q_1, .inl (dA 0, 10, .inl df)) :: (co, .inr (6, [.int le, .ref ca, .int ho, .int cn])) :: (ca, .inl (dA 0, 10, .inl df)) :: R) s _ _ := g_perm (X := [(q_1, .inl (dA 0, 10, .inl df)), (no, .inr (6, [.int lz, .ref q_1, .int 0, .int 0])), (co, .inr (6, [.int le, .ref ca, .int ho, .int cn])), (ca, .inl (dA 0, 10, .inl df))]) (cx := [(no, .inr (6, [.int lz, .ref q_1, .int 0, .int 0])), (q_1, .inl (dA 0, 10, .inl df)), (co, .inr (6, [.int le, .ref ca, .int ho, .int cn])), (ca, .inl (dA 0, 10, .inl df))]) (pl := R) hw [1, 0, 2, 3] rfl rfl rfl rfl
        exact g_vret q_1 X hw hr hlocks trivial rfl dX6_init_44
      · skip
        have c_3 := Int32.not_le.mp c_3
        have c_3 : i < 10 := (nI_ltI (a := i) (b := 10) (by omega) (by omega)).mp c_3
        refine lv_aload_n hx hb dX6_init_25 rfl (lv_at hl 1 rfl) ?_
        refine g_get X cfX6 hw 1 1 rfl rfl q609 rfl rfl dX6_init_26 ?_
        refine lv_iload_n hx hb dX6_init_29 rfl (lv_at hl 0 rfl) ?_
        refine lv_aload_n hx hb dX6_init_30 rfl (lv_at hl 3 rfl) ?_
        refine lv_iload_n hx hb dX6_init_31 rfl (lv_at hl 0 rfl) ?_
        have hw : gW D A ((co, .inr (6, [.int le, .ref ca, .int ho, .int cn])) :: (ca, .inl (dA 0, 10, .inl df)) :: (q_1, .inl (dA 0, 10, .inl (fillL df i))) :: (no, .inr (6, [.int lz, .ref q_1, .int 0, .int 0])) :: R) s _ _ := g_perm (X := [(q_1, .inl (dA 0, 10, .inl (fillL df i))), (no, .inr (6, [.int lz, .ref q_1, .int 0, .int 0])), (co, .inr (6, [.int le, .ref ca, .int ho, .int cn])), (ca, .inl (dA 0, 10, .inl df))]) (cx := [(co, .inr (6, [.int le, .ref ca, .int ho, .int cn])), (ca, .inl (dA 0, 10, .inl df)), (q_1, .inl (dA 0, 10, .inl (fillL df i))), (no, .inr (6, [.int lz, .ref q_1, .int 0, .int 0]))]) (pl := R) hw [2, 3, 0, 1] rfl rfl rfl rfl
        refine va_callFi (va_runF (g_cat X.2.1 6 rfl) (As := [.int (nI i)]) (rest := [.int (nI i), .ref q_1]) X.1 (m_X6_depth l D dA A E hE ((q_1, .inl (dA 0, 10, .inl (fillL df i))) :: (no, .inr (6, [.int lz, .ref q_1, .int 0, .int 0])) :: R) co ca le ho cn df i (by first | assumption | omega)) (va_cwF 1 X.1.2.2.2.2 (lw_app (lw_in4 q588 q592 q594 q88) (lw_meth q596)) rfl rfl rfl (X.2.2.1.fw 1 rfl) (by decide +kernel) ⟨Nat.le_of_ble_eq_true rfl, Nat.le_of_ble_eq_true rfl⟩) (g_preV hE X.2 hw 0 rfl rfl) rfl rfl hl.1 rfl (lv_room (Nat.le_of_ble_eq_true rfl)) dX6_init_32 ⟨Nat.le_of_ble_eq_true rfl, Nat.le_of_ble_eq_true rfl⟩) hw.2.2 (fun q _ h => h) (fun q h => h) (fun r_5 u t H locs ht hvm h_4 hB hz9 hk9 hS => ?_)
        have hw : gW D A ((co, .inr (6, [.int le, .ref ca, .int ho, .int cn])) :: (ca, .inl (dA 0, 10, .inl df)) :: (q_1, .inl (dA 0, 10, .inl (fillL df i))) :: (no, .inr (6, [.int lz, .ref q_1, .int 0, .int 0])) :: R) s H locs := g_aft ht hB hS
        obtain rfl : r_5 = df i := h_4
        refine g_iast (ws' := (co, .inr (6, [.int le, .ref ca, .int ho, .int cn])) :: (ca, .inl (dA 0, 10, .inl df)) :: (q_1, .inl (dA 0, 10, .inl (upd (fillL df i) i (df i)))) :: (no, .inr (6, [.int lz, .ref q_1, .int 0, .int 0])) :: R) X hw 2 rfl (i := i) (by omega) (by first | decide | omega) rfl dX6_init_37 (fun H locs hw => ?_)
        refine lv_iinc (v := nI (i + 1)) (lv' := [(3, .int (nI (i + 1))), (0, .ref no), (1, .int lz), (2, .ref co)]) hx hb dX6_init_38 hl (k := 0) rfl (nI_add i 1) (by decide) rfl (fun ls hl => ?_)
        refine lv_goto (tgt := 19) hx hb dX6_init_41 (by decide) ?_
        have hw : gW D A ((q_1, .inl (dA 0, 10, .inl (upd (fillL df i) i (df i)))) :: (no, .inr (6, [.int lz, .ref q_1, .int 0, .int 0])) :: (co, .inr (6, [.int le, .ref ca, .int ho, .int cn])) :: (ca, .inl (dA 0, 10, .inl df)) :: R) s _ _ := g_perm (X := [(co, .inr (6, [.int le, .ref ca, .int ho, .int cn])), (ca, .inl (dA 0, 10, .inl df)), (q_1, .inl (dA 0, 10, .inl (upd (fillL df i) i (df i)))), (no, .inr (6, [.int lz, .ref q_1, .int 0, .int 0]))]) (cx := [(q_1, .inl (dA 0, 10, .inl (upd (fillL df i) i (df i)))), (no, .inr (6, [.int lz, .ref q_1, .int 0, .int 0])), (co, .inr (6, [.int le, .ref ca, .int ho, .int cn])), (ca, .inl (dA 0, 10, .inl df))]) (pl := R) hw [2, 3, 0, 1] rfl rfl rfl rfl
        have hw : gW D A ((q_1, .inl (dA 0, 10, .inl (fillL df (i + 1)))) :: (no, .inr (6, [.int lz, .ref q_1, .int 0, .int 0])) :: (co, .inr (6, [.int le, .ref ca, .int ho, .int cn])) :: (ca, .inl (dA 0, 10, .inl df)) :: R) s _ _ := g_ws hw (by rw [fillL_s])
        exact ih_loop_2 (i + 1) (by first | assumption | omega) (by omega) _ _ hw _ (lv_sub hl [0, 1, 2, 3] rfl)
  have hw : gW D A ((q_1, .inl (dA 0, 10, .inl (fillL df 0))) :: (no, .inr (6, [.int lz, .ref q_1, .int 0, .int 0])) :: (co, .inr (6, [.int le, .ref ca, .int ho, .int cn])) :: (ca, .inl (dA 0, 10, .inl df)) :: R) s _ _ := g_ws hw (by rw [fillL_0])
  exact loop_2 ((10 - 0) + 1) 0 (by first | assumption | omega) (Nat.lt_succ_self _) _ _ hw _ (lv_sub hl [0, 1, 2, 3] rfl)

set_option maxHeartbeats 4000000 in
theorem m_X6_copy (l : Launch) (D : va_G) (dA : Nat → ClassId) (A : Nat → Prop) (E : State → Prop) (hE : gSt A E) (R : va_W) (co ca : Nat) (le ho cn : Int32) (df : gG)  : Met l yX6_copy (ws_ yX6_copy cX6_copy 2 (Option.some (FieldType.object "GargoyleCopyists$Cast"))) ({ frames := 2, cells := 2, slots := 14, locals := 44 }) (va_Pc [.ref co] (gB D dA A E ((co, .inr (6, [.int le, .ref ca, .int ho, .int cn])) :: (ca, .inl (dA 0, 10, .inl df)) :: R))) (va_Qr (fun (u : Nat) => True) (fun u a => gE D A ((a, .inr (6, [.int le, .ref u, .int ho, .int cn])) :: (u, .inl (dA 0, 10, .inl df)) :: (co, .inr (6, [.int le, .ref ca, .int ho, .int cn])) :: (ca, .inl (dA 0, 10, .inl df)) :: R)) A) (2) (14) A := by
  refine g_start rfl rfl ?_
  intro p e s m args below meth c ls X hr hlocks hin hw hl
  have hx := X.1.1
  have hb := X.1.2.1
  have hl : lv_has ls 2 [(0, .ref co)] := hl
  refine g_new (fs := [.int 0, .null, .int 0, .int 0]) X cfX6 hw q581 q582 q88 (fun j hj => by rcases (show j = 0 ∨ j = 1 ∨ j = 2 ∨ j = 3 by omega) with rfl | rfl | rfl | rfl <;> rfl) (Nat.le_of_ble_eq_true rfl) (Nat.le_of_ble_eq_true rfl) dX6_copy_0 (fun q_1 H hw => ?_)
  refine lv_dup hx hb dX6_copy_3 rfl ?_
  refine lv_aload_n hx hb dX6_copy_4 rfl (lv_at hl 0 rfl) ?_
  refine g_get X cfX6 hw 1 0 rfl rfl q607 rfl rfl dX6_copy_5 ?_
  refine lv_aload_n hx hb dX6_copy_8 rfl (lv_at hl 0 rfl) ?_
  refine va_callv (va_runI (As := [.int le, .ref co]) (rest := [.ref q_1]) X.1 (m_X6_initC l D dA A E hE R q_1 le co ca le ho cn df) (cwI 2 X.1.2.2.2.2 (lw_meth q585) rfl rfl rfl (X.1.2.2.2.2 _ q88) (X.1.2.2.2.2 _ q583) (X.1.2.2.2.2 _ q584) rfl (by decide +kernel) ⟨Nat.le_of_ble_eq_true rfl, Nat.le_of_ble_eq_true rfl⟩) (g_preS hE X.2 hw) rfl rfl hl.1 rfl (lv_room (Nat.le_of_ble_eq_true rfl)) dX6_copy_9 ⟨Nat.le_of_ble_eq_true rfl, Nat.le_of_ble_eq_true rfl⟩) hw.2.2 (fun q _ h => h) (fun q h => h) (fun u t H locs ht hvm h_2 hB hz9 hk9 hS => ?_)
  obtain ⟨u_3, rfl⟩ : ∃ z, z = u := ⟨_, rfl⟩
  have hw : gW D A ((q_1, .inr (6, [.int le, .ref u_3, .int 0, .int 0])) :: (u_3, .inl (dA 0, 10, .inl df)) :: (co, .inr (6, [.int le, .ref ca, .int ho, .int cn])) :: (ca, .inl (dA 0, 10, .inl df)) :: R) s H locs := g_aft ht hB hS
  refine lv_astore_n (lv' := [(1, .ref q_1), (0, .ref co)]) hx hb dX6_copy_12 rfl hl (by decide) rfl (fun ls hl => ?_)
  refine lv_aload_n hx hb dX6_copy_13 rfl (lv_at hl 0 rfl) ?_
  refine lv_aload_n hx hb dX6_copy_14 rfl (lv_at hl 1 rfl) ?_
  refine g_get X cfX6 hw 2 2 rfl rfl q610 rfl rfl dX6_copy_15 ?_
  refine g_put (ws' := (q_1, .inr (6, [.int le, .ref u_3, .int ho, .int 0])) :: (u_3, .inl (dA 0, 10, .inl df)) :: (co, .inr (6, [.int le, .ref ca, .int ho, .int cn])) :: (ca, .inl (dA 0, 10, .inl df)) :: R) X cfX6 hw 0 2 rfl rfl q610 rfl rfl rfl rfl rfl rfl dX6_copy_18 (fun H locs hw => ?_)
  refine lv_aload_n hx hb dX6_copy_21 rfl (lv_at hl 0 rfl) ?_
  refine lv_aload_n hx hb dX6_copy_22 rfl (lv_at hl 1 rfl) ?_
  refine g_get X cfX6 hw 2 3 rfl rfl q612 rfl rfl dX6_copy_23 ?_
  refine g_put (ws' := (q_1, .inr (6, [.int le, .ref u_3, .int ho, .int cn])) :: (u_3, .inl (dA 0, 10, .inl df)) :: (co, .inr (6, [.int le, .ref ca, .int ho, .int cn])) :: (ca, .inl (dA 0, 10, .inl df)) :: R) X cfX6 hw 0 3 rfl rfl q612 rfl rfl rfl rfl rfl rfl dX6_copy_26 (fun H locs hw => ?_)
  refine lv_aload_n hx hb dX6_copy_29 rfl (lv_at hl 0 rfl) ?_
  exact g_aret u_3 X hw hr (Or.inl ⟨_, rfl⟩) hlocks trivial rfl dX6_copy_30

set_option maxHeartbeats 4000000 in
theorem m_X7_init (l : Launch) (D : va_G) (dA : Nat → ClassId) (A : Nat → Prop) (E : State → Prop) (hE : gSt A E) (R : va_W) (my : Nat) (mh : Int32) : Met l yX7_init (ws_ yX7_init cX7_init 2 (Option.none : Option FieldType)) ({ frames := 1, cells := 0, slots := 0, locals := 12 }) (va_Pc [.ref my, .int mh] (gB D dA A E ((my, .inr (7, [.int 0, .int 0, .int 0, .int 0, .int 0])) :: R))) (va_Qv (fun (_ : Unit) => True) (fun _ => gE D A ((my, .inr (7, [.int mh, .int 0, .int 0, .int 0, .int 1])) :: R)) A) (0) (0) A := by
  refine g_start rfl rfl ?_
  intro p e s m args below meth c ls X hr hlocks hin hw hl
  have hx := X.1.1
  have hb := X.1.2.1
  have hl : lv_has ls 2 [(0, .ref my), (1, .int mh)] := hl
  refine lv_aload_n hx hb dX7_init_0 rfl (lv_at hl 0 rfl) ?_
  refine W.objInit hx hb X.1.2.2.2.1 (X.1.2.2.2.2 _ q634) (X.1.2.2.2.2 _ q109) (X.1.2.2.2.2 _ q110) rfl (by rw [X.1.2.2.1]; exact hl.1) rfl dX7_init_1 (Nat.le_of_ble_eq_true rfl) (Nat.le_of_ble_eq_true rfl) ?_
  refine W.eq (g2 := F0 m 4 ls []) rfl ?_
  refine lv_aload_n hx hb dX7_init_4 rfl (lv_at hl 0 rfl) ?_
  refine lv_iconst (v := 1) hx hb dX7_init_5 (by decide) ?_
  refine g_put (ws' := (my, .inr (7, [.int 0, .int 0, .int 0, .int 0, .int 1])) :: R) X cfX7 hw 0 4 rfl rfl q642 rfl rfl rfl rfl rfl rfl dX7_init_6 (fun H locs hw => ?_)
  refine lv_aload_n hx hb dX7_init_9 rfl (lv_at hl 0 rfl) ?_
  refine lv_iload_n hx hb dX7_init_10 rfl (lv_at hl 1 rfl) ?_
  refine g_putF (ws' := (my, .inr (7, [.int mh, .int 0, .int 0, .int 0, .int 1])) :: R) X (hin rfl) cfX7 hw 0 0 rfl rfl q635 rfl rfl rfl rfl rfl rfl rfl dX7_init_11 (fun H locs hw => ?_)
  exact g_vret () X hw hr hlocks trivial rfl dX7_init_14

set_option maxHeartbeats 4000000 in
theorem m_X7_copy (l : Launch) (D : va_G) (dA : Nat → ClassId) (A : Nat → Prop) (E : State → Prop) (hE : gSt A E) (R : va_W) (my : Nat) (mh mw mt mq mn : Int32)  : Met l yX7_copy (ws_ yX7_copy cX7_copy 2 (Option.some (FieldType.object "GargoyleCopyists$Copyist"))) ({ frames := 2, cells := 1, slots := 5, locals := 33 }) (va_Pc [.ref my] (gB D dA A E ((my, .inr (7, [.int mh, .int mw, .int mt, .int mq, .int mn])) :: R))) (va_Qr (fun (_ : Unit) => True) (fun _ a => gE D A ((a, .inr (7, [.int mh, .int mw, .int mt, .int mq, .int mn])) :: (my, .inr (7, [.int mh, .int mw, .int mt, .int mq, .int mn])) :: R)) A) (1) (5) A := by
  refine g_start rfl rfl ?_
  intro p e s m args below meth c ls X hr hlocks hin hw hl
  have hx := X.1.1
  have hb := X.1.2.1
  have hl : lv_has ls 2 [(0, .ref my)] := hl
  refine g_new (fs := [.int 0, .int 0, .int 0, .int 0, .int 0]) X cfX7 hw q629 q630 q89 (fun j hj => by rcases (show j = 0 ∨ j = 1 ∨ j = 2 ∨ j = 3 ∨ j = 4 by omega) with rfl | rfl | rfl | rfl | rfl <;> rfl) (Nat.le_of_ble_eq_true rfl) (Nat.le_of_ble_eq_true rfl) dX7_copy_0 (fun q_1 H hw => ?_)
  refine lv_dup hx hb dX7_copy_3 rfl ?_
  refine lv_aload_n hx hb dX7_copy_4 rfl (lv_at hl 0 rfl) ?_
  refine g_get X cfX7 hw 1 0 rfl rfl q635 rfl rfl dX7_copy_5 ?_
  refine va_callv (va_runI (As := [.int mh]) (rest := [.ref q_1]) X.1 (m_X7_init l D dA A E hE ((my, .inr (7, [.int mh, .int mw, .int mt, .int mq, .int mn])) :: R) q_1 mh) (cwI 1 X.1.2.2.2.2 (lw_meth q633) rfl rfl rfl (X.1.2.2.2.2 _ q89) (X.1.2.2.2.2 _ q631) (X.1.2.2.2.2 _ q632) rfl (by decide +kernel) ⟨Nat.le_of_ble_eq_true rfl, Nat.le_of_ble_eq_true rfl⟩) (g_preS hE X.2 hw) rfl rfl hl.1 rfl (lv_room (Nat.le_of_ble_eq_true rfl)) dX7_copy_8 ⟨Nat.le_of_ble_eq_true rfl, Nat.le_of_ble_eq_true rfl⟩) hw.2.2 (fun q _ h => h) (fun q h => h) (fun u t H locs ht hvm h_2 hB hz9 hk9 hS => ?_)
  have hw : gW D A ((q_1, .inr (7, [.int mh, .int 0, .int 0, .int 0, .int 1])) :: (my, .inr (7, [.int mh, .int mw, .int mt, .int mq, .int mn])) :: R) s H locs := g_aft ht hB hS
  refine lv_astore_n (lv' := [(1, .ref q_1), (0, .ref my)]) hx hb dX7_copy_11 rfl hl (by decide) rfl (fun ls hl => ?_)
  refine lv_aload_n hx hb dX7_copy_12 rfl (lv_at hl 0 rfl) ?_
  refine lv_aload_n hx hb dX7_copy_13 rfl (lv_at hl 1 rfl) ?_
  refine g_get X cfX7 hw 1 1 rfl rfl q636 rfl rfl dX7_copy_14 ?_
  refine g_put (ws' := (q_1, .inr (7, [.int mh, .int mw, .int 0, .int 0, .int 1])) :: (my, .inr (7, [.int mh, .int mw, .int mt, .int mq, .int mn])) :: R) X cfX7 hw 0 1 rfl rfl q636 rfl rfl rfl rfl rfl rfl dX7_copy_17 (fun H locs hw => ?_)
  refine lv_aload_n hx hb dX7_copy_20 rfl (lv_at hl 0 rfl) ?_
  refine lv_aload_n hx hb dX7_copy_21 rfl (lv_at hl 1 rfl) ?_
  refine g_get X cfX7 hw 1 2 rfl rfl q638 rfl rfl dX7_copy_22 ?_
  refine g_put (ws' := (q_1, .inr (7, [.int mh, .int mw, .int mt, .int 0, .int 1])) :: (my, .inr (7, [.int mh, .int mw, .int mt, .int mq, .int mn])) :: R) X cfX7 hw 0 2 rfl rfl q638 rfl rfl rfl rfl rfl rfl dX7_copy_25 (fun H locs hw => ?_)
  refine lv_aload_n hx hb dX7_copy_28 rfl (lv_at hl 0 rfl) ?_
  refine lv_aload_n hx hb dX7_copy_29 rfl (lv_at hl 1 rfl) ?_
  refine g_get X cfX7 hw 1 3 rfl rfl q640 rfl rfl dX7_copy_30 ?_
  refine g_put (ws' := (q_1, .inr (7, [.int mh, .int mw, .int mt, .int mq, .int 1])) :: (my, .inr (7, [.int mh, .int mw, .int mt, .int mq, .int mn])) :: R) X cfX7 hw 0 3 rfl rfl q640 rfl rfl rfl rfl rfl rfl dX7_copy_33 (fun H locs hw => ?_)
  refine lv_aload_n hx hb dX7_copy_36 rfl (lv_at hl 0 rfl) ?_
  refine lv_aload_n hx hb dX7_copy_37 rfl (lv_at hl 1 rfl) ?_
  refine g_get X cfX7 hw 1 4 rfl rfl q642 rfl rfl dX7_copy_38 ?_
  refine g_put (ws' := (q_1, .inr (7, [.int mh, .int mw, .int mt, .int mq, .int mn])) :: (my, .inr (7, [.int mh, .int mw, .int mt, .int mq, .int mn])) :: R) X cfX7 hw 0 4 rfl rfl q642 rfl rfl rfl rfl rfl rfl dX7_copy_41 (fun H locs hw => ?_)
  refine lv_aload_n hx hb dX7_copy_44 rfl (lv_at hl 0 rfl) ?_
  exact g_aret () X hw hr (Or.inl ⟨_, rfl⟩) hlocks trivial rfl dX7_copy_45

set_option maxHeartbeats 4000000 in
theorem m_X7_left (l : Launch) (D : va_G) (dA : Nat → ClassId) (A : Nat → Prop) (E : State → Prop) (hE : gSt A E) (R : va_W) (my : Nat) (mh mw mt mq mn : Int32)  : Met l yX7_left (ws_ yX7_left cX7_left 1 (Option.some FieldType.int)) ({ frames := 0, cells := 0, slots := 0, locals := 0 }) (va_Pc [.ref my] (gB D dA A E ((my, .inr (7, [.int mh, .int mw, .int mt, .int mq, .int mn])) :: R))) (va_Qi (fun (r : Int32) (_ : Unit) => r = 600 - mt) (fun _ => gE D A ((my, .inr (7, [.int mh, .int mw, .int mt, .int mq, .int mn])) :: R)) A) (0) (0) A := by
  refine g_start rfl rfl ?_
  intro p e s m args below meth c ls X hr hlocks hin hw hl
  have hx := X.1.1
  have hb := X.1.2.1
  have hl : lv_has ls 1 [(0, .ref my)] := hl
  refine lv_sipush (v := 600) hx hb dX7_left_0 (by decide) ?_
  refine lv_aload_n hx hb dX7_left_3 rfl (lv_at hl 0 rfl) ?_
  refine g_get X cfX7 hw 0 2 rfl rfl q638 rfl rfl dX7_left_4 ?_
  refine lv_isub hx hb dX7_left_7 ?_
  exact g_iret (v := 600 - mt) () X hw hr hlocks  rfl rfl dX7_left_8

set_option maxHeartbeats 4000000 in
theorem m_X7_minutes (l : Launch) (D : va_G) (dA : Nat → ClassId) (A : Nat → Prop) (E : State → Prop) (hE : gSt A E) (R : va_W) (my : Nat) (mh mw mt mq mn : Int32) (d : Int32) : Met l yX7_minutes (ws_ yX7_minutes cX7_minutes 2 (Option.some FieldType.int)) ({ frames := 0, cells := 0, slots := 0, locals := 0 }) (va_Pc [.ref my, .int d] (gB D dA A E ((my, .inr (7, [.int mh, .int mw, .int mt, .int mq, .int mn])) :: R))) (va_Qi (fun (r : Int32) (_ : Unit) => r = minutesI mh d) (fun _ => gE D A ((my, .inr (7, [.int mh, .int mw, .int mt, .int mq, .int mn])) :: R)) A) (0) (0) A := by
  refine g_start rfl rfl ?_
  intro p e s m args below meth c ls X hr hlocks hin hw hl
  have hx := X.1.1
  have hb := X.1.2.1
  have hl : lv_has ls 2 [(0, .ref my), (1, .int d)] := hl
  refine lv_aload_n hx hb dX7_minutes_0 rfl (lv_at hl 0 rfl) ?_
  refine g_get X cfX7 hw 0 0 rfl rfl q635 rfl rfl dX7_minutes_1 ?_
  refine lv_iconst (v := 1) hx hb dX7_minutes_4 (by decide) ?_
  refine lv_icmp_ne (tgt := 16) hx hb dX7_minutes_5 (by decide) (fun c_1 => ?_) (fun c_1 => ?_)
  · skip
    refine lv_iload_n hx hb dX7_minutes_16 rfl (lv_at hl 1 rfl) ?_
    exact g_iret (v := d) () X hw hr hlocks  (by simp [minutesI, c_1]) (by first | rfl | (simp [minutesI, c_1]; done) | (simp [minutesI, c_1]; rfl)) dX7_minutes_17
  · skip
    refine lv_iload_n hx hb dX7_minutes_8 rfl (lv_at hl 1 rfl) ?_
    refine lv_iconst (v := 1) hx hb dX7_minutes_9 (by decide) ?_
    refine lv_iadd hx hb dX7_minutes_10 ?_
    refine lv_iconst (v := 2) hx hb dX7_minutes_11 (by decide) ?_
    refine lv_idiv hx hb dX7_minutes_12 (by decide) ?_
    refine lv_goto (tgt := 17) hx hb dX7_minutes_13 (by decide) ?_
    exact g_iret (v := (d + 1) / 2) () X hw hr hlocks  (by simp [minutesI, c_1]) (by first | rfl | (simp [minutesI, c_1]; done) | (simp [minutesI, c_1]; rfl)) dX7_minutes_17

set_option maxHeartbeats 4000000 in
theorem m_X7_hasCut (l : Launch) (D : va_G) (dA : Nat → ClassId) (A : Nat → Prop) (E : State → Prop) (hE : gSt A E) (R : va_W) (my : Nat) (mh mw mt mq mn : Int32) (d : Int32) : Met l yX7_hasCut (ws_ yX7_hasCut cX7_hasCut 2 (Option.none : Option FieldType)) ({ frames := 1, cells := 0, slots := 0, locals := 21 }) (va_Pc [.ref my, .int d] (gB D dA A E ((my, .inr (7, [.int mh, .int mw, .int mt, .int mq, .int mn])) :: R))) (va_Qv (fun (_ : Unit) => True) (fun _ => gE D A ((my, .inr (7, [.int mh, .int (blunt mw d), .int (mt + minutesI mh d), .int (mq + 1), .int mn])) :: R)) A) (0) (0) A := by
  refine g_start rfl rfl ?_
  intro p e s m args below meth c ls X hr hlocks hin hw hl
  have hx := X.1.1
  have hb := X.1.2.1
  have hl : lv_has ls 2 [(0, .ref my), (1, .int d)] := hl
  refine lv_aload_n hx hb dX7_hasCut_0 rfl (lv_at hl 0 rfl) ?_
  refine lv_bipush (v := 20) hx hb dX7_hasCut_1 (by decide) ?_
  refine lv_aload_n hx hb dX7_hasCut_3 rfl (lv_at hl 0 rfl) ?_
  refine g_get X cfX7 hw 0 1 rfl rfl q636 rfl rfl dX7_hasCut_4 ?_
  refine lv_iload_n hx hb dX7_hasCut_7 rfl (lv_at hl 1 rfl) ?_
  refine lv_bipush (v := 30) hx hb dX7_hasCut_8 (by decide) ?_
  refine lv_icmp_le (tgt := 17) hx hb dX7_hasCut_10 (by decide) (fun c_1 => ?_) (fun c_1 => ?_)
  · skip
    have c_1 := Int32.not_lt.mpr c_1
    refine lv_iconst (v := 1) hx hb dX7_hasCut_17 (by decide) ?_
    refine lv_iadd hx hb dX7_hasCut_18 ?_
    refine va_mmin hx hb (by rw [X.1.2.2.1, hl.1]) X.1.2.2.2.1 (X.1.2.2.2.2 _ q877) (X.1.2.2.2.2 _ q264) (X.1.2.2.2.2 _ q72) (X.1.2.2.2.2 _ q265) (Nat.le_of_ble_eq_true rfl) (Nat.le_of_ble_eq_true rfl) (by first | exact Nat.le_of_ble_eq_true rfl | (dsimp only; omega)) (by first | exact Nat.le_of_ble_eq_true rfl | (dsimp only; omega)) dX7_hasCut_19 ?_
    refine g_put (ws' := (my, .inr (7, [.int mh, .int (if (mw + 1) < 20 then mw + 1 else 20), .int mt, .int mq, .int mn])) :: R) X cfX7 hw 0 1 rfl rfl q636 rfl rfl rfl rfl rfl rfl dX7_hasCut_22 (fun H locs hw => ?_)
    refine lv_aload_n hx hb dX7_hasCut_25 rfl (lv_at hl 0 rfl) ?_
    refine lv_dup hx hb dX7_hasCut_26 rfl ?_
    refine g_get X cfX7 hw 0 2 rfl rfl q638 rfl rfl dX7_hasCut_27 ?_
    refine lv_aload_n hx hb dX7_hasCut_30 rfl (lv_at hl 0 rfl) ?_
    refine lv_iload_n hx hb dX7_hasCut_31 rfl (lv_at hl 1 rfl) ?_
    refine va_calli (va_runV (As := [.int d]) (rest := [.int mt, .ref my]) X.1 (m_X7_minutes l D dA A E hE R my mh (if (mw + 1) < 20 then mw + 1 else 20) mt mq mn d) (cwV 1 X.1.2.2.2.2 (lw_V q878 q866 q867 q89 q868) rfl rfl rfl (by decide +kernel) ⟨Nat.le_of_ble_eq_true rfl, Nat.le_of_ble_eq_true rfl⟩) (g_preV hE X.2 hw 0 rfl rfl) rfl rfl hl.1 rfl (lv_room (Nat.le_of_ble_eq_true rfl)) dX7_hasCut_32 ⟨Nat.le_of_ble_eq_true rfl, Nat.le_of_ble_eq_true rfl⟩) hw.2.2 (fun q _ h => h) (fun q h => h) (fun r_3 u t H locs ht hvm h_2 hB hz9 hk9 hS => ?_)
    have hw : gW D A ((my, .inr (7, [.int mh, .int (if (mw + 1) < 20 then mw + 1 else 20), .int mt, .int mq, .int mn])) :: R) s H locs := g_aft ht hB hS
    obtain rfl : r_3 = minutesI mh d := h_2
    refine lv_iadd hx hb dX7_hasCut_35 ?_
    refine g_put (ws' := (my, .inr (7, [.int mh, .int (if (mw + 1) < 20 then mw + 1 else 20), .int (mt + (minutesI mh d)), .int mq, .int mn])) :: R) X cfX7 hw 0 2 rfl rfl q638 rfl rfl rfl rfl rfl rfl dX7_hasCut_36 (fun H locs hw => ?_)
    refine lv_aload_n hx hb dX7_hasCut_39 rfl (lv_at hl 0 rfl) ?_
    refine lv_dup hx hb dX7_hasCut_40 rfl ?_
    refine g_get X cfX7 hw 0 3 rfl rfl q640 rfl rfl dX7_hasCut_41 ?_
    refine lv_iconst (v := 1) hx hb dX7_hasCut_44 (by decide) ?_
    refine lv_iadd hx hb dX7_hasCut_45 ?_
    refine g_put (ws' := (my, .inr (7, [.int mh, .int (if (mw + 1) < 20 then mw + 1 else 20), .int (mt + (minutesI mh d)), .int (mq + 1), .int mn])) :: R) X cfX7 hw 0 3 rfl rfl q640 rfl rfl rfl rfl rfl rfl dX7_hasCut_46 (fun H locs hw => ?_)
    exact g_vret () X hw hr hlocks trivial (by first | rfl | (simp [blunt, c_1]; done) | (simp [blunt, c_1]; rfl)) dX7_hasCut_49
  · skip
    have c_1 := Int32.not_le.mp c_1
    refine lv_iconst (v := 2) hx hb dX7_hasCut_13 (by decide) ?_
    refine lv_goto (tgt := 18) hx hb dX7_hasCut_14 (by decide) ?_
    refine lv_iadd hx hb dX7_hasCut_18 ?_
    refine va_mmin hx hb (by rw [X.1.2.2.1, hl.1]) X.1.2.2.2.1 (X.1.2.2.2.2 _ q877) (X.1.2.2.2.2 _ q264) (X.1.2.2.2.2 _ q72) (X.1.2.2.2.2 _ q265) (Nat.le_of_ble_eq_true rfl) (Nat.le_of_ble_eq_true rfl) (by first | exact Nat.le_of_ble_eq_true rfl | (dsimp only; omega)) (by first | exact Nat.le_of_ble_eq_true rfl | (dsimp only; omega)) dX7_hasCut_19 ?_
    refine g_put (ws' := (my, .inr (7, [.int mh, .int (if (mw + 2) < 20 then mw + 2 else 20), .int mt, .int mq, .int mn])) :: R) X cfX7 hw 0 1 rfl rfl q636 rfl rfl rfl rfl rfl rfl dX7_hasCut_22 (fun H locs hw => ?_)
    refine lv_aload_n hx hb dX7_hasCut_25 rfl (lv_at hl 0 rfl) ?_
    refine lv_dup hx hb dX7_hasCut_26 rfl ?_
    refine g_get X cfX7 hw 0 2 rfl rfl q638 rfl rfl dX7_hasCut_27 ?_
    refine lv_aload_n hx hb dX7_hasCut_30 rfl (lv_at hl 0 rfl) ?_
    refine lv_iload_n hx hb dX7_hasCut_31 rfl (lv_at hl 1 rfl) ?_
    refine va_calli (va_runV (As := [.int d]) (rest := [.int mt, .ref my]) X.1 (m_X7_minutes l D dA A E hE R my mh (if (mw + 2) < 20 then mw + 2 else 20) mt mq mn d) (cwV 1 X.1.2.2.2.2 (lw_V q878 q866 q867 q89 q868) rfl rfl rfl (by decide +kernel) ⟨Nat.le_of_ble_eq_true rfl, Nat.le_of_ble_eq_true rfl⟩) (g_preV hE X.2 hw 0 rfl rfl) rfl rfl hl.1 rfl (lv_room (Nat.le_of_ble_eq_true rfl)) dX7_hasCut_32 ⟨Nat.le_of_ble_eq_true rfl, Nat.le_of_ble_eq_true rfl⟩) hw.2.2 (fun q _ h => h) (fun q h => h) (fun r_5 u t H locs ht hvm h_4 hB hz9 hk9 hS => ?_)
    have hw : gW D A ((my, .inr (7, [.int mh, .int (if (mw + 2) < 20 then mw + 2 else 20), .int mt, .int mq, .int mn])) :: R) s H locs := g_aft ht hB hS
    obtain rfl : r_5 = minutesI mh d := h_4
    refine lv_iadd hx hb dX7_hasCut_35 ?_
    refine g_put (ws' := (my, .inr (7, [.int mh, .int (if (mw + 2) < 20 then mw + 2 else 20), .int (mt + (minutesI mh d)), .int mq, .int mn])) :: R) X cfX7 hw 0 2 rfl rfl q638 rfl rfl rfl rfl rfl rfl dX7_hasCut_36 (fun H locs hw => ?_)
    refine lv_aload_n hx hb dX7_hasCut_39 rfl (lv_at hl 0 rfl) ?_
    refine lv_dup hx hb dX7_hasCut_40 rfl ?_
    refine g_get X cfX7 hw 0 3 rfl rfl q640 rfl rfl dX7_hasCut_41 ?_
    refine lv_iconst (v := 1) hx hb dX7_hasCut_44 (by decide) ?_
    refine lv_iadd hx hb dX7_hasCut_45 ?_
    refine g_put (ws' := (my, .inr (7, [.int mh, .int (if (mw + 2) < 20 then mw + 2 else 20), .int (mt + (minutesI mh d)), .int (mq + 1), .int mn])) :: R) X cfX7 hw 0 3 rfl rfl q640 rfl rfl rfl rfl rfl rfl dX7_hasCut_46 (fun H locs hw => ?_)
    exact g_vret () X hw hr hlocks trivial (by first | rfl | (simp [blunt, c_1]; done) | (simp [blunt, c_1]; rfl)) dX7_hasCut_49

set_option maxHeartbeats 4000000 in
theorem m_X7_value (l : Launch) (D : va_G) (dA : Nat → ClassId) (A : Nat → Prop) (E : State → Prop) (hE : gSt A E) (R : va_W) (my : Nat) (mh mw mt mq mn : Int32) (w : Int32) : Met l yX7_value (ws_ yX7_value cX7_value 2 (Option.some FieldType.int)) ({ frames := 1, cells := 0, slots := 0, locals := 20 }) (va_Pc [.ref my, .int w] (gB D dA A E ((my, .inr (7, [.int mh, .int mw, .int mt, .int mq, .int mn])) :: R))) (va_Qi (fun (r : Int32) (_ : Unit) => r = cpyV mh mw mt mq mn w) (fun _ => gE D A ((my, .inr (7, [.int mh, .int mw, .int mt, .int mq, .int mn])) :: R)) A) (0) (0) A := by
  refine g_start rfl rfl ?_
  intro p e s m args below meth c ls X hr hlocks hin hw hl
  have hx := X.1.1
  have hb := X.1.2.1
  have hl : lv_has ls 2 [(0, .ref my), (1, .int w)] := hl
  refine lv_iload_n hx hb dX7_value_0 rfl (lv_at hl 1 rfl) ?_
  by_cases c_1 : w = 0
  · refine lv_tableIn (tgt := 36) hx hb dX7_value_1 (by rw [c_1]; decide) (by rw [c_1]; decide) (by rw [c_1]; rfl) (by decide) ?_
    subst c_1
    refine lv_aload_n hx hb dX7_value_36 rfl (lv_at hl 0 rfl) ?_
    refine g_get X cfX7 hw 0 0 rfl rfl q635 rfl rfl dX7_value_37 ?_
    refine lv_goto (tgt := 73) hx hb dX7_value_40 (by decide) ?_
    exact g_iret (v := mh) () X hw hr hlocks  (by simp [cpyV]) (by first | rfl | (simp [cpyV]; done)) dX7_value_73
  by_cases c_2 : w = 1
  · refine lv_tableIn (tgt := 43) hx hb dX7_value_1 (by rw [c_2]; decide) (by rw [c_2]; decide) (by rw [c_2]; rfl) (by decide) ?_
    subst c_2
    refine lv_aload_n hx hb dX7_value_43 rfl (lv_at hl 0 rfl) ?_
    refine g_get X cfX7 hw 0 1 rfl rfl q636 rfl rfl dX7_value_44 ?_
    refine lv_goto (tgt := 73) hx hb dX7_value_47 (by decide) ?_
    exact g_iret (v := mw) () X hw hr hlocks  (by simp [cpyV, c_1]) (by first | rfl | (simp [cpyV, c_1]; done) | (simp [cpyV, c_1]; rfl)) dX7_value_73
  by_cases c_3 : w = 2
  · refine lv_tableIn (tgt := 50) hx hb dX7_value_1 (by rw [c_3]; decide) (by rw [c_3]; decide) (by rw [c_3]; rfl) (by decide) ?_
    subst c_3
    refine lv_aload_n hx hb dX7_value_50 rfl (lv_at hl 0 rfl) ?_
    refine va_calli (va_runV (As := []) (rest := []) X.1 (m_X7_left l D dA A E hE R my mh mw mt mq mn) (cwV 0 X.1.2.2.2.2 (lw_V q902 q870 q871 q89 q872) rfl rfl rfl (by decide +kernel) ⟨Nat.le_of_ble_eq_true rfl, Nat.le_of_ble_eq_true rfl⟩) (g_preV hE X.2 hw 0 rfl rfl) rfl rfl hl.1 rfl (lv_room (Nat.le_of_ble_eq_true rfl)) dX7_value_51 ⟨Nat.le_of_ble_eq_true rfl, Nat.le_of_ble_eq_true rfl⟩) hw.2.2 (fun q _ h => h) (fun q h => h) (fun r_5 u t H locs ht hvm h_4 hB hz9 hk9 hS => ?_)
    have hw : gW D A ((my, .inr (7, [.int mh, .int mw, .int mt, .int mq, .int mn])) :: R) s H locs := g_aft ht hB hS
    obtain rfl : r_5 = 600 - mt := h_4
    refine lv_goto (tgt := 73) hx hb dX7_value_54 (by decide) ?_
    exact g_iret (v := 600 - mt) () X hw hr hlocks  (by simp [cpyV, c_1, c_2]) (by first | rfl | (simp [cpyV, c_1, c_2]; done) | (simp [cpyV, c_1, c_2]; rfl)) dX7_value_73
  by_cases c_6 : w = 3
  · refine lv_tableIn (tgt := 57) hx hb dX7_value_1 (by rw [c_6]; decide) (by rw [c_6]; decide) (by rw [c_6]; rfl) (by decide) ?_
    subst c_6
    refine lv_aload_n hx hb dX7_value_57 rfl (lv_at hl 0 rfl) ?_
    refine g_get X cfX7 hw 0 3 rfl rfl q640 rfl rfl dX7_value_58 ?_
    refine lv_goto (tgt := 73) hx hb dX7_value_61 (by decide) ?_
    exact g_iret (v := mq) () X hw hr hlocks  (by simp [cpyV, c_1, c_2, c_3]) (by first | rfl | (simp [cpyV, c_1, c_2, c_3]; done) | (simp [cpyV, c_1, c_2, c_3]; rfl)) dX7_value_73
  by_cases c_7 : w = 4
  · refine lv_tableIn (tgt := 64) hx hb dX7_value_1 (by rw [c_7]; decide) (by rw [c_7]; decide) (by rw [c_7]; rfl) (by decide) ?_
    subst c_7
    refine lv_aload_n hx hb dX7_value_64 rfl (lv_at hl 0 rfl) ?_
    refine g_get X cfX7 hw 0 4 rfl rfl q642 rfl rfl dX7_value_65 ?_
    refine lv_goto (tgt := 73) hx hb dX7_value_68 (by decide) ?_
    exact g_iret (v := mn) () X hw hr hlocks  (by simp [cpyV, c_1, c_2, c_3, c_6]) (by first | rfl | (simp [cpyV, c_1, c_2, c_3, c_6]; done) | (simp [cpyV, c_1, c_2, c_3, c_6]; rfl)) dX7_value_73
  refine g_tabOut5 (tgt := 71) hx hb dX7_value_1 c_1 c_2 c_3 c_6 c_7 (by decide) ?_
  refine lv_bipush (v := (-12)) hx hb dX7_value_71 (by decide) ?_
  exact g_iret (v := (-12)) () X hw hr hlocks  (by simp [cpyV, c_1, c_2, c_3, c_6, c_7]) (by first | rfl | (simp [cpyV, c_1, c_2, c_3, c_6, c_7]; done) | (simp [cpyV, c_1, c_2, c_3, c_6, c_7]; rfl)) dX7_value_73

set_option maxHeartbeats 4000000 in
theorem m_X8_init (l : Launch) (D : va_G) (dA : Nat → ClassId) (A : Nat → Prop) (E : State → Prop) (hE : gSt A E) (R : va_W) (no : Nat) (kn kc : Int32) : Met l yX8_init (ws_ yX8_init cX8_init 4 (Option.none : Option FieldType)) ({ frames := 1, cells := 1, slots := 10, locals := 12 }) (va_Pc [.ref no, .int kn, .int kc] (gB D dA A E ((no, .inr (8, [.int 0, .int 0, .null, .int 0])) :: R))) (va_Qv (fun (u : Nat) => True) (fun u => gE D A ((no, .inr (8, [.int kn, .int kc, .ref u, .int 0])) :: (u, .inl (dA 0, 10, .inl (fun _ => -1))) :: R)) A) (1) (10) A := by
  refine g_start rfl rfl ?_
  intro p e s m args below meth c ls X hr hlocks hin hw hl
  have hx := X.1.1
  have hb := X.1.2.1
  have hl : lv_has ls 4 [(0, .ref no), (1, .int kn), (2, .int kc)] := hl
  refine lv_aload_n hx hb dX8_init_0 rfl (lv_at hl 0 rfl) ?_
  refine W.objInit hx hb X.1.2.2.2.1 (X.1.2.2.2.2 _ q665) (X.1.2.2.2.2 _ q109) (X.1.2.2.2.2 _ q110) rfl (by rw [X.1.2.2.1]; exact hl.1) rfl dX8_init_1 (Nat.le_of_ble_eq_true rfl) (Nat.le_of_ble_eq_true rfl) ?_
  refine W.eq (g2 := F0 m 4 ls []) rfl ?_
  refine lv_aload_n hx hb dX8_init_4 rfl (lv_at hl 0 rfl) ?_
  refine lv_bipush (v := 10) hx hb dX8_init_5 (by decide) ?_
  refine g_newi (atype := .int) (ty := .int) (N' := 10) X hw 0 rfl rfl ⟨fun _ h => (by cases h), fun _ => rfl⟩ q623 rfl (by first | decide | omega) (Nat.le_of_ble_eq_true rfl) (Nat.le_of_ble_eq_true rfl) (by first | decide | (simp only [componentBytes]; omega)) dX8_init_7 (fun q_1 H hw => ?_)
  refine g_putF (ws' := (q_1, .inl (dA 0, 10, .inl (fun _ => 0))) :: (no, .inr (8, [.int 0, .int 0, .ref q_1, .int 0])) :: R) X (hin rfl) cfX8 hw 1 2 rfl rfl q670 rfl rfl rfl rfl rfl rfl rfl dX8_init_9 (fun H locs hw => ?_)
  refine lv_aload_n hx hb dX8_init_12 rfl (lv_at hl 0 rfl) ?_
  refine lv_iload_n hx hb dX8_init_13 rfl (lv_at hl 1 rfl) ?_
  refine g_putF (ws' := (q_1, .inl (dA 0, 10, .inl (fun _ => 0))) :: (no, .inr (8, [.int kn, .int 0, .ref q_1, .int 0])) :: R) X (hin rfl) cfX8 hw 1 0 rfl rfl q666 rfl rfl rfl rfl rfl rfl rfl dX8_init_14 (fun H locs hw => ?_)
  refine lv_aload_n hx hb dX8_init_17 rfl (lv_at hl 0 rfl) ?_
  refine lv_iload_n hx hb dX8_init_18 rfl (lv_at hl 2 rfl) ?_
  refine g_putF (ws' := (q_1, .inl (dA 0, 10, .inl (fun _ => 0))) :: (no, .inr (8, [.int kn, .int kc, .ref q_1, .int 0])) :: R) X (hin rfl) cfX8 hw 1 1 rfl rfl q667 rfl rfl rfl rfl rfl rfl rfl dX8_init_19 (fun H locs hw => ?_)
  refine lv_iconst (v := 0) hx hb dX8_init_22 (by decide) ?_
  refine lv_istore_n (lv' := [(3, .int 0), (0, .ref no), (1, .int kn), (2, .int kc)]) hx hb dX8_init_23 rfl hl (by decide) rfl (fun ls hl => ?_)
  have loop_2 : ∀ (fuel : Nat) (i : Nat), ∀ (hi : i ≤ 10), (10 - i) < fuel → ∀ (H : Heap) (locs : List Loc) (hw : gW D A ((q_1, .inl (dA 0, 10, .inl (fillL (fun _ => -1) i))) :: (no, .inr (8, [.int kn, .int kc, .ref q_1, .int 0])) :: R) s H locs) (ls : Array Slot) (hl : lv_has ls 4 [(3, .int (nI i)), (0, .ref no), (1, .int kn), (2, .int kc)]), W p l e ({ frames := 1, cells := 1, slots := 10, locals := 12 }) s m args below meth c H locs (1) (10) (MQ below (va_Qv (fun (u : Nat) => True) (fun u => gE D A ((no, .inr (8, [.int kn, .int kc, .ref u, .int 0])) :: (u, .inl (dA 0, 10, .inl (fun _ => -1))) :: R)) A) args s (1) (10) A) (F0 m 24 ls []) := by
    intro fuel
    induction fuel with
    | zero => intro i hi hf; exact absurd hf (Nat.not_lt_zero _)
    | succ fuel ih_loop_2 =>
      intro i hi hfuel_loop_2 H locs hw ls hl
      refine lv_iload_n hx hb dX8_init_24 rfl (lv_at hl 0 rfl) ?_
      refine lv_bipush (v := 10) hx hb dX8_init_25 (by decide) ?_
      refine lv_icmp_ge (tgt := 43) hx hb dX8_init_27 (by decide) (fun c_3 => ?_) (fun c_3 => ?_)
      · skip
        have c_3 := Int32.not_lt.mpr c_3
        have c_3 : ¬ (i < 10) := fun q => c_3 ((nI_ltI (a := i) (b := 10) (by omega) (by omega)).mpr q)
        obtain rfl : i = 10 := by omega
        have hw : gW D A ((q_1, .inl (dA 0, 10, .inl (fun _ => -1))) :: (no, .inr (8, [.int kn, .int kc, .ref q_1, .int 0])) :: R) s _ _ := g_arr hw 0 (fun _ => -1) rfl fillL_n rfl
        have hw : gW D A ((no, .inr (8, [.int kn, .int kc, .ref q_1, .int 0])) :: (q_1, .inl (dA 0, 10, .inl (fun _ => -1))) :: R) s _ _ := g_perm (X := [(q_1, .inl (dA 0, 10, .inl (fun _ => -1))), (no, .inr (8, [.int kn, .int kc, .ref q_1, .int 0]))]) (cx := [(no, .inr (8, [.int kn, .int kc, .ref q_1, .int 0])), (q_1, .inl (dA 0, 10, .inl (fun _ => -1)))]) (pl := R) hw [1, 0] rfl rfl rfl rfl
        exact g_vret q_1 X hw hr hlocks trivial rfl dX8_init_43
      · skip
        have c_3 := Int32.not_le.mp c_3
        have c_3 : i < 10 := (nI_ltI (a := i) (b := 10) (by omega) (by omega)).mp c_3
        refine lv_aload_n hx hb dX8_init_30 rfl (lv_at hl 1 rfl) ?_
        refine g_get X cfX8 hw 1 2 rfl rfl q670 rfl rfl dX8_init_31 ?_
        refine lv_iload_n hx hb dX8_init_34 rfl (lv_at hl 0 rfl) ?_
        refine lv_iconst (v := (-1)) hx hb dX8_init_35 (by decide) ?_
        refine g_iast (ws' := (q_1, .inl (dA 0, 10, .inl (upd (fillL (fun _ => -1) i) i (-1)))) :: (no, .inr (8, [.int kn, .int kc, .ref q_1, .int 0])) :: R) X hw 0 rfl (i := i) (by omega) (by first | decide | omega) rfl dX8_init_36 (fun H locs hw => ?_)
        refine lv_iinc (v := nI (i + 1)) (lv' := [(3, .int (nI (i + 1))), (0, .ref no), (1, .int kn), (2, .int kc)]) hx hb dX8_init_37 hl (k := 0) rfl (nI_add i 1) (by decide) rfl (fun ls hl => ?_)
        refine lv_goto (tgt := 24) hx hb dX8_init_40 (by decide) ?_
        have hw : gW D A ((q_1, .inl (dA 0, 10, .inl (fillL (fun _ => -1) (i + 1)))) :: (no, .inr (8, [.int kn, .int kc, .ref q_1, .int 0])) :: R) s _ _ := g_ws hw (by rw [← fillL_s])
        exact ih_loop_2 (i + 1) (by first | assumption | omega) (by omega) _ _ hw _ (lv_sub hl [0, 1, 2, 3] rfl)
  have hw : gW D A ((q_1, .inl (dA 0, 10, .inl (fillL (fun _ => -1) 0))) :: (no, .inr (8, [.int kn, .int kc, .ref q_1, .int 0])) :: R) s _ _ := g_ws hw (by rw [fillL_0])
  exact loop_2 ((10 - 0) + 1) 0 (by first | assumption | omega) (Nat.lt_succ_self _) _ _ hw _ (lv_sub hl [0, 1, 2, 3] rfl)

set_option maxHeartbeats 4000000 in
theorem m_X8_depth (l : Launch) (D : va_G) (dA : Nat → ClassId) (A : Nat → Prop) (E : State → Prop) (hE : gSt A E) (R : va_W) (ky ka : Nat) (kn kc ku : Int32) (kf : gG) (k : Nat) (hk : k < 10) : Met l yX8_depth (ws_ yX8_depth cX8_depth 2 (Option.some FieldType.int)) ({ frames := 0, cells := 0, slots := 0, locals := 0 }) (va_Pc [.ref ky, .int (nI k)] (gB D dA A E ((ky, .inr (8, [.int kn, .int kc, .ref ka, .int ku])) :: (ka, .inl (dA 0, 10, .inl kf)) :: R))) (va_Qi (fun (r : Int32) (_ : Unit) => r = kf k) (fun _ => gE D A ((ky, .inr (8, [.int kn, .int kc, .ref ka, .int ku])) :: (ka, .inl (dA 0, 10, .inl kf)) :: R)) A) (0) (0) A := by
  refine g_start rfl rfl ?_
  intro p e s m args below meth c ls X hr hlocks hin hw hl
  have hx := X.1.1
  have hb := X.1.2.1
  have hl : lv_has ls 2 [(0, .ref ky), (1, .int (nI k))] := hl
  refine lv_aload_n hx hb dX8_depth_0 rfl (lv_at hl 0 rfl) ?_
  refine g_get X cfX8 hw 0 2 rfl rfl q670 rfl rfl dX8_depth_1 ?_
  refine lv_iload_n hx hb dX8_depth_4 rfl (lv_at hl 1 rfl) ?_
  refine g_iald X hw 1 rfl (i := k) (by omega) (by first | decide | omega) dX8_depth_5 ?_
  exact g_iret (v := kf k) () X hw hr hlocks  rfl rfl dX8_depth_6

set_option maxHeartbeats 4000000 in
theorem m_X8_isCut (l : Launch) (D : va_G) (dA : Nat → ClassId) (A : Nat → Prop) (E : State → Prop) (hE : gSt A E) (R : va_W) (ky ka : Nat) (kn kc ku : Int32) (kf : gG) (k : Nat) (hk : k < 10) : Met l yX8_isCut (ws_ yX8_isCut cX8_isCut 2 (Option.some FieldType.boolean)) ({ frames := 0, cells := 0, slots := 0, locals := 0 }) (va_Pc [.ref ky, .int (nI k)] (gB D dA A E ((ky, .inr (8, [.int kn, .int kc, .ref ka, .int ku])) :: (ka, .inl (dA 0, 10, .inl kf)) :: R))) (va_Qi (fun (r : Int32) (_ : Unit) => r = bZ (!decide (kf k = -1))) (fun _ => gE D A ((ky, .inr (8, [.int kn, .int kc, .ref ka, .int ku])) :: (ka, .inl (dA 0, 10, .inl kf)) :: R)) A) (0) (0) A := by
  refine g_start rfl rfl ?_
  intro p e s m args below meth c ls X hr hlocks hin hw hl
  have hx := X.1.1
  have hb := X.1.2.1
  have hl : lv_has ls 2 [(0, .ref ky), (1, .int (nI k))] := hl
  refine lv_aload_n hx hb dX8_isCut_0 rfl (lv_at hl 0 rfl) ?_
  refine g_get X cfX8 hw 0 2 rfl rfl q670 rfl rfl dX8_isCut_1 ?_
  refine lv_iload_n hx hb dX8_isCut_4 rfl (lv_at hl 1 rfl) ?_
  refine g_iald X hw 1 rfl (i := k) (by omega) (by first | decide | omega) dX8_isCut_5 ?_
  refine lv_iconst (v := (-1)) hx hb dX8_isCut_6 (by decide) ?_
  refine lv_icmp_eq (tgt := 14) hx hb dX8_isCut_7 (by decide) (fun c_1 => ?_) (fun c_1 => ?_)
  · skip
    refine lv_iconst (v := 0) hx hb dX8_isCut_14 (by decide) ?_
    exact g_zret (v := 0) () X hw hr hlocks rfl (by simp [bZ, c_1]) (by first | rfl | (simp [bZ, c_1]; done) | (simp [bZ, c_1]; rfl)) dX8_isCut_15
  · skip
    refine lv_iconst (v := 1) hx hb dX8_isCut_10 (by decide) ?_
    refine lv_goto (tgt := 15) hx hb dX8_isCut_11 (by decide) ?_
    exact g_zret (v := 1) () X hw hr hlocks rfl (by simp [bZ, c_1]) (by first | rfl | (simp [bZ, c_1]; done) | (simp [bZ, c_1]; rfl)) dX8_isCut_15

set_option maxHeartbeats 4000000 in
theorem m_X8_cut (l : Launch) (D : va_G) (dA : Nat → ClassId) (A : Nat → Prop) (E : State → Prop) (hE : gSt A E) (R : va_W) (ky ka : Nat) (kn kc ku : Int32) (kf : gG)  : Met l yX8_cut (ws_ yX8_cut cX8_cut 3 (Option.some FieldType.int)) ({ frames := 1, cells := 0, slots := 0, locals := 21 }) (va_Pc [.ref ky] (gB D dA A E ((ky, .inr (8, [.int kn, .int kc, .ref ka, .int ku])) :: (ka, .inl (dA 0, 10, .inl kf)) :: R))) (va_Qi (fun (r : Int32) (_ : Unit) => r = cutL kf 10) (fun _ => gE D A ((ky, .inr (8, [.int kn, .int kc, .ref ka, .int ku])) :: (ka, .inl (dA 0, 10, .inl kf)) :: R)) A) (0) (0) A := by
  refine g_start rfl rfl ?_
  intro p e s m args below meth c ls X hr hlocks hin hw hl
  have hx := X.1.1
  have hb := X.1.2.1
  have hl : lv_has ls 3 [(0, .ref ky)] := hl
  refine lv_iconst (v := 0) hx hb dX8_cut_0 (by decide) ?_
  refine lv_istore_n (lv' := [(1, .int 0), (0, .ref ky)]) hx hb dX8_cut_1 rfl hl (by decide) rfl (fun ls hl => ?_)
  refine lv_iconst (v := 0) hx hb dX8_cut_2 (by decide) ?_
  refine lv_istore_n (lv' := [(2, .int 0), (1, .int 0), (0, .ref ky)]) hx hb dX8_cut_3 rfl hl (by decide) rfl (fun ls hl => ?_)
  have loop_1 : ∀ (fuel : Nat) (i : Nat), ∀ (hi : i ≤ 10), (10 - i) < fuel → ∀ (H : Heap) (locs : List Loc) (hw : gW D A ((ky, .inr (8, [.int kn, .int kc, .ref ka, .int ku])) :: (ka, .inl (dA 0, 10, .inl kf)) :: R) s H locs) (ls : Array Slot) (hl : lv_has ls 3 [(2, .int (nI i)), (1, .int (cutL kf i)), (0, .ref ky)]), W p l e ({ frames := 1, cells := 0, slots := 0, locals := 21 }) s m args below meth c H locs (0) (0) (MQ below (va_Qi (fun (r : Int32) (_ : Unit) => r = cutL kf 10) (fun _ => gE D A ((ky, .inr (8, [.int kn, .int kc, .ref ka, .int ku])) :: (ka, .inl (dA 0, 10, .inl kf)) :: R)) A) args s (0) (0) A) (F0 m 4 ls []) := by
    intro fuel
    induction fuel with
    | zero => intro i hi hf; exact absurd hf (Nat.not_lt_zero _)
    | succ fuel ih_loop_1 =>
      intro i hi hfuel_loop_1 H locs hw ls hl
      refine lv_iload_n hx hb dX8_cut_4 rfl (lv_at hl 0 rfl) ?_
      refine lv_bipush (v := 10) hx hb dX8_cut_5 (by decide) ?_
      refine lv_icmp_ge (tgt := 32) hx hb dX8_cut_7 (by decide) (fun c_2 => ?_) (fun c_2 => ?_)
      · skip
        have c_2 := Int32.not_lt.mpr c_2
        have c_2 : ¬ (i < 10) := fun q => c_2 ((nI_ltI (a := i) (b := 10) (by omega) (by omega)).mpr q)
        refine lv_iload_n hx hb dX8_cut_32 rfl (lv_at hl 1 rfl) ?_
        exact g_iret (v := cutL kf i) () X hw hr hlocks  (by exact congrArg (cutL kf) (by omega)) rfl dX8_cut_33
      · skip
        have c_2 := Int32.not_le.mp c_2
        have c_2 : i < 10 := (nI_ltI (a := i) (b := 10) (by omega) (by omega)).mp c_2
        refine lv_iload_n hx hb dX8_cut_10 rfl (lv_at hl 1 rfl) ?_
        refine lv_aload_n hx hb dX8_cut_11 rfl (lv_at hl 2 rfl) ?_
        refine lv_iload_n hx hb dX8_cut_12 rfl (lv_at hl 0 rfl) ?_
        refine va_calli (va_runV (As := [.int (nI i)]) (rest := [.int (cutL kf i)]) X.1 (m_X8_isCut l D dA A E hE R ky ka kn kc ku kf i (by first | assumption | omega)) (cwV 1 X.1.2.2.2.2 (lw_V q924 q860 q861 q90 q862) rfl rfl rfl (by decide +kernel) ⟨Nat.le_of_ble_eq_true rfl, Nat.le_of_ble_eq_true rfl⟩) (g_preV hE X.2 hw 0 rfl rfl) rfl rfl hl.1 rfl (lv_room (Nat.le_of_ble_eq_true rfl)) dX8_cut_13 ⟨Nat.le_of_ble_eq_true rfl, Nat.le_of_ble_eq_true rfl⟩) hw.2.2 (fun q _ h => h) (fun q h => h) (fun r_4 u t H locs ht hvm h_3 hB hz9 hk9 hS => ?_)
        have hw : gW D A ((ky, .inr (8, [.int kn, .int kc, .ref ka, .int ku])) :: (ka, .inl (dA 0, 10, .inl kf)) :: R) s H locs := g_aft ht hB hS
        obtain rfl : r_4 = bZ (!decide (kf i = -1)) := h_3
        refine lv_if_eq (tgt := 23) hx hb dX8_cut_16 (by decide) (fun c_5 => ?_) (fun c_5 => ?_)
        · skip
          have c_5 := bZ_0.mp c_5
          have c_5 := bnd_f c_5
          refine lv_iconst (v := 0) hx hb dX8_cut_23 (by decide) ?_
          refine lv_iadd hx hb dX8_cut_24 ?_
          refine lv_istore_n (lv' := [(1, .int ((cutL kf i) + 0)), (2, .int (nI i)), (0, .ref ky)]) hx hb dX8_cut_25 rfl hl (by decide) rfl (fun ls hl => ?_)
          refine lv_iinc (v := nI (i + 1)) (lv' := [(2, .int (nI (i + 1))), (1, .int ((cutL kf i) + 0)), (0, .ref ky)]) hx hb dX8_cut_26 hl (k := 1) rfl (nI_add i 1) (by decide) rfl (fun ls hl => ?_)
          refine lv_goto (tgt := 4) hx hb dX8_cut_29 (by decide) ?_
          have hl : lv_has ls 3 [(2, .int (nI (i + 1))), (1, .int ((cutL kf i) + 0)), (0, .ref ky)] := (lv_sub hl [0, 1, 2] rfl)
          rw [show (cutL kf i) + 0 = cutL kf (i + 1) from by simp [cutL, c_2, c_5]] at hl
          have hl : lv_has ls 3 [(2, .int (nI (i + 1))), (1, .int (cutL kf (i + 1))), (0, .ref ky)] := hl
          exact ih_loop_1 (i + 1) (by first | assumption | omega) (by omega) _ _ hw _ (hl)
        · skip
          have c_5 := bZ_1 c_5
          have c_5 := bnd_t c_5
          refine lv_iconst (v := 1) hx hb dX8_cut_19 (by decide) ?_
          refine lv_goto (tgt := 24) hx hb dX8_cut_20 (by decide) ?_
          refine lv_iadd hx hb dX8_cut_24 ?_
          refine lv_istore_n (lv' := [(1, .int ((cutL kf i) + 1)), (2, .int (nI i)), (0, .ref ky)]) hx hb dX8_cut_25 rfl hl (by decide) rfl (fun ls hl => ?_)
          refine lv_iinc (v := nI (i + 1)) (lv' := [(2, .int (nI (i + 1))), (1, .int ((cutL kf i) + 1)), (0, .ref ky)]) hx hb dX8_cut_26 hl (k := 1) rfl (nI_add i 1) (by decide) rfl (fun ls hl => ?_)
          refine lv_goto (tgt := 4) hx hb dX8_cut_29 (by decide) ?_
          have hl : lv_has ls 3 [(2, .int (nI (i + 1))), (1, .int ((cutL kf i) + 1)), (0, .ref ky)] := (lv_sub hl [0, 1, 2] rfl)
          rw [show (cutL kf i) + 1 = cutL kf (i + 1) from by simp [cutL, c_2, c_5]] at hl
          have hl : lv_has ls 3 [(2, .int (nI (i + 1))), (1, .int (cutL kf (i + 1))), (0, .ref ky)] := hl
          exact ih_loop_1 (i + 1) (by first | assumption | omega) (by omega) _ _ hw _ (hl)
  have hl : lv_has ls 3 [(2, .int 0), (1, .int 0), (0, .ref ky)] := (lv_sub hl [0, 1, 2] rfl)
  have hl : lv_has ls 3 [(2, .int 0), (1, .int (cutL kf 0)), (0, .ref ky)] := by exact hl
  exact loop_1 ((10 - 0) + 1) 0 (by first | assumption | omega) (Nat.lt_succ_self _) _ _ hw _ (hl)

set_option maxHeartbeats 4000000 in
theorem m_X8_firstNotCut (l : Launch) (D : va_G) (dA : Nat → ClassId) (A : Nat → Prop) (E : State → Prop) (hE : gSt A E) (R : va_W) (ky ka : Nat) (kn kc ku : Int32) (kf : gG)  : Met l yX8_firstNotCut (ws_ yX8_firstNotCut cX8_firstNotCut 2 (Option.some FieldType.int)) ({ frames := 1, cells := 0, slots := 0, locals := 21 }) (va_Pc [.ref ky] (gB D dA A E ((ky, .inr (8, [.int kn, .int kc, .ref ka, .int ku])) :: (ka, .inl (dA 0, 10, .inl kf)) :: R))) (va_Qi (fun (r : Int32) (_ : Unit) => r = nI (notCut kf)) (fun _ => gE D A ((ky, .inr (8, [.int kn, .int kc, .ref ka, .int ku])) :: (ka, .inl (dA 0, 10, .inl kf)) :: R)) A) (0) (0) A := by
  refine g_start rfl rfl ?_
  intro p e s m args below meth c ls X hr hlocks hin hw hl
  have hx := X.1.1
  have hb := X.1.2.1
  have hl : lv_has ls 2 [(0, .ref ky)] := hl
  refine lv_iconst (v := 0) hx hb dX8_firstNotCut_0 (by decide) ?_
  refine lv_istore_n (lv' := [(1, .int 0), (0, .ref ky)]) hx hb dX8_firstNotCut_1 rfl hl (by decide) rfl (fun ls hl => ?_)
  have loop_1 : ∀ (fuel : Nat) (i : Nat), ∀ (hi : i ≤ 10), ∀ (hu : notCut kf = notCutL kf (10 - i) i), (10 - i) < fuel → ∀ (H : Heap) (locs : List Loc) (hw : gW D A ((ky, .inr (8, [.int kn, .int kc, .ref ka, .int ku])) :: (ka, .inl (dA 0, 10, .inl kf)) :: R) s H locs) (ls : Array Slot) (hl : lv_has ls 2 [(1, .int (nI i)), (0, .ref ky)]), W p l e ({ frames := 1, cells := 0, slots := 0, locals := 21 }) s m args below meth c H locs (0) (0) (MQ below (va_Qi (fun (r : Int32) (_ : Unit) => r = nI (notCut kf)) (fun _ => gE D A ((ky, .inr (8, [.int kn, .int kc, .ref ka, .int ku])) :: (ka, .inl (dA 0, 10, .inl kf)) :: R)) A) args s (0) (0) A) (F0 m 2 ls []) := by
    intro fuel
    induction fuel with
    | zero => intro i hi hu hf; exact absurd hf (Nat.not_lt_zero _)
    | succ fuel ih_loop_1 =>
      intro i hi hu hfuel_loop_1 H locs hw ls hl
      refine lv_iload_n hx hb dX8_firstNotCut_2 rfl (lv_at hl 0 rfl) ?_
      refine lv_bipush (v := 10) hx hb dX8_firstNotCut_3 (by decide) ?_
      refine lv_icmp_ge (tgt := 22) hx hb dX8_firstNotCut_5 (by decide) (fun c_2 => ?_) (fun c_2 => ?_)
      · skip
        have c_2 := Int32.not_lt.mpr c_2
        have c_2 : ¬ (i < 10) := fun q => c_2 ((nI_ltI (a := i) (b := 10) (by omega) (by omega)).mpr q)
        refine lv_iload_n hx hb dX8_firstNotCut_22 rfl (lv_at hl 0 rfl) ?_
        obtain rfl : i = 10 := by omega
        exact g_iret (v := 10) () X hw hr hlocks  (by rw [hu]; rfl) rfl dX8_firstNotCut_23
      · skip
        have c_2 := Int32.not_le.mp c_2
        have c_2 : i < 10 := (nI_ltI (a := i) (b := 10) (by omega) (by omega)).mp c_2
        refine lv_aload_n hx hb dX8_firstNotCut_8 rfl (lv_at hl 1 rfl) ?_
        refine lv_iload_n hx hb dX8_firstNotCut_9 rfl (lv_at hl 0 rfl) ?_
        refine va_calli (va_runV (As := [.int (nI i)]) (rest := []) X.1 (m_X8_isCut l D dA A E hE R ky ka kn kc ku kf i (by first | assumption | omega)) (cwV 1 X.1.2.2.2.2 (lw_V q924 q860 q861 q90 q862) rfl rfl rfl (by decide +kernel) ⟨Nat.le_of_ble_eq_true rfl, Nat.le_of_ble_eq_true rfl⟩) (g_preV hE X.2 hw 0 rfl rfl) rfl rfl hl.1 rfl (lv_room (Nat.le_of_ble_eq_true rfl)) dX8_firstNotCut_10 ⟨Nat.le_of_ble_eq_true rfl, Nat.le_of_ble_eq_true rfl⟩) hw.2.2 (fun q _ h => h) (fun q h => h) (fun r_4 u t H locs ht hvm h_3 hB hz9 hk9 hS => ?_)
        have hw : gW D A ((ky, .inr (8, [.int kn, .int kc, .ref ka, .int ku])) :: (ka, .inl (dA 0, 10, .inl kf)) :: R) s H locs := g_aft ht hB hS
        obtain rfl : r_4 = bZ (!decide (kf i = -1)) := h_3
        refine lv_if_eq (tgt := 22) hx hb dX8_firstNotCut_13 (by decide) (fun c_5 => ?_) (fun c_5 => ?_)
        · skip
          have c_5 := bZ_0.mp c_5
          have c_5 := bnd_f c_5
          refine lv_iload_n hx hb dX8_firstNotCut_22 rfl (lv_at hl 0 rfl) ?_
          exact g_iret (v := nI i) () X hw hr hlocks  (by rw [hu, notCut_st (by omega) c_5]) rfl dX8_firstNotCut_23
        · skip
          have c_5 := bZ_1 c_5
          have c_5 := bnd_t c_5
          refine lv_iinc (v := nI (i + 1)) (lv' := [(1, .int (nI (i + 1))), (0, .ref ky)]) hx hb dX8_firstNotCut_16 hl (k := 0) rfl (nI_add i 1) (by decide) rfl (fun ls hl => ?_)
          refine lv_goto (tgt := 2) hx hb dX8_firstNotCut_19 (by decide) ?_
          exact ih_loop_1 (i + 1) (by first | assumption | omega) (by rw [hu]; exact notCut_go (by omega) c_5) (by omega) _ _ hw _ (lv_sub hl [0, 1] rfl)
  exact loop_1 ((10 - 0) + 1) 0 (by first | assumption | omega) (rfl) (Nat.lt_succ_self _) _ _ hw _ (lv_sub hl [0, 1] rfl)
