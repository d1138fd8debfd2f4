set_option maxHeartbeats 4000000 in
theorem m_J9_init_2 (l : Launch) (D : va_G) (dA : Nat → ClassId) (A : Nat → Prop) (E : State → Prop) (hE : gSt A E) (R : va_W) (kA : Nat → Nat) (hKE : gKE A E kA) (na : Nat) (o ob oc on : Nat) (ml : Int32) (of : gG) (hon : on ≤ oc) (hoc : oc ≤ 262) (hof : gAsc of oc)  : Met l yJ9_init_2 (ws_ yJ9_init_2 cJ9_init_2 5 (Option.none : Option FieldType)) ({ frames := 3, cells := 1, slots := 262, locals := 86 }) (va_Pc [.ref na, .ref o, .null] (gB D dA A E ((na, .inr (17, [.null, .int 0, .int 0, .int 0])) :: (o, .inr (16, [.ref ob, .int 0, .int ml, .int (nI on)])) :: (ob, .inl (dA 2, oc, .inl of)) :: R))) (va_Qv (fun (u : Nat × gG) => gAsc u.2 on ∧ ∀ k, k < on → u.2 k = of k) (fun u => gE D A ((na, .inr (17, [.ref u.1, .int 0, .int 0, .int 0])) :: (u.1, .inl (dA 2, on, .inl u.2)) :: (o, .inr (16, [.ref ob, .int 0, .int ml, .int (nI on)])) :: (ob, .inl (dA 2, oc, .inl of)) :: R)) A) (1) (262) A := by
  refine g_start rfl rfl ?_
  intro p e s m args below meth c ls X hr hlocks hin hw hl
  have hx := X.1.1
  have hb := X.1.2.1
  have hl : lv_has ls 5 [(0, .ref na), (1, .ref o), (2, .null)] := hl
  refine lv_aload_n hx hb dJ9_init_2_0 rfl (lv_at hl 0 rfl) ?_
  refine W.objInit hx hb X.1.2.2.2.1 (X.1.2.2.2.2 _ q1346) (X.1.2.2.2.2 _ q109) (X.1.2.2.2.2 _ q110) rfl (by rw [X.1.2.2.1]; exact hl.1) rfl dJ9_init_2_1 (Nat.le_of_ble_eq_true rfl) (Nat.le_of_ble_eq_true rfl) ?_
  refine W.eq (g2 := F0 m 4 ls []) rfl ?_
  refine lv_aload_n hx hb dJ9_init_2_4 rfl (lv_at hl 1 rfl) ?_
  have hw : gW D A ((o, .inr (16, [.ref ob, .int 0, .int ml, .int (nI on)])) :: (ob, .inl (dA 2, oc, .inl of)) :: (na, .inr (17, [.null, .int 0, .int 0, .int 0])) :: R) s _ _ := g_perm (X := [(na, .inr (17, [.null, .int 0, .int 0, .int 0])), (o, .inr (16, [.ref ob, .int 0, .int ml, .int (nI on)])), (ob, .inl (dA 2, oc, .inl of))]) (cx := [(o, .inr (16, [.ref ob, .int 0, .int ml, .int (nI on)])), (ob, .inl (dA 2, oc, .inl of)), (na, .inr (17, [.null, .int 0, .int 0, .int 0]))]) (pl := R) hw [1, 2, 0] rfl rfl rfl rfl
  refine va_callr (va_runU (As := []) (rest := []) X.1 (m_J7_getValue l D dA A E hE ((na, .inr (17, [.null, .int 0, .int 0, .int 0])) :: R) o ob oc on ml of) (va_cwU 0 X.1.2.2.2.2 (lw_app (lw_in5 q1347 q1349 q1350 q1348 q76) (lw_meth q1351)) rfl rfl rfl rfl (by decide +kernel) ⟨Nat.le_of_ble_eq_true rfl, Nat.le_of_ble_eq_true rfl⟩) (g_preV hE X.2 hw 0 rfl rfl) rfl rfl hl.1 rfl (lv_room (Nat.le_of_ble_eq_true rfl)) dJ9_init_2_5 ⟨Nat.le_of_ble_eq_true rfl, Nat.le_of_ble_eq_true rfl⟩) hw.2.2 (fun q _ h => h) (fun q h => h) (fun u q_2 t H locs ht hvm h_1 hB hz9 hk9 hS => ?_)
  obtain ⟨er_q_2, hB⟩ := hB
  obtain rfl := er_q_2.symm
  have hw : gW D A ((o, .inr (16, [.ref ob, .int 0, .int ml, .int (nI on)])) :: (ob, .inl (dA 2, oc, .inl of)) :: (na, .inr (17, [.null, .int 0, .int 0, .int 0])) :: R) s H locs := g_aft ht hB hS
  refine lv_astore_n (lv' := [(3, .ref ob), (0, .ref na), (1, .ref o), (2, .null)]) hx hb dJ9_init_2_8 rfl hl (by decide) rfl (fun ls hl => ?_)
  refine lv_aload_n hx hb dJ9_init_2_9 rfl (lv_at hl 2 rfl) ?_
  refine va_calli (va_runU (As := []) (rest := []) X.1 (m_J8_length l D dA A E hE ((na, .inr (17, [.null, .int 0, .int 0, .int 0])) :: R) o ob oc on ml of) (va_cwO 0 X.1.2.2.2.2 (lw_app (lw_in6 q1352 q2220 q1092 q2231 q1088 q77) (lw_meth q1090)) rfl rfl rfl q1093 (by decide +kernel) ⟨Nat.le_of_ble_eq_true rfl, Nat.le_of_ble_eq_true rfl⟩) (g_preV hE X.2 hw 0 rfl rfl) rfl rfl hl.1 rfl (lv_room (Nat.le_of_ble_eq_true rfl)) dJ9_init_2_10 ⟨Nat.le_of_ble_eq_true rfl, Nat.le_of_ble_eq_true rfl⟩) hw.2.2 (fun q _ h => h) (fun q h => h) (fun r_4 u t H locs ht hvm h_3 hB hz9 hk9 hS => ?_)
  have hw : gW D A ((o, .inr (16, [.ref ob, .int 0, .int ml, .int (nI on)])) :: (ob, .inl (dA 2, oc, .inl of)) :: (na, .inr (17, [.null, .int 0, .int 0, .int 0])) :: R) s H locs := g_aft ht hB hS
  obtain rfl : r_4 = nI on := h_3
  refine lv_istore (lv' := [(4, .int (nI on)), (3, .ref ob), (0, .ref na), (1, .ref o), (2, .null)]) hx hb dJ9_init_2_13 hl (by decide) rfl (fun ls hl => ?_)
  refine lv_aload_n hx hb dJ9_init_2_15 rfl (lv_at hl 3 rfl) ?_
  refine va_calli (va_runU (As := []) (rest := []) X.1 (m_J7_isLatin1 l D dA A E hE ((na, .inr (17, [.null, .int 0, .int 0, .int 0])) :: R) kA (by first | assumption | omega) o ob oc on ml of) (va_cwU 0 X.1.2.2.2.2 (lw_app (lw_in5 q1353 q1123 q1124 q1122 q76) (lw_meth q1125)) rfl rfl rfl rfl (by decide +kernel) ⟨Nat.le_of_ble_eq_true rfl, Nat.le_of_ble_eq_true rfl⟩) (g_preV hE X.2 hw 0 rfl rfl) rfl rfl hl.1 rfl (lv_room (Nat.le_of_ble_eq_true rfl)) dJ9_init_2_16 ⟨Nat.le_of_ble_eq_true rfl, Nat.le_of_ble_eq_true rfl⟩) hw.2.2 (fun q _ h => h) (fun q h => h) (fun r_6 u t H locs ht hvm h_5 hB hz9 hk9 hS => ?_)
  have hw : gW D A ((o, .inr (16, [.ref ob, .int 0, .int ml, .int (nI on)])) :: (ob, .inl (dA 2, oc, .inl of)) :: (na, .inr (17, [.null, .int 0, .int 0, .int 0])) :: R) s H locs := g_aft ht hB hS
  obtain rfl : r_6 = 1 := h_5
  refine lv_if_eq (tgt := 41) hx hb dJ9_init_2_19 (by decide) (fun c_7 => absurd c_7 (by decide)) (fun c_7 => ?_)
  refine lv_aload_n hx hb dJ9_init_2_22 rfl (lv_at hl 2 rfl) ?_
  refine lv_iconst (v := 0) hx hb dJ9_init_2_23 (by decide) ?_
  refine g_putF (ws' := (o, .inr (16, [.ref ob, .int 0, .int ml, .int (nI on)])) :: (ob, .inl (dA 2, oc, .inl of)) :: (na, .inr (17, [.null, .int 0, .int 0, .int 0])) :: R) X (hin rfl) cfJ9 hw 2 1 rfl rfl q1374 rfl rfl rfl rfl rfl rfl rfl dJ9_init_2_24 (fun H locs hw => ?_)
  refine lv_aload_n hx hb dJ9_init_2_27 rfl (lv_at hl 2 rfl) ?_
  refine lv_aload_n hx hb dJ9_init_2_28 rfl (lv_at hl 1 rfl) ?_
  refine lv_iconst (v := 0) hx hb dJ9_init_2_29 (by decide) ?_
  refine lv_iload hx hb dJ9_init_2_30 (lv_at hl 0 rfl) ?_
  have hw : gW D A ((ob, .inl (dA 2, oc, .inl of)) :: (o, .inr (16, [.ref ob, .int 0, .int ml, .int (nI on)])) :: (na, .inr (17, [.null, .int 0, .int 0, .int 0])) :: R) s _ _ := g_perm (X := [(o, .inr (16, [.ref ob, .int 0, .int ml, .int (nI on)])), (ob, .inl (dA 2, oc, .inl of)), (na, .inr (17, [.null, .int 0, .int 0, .int 0]))]) (cx := [(ob, .inl (dA 2, oc, .inl of)), (o, .inr (16, [.ref ob, .int 0, .int ml, .int (nI on)])), (na, .inr (17, [.null, .int 0, .int 0, .int 0]))]) (pl := R) hw [1, 0, 2] rfl rfl rfl rfl
  refine va_callr (va_runS (As := [.ref ob, .int 0, .int (nI on)]) (rest := [.ref na]) X.1 (m_J5_copyOfRange l D dA A E hE ((o, .inr (16, [.ref ob, .int 0, .int ml, .int (nI on)])) :: (na, .inr (17, [.null, .int 0, .int 0, .int 0])) :: R) ob oc on of (by first | assumption | omega) (by first | assumption | omega) (by first | assumption | omega)) (va_cwS 3 X.1.2.2.2.2 (lw_S q1354 q1355 q73 q1356) rfl rfl rfl (by decide +kernel) ⟨Nat.le_of_ble_eq_true rfl, Nat.le_of_ble_eq_true rfl⟩) (g_preS hE X.2 hw) rfl rfl hl.1 rfl (lv_room (Nat.le_of_ble_eq_true rfl)) dJ9_init_2_32 ⟨by dsimp only; omega, by dsimp only; omega⟩) hw.2.2 (fun q _ h => h) (fun q h => h) (fun u q_9 t H locs ht hvm h_8 hB hz9 hk9 hS => ?_)
  obtain ⟨u_10, rfl⟩ : ∃ z, z = u := ⟨_, rfl⟩
  have hw : gW D A ((q_9, .inl (dA 2, on, .inl u_10)) :: (ob, .inl (dA 2, oc, .inl of)) :: (o, .inr (16, [.ref ob, .int 0, .int ml, .int (nI on)])) :: (na, .inr (17, [.null, .int 0, .int 0, .int 0])) :: R) s H locs := g_aft ht hB hS
  have h_8 : gAsc u_10 on ∧ ∀ k, k < on → u_10 k = of k := h_8
  refine g_putF (ws' := (q_9, .inl (dA 2, on, .inl u_10)) :: (ob, .inl (dA 2, oc, .inl of)) :: (o, .inr (16, [.ref ob, .int 0, .int ml, .int (nI on)])) :: (na, .inr (17, [.ref q_9, .int 0, .int 0, .int 0])) :: R) X (hin rfl) cfJ9 hw 3 0 rfl rfl q1373 rfl rfl rfl rfl rfl rfl rfl dJ9_init_2_35 (fun H locs hw => ?_)
  refine lv_goto (tgt := 97) hx hb dJ9_init_2_38 (by decide) ?_
  refine W.widen (k := 1) (n := 262) (by first | exact Nat.le_of_ble_eq_true rfl | omega) (by first | exact Nat.le_of_ble_eq_true rfl | omega) ?_
  have hw : gW D A ((na, .inr (17, [.ref q_9, .int 0, .int 0, .int 0])) :: (q_9, .inl (dA 2, on, .inl u_10)) :: (o, .inr (16, [.ref ob, .int 0, .int ml, .int (nI on)])) :: (ob, .inl (dA 2, oc, .inl of)) :: R) s _ _ := g_perm (X := [(q_9, .inl (dA 2, on, .inl u_10)), (ob, .inl (dA 2, oc, .inl of)), (o, .inr (16, [.ref ob, .int 0, .int ml, .int (nI on)])), (na, .inr (17, [.ref q_9, .int 0, .int 0, .int 0]))]) (cx := [(na, .inr (17, [.ref q_9, .int 0, .int 0, .int 0])), (q_9, .inl (dA 2, on, .inl u_10)), (o, .inr (16, [.ref ob, .int 0, .int ml, .int (nI on)])), (ob, .inl (dA 2, oc, .inl of))]) (pl := R) hw [3, 0, 2, 1] rfl rfl rfl rfl
  exact g_vret (q_9, u_10) X hw hr hlocks (by exact h_8) rfl dJ9_init_2_97

set_option maxHeartbeats 4000000 in
theorem m_J9_init (l : Launch) (D : va_G) (dA : Nat → ClassId) (A : Nat → Prop) (E : State → Prop) (hE : gSt A E) (R : va_W) (kA : Nat → Nat) (hKE : gKE A E kA) (na : Nat) (o ob oc on : Nat) (ml : Int32) (of : gG) (hon : on ≤ oc) (hoc : oc ≤ 262) (hof : gAsc of oc)  : Met l yJ9_init (ws_ yJ9_init cJ9_init 2 (Option.none : Option FieldType)) ({ frames := 4, cells := 1, slots := 262, locals := 110 }) (va_Pc [.ref na, .ref o] (gB D dA A E ((na, .inr (17, [.null, .int 0, .int 0, .int 0])) :: (o, .inr (16, [.ref ob, .int 0, .int ml, .int (nI on)])) :: (ob, .inl (dA 2, oc, .inl of)) :: R))) (va_Qv (fun (u : Nat × gG) => gAsc u.2 on ∧ ∀ k, k < on → u.2 k = of k) (fun u => gE D A ((na, .inr (17, [.ref u.1, .int 0, .int 0, .int 0])) :: (u.1, .inl (dA 2, on, .inl u.2)) :: (o, .inr (16, [.ref ob, .int 0, .int ml, .int (nI on)])) :: (ob, .inl (dA 2, oc, .inl of)) :: R)) A) (1) (262) A := by
  refine g_start rfl rfl ?_
  intro p e s m args below meth c ls X hr hlocks hin hw hl
  have hx := X.1.1
  have hb := X.1.2.1
  have hl : lv_has ls 2 [(0, .ref na), (1, .ref o)] := hl
  refine lv_aload_n hx hb dJ9_init_0 rfl (lv_at hl 0 rfl) ?_
  refine lv_aload_n hx hb dJ9_init_1 rfl (lv_at hl 1 rfl) ?_
  refine lv_null hx hb dJ9_init_2 ?_
  refine va_callv (va_runI (As := [.ref o, .null]) (rest := []) X.1 (m_J9_init_2 l D dA A E hE R kA (by first | assumption | omega) na o ob oc on ml of (by first | assumption | omega) (by first | assumption | omega) (by first | assumption | omega)) (cwI 2 X.1.2.2.2.2 (lw_meth q1345) rfl rfl rfl (X.1.2.2.2.2 _ q78) (X.1.2.2.2.2 _ q1343) (X.1.2.2.2.2 _ q1344) rfl (by decide +kernel) ⟨Nat.le_of_ble_eq_true rfl, Nat.le_of_ble_eq_true rfl⟩) (g_preS hE X.2 hw) rfl rfl hl.1 rfl (lv_room (Nat.le_of_ble_eq_true rfl)) dJ9_init_3 ⟨Nat.le_of_ble_eq_true rfl, Nat.le_of_ble_eq_true rfl⟩) hw.2.2 (fun q _ h => h) (fun q h => h) (fun u t H locs ht hvm h_1 hB hz9 hk9 hS => ?_)
  obtain ⟨sb_2, sf_3⟩ := u
  have hw : gW D A ((na, .inr (17, [.ref sb_2, .int 0, .int 0, .int 0])) :: (sb_2, .inl (dA 2, on, .inl sf_3)) :: (o, .inr (16, [.ref ob, .int 0, .int ml, .int (nI on)])) :: (ob, .inl (dA 2, oc, .inl of)) :: R) s H locs := g_aft ht hB hS
  have h_1 : gAsc sf_3 on ∧ ∀ k, k < on → sf_3 k = of k := h_1
  exact g_vret (sb_2, sf_3) X hw hr hlocks (by exact h_1) rfl dJ9_init_6

set_option maxHeartbeats 4000000 in
theorem m_J8_toString (l : Launch) (D : va_G) (dA : Nat → ClassId) (A : Nat → Prop) (E : State → Prop) (hE : gSt A E) (R : va_W) (kA : Nat → Nat) (hKE : gKE A E kA) (o ob oc on : Nat) (ml : Int32) (of : gG) (hon : on ≤ oc) (hoc : oc ≤ 262) (hof : gAsc of oc)  : Met l yJ8_toString (ws_ yJ8_toString cJ8_toString 1 (Option.some (FieldType.object "java/lang/String"))) ({ frames := 5, cells := 2, slots := 266, locals := 131 }) (va_Pc [.ref o] (gB D dA A E ((o, .inr (16, [.ref ob, .int 0, .int ml, .int (nI on)])) :: (ob, .inl (dA 2, oc, .inl of)) :: R))) (va_Qr (fun (u : Nat × gG) => gAsc u.2 on ∧ ∀ k, k < on → u.2 k = of k) (fun u a => gE D A ((a, .inr (17, [.ref u.1, .int 0, .int 0, .int 0])) :: (u.1, .inl (dA 2, on, .inl u.2)) :: (o, .inr (16, [.ref ob, .int 0, .int ml, .int (nI on)])) :: (ob, .inl (dA 2, oc, .inl of)) :: R)) A) (2) (266) A := by
  refine g_start rfl rfl ?_
  intro p e s m args below meth c ls X hr hlocks hin hw hl
  have hx := X.1.1
  have hb := X.1.2.1
  have hl : lv_has ls 1 [(0, .ref o)] := hl
  refine g_new (fs := [.null, .int 0, .int 0, .int 0]) X cfJ9 hw q1338 q1339 q78 (fun j hj => by rcases (show j = 0 ∨ j = 1 ∨ j = 2 ∨ j = 3 by omega) with rfl | rfl | rfl | rfl <;> rfl) (Nat.le_of_ble_eq_true rfl) (Nat.le_of_ble_eq_true rfl) dJ8_toString_0 (fun q_1 H hw => ?_)
  refine lv_dup hx hb dJ8_toString_3 rfl ?_
  refine lv_aload_n hx hb dJ8_toString_4 rfl (lv_at hl 0 rfl) ?_
  refine va_callv (va_runI (As := [.ref o]) (rest := [.ref q_1]) X.1 (m_J9_init l D dA A E hE R kA (by first | assumption | omega) q_1 o ob oc on ml of (by first | assumption | omega) (by first | assumption | omega) (by first | assumption | omega)) (cwI 1 X.1.2.2.2.2 (lw_meth q1342) rfl rfl rfl (X.1.2.2.2.2 _ q78) (X.1.2.2.2.2 _ q1340) (X.1.2.2.2.2 _ q1341) rfl (by decide +kernel) ⟨Nat.le_of_ble_eq_true rfl, Nat.le_of_ble_eq_true rfl⟩) (g_preS hE X.2 hw) rfl rfl hl.1 rfl (lv_room (Nat.le_of_ble_eq_true rfl)) dJ8_toString_5 ⟨Nat.le_of_ble_eq_true rfl, Nat.le_of_ble_eq_true rfl⟩) hw.2.2 (fun q _ h => h) (fun q h => h) (fun u t H locs ht hvm h_2 hB hz9 hk9 hS => ?_)
  obtain ⟨sb_3, sf_4⟩ := u
  have hw : gW D A ((q_1, .inr (17, [.ref sb_3, .int 0, .int 0, .int 0])) :: (sb_3, .inl (dA 2, on, .inl sf_4)) :: (o, .inr (16, [.ref ob, .int 0, .int ml, .int (nI on)])) :: (ob, .inl (dA 2, oc, .inl of)) :: R) s H locs := g_aft ht hB hS
  have h_2 : gAsc sf_4 on ∧ ∀ k, k < on → sf_4 k = of k := h_2
  exact g_aret (sb_3, sf_4) X hw hr (Or.inl ⟨_, rfl⟩) hlocks (by exact h_2) rfl dJ8_toString_8

set_option maxHeartbeats 4000000 in
theorem m_J9_equals (l : Launch) (D : va_G) (dA : Nat → ClassId) (A : Nat → Prop) (E : State → Prop) (hE : gSt A E) (R : va_W) (kA : Nat → Nat) (hKE : gKE A E kA) (sa sb sn : Nat) (sf : gG) (hs : gTxt dA E R sa sb sn sf) (ta tb tn : Nat) (tf : gG) (ht2 : gTxt dA E R ta tb tn tf)  : Met l yJ9_equals (ws_ yJ9_equals cJ9_equals 3 (Option.some FieldType.boolean)) ({ frames := 1, cells := 0, slots := 0, locals := 22 }) (va_Pc [.ref sa, .ref ta] (gB D dA A E (R))) (va_Qi (fun (r : Int32) (_ : Unit) => r = bZ (txEq sf sn tf tn)) (fun _ => gE D A (R)) A) (0) (0) A := by
  refine g_start rfl rfl ?_
  intro p e s m args below meth c ls X hr hlocks hin hw hl
  have hx := X.1.1
  have hb := X.1.2.1
  have hl : lv_has ls 3 [(0, .ref sa), (1, .ref ta)] := hl
  refine lv_aload_n hx hb dJ9_equals_0 rfl (lv_at hl 0 rfl) ?_
  refine lv_aload_n hx hb dJ9_equals_1 rfl (lv_at hl 1 rfl) ?_
  refine lv_acmp_ne (rx := some sa) (ry := some ta) (tgt := 7) hx hb dJ9_equals_2 (by decide) (fun c_1 => ?_) (fun c_1 => ?_)
  · skip
    refine lv_aload_n hx hb dJ9_equals_7 rfl (lv_at hl 1 rfl) ?_
    refine g_instR X (gTxt.at hE X hw ht2 (fun q h => h)).1 q1231 dJ9_equals_8 ?_
    refine lv_if_eq (tgt := 54) hx hb dJ9_equals_11 (by decide) (fun c_3 => absurd c_3 (by decide)) (fun c_3 => ?_)
    refine lv_aload_n hx hb dJ9_equals_14 rfl (lv_at hl 1 rfl) ?_
    refine g_castR X (gTxt.at hE X hw ht2 (fun q h => h)).1 q1231 dJ9_equals_15 ?_
    refine lv_astore_n (lv' := [(2, .ref ta), (0, .ref sa), (1, .ref ta)]) hx hb dJ9_equals_18 rfl hl (by decide) rfl (fun ls hl => ?_)
    refine g_gets X hw (hKE s X.2.2.2.1).2.2.1 q1232 rfl dJ9_equals_19 ?_
    refine lv_if_eq (tgt := 36) hx hb dJ9_equals_22 (by decide) (fun c_5 => absurd c_5 (by decide)) (fun c_5 => ?_)
    refine lv_aload_n hx hb dJ9_equals_25 rfl (lv_at hl 1 rfl) ?_
    refine g_getR X (gTxt.at hE X hw hs (fun q h => h)).2.1 q1374 rfl dJ9_equals_26 ?_
    refine lv_aload_n hx hb dJ9_equals_29 rfl (lv_at hl 0 rfl) ?_
    refine g_getR X (gTxt.at hE X hw ht2 (fun q h => h)).2.1 q1374 rfl dJ9_equals_30 ?_
    refine lv_icmp_ne (tgt := 54) hx hb dJ9_equals_33 (by decide) (fun c_8 => absurd (by decide) c_8) (fun c_8 => ?_)
    refine lv_aload_n hx hb dJ9_equals_36 rfl (lv_at hl 1 rfl) ?_
    refine g_getR X (gTxt.at hE X hw hs (fun q h => h)).2.2.1 q1373 rfl dJ9_equals_37 ?_
    refine lv_aload_n hx hb dJ9_equals_40 rfl (lv_at hl 0 rfl) ?_
    refine g_getR X (gTxt.at hE X hw ht2 (fun q h => h)).2.2.1 q1373 rfl dJ9_equals_41 ?_
    refine va_calli (va_runS (As := [.ref sb, .ref tb]) (rest := []) X.1 (m_J17_equals l D dA A E hE R kA (by first | assumption | omega) sa sb sn sf (hs.mono (fun q h => h)) ta tb tn tf (ht2.mono (fun q h => h))) (va_cwS 2 X.1.2.2.2.2 (lw_S q1233 q1234 q94 q1235) rfl rfl rfl (by decide +kernel) ⟨Nat.le_of_ble_eq_true rfl, Nat.le_of_ble_eq_true rfl⟩) (g_preS hE X.2 hw) rfl rfl hl.1 rfl (lv_room (Nat.le_of_ble_eq_true rfl)) dJ9_equals_44 ⟨Nat.le_of_ble_eq_true rfl, Nat.le_of_ble_eq_true rfl⟩) hw.2.2 (fun q _ h => h) (fun q h => h) (fun r_12 u t H locs ht hvm h_11 hB hz9 hk9 hS => ?_)
    have hw : gW D A (R) s H locs := g_aft ht hB hS
    obtain rfl : r_12 = bZ (txEq sf sn tf tn) := h_11
    refine lv_if_eq (tgt := 54) hx hb dJ9_equals_47 (by decide) (fun c_13 => ?_) (fun c_13 => ?_)
    · skip
      have c_13 := bZ_0.mp c_13
      refine lv_iconst (v := 0) hx hb dJ9_equals_54 (by decide) ?_
      exact g_zret (v := 0) () X hw hr hlocks rfl (by exact bZ_f (by rw [c_13]; decide)) rfl dJ9_equals_55
    · skip
      have c_13 := bZ_1 c_13
      refine lv_iconst (v := 1) hx hb dJ9_equals_50 (by decide) ?_
      refine lv_goto (tgt := 55) hx hb dJ9_equals_51 (by decide) ?_
      exact g_zret (v := 1) () X hw hr hlocks rfl (by exact bZ_t c_13) rfl dJ9_equals_55
  · skip
    refine lv_iconst (v := 1) hx hb dJ9_equals_5 (by decide) ?_
    have hsa : sa = ta := Option.some.inj c_1
    subst hsa
    exact g_zret (v := 1) () X hw hr hlocks rfl (by exact (txEq_t ((gTxt.at hE X hw hs (fun q h => h)).same (gTxt.at hE X hw ht2 (fun q h => h)) hs.1 ht2.1).1 ((gTxt.at hE X hw hs (fun q h => h)).same (gTxt.at hE X hw ht2 (fun q h => h)) hs.1 ht2.1).2).symm) rfl dJ9_equals_6

set_option maxHeartbeats 4000000 in
theorem m_J3_mismatch (l : Launch) (D : va_G) (dA : Nat → ClassId) (A : Nat → Prop) (E : State → Prop) (hE : gSt A E) (R : va_W) (kA : Nat → Nat) (hKE : gKE A E kA) (sa sb sn : Nat) (sf : gG) (hs : gTxt dA E R sa sb sn sf) (ta tb tn : Nat) (tf : gG) (ht2 : gTxt dA E R ta tb tn tf) (n : Nat) (hn : n ≤ 7) (h1 : n ≤ sn) (h2 : n ≤ tn) : Met l yJ3_mismatch (ws_ yJ3_mismatch cJ3_mismatch 8 (Option.some FieldType.int)) ({ frames := 0, cells := 0, slots := 0, locals := 0 }) (va_Pc [.ref sb, .int 0, .ref tb, .int 0, .int (nI n)] (gB D dA A E (R))) (va_Qi (fun (r : Int32) (_ : Unit) => r < 0 ↔ ∀ k, k < n → sf k = tf k) (fun _ => gE D A (R)) A) (0) (0) A := by
  refine g_start rfl rfl ?_
  intro p e s m args below meth c ls X hr hlocks hin hw hl
  have hx := X.1.1
  have hb := X.1.2.1
  have hl : lv_has ls 8 [(0, .ref sb), (1, .int 0), (2, .ref tb), (3, .int 0), (4, .int (nI n))] := hl
  have hs1 := hs.1
  have hs3 := ht2.1
  refine lv_iconst (v := 0) hx hb dJ3_mismatch_0 (by decide) ?_
  refine lv_istore (lv' := [(5, .int 0), (0, .ref sb), (1, .int 0), (2, .ref tb), (3, .int 0), (4, .int (nI n))]) hx hb dJ3_mismatch_1 hl (by decide) rfl (fun ls hl => ?_)
  refine lv_iload hx hb dJ3_mismatch_3 (lv_at hl 5 rfl) ?_
  refine lv_bipush (v := 7) hx hb dJ3_mismatch_5 (by decide) ?_
  refine lv_icmp_le (tgt := 70) hx hb dJ3_mismatch_7 (by decide) (fun c_1 => ?_) (fun c_1 => absurd (nI_le (a := n) (b := 7) (by omega) (by omega)) c_1)
  have loop_2 : ∀ (fuel : Nat) (i : Nat), ∀ (hi : i ≤ n), ∀ (he : ∀ k, k < i → sf k = tf k), (n - i) < fuel → ∀ (H : Heap) (locs : List Loc) (hw : gW D A (R) s H locs) (ls : Array Slot) (hl : lv_has ls 8 [(5, .int (nI i)), (0, .ref sb), (1, .int 0), (2, .ref tb), (3, .int 0), (4, .int (nI n))]), W p l e ({ frames := 0, cells := 0, slots := 0, locals := 0 }) s m args below meth c H locs (0) (0) (MQ below (va_Qi (fun (r : Int32) (_ : Unit) => r < 0 ↔ ∀ k, k < n → sf k = tf k) (fun _ => gE D A (R)) A) args s (0) (0) A) (F0 m 70 ls []) := by
    intro fuel
    induction fuel with
    | zero => intro i hi he hf; exact absurd hf (Nat.not_lt_zero _)
    | succ fuel ih_loop_2 =>
      intro i hi he hfuel_loop_2 H locs hw ls hl
      refine lv_iload hx hb dJ3_mismatch_70 (lv_at hl 0 rfl) ?_
      refine lv_iload hx hb dJ3_mismatch_72 (lv_at hl 5 rfl) ?_
      refine lv_icmp_ge (tgt := 101) hx hb dJ3_mismatch_74 (by decide) (fun c_3 => ?_) (fun c_3 => ?_)
      · skip
        have c_3 := Int32.not_lt.mpr c_3
        have c_3 : ¬ (i < n) := fun q => c_3 ((nI_ltI (a := i) (b := n) (by omega) (by omega)).mpr q)
        refine lv_iconst (v := (-1)) hx hb dJ3_mismatch_101 (by decide) ?_
        exact g_iret (v := (-1)) () X hw hr hlocks  (by exact ⟨fun _ k hk => he k (by omega), fun _ => by decide⟩) rfl dJ3_mismatch_102
      · skip
        have c_3 := Int32.not_le.mp c_3
        have c_3 : i < n := (nI_ltI (a := i) (b := n) (by omega) (by omega)).mp c_3
        refine lv_aload_n hx hb dJ3_mismatch_77 rfl (lv_at hl 1 rfl) ?_
        refine lv_iload_n hx hb dJ3_mismatch_78 rfl (lv_at hl 2 rfl) ?_
        refine lv_iload hx hb dJ3_mismatch_79 (lv_at hl 0 rfl) ?_
        refine lv_iadd hx hb dJ3_mismatch_81 ?_
        refine g_top (y := nI i) (Int32.zero_add _) ?_
        refine g_baldR X (gTxt.at hE X hw hs (fun q h => h)).2.2.2 (i := i) (by first | decide | omega) (by first | decide | omega) dJ3_mismatch_82 ?_
        refine lv_aload_n hx hb dJ3_mismatch_83 rfl (lv_at hl 3 rfl) ?_
        refine lv_iload_n hx hb dJ3_mismatch_84 rfl (lv_at hl 4 rfl) ?_
        refine lv_iload hx hb dJ3_mismatch_85 (lv_at hl 0 rfl) ?_
        refine lv_iadd hx hb dJ3_mismatch_87 ?_
        refine g_top (y := nI i) (Int32.zero_add _) ?_
        refine g_baldR X (gTxt.at hE X hw ht2 (fun q h => h)).2.2.2 (i := i) (by first | decide | omega) (by first | decide | omega) dJ3_mismatch_88 ?_
        refine lv_icmp_eq (tgt := 95) hx hb dJ3_mismatch_89 (by decide) (fun c_6 => ?_) (fun c_6 => ?_)
        · skip
          refine lv_iinc (v := nI (i + 1)) (lv' := [(5, .int (nI (i + 1))), (0, .ref sb), (1, .int 0), (2, .ref tb), (3, .int 0), (4, .int (nI n))]) hx hb dJ3_mismatch_95 hl (k := 0) rfl (nI_add i 1) (by decide) rfl (fun ls hl => ?_)
          refine lv_goto (tgt := 70) hx hb dJ3_mismatch_98 (by decide) ?_
          exact ih_loop_2 (i + 1) (by first | assumption | omega) (lt_s he c_6) (by omega) _ _ hw _ (lv_sub hl [0, 1, 2, 3, 4, 5] rfl)
        · skip
          refine lv_iload hx hb dJ3_mismatch_92 (lv_at hl 0 rfl) ?_
          exact g_iret (v := nI i) () X hw hr hlocks  (by exact ⟨fun q => absurd q (nI_pos (by omega)), fun q => absurd (q i (by omega)) c_6⟩) rfl dJ3_mismatch_94
  exact loop_2 ((n - 0) + 1) 0 (by first | assumption | omega) (fun k h => absurd h (Nat.not_lt_zero k)) (Nat.lt_succ_self _) _ _ hw _ (lv_sub hl [0, 1, 2, 3, 4, 5] rfl)

set_option maxHeartbeats 4000000 in
theorem m_J9_startsWith_2 (l : Launch) (D : va_G) (dA : Nat → ClassId) (A : Nat → Prop) (E : State → Prop) (hE : gSt A E) (R : va_W) (kA : Nat → Nat) (hKE : gKE A E kA) (sa sb sn : Nat) (sf : gG) (hs : gTxt dA E R sa sb sn sf) (ta tb tn : Nat) (tf : gG) (ht2 : gTxt dA E R ta tb tn tf) (hn : tn ≤ 7) : Met l yJ9_startsWith_2 (ws_ yJ9_startsWith_2 cJ9_startsWith_2 8 (Option.some FieldType.boolean)) ({ frames := 2, cells := 0, slots := 0, locals := 40 }) (va_Pc [.ref sa, .ref ta, .int 0] (gB D dA A E (R))) (va_Qi (fun (r : Int32) (_ : Unit) => r = bZ (txPre sf sn tf tn)) (fun _ => gE D A (R)) A) (0) (0) A := by
  refine g_start rfl rfl ?_
  intro p e s m args below meth c ls X hr hlocks hin hw hl
  have hx := X.1.1
  have hb := X.1.2.1
  have hl : lv_has ls 8 [(0, .ref sa), (1, .ref ta), (2, .int 0)] := hl
  have hs1 := hs.1
  have hs3 := ht2.1
  refine lv_iload_n hx hb dJ9_startsWith_2_0 rfl (lv_at hl 2 rfl) ?_
  refine lv_if_lt (tgt := 17) hx hb dJ9_startsWith_2_1 (by decide) (fun c_1 => absurd c_1 (by decide)) (fun c_1 => ?_)
  refine lv_iload_n hx hb dJ9_startsWith_2_4 rfl (lv_at hl 2 rfl) ?_
  refine lv_aload_n hx hb dJ9_startsWith_2_5 rfl (lv_at hl 0 rfl) ?_
  refine va_calli (va_runV (As := []) (rest := [.int 0]) X.1 (m_J9_length l D dA A E hE R kA (by first | assumption | omega) sa sb sn sf (hs.mono (fun q h => h))) (cwV 0 X.1.2.2.2.2 (lw_V q1398 q1247 q2228 q78 q1249) rfl rfl rfl (by decide +kernel) ⟨Nat.le_of_ble_eq_true rfl, Nat.le_of_ble_eq_true rfl⟩) (g_preR hE X.2 hw (gTxt.at hE X hw hs (fun q h => h)).1) rfl rfl hl.1 rfl (lv_room (Nat.le_of_ble_eq_true rfl)) dJ9_startsWith_2_6 ⟨Nat.le_of_ble_eq_true rfl, Nat.le_of_ble_eq_true rfl⟩) hw.2.2 (fun q _ h => h) (fun q h => h) (fun r_4 u t H locs ht hvm h_3 hB hz9 hk9 hS => ?_)
  have hw : gW D A (R) s H locs := g_aft ht hB hS
  obtain rfl : r_4 = nI sn := h_3
  refine lv_aload_n hx hb dJ9_startsWith_2_9 rfl (lv_at hl 1 rfl) ?_
  refine va_calli (va_runV (As := []) (rest := [.int (nI sn), .int 0]) X.1 (m_J9_length l D dA A E hE R kA (by first | assumption | omega) ta tb tn tf (ht2.mono (fun q h => h))) (cwV 0 X.1.2.2.2.2 (lw_V q1398 q1247 q2228 q78 q1249) rfl rfl rfl (by decide +kernel) ⟨Nat.le_of_ble_eq_true rfl, Nat.le_of_ble_eq_true rfl⟩) (g_preR hE X.2 hw (gTxt.at hE X hw ht2 (fun q h => h)).1) rfl rfl hl.1 rfl (lv_room (Nat.le_of_ble_eq_true rfl)) dJ9_startsWith_2_10 ⟨Nat.le_of_ble_eq_true rfl, Nat.le_of_ble_eq_true rfl⟩) hw.2.2 (fun q _ h => h) (fun q h => h) (fun r_7 u t H locs ht hvm h_6 hB hz9 hk9 hS => ?_)
  have hw : gW D A (R) s H locs := g_aft ht hB hS
  obtain rfl : r_7 = nI tn := h_6
  refine lv_isub hx hb dJ9_startsWith_2_13 ?_
  refine lv_icmp_le (tgt := 19) hx hb dJ9_startsWith_2_14 (by decide) (fun c_8 => ?_) (fun c_8 => ?_)
  · skip
    have c_8 := Int32.not_lt.mpr c_8
    have hcs : tn ≤ sn := (nsub_ge (a := sn) (b := tn) (by omega) (by omega)).mp (Int32.not_lt.mp c_8)
    refine lv_aload_n hx hb dJ9_startsWith_2_19 rfl (lv_at hl 0 rfl) ?_
    refine g_getR X (gTxt.at hE X hw hs (fun q h => h)).2.2.1 q1373 rfl dJ9_startsWith_2_20 ?_
    refine lv_astore_n (lv' := [(3, .ref sb), (0, .ref sa), (1, .ref ta), (2, .int 0)]) hx hb dJ9_startsWith_2_23 rfl hl (by decide) rfl (fun ls hl => ?_)
    refine lv_aload_n hx hb dJ9_startsWith_2_24 rfl (lv_at hl 2 rfl) ?_
    refine g_getR X (gTxt.at hE X hw ht2 (fun q h => h)).2.2.1 q1373 rfl dJ9_startsWith_2_25 ?_
    refine lv_astore (lv' := [(4, .ref tb), (3, .ref sb), (0, .ref sa), (1, .ref ta), (2, .int 0)]) hx hb dJ9_startsWith_2_28 hl (by decide) rfl (fun ls hl => ?_)
    refine lv_iconst (v := 0) hx hb dJ9_startsWith_2_30 (by decide) ?_
    refine lv_istore (lv' := [(5, .int 0), (4, .ref tb), (3, .ref sb), (0, .ref sa), (1, .ref ta), (2, .int 0)]) hx hb dJ9_startsWith_2_31 hl (by decide) rfl (fun ls hl => ?_)
    refine lv_aload hx hb dJ9_startsWith_2_33 (lv_at hl 1 rfl) ?_
    refine g_alenR X (gTxt.at hE X hw ht2 (fun q h => h)).2.2.2 dJ9_startsWith_2_35 ?_
    refine lv_istore (lv' := [(6, .int (nI tn)), (5, .int 0), (4, .ref tb), (3, .ref sb), (0, .ref sa), (1, .ref ta), (2, .int 0)]) hx hb dJ9_startsWith_2_36 hl (by decide) rfl (fun ls hl => ?_)
    refine lv_aload_n hx hb dJ9_startsWith_2_38 rfl (lv_at hl 4 rfl) ?_
    refine va_calli (va_runV (As := []) (rest := []) X.1 (m_J9_coder l D dA A E hE R kA (by first | assumption | omega) sa sb sn sf (hs.mono (fun q h => h))) (cwV 0 X.1.2.2.2.2 (lw_V q1250 q1251 q1252 q78 q1253) rfl rfl rfl (by decide +kernel) ⟨Nat.le_of_ble_eq_true rfl, Nat.le_of_ble_eq_true rfl⟩) (g_preR hE X.2 hw (gTxt.at hE X hw hs (fun q h => h)).1) rfl rfl hl.1 rfl (lv_room (Nat.le_of_ble_eq_true rfl)) dJ9_startsWith_2_39 ⟨Nat.le_of_ble_eq_true rfl, Nat.le_of_ble_eq_true rfl⟩) hw.2.2 (fun q _ h => h) (fun q h => h) (fun r_14 u t H locs ht hvm h_13 hB hz9 hk9 hS => ?_)
    have hw : gW D A (R) s H locs := g_aft ht hB hS
    obtain rfl : r_14 = 0 := h_13
    refine lv_istore (lv' := [(7, .int 0), (6, .int (nI tn)), (5, .int 0), (4, .ref tb), (3, .ref sb), (0, .ref sa), (1, .ref ta), (2, .int 0)]) hx hb dJ9_startsWith_2_42 hl (by decide) rfl (fun ls hl => ?_)
    refine lv_iload hx hb dJ9_startsWith_2_44 (lv_at hl 0 rfl) ?_
    refine lv_aload_n hx hb dJ9_startsWith_2_46 rfl (lv_at hl 6 rfl) ?_
    refine va_calli (va_runV (As := []) (rest := [.int 0]) X.1 (m_J9_coder l D dA A E hE R kA (by first | assumption | omega) ta tb tn tf (ht2.mono (fun q h => h))) (cwV 0 X.1.2.2.2.2 (lw_V q1250 q1251 q1252 q78 q1253) rfl rfl rfl (by decide +kernel) ⟨Nat.le_of_ble_eq_true rfl, Nat.le_of_ble_eq_true rfl⟩) (g_preR hE X.2 hw (gTxt.at hE X hw ht2 (fun q h => h)).1) rfl rfl hl.1 rfl (lv_room (Nat.le_of_ble_eq_true rfl)) dJ9_startsWith_2_47 ⟨Nat.le_of_ble_eq_true rfl, Nat.le_of_ble_eq_true rfl⟩) hw.2.2 (fun q _ h => h) (fun q h => h) (fun r_17 u t H locs ht hvm h_16 hB hz9 hk9 hS => ?_)
    have hw : gW D A (R) s H locs := g_aft ht hB hS
    obtain rfl : r_17 = 0 := h_16
    refine lv_icmp_ne (tgt := 82) hx hb dJ9_startsWith_2_50 (by decide) (fun c_18 => absurd (by decide) c_18) (fun c_18 => ?_)
    refine lv_iload hx hb dJ9_startsWith_2_53 (lv_at hl 0 rfl) ?_
    refine lv_iconst (v := 1) hx hb dJ9_startsWith_2_55 (by decide) ?_
    refine lv_icmp_ne (tgt := 63) hx hb dJ9_startsWith_2_56 (by decide) (fun c_19 => ?_) (fun c_19 => absurd c_19 (by decide))
    refine lv_aload_n hx hb dJ9_startsWith_2_63 rfl (lv_at hl 4 rfl) ?_
    refine lv_iload_n hx hb dJ9_startsWith_2_64 rfl (lv_at hl 7 rfl) ?_
    refine lv_aload hx hb dJ9_startsWith_2_65 (lv_at hl 3 rfl) ?_
    refine lv_iconst (v := 0) hx hb dJ9_startsWith_2_67 (by decide) ?_
    refine lv_iload hx hb dJ9_startsWith_2_68 (lv_at hl 1 rfl) ?_
    refine va_calli (va_runS (As := [.ref sb, .int 0, .ref tb, .int 0, .int (nI tn)]) (rest := []) X.1 (m_J3_mismatch l D dA A E hE R kA (by first | assumption | omega) sa sb sn sf (hs.mono (fun q h => h)) ta tb tn tf (ht2.mono (fun q h => h)) tn (by first | assumption | omega) (by first | assumption | omega) (by first | assumption | omega)) (va_cwS 5 X.1.2.2.2.2 (lw_S q1399 q1400 q71 q1401) rfl rfl rfl (by decide +kernel) ⟨Nat.le_of_ble_eq_true rfl, Nat.le_of_ble_eq_true rfl⟩) (g_preS hE X.2 hw) rfl rfl hl.1 rfl (lv_room (Nat.le_of_ble_eq_true rfl)) dJ9_startsWith_2_70 ⟨Nat.le_of_ble_eq_true rfl, Nat.le_of_ble_eq_true rfl⟩) hw.2.2 (fun q _ h => h) (fun q h => h) (fun r_21 u t H locs ht hvm h_20 hB hz9 hk9 hS => ?_)
    have hw : gW D A (R) s H locs := g_aft ht hB hS
    have h_20 : r_21 < 0 ↔ ∀ k, k < tn → sf k = tf k := h_20
    refine lv_if_ge (tgt := 80) hx hb dJ9_startsWith_2_73 (by decide) (fun c_22 => ?_) (fun c_22 => ?_)
    · skip
      have c_22 := Int32.not_lt.mpr c_22
      refine lv_iconst (v := 0) hx hb dJ9_startsWith_2_80 (by decide) ?_
      exact g_zret (v := 0) () X hw hr hlocks rfl (by exact (bZ_iff txPre_iff).2 (fun q => absurd (h_20.mpr q.2) c_22)) rfl dJ9_startsWith_2_81
    · skip
      have c_22 := Int32.not_le.mp c_22
      refine lv_iconst (v := 1) hx hb dJ9_startsWith_2_76 (by decide) ?_
      refine lv_goto (tgt := 81) hx hb dJ9_startsWith_2_77 (by decide) ?_
      exact g_zret (v := 1) () X hw hr hlocks rfl (by exact (bZ_iff txPre_iff).1 ⟨hcs, h_20.mp c_22⟩) rfl dJ9_startsWith_2_81
  · skip
    have c_8 := Int32.not_le.mp c_8
    have hcs : ¬ tn ≤ sn := fun q => absurd ((nsub_ge (a := sn) (b := tn) (by omega) (by omega)).mpr q) (Int32.not_le.mpr c_8)
    refine lv_iconst (v := 0) hx hb dJ9_startsWith_2_17 (by decide) ?_
    exact g_zret (v := 0) () X hw hr hlocks rfl (by exact (bZ_iff txPre_iff).2 (fun q => hcs q.1)) rfl dJ9_startsWith_2_18

set_option maxHeartbeats 4000000 in
theorem m_J9_startsWith (l : Launch) (D : va_G) (dA : Nat → ClassId) (A : Nat → Prop) (E : State → Prop) (hE : gSt A E) (R : va_W) (kA : Nat → Nat) (hKE : gKE A E kA) (sa sb sn : Nat) (sf : gG) (hs : gTxt dA E R sa sb sn sf) (ta tb tn : Nat) (tf : gG) (ht2 : gTxt dA E R ta tb tn tf) (hn : tn ≤ 7) : Met l yJ9_startsWith (ws_ yJ9_startsWith cJ9_startsWith 2 (Option.some FieldType.boolean)) ({ frames := 3, cells := 0, slots := 0, locals := 67 }) (va_Pc [.ref sa, .ref ta] (gB D dA A E (R))) (va_Qi (fun (r : Int32) (_ : Unit) => r = bZ (txPre sf sn tf tn)) (fun _ => gE D A (R)) A) (0) (0) A := by
  refine g_start rfl rfl ?_
  intro p e s m args below meth c ls X hr hlocks hin hw hl
  have hx := X.1.1
  have hb := X.1.2.1
  have hl : lv_has ls 2 [(0, .ref sa), (1, .ref ta)] := hl
  refine lv_aload_n hx hb dJ9_startsWith_0 rfl (lv_at hl 0 rfl) ?_
  refine lv_aload_n hx hb dJ9_startsWith_1 rfl (lv_at hl 1 rfl) ?_
  refine lv_iconst (v := 0) hx hb dJ9_startsWith_2 (by decide) ?_
  refine va_calli (va_runV (As := [.ref ta, .int 0]) (rest := []) X.1 (m_J9_startsWith_2 l D dA A E hE R kA (by first | assumption | omega) sa sb sn sf (hs.mono (fun q h => h)) ta tb tn tf (ht2.mono (fun q h => h)) (by first | assumption | omega)) (cwV 2 X.1.2.2.2.2 (lw_V q1394 q1395 q1396 q78 q1397) rfl rfl rfl (by decide +kernel) ⟨Nat.le_of_ble_eq_true rfl, Nat.le_of_ble_eq_true rfl⟩) (g_preR hE X.2 hw (gTxt.at hE X hw hs (fun q h => h)).1) rfl rfl hl.1 rfl (lv_room (Nat.le_of_ble_eq_true rfl)) dJ9_startsWith_3 ⟨Nat.le_of_ble_eq_true rfl, Nat.le_of_ble_eq_true rfl⟩) hw.2.2 (fun q _ h => h) (fun q h => h) (fun r_3 u t H locs ht hvm h_2 hB hz9 hk9 hS => ?_)
  have hw : gW D A (R) s H locs := g_aft ht hB hS
  obtain rfl : r_3 = bZ (txPre sf sn tf tn) := h_2
  exact g_zret (v := bZ (txPre sf sn tf tn)) () X hw hr hlocks (g_narZ (by first | assumption | exact bZ_01 _)) rfl rfl dJ9_startsWith_6

set_option maxHeartbeats 4000000 in
theorem m_J0_init (l : Launch) (D : va_G) (dA : Nat → ClassId) (A : Nat → Prop) (E : State → Prop) (hE : gSt A E) (R : va_W) (o : Nat) : Met l yJ0_init (ws_ yJ0_init cJ0_init 1 (Option.none : Option FieldType)) ({ frames := 1, cells := 0, slots := 0, locals := 12 }) (va_Pc [.ref o] (gB D dA A E (R))) (va_Qv (fun (_ : Unit) => True) (fun _ => gE D A (R)) A) (0) (0) A := by
  refine g_start rfl rfl ?_
  intro p e s m args below meth c ls X hr hlocks hin hw hl
  have hx := X.1.1
  have hb := X.1.2.1
  have hl : lv_has ls 1 [(0, .ref o)] := hl
  refine lv_aload_n hx hb dJ0_init_0 rfl (lv_at hl 0 rfl) ?_
  refine W.objInit hx hb X.1.2.2.2.1 (X.1.2.2.2.2 _ q137) (X.1.2.2.2.2 _ q109) (X.1.2.2.2.2 _ q110) rfl (by rw [X.1.2.2.1]; exact hl.1) rfl dJ0_init_1 (Nat.le_of_ble_eq_true rfl) (Nat.le_of_ble_eq_true rfl) ?_
  refine W.eq (g2 := F0 m 4 ls []) rfl ?_
  exact g_vret () X hw hr hlocks trivial rfl dJ0_init_4

set_option maxHeartbeats 4000000 in
theorem m_J1_init (l : Launch) (D : va_G) (dA : Nat → ClassId) (A : Nat → Prop) (E : State → Prop) (hE : gSt A E) (R : va_W) (o : Nat) : Met l yJ1_init (ws_ yJ1_init cJ1_init 1 (Option.none : Option FieldType)) ({ frames := 2, cells := 0, slots := 0, locals := 32 }) (va_Pc [.ref o] (gB D dA A E ((o, .inr (14, [.int 0, .null, .int 0])) :: R))) (va_Qv (fun (_ : Unit) => True) (fun _ => gE D A ((o, .inr (14, [.int 0, .null, .int 0])) :: R)) A) (0) (0) A := by
  refine g_start rfl rfl ?_
  intro p e s m args below meth c ls X hr hlocks hin hw hl
  have hx := X.1.1
  have hb := X.1.2.1
  have hl : lv_has ls 1 [(0, .ref o)] := hl
  refine lv_aload_n hx hb dJ1_init_0 rfl (lv_at hl 0 rfl) ?_
  refine va_callv (va_runI (As := []) (rest := []) X.1 (m_J0_init l D dA A E hE ((o, .inr (14, [.int 0, .null, .int 0])) :: R) o) (cwI 0 X.1.2.2.2.2 (lw_meth q136) rfl rfl rfl (X.1.2.2.2.2 _ q67) (X.1.2.2.2.2 _ q134) (X.1.2.2.2.2 _ q135) rfl (by decide +kernel) ⟨Nat.le_of_ble_eq_true rfl, Nat.le_of_ble_eq_true rfl⟩) (g_preS hE X.2 hw) rfl rfl hl.1 rfl (lv_room (Nat.le_of_ble_eq_true rfl)) dJ1_init_1 ⟨Nat.le_of_ble_eq_true rfl, Nat.le_of_ble_eq_true rfl⟩) hw.2.2 (fun q _ h => h) (fun q h => h) (fun u t H locs ht hvm h_1 hB hz9 hk9 hS => ?_)
  have hw : gW D A ((o, .inr (14, [.int 0, .null, .int 0])) :: R) s H locs := g_aft ht hB hS
  refine lv_aload_n hx hb dJ1_init_4 rfl (lv_at hl 0 rfl) ?_
  refine lv_iconst (v := 0) hx hb dJ1_init_5 (by decide) ?_
  refine g_put (ws' := (o, .inr (14, [.int 0, .null, .int 0])) :: R) X cfJ2 hw 0 0 rfl rfl q144 rfl rfl rfl rfl rfl rfl dJ1_init_6 (fun H locs hw => ?_)
  exact g_vret () X hw hr hlocks trivial rfl dJ1_init_9

set_option maxHeartbeats 4000000 in
theorem m_J2_init (l : Launch) (D : va_G) (dA : Nat → ClassId) (A : Nat → Prop) (E : State → Prop) (hE : gSt A E) (R : va_W) (o n : Nat) (h1 : 0 < n) (h2 : n ≤ 100) : Met l yJ2_init (ws_ yJ2_init cJ2_init 2 (Option.none : Option FieldType)) ({ frames := 3, cells := 1, slots := n, locals := 52 }) (va_Pc [.ref o, .int (nI n)] (gB D dA A E ((o, .inr (14, [.int 0, .null, .int 0])) :: R))) (va_Qv (fun (u : Nat) => True) (fun u => gE D A ((o, .inr (14, [.int 0, .ref u, .int 0])) :: (u, .inl (dA 3, n, .inr (.inr (.inr (.inr (fun _ => none)))))) :: R)) A) (1) (n) A := by
  refine g_start rfl rfl ?_
  intro p e s m args below meth c ls X hr hlocks hin hw hl
  have hx := X.1.1
  have hb := X.1.2.1
  have hl : lv_has ls 2 [(0, .ref o), (1, .int (nI n))] := hl
  refine lv_aload_n hx hb dJ2_init_0 rfl (lv_at hl 0 rfl) ?_
  refine va_callv (va_runI (As := []) (rest := []) X.1 (m_J1_init l D dA A E hE R o) (cwI 0 X.1.2.2.2.2 (lw_meth q133) rfl rfl rfl (X.1.2.2.2.2 _ q68) (X.1.2.2.2.2 _ q131) (X.1.2.2.2.2 _ q132) rfl (by decide +kernel) ⟨Nat.le_of_ble_eq_true rfl, Nat.le_of_ble_eq_true rfl⟩) (g_preS hE X.2 hw) rfl rfl hl.1 rfl (lv_room (Nat.le_of_ble_eq_true rfl)) dJ2_init_1 ⟨by dsimp only; omega, by dsimp only; omega⟩) hw.2.2 (fun q _ h => h) (fun q h => h) (fun u t H locs ht hvm h_1 hB hz9 hk9 hS => ?_)
  have hw : gW D A ((o, .inr (14, [.int 0, .null, .int 0])) :: R) s H locs := g_aft ht hB hS
  refine lv_iload_n hx hb dJ2_init_4 rfl (lv_at hl 1 rfl) ?_
  refine lv_if_le (tgt := 19) hx hb dJ2_init_5 (by decide) (fun c_2 => absurd c_2 (nI_nle h1 (by omega))) (fun c_2 => ?_)
  refine lv_aload_n hx hb dJ2_init_8 rfl (lv_at hl 0 rfl) ?_
  refine lv_iload_n hx hb dJ2_init_9 rfl (lv_at hl 1 rfl) ?_
  refine g_newq (N' := n) X hw 3 q138 q139 rfl rfl (by first | decide | omega) (Nat.le_of_ble_eq_true rfl) (by dsimp only; omega) dJ2_init_10 (fun q_3 H hw => ?_)
  refine g_put (ws' := (q_3, .inl (dA 3, n, .inr (.inr (.inr (.inr (fun _ => none)))))) :: (o, .inr (14, [.int 0, .ref q_3, .int 0])) :: R) X cfJ2 hw 1 1 rfl rfl q142 rfl rfl rfl rfl rfl rfl dJ2_init_13 (fun H locs hw => ?_)
  refine lv_goto (tgt := 60) hx hb dJ2_init_16 (by decide) ?_
  refine W.widen (k := 1) (n := n) (by first | exact Nat.le_of_ble_eq_true rfl | omega) (by first | exact Nat.le_of_ble_eq_true rfl | omega) ?_
  have hw : gW D A ((o, .inr (14, [.int 0, .ref q_3, .int 0])) :: (q_3, .inl (dA 3, n, .inr (.inr (.inr (.inr (fun _ => none)))))) :: R) s _ _ := g_perm (X := [(q_3, .inl (dA 3, n, .inr (.inr (.inr (.inr (fun _ => none)))))), (o, .inr (14, [.int 0, .ref q_3, .int 0]))]) (cx := [(o, .inr (14, [.int 0, .ref q_3, .int 0])), (q_3, .inl (dA 3, n, .inr (.inr (.inr (.inr (fun _ => none))))))]) (pl := R) hw [1, 0] rfl rfl rfl rfl
  exact g_vret q_3 X hw hr hlocks trivial rfl dJ2_init_60

set_option maxHeartbeats 4000000 in
theorem m_J2_init_2 (l : Launch) (D : va_G) (dA : Nat → ClassId) (A : Nat → Prop) (E : State → Prop) (hE : gSt A E) (R : va_W) (kA : Nat → Nat) (hKE : gKE A E kA) (o : Nat) : Met l yJ2_init_2 (ws_ yJ2_init_2 cJ2_init_2 1 (Option.none : Option FieldType)) ({ frames := 3, cells := 0, slots := 0, locals := 52 }) (va_Pc [.ref o] (gB D dA A E ((o, .inr (14, [.int 0, .null, .int 0])) :: R))) (va_Qv (fun (_ : Unit) => True) (fun _ => gE D A ((o, .inr (14, [.int 0, .ref (kA 33), .int 0])) :: R)) A) (0) (0) A := by
  refine g_start rfl rfl ?_
  intro p e s m args below meth c ls X hr hlocks hin hw hl
  have hx := X.1.1
  have hb := X.1.2.1
  have hl : lv_has ls 1 [(0, .ref o)] := hl
  refine lv_aload_n hx hb dJ2_init_2_0 rfl (lv_at hl 0 rfl) ?_
  refine va_callv (va_runI (As := []) (rest := []) X.1 (m_J1_init l D dA A E hE R o) (cwI 0 X.1.2.2.2.2 (lw_meth q133) rfl rfl rfl (X.1.2.2.2.2 _ q68) (X.1.2.2.2.2 _ q131) (X.1.2.2.2.2 _ q132) rfl (by decide +kernel) ⟨Nat.le_of_ble_eq_true rfl, Nat.le_of_ble_eq_true rfl⟩) (g_preS hE X.2 hw) rfl rfl hl.1 rfl (lv_room (Nat.le_of_ble_eq_true rfl)) dJ2_init_2_1 ⟨Nat.le_of_ble_eq_true rfl, Nat.le_of_ble_eq_true rfl⟩) hw.2.2 (fun q _ h => h) (fun q h => h) (fun u t H locs ht hvm h_1 hB hz9 hk9 hS => ?_)
  have hw : gW D A ((o, .inr (14, [.int 0, .null, .int 0])) :: R) s H locs := g_aft ht hB hS
  refine lv_aload_n hx hb dJ2_init_2_4 rfl (lv_at hl 0 rfl) ?_
  refine g_gets X hw (hKE s X.2.2.2.1).2.2.2.2.2.1.1 q218 rfl dJ2_init_2_5 ?_
  refine g_put (ws' := (o, .inr (14, [.int 0, .ref (kA 33), .int 0])) :: R) X cfJ2 hw 0 1 rfl rfl q142 rfl rfl rfl rfl rfl rfl dJ2_init_2_8 (fun H locs hw => ?_)
  exact g_vret () X hw hr hlocks trivial rfl dJ2_init_2_11

set_option maxHeartbeats 4000000 in
theorem m_J2_size (l : Launch) (D : va_G) (dA : Nat → ClassId) (A : Nat → Prop) (E : State → Prop) (hE : gSt A E) (R : va_W) (lo la sz : Nat)  : Met l yJ2_size (ws_ yJ2_size cJ2_size 1 (Option.some FieldType.int)) ({ frames := 0, cells := 0, slots := 0, locals := 0 }) (va_Pc [.ref lo] (gB D dA A E ((lo, .inr (14, [.int (nI sz), .ref la, .int (nI sz)])) :: R))) (va_Qi (fun (r : Int32) (_ : Unit) => r = nI sz) (fun _ => gE D A ((lo, .inr (14, [.int (nI sz), .ref la, .int (nI sz)])) :: R)) A) (0) (0) A := by
  refine g_start rfl rfl ?_
  intro p e s m args below meth c ls X hr hlocks hin hw hl
  have hx := X.1.1
  have hb := X.1.2.1
  have hl : lv_has ls 1 [(0, .ref lo)] := hl
  refine lv_aload_n hx hb dJ2_size_0 rfl (lv_at hl 0 rfl) ?_
  refine g_get X cfJ2 hw 0 2 rfl rfl q143 rfl rfl dJ2_size_1 ?_
  exact g_iret (v := nI sz) () X hw hr hlocks  rfl rfl dJ2_size_4

set_option maxHeartbeats 4000000 in
theorem m_J2_elementData (l : Launch) (D : va_G) (dA : Nat → ClassId) (A : Nat → Prop) (E : State → Prop) (hE : gSt A E) (R : va_W) (lo la ln sz : Nat) (lf : Nat → Option Nat) (i x : Nat) (hi : i < sz) (hsz : sz ≤ ln) (hln : ln ≤ 100) (hfx : lf i = some x) : Met l yJ2_elementData (ws_ yJ2_elementData cJ2_elementData 2 (Option.some (FieldType.object "java/lang/Object"))) ({ frames := 0, cells := 0, slots := 0, locals := 0 }) (va_Pc [.ref lo, .int (nI i)] (gB D dA A E ((lo, .inr (14, [.int (nI sz), .ref la, .int (nI sz)])) :: (la, .inl (dA 3, ln, .inr (.inr (.inr (.inr lf))))) :: R))) (va_Qr (fun (_ : Unit) => True) (fun _ a t => a = x ∧ gE D A ((lo, .inr (14, [.int (nI sz), .ref la, .int (nI sz)])) :: (la, .inl (dA 3, ln, .inr (.inr (.inr (.inr lf))))) :: R) t) A) (0) (0) A := by
  refine g_start rfl rfl ?_
  intro p e s m args below meth c ls X hr hlocks hin hw hl
  have hx := X.1.1
  have hb := X.1.2.1
  have hl : lv_has ls 2 [(0, .ref lo), (1, .int (nI i))] := hl
  refine lv_aload_n hx hb dJ2_elementData_0 rfl (lv_at hl 0 rfl) ?_
  refine g_get X cfJ2 hw 0 1 rfl rfl q142 rfl rfl dJ2_elementData_1 ?_
  refine lv_iload_n hx hb dJ2_elementData_4 rfl (lv_at hl 1 rfl) ?_
  refine g_aald X hw 1 3 rfl rfl (i := i) (by omega) (by first | decide | omega) dJ2_elementData_5 ?_
  refine g_stk (st' := [.ref x]) (by rw [hfx]; rfl) ?_
  exact g_aretK (ad := fun _ => x) () X hw hr (Or.inl ⟨_, rfl⟩) hlocks trivial (rfl) rfl dJ2_elementData_6

set_option maxHeartbeats 4000000 in
theorem m_J2_get (l : Launch) (D : va_G) (dA : Nat → ClassId) (A : Nat → Prop) (E : State → Prop) (hE : gSt A E) (R : va_W) (lo la ln sz : Nat) (lf : Nat → Option Nat) (i x : Nat) (hi : i < sz) (hsz : sz ≤ ln) (hln : ln ≤ 100) (hfx : lf i = some x) : Met l yJ2_get (ws_ yJ2_get cJ2_get 2 (Option.some (FieldType.object "java/lang/Object"))) ({ frames := 2, cells := 0, slots := 0, locals := 43 }) (va_Pc [.ref lo, .int (nI i)] (gB D dA A E ((lo, .inr (14, [.int (nI sz), .ref la, .int (nI sz)])) :: (la, .inl (dA 3, ln, .inr (.inr (.inr (.inr lf))))) :: R))) (va_Qr (fun (_ : Unit) => True) (fun _ a t => a = x ∧ gE D A ((lo, .inr (14, [.int (nI sz), .ref la, .int (nI sz)])) :: (la, .inl (dA 3, ln, .inr (.inr (.inr (.inr lf))))) :: R) t) A) (0) (0) A := by
  refine g_start rfl rfl ?_
  intro p e s m args below meth c ls X hr hlocks hin hw hl
  have hx := X.1.1
  have hb := X.1.2.1
  have hl : lv_has ls 2 [(0, .ref lo), (1, .int (nI i))] := hl
  refine lv_iload_n hx hb dJ2_get_0 rfl (lv_at hl 1 rfl) ?_
  refine lv_aload_n hx hb dJ2_get_1 rfl (lv_at hl 0 rfl) ?_
  refine g_get X cfJ2 hw 0 2 rfl rfl q143 rfl rfl dJ2_get_2 ?_
  refine va_calli (va_runS (As := [.int (nI i), .int (nI sz)]) (rest := []) X.1 (m_J11_checkIndex l D dA A E hE ((lo, .inr (14, [.int (nI sz), .ref la, .int (nI sz)])) :: (la, .inl (dA 3, ln, .inr (.inr (.inr (.inr lf))))) :: R) i sz (by first | assumption | omega) (by first | assumption | omega)) (va_cwS 2 X.1.2.2.2.2 (lw_S q428 q429 q81 q430) rfl rfl rfl (by decide +kernel) ⟨Nat.le_of_ble_eq_true rfl, Nat.le_of_ble_eq_true rfl⟩) (g_preS hE X.2 hw) rfl rfl hl.1 rfl (lv_room (Nat.le_of_ble_eq_true rfl)) dJ2_get_5 ⟨Nat.le_of_ble_eq_true rfl, Nat.le_of_ble_eq_true rfl⟩) hw.2.2 (fun q _ h => h) (fun q h => h) (fun r_2 u t H locs ht hvm h_1 hB hz9 hk9 hS => ?_)
  have hw : gW D A ((lo, .inr (14, [.int (nI sz), .ref la, .int (nI sz)])) :: (la, .inl (dA 3, ln, .inr (.inr (.inr (.inr lf))))) :: R) s H locs := g_aft ht hB hS
  obtain rfl : r_2 = nI i := h_1
  refine lv_pop hx hb dJ2_get_8 rfl ?_
  refine lv_aload_n hx hb dJ2_get_9 rfl (lv_at hl 0 rfl) ?_
  refine lv_iload_n hx hb dJ2_get_10 rfl (lv_at hl 1 rfl) ?_
  refine va_callr (va_runV (As := [.int (nI i)]) (rest := []) X.1 (m_J2_elementData l D dA A E hE R lo la ln sz lf i x (by first | assumption | omega) (by first | assumption | omega) (by first | assumption | omega) hfx) (cwV 1 X.1.2.2.2.2 (lw_V q434 q435 q436 q69 q437) rfl rfl rfl (by decide +kernel) ⟨Nat.le_of_ble_eq_true rfl, Nat.le_of_ble_eq_true rfl⟩) (g_preV hE X.2 hw 0 rfl rfl) rfl rfl hl.1 rfl (lv_room (Nat.le_of_ble_eq_true rfl)) dJ2_get_11 ⟨Nat.le_of_ble_eq_true rfl, Nat.le_of_ble_eq_true rfl⟩) hw.2.2 (fun q _ h => h) (fun q h => h) (fun u q_4 t H locs ht hvm h_3 hB hz9 hk9 hS => ?_)
  obtain ⟨er_q_4, hB⟩ := hB
  obtain rfl := er_q_4.symm
  have hw : gW D A ((lo, .inr (14, [.int (nI sz), .ref la, .int (nI sz)])) :: (la, .inl (dA 3, ln, .inr (.inr (.inr (.inr lf))))) :: R) s H locs := g_aft ht hB hS
  exact g_aretK (ad := fun _ => x) () X hw hr (Or.inl ⟨_, rfl⟩) hlocks trivial (rfl) rfl dJ2_get_14

set_option maxHeartbeats 4000000 in
theorem m_J2_add_2 (l : Launch) (D : va_G) (dA : Nat → ClassId) (A : Nat → Prop) (E : State → Prop) (hE : gSt A E) (R : va_W) (lo la ln sz : Nat) (lf : Nat → Option Nat) (v : Nat) (hv : gObj R v) (hsz : sz < ln) (hln : ln ≤ 100) (mo : Int32) : Met l yJ2_add_2 (ws_ yJ2_add_2 cJ2_add_2 4 (Option.none : Option FieldType)) ({ frames := 0, cells := 0, slots := 0, locals := 0 }) (va_Pc [.ref lo, .ref v, .ref la, .int (nI sz)] (gB D dA A E ((lo, .inr (14, [.int mo, .ref la, .int (nI sz)])) :: (la, .inl (dA 3, ln, .inr (.inr (.inr (.inr lf))))) :: R))) (va_Qv (fun (_ : Unit) => True) (fun _ => gE D A ((lo, .inr (14, [.int mo, .ref la, .int (nI (sz + 1))])) :: (la, .inl (dA 3, ln, .inr (.inr (.inr (.inr (va_up lf sz (some v))))))) :: R)) A) (0) (0) A := by
  refine g_start rfl rfl ?_
  intro p e s m args below meth c ls X hr hlocks hin hw hl
  have hx := X.1.1
  have hb := X.1.2.1
  have hl : lv_has ls 4 [(0, .ref lo), (1, .ref v), (2, .ref la), (3, .int (nI sz))] := hl
  refine lv_iload_n hx hb dJ2_add_2_0 rfl (lv_at hl 3 rfl) ?_
  refine lv_aload_n hx hb dJ2_add_2_1 rfl (lv_at hl 2 rfl) ?_
  refine g_alen X hw 1 3 rfl rfl dJ2_add_2_2 ?_
  refine lv_icmp_ne (tgt := 11) hx hb dJ2_add_2_3 (by decide) (fun c_1 => ?_) (fun c_1 => absurd c_1 (fun q => by have := (nI_eq (a := sz) (b := ln) (by omega) (by omega)).mp q; omega))
  refine lv_aload_n hx hb dJ2_add_2_11 rfl (lv_at hl 2 rfl) ?_
  refine lv_iload_n hx hb dJ2_add_2_12 rfl (lv_at hl 3 rfl) ?_
  refine lv_aload_n hx hb dJ2_add_2_13 rfl (lv_at hl 1 rfl) ?_
  refine g_aastR (ws' := (lo, .inr (14, [.int mo, .ref la, .int (nI sz)])) :: (la, .inl (dA 3, ln, .inr (.inr (.inr (.inr (va_up lf sz (some v))))))) :: R) X hw 1 rfl (hv.mono (fun q h => List.mem_cons_of_mem _ (List.mem_cons_of_mem _ h))) (i := sz) (by omega) (by first | decide | omega) rfl dJ2_add_2_14 (fun H locs hw => ?_)
  refine lv_aload_n hx hb dJ2_add_2_15 rfl (lv_at hl 0 rfl) ?_
  refine lv_iload_n hx hb dJ2_add_2_16 rfl (lv_at hl 3 rfl) ?_
  refine lv_iconst (v := 1) hx hb dJ2_add_2_17 (by decide) ?_
  refine lv_iadd hx hb dJ2_add_2_18 ?_
  refine g_addN (a := sz) (b := 1) ?_
  refine g_put (ws' := (lo, .inr (14, [.int mo, .ref la, .int (nI (sz + 1))])) :: (la, .inl (dA 3, ln, .inr (.inr (.inr (.inr (va_up lf sz (some v))))))) :: R) X cfJ2 hw 0 2 rfl rfl q143 rfl rfl rfl rfl rfl rfl dJ2_add_2_19 (fun H locs hw => ?_)
  exact g_vret () X hw hr hlocks trivial rfl dJ2_add_2_22

set_option maxHeartbeats 4000000 in
theorem m_J2_add (l : Launch) (D : va_G) (dA : Nat → ClassId) (A : Nat → Prop) (E : State → Prop) (hE : gSt A E) (R : va_W) (lo la ln sz : Nat) (lf : Nat → Option Nat) (v : Nat) (hv : gObj R v) (hsz : sz < ln) (hln : ln ≤ 100) : Met l yJ2_add (ws_ yJ2_add cJ2_add 2 (Option.some FieldType.boolean)) ({ frames := 1, cells := 0, slots := 0, locals := 23 }) (va_Pc [.ref lo, .ref v] (gB D dA A E ((lo, .inr (14, [.int (nI sz), .ref la, .int (nI sz)])) :: (la, .inl (dA 3, ln, .inr (.inr (.inr (.inr lf))))) :: R))) (va_Qi (fun (r : Int32) (_ : Unit) => r = 1) (fun _ => gE D A ((lo, .inr (14, [.int (nI (sz + 1)), .ref la, .int (nI (sz + 1))])) :: (la, .inl (dA 3, ln, .inr (.inr (.inr (.inr (va_up lf sz (some v))))))) :: R)) A) (0) (0) A := by
  refine g_start rfl rfl ?_
  intro p e s m args below meth c ls X hr hlocks hin hw hl
  have hx := X.1.1
  have hb := X.1.2.1
  have hl : lv_has ls 2 [(0, .ref lo), (1, .ref v)] := hl
  refine lv_aload_n hx hb dJ2_add_0 rfl (lv_at hl 0 rfl) ?_
  refine lv_dup hx hb dJ2_add_1 rfl ?_
  refine g_getU X cfJ2 hw 0 0 rfl rfl q145 q146 rfl dJ2_add_2 ?_
  refine lv_iconst (v := 1) hx hb dJ2_add_5 (by decide) ?_
  refine lv_iadd hx hb dJ2_add_6 ?_
  refine g_addN (a := sz) (b := 1) ?_
  refine g_putU (ws' := (lo, .inr (14, [.int (nI (sz + 1)), .ref la, .int (nI sz)])) :: (la, .inl (dA 3, ln, .inr (.inr (.inr (.inr lf))))) :: R) X cfJ2 hw 0 0 rfl rfl q145 q146 rfl rfl rfl rfl rfl dJ2_add_7 (fun H locs hw => ?_)
  refine lv_aload_n hx hb dJ2_add_10 rfl (lv_at hl 0 rfl) ?_
  refine lv_aload_n hx hb dJ2_add_11 rfl (lv_at hl 1 rfl) ?_
  refine lv_aload_n hx hb dJ2_add_12 rfl (lv_at hl 0 rfl) ?_
  refine g_get X cfJ2 hw 0 1 rfl rfl q142 rfl rfl dJ2_add_13 ?_
  refine lv_aload_n hx hb dJ2_add_16 rfl (lv_at hl 0 rfl) ?_
  refine g_get X cfJ2 hw 0 2 rfl rfl q143 rfl rfl dJ2_add_17 ?_
  refine va_callv (va_runV (As := [.ref v, .ref la, .int (nI sz)]) (rest := []) X.1 (m_J2_add_2 l D dA A E hE R lo la ln sz lf v (hv.mono (fun q h => h)) (by first | assumption | omega) (by first | assumption | omega) (nI (sz + 1))) (cwV 3 X.1.2.2.2.2 (lw_V q206 q208 qs0 q69 q209) rfl rfl rfl (by decide +kernel) ⟨Nat.le_of_ble_eq_true rfl, Nat.le_of_ble_eq_true rfl⟩) (g_preV hE X.2 hw 0 rfl rfl) rfl rfl hl.1 rfl (lv_room (Nat.le_of_ble_eq_true rfl)) dJ2_add_20 ⟨Nat.le_of_ble_eq_true rfl, Nat.le_of_ble_eq_true rfl⟩) hw.2.2 (fun q _ h => h) (fun q h => h) (fun u t H locs ht hvm h_1 hB hz9 hk9 hS => ?_)
  have hw : gW D A ((lo, .inr (14, [.int (nI (sz + 1)), .ref la, .int (nI (sz + 1))])) :: (la, .inl (dA 3, ln, .inr (.inr (.inr (.inr (va_up lf sz (some v))))))) :: R) s H locs := g_aft ht hB hS
  refine lv_iconst (v := 1) hx hb dJ2_add_23 (by decide) ?_
  exact g_zret (v := 1) () X hw hr hlocks rfl rfl rfl dJ2_add_24

set_option maxHeartbeats 4000000 in
theorem m_J2_grow_2 (l : Launch) (D : va_G) (dA : Nat → ClassId) (A : Nat → Prop) (E : State → Prop) (hE : gSt A E) (R : va_W) (kA : Nat → Nat) (hKE : gKE A E kA) (lo : Nat) : Met l yJ2_grow_2 (ws_ yJ2_grow_2 cJ2_grow_2 4 (Option.some (FieldType.array (FieldType.object "java/lang/Object")))) ({ frames := 1, cells := 1, slots := 10, locals := 14 }) (va_Pc [.ref lo, .int 1] (gB D dA A E ((lo, .inr (14, [.int 1, .ref (kA 33), .int 0])) :: R))) (va_Qr (fun (_ : Unit) => True) (fun _ a => gE D A ((lo, .inr (14, [.int 1, .ref a, .int 0])) :: (a, .inl (dA 3, 10, .inr (.inr (.inr (.inr (fun _ => none)))))) :: R)) A) (1) (10) A := by
  refine g_start rfl rfl ?_
  intro p e s m args below meth c ls X hr hlocks hin hw hl
  have hx := X.1.1
  have hb := X.1.2.1
  have hl : lv_has ls 4 [(0, .ref lo), (1, .int 1)] := hl
  refine lv_aload_n hx hb dJ2_grow_2_0 rfl (lv_at hl 0 rfl) ?_
  refine g_get X cfJ2 hw 0 1 rfl rfl q142 rfl rfl dJ2_grow_2_1 ?_
  refine g_alenL X (hKE _ (gE.now hE X hw)).2.2.2.2.2.1.2 dJ2_grow_2_4 ?_
  refine lv_istore_n (lv' := [(2, .int 0), (0, .ref lo), (1, .int 1)]) hx hb dJ2_grow_2_5 rfl hl (by decide) rfl (fun ls hl => ?_)
  refine lv_iload_n hx hb dJ2_grow_2_6 rfl (lv_at hl 0 rfl) ?_
  refine lv_if_gt (tgt := 20) hx hb dJ2_grow_2_7 (by decide) (fun c_1 => absurd c_1 (by decide)) (fun c_1 => ?_)
  refine lv_aload_n hx hb dJ2_grow_2_10 rfl (lv_at hl 1 rfl) ?_
  refine g_get X cfJ2 hw 0 1 rfl rfl q142 rfl rfl dJ2_grow_2_11 ?_
  refine g_gets X hw (hKE s X.2.2.2.1).2.2.2.2.2.1.1 q218 rfl dJ2_grow_2_14 ?_
  refine lv_acmp_eq (rx := some (kA 33)) (ry := some (kA 33)) (tgt := 45) hx hb dJ2_grow_2_17 (by decide) (fun c_2 => ?_) (fun c_2 => absurd (rfl) c_2)
  refine lv_aload_n hx hb dJ2_grow_2_45 rfl (lv_at hl 1 rfl) ?_
  refine lv_bipush (v := 10) hx hb dJ2_grow_2_46 (by decide) ?_
  refine lv_iload_n hx hb dJ2_grow_2_48 rfl (lv_at hl 2 rfl) ?_
  refine va_mmax hx hb (by rw [X.1.2.2.1, hl.1]) X.1.2.2.2.1 (X.1.2.2.2.2 _ q269) (X.1.2.2.2.2 _ q224) (X.1.2.2.2.2 _ q72) (X.1.2.2.2.2 _ q225) (Nat.le_of_ble_eq_true rfl) (Nat.le_of_ble_eq_true rfl) (by first | exact Nat.le_of_ble_eq_true rfl | (dsimp only; omega)) (by first | exact Nat.le_of_ble_eq_true rfl | (dsimp only; omega)) dJ2_grow_2_49 ?_
  refine g_top (y := 10) (by decide) ?_
  refine g_newq (N' := 10) X hw 3 q138 q139 rfl rfl (by first | decide | omega) (Nat.le_of_ble_eq_true rfl) (Nat.le_of_ble_eq_true rfl) dJ2_grow_2_52 (fun q_3 H hw => ?_)
  refine lv_dup_x1 hx hb dJ2_grow_2_55 rfl rfl ?_
  refine g_put (ws' := (q_3, .inl (dA 3, 10, .inr (.inr (.inr (.inr (fun _ => none)))))) :: (lo, .inr (14, [.int 1, .ref q_3, .int 0])) :: R) X cfJ2 hw 1 1 rfl rfl q142 rfl rfl rfl rfl rfl rfl dJ2_grow_2_56 (fun H locs hw => ?_)
  have hw : gW D A ((lo, .inr (14, [.int 1, .ref q_3, .int 0])) :: (q_3, .inl (dA 3, 10, .inr (.inr (.inr (.inr (fun _ => none)))))) :: R) s _ _ := g_perm (X := [(q_3, .inl (dA 3, 10, .inr (.inr (.inr (.inr (fun _ => none)))))), (lo, .inr (14, [.int 1, .ref q_3, .int 0]))]) (cx := [(lo, .inr (14, [.int 1, .ref q_3, .int 0])), (q_3, .inl (dA 3, 10, .inr (.inr (.inr (.inr (fun _ => none))))))]) (pl := R) hw [1, 0] rfl rfl rfl rfl
  exact g_aret () X hw hr (Or.inr ⟨_, rfl⟩) hlocks trivial rfl dJ2_grow_2_59

set_option maxHeartbeats 4000000 in
theorem m_J2_grow (l : Launch) (D : va_G) (dA : Nat → ClassId) (A : Nat → Prop) (E : State → Prop) (hE : gSt A E) (R : va_W) (kA : Nat → Nat) (hKE : gKE A E kA) (lo : Nat) : Met l yJ2_grow (ws_ yJ2_grow cJ2_grow 1 (Option.some (FieldType.array (FieldType.object "java/lang/Object")))) ({ frames := 2, cells := 1, slots := 10, locals := 37 }) (va_Pc [.ref lo] (gB D dA A E ((lo, .inr (14, [.int 1, .ref (kA 33), .int 0])) :: R))) (va_Qr (fun (_ : Unit) => True) (fun _ a => gE D A ((lo, .inr (14, [.int 1, .ref a, .int 0])) :: (a, .inl (dA 3, 10, .inr (.inr (.inr (.inr (fun _ => none)))))) :: R)) A) (1) (10) A := by
  refine g_start rfl rfl ?_
  intro p e s m args below meth c ls X hr hlocks hin hw hl
  have hx := X.1.1
  have hb := X.1.2.1
  have hl : lv_has ls 1 [(0, .ref lo)] := hl
  refine lv_aload_n hx hb dJ2_grow_0 rfl (lv_at hl 0 rfl) ?_
  refine lv_aload_n hx hb dJ2_grow_1 rfl (lv_at hl 0 rfl) ?_
  refine g_get X cfJ2 hw 0 2 rfl rfl q143 rfl rfl dJ2_grow_2 ?_
  refine lv_iconst (v := 1) hx hb dJ2_grow_5 (by decide) ?_
  refine lv_iadd hx hb dJ2_grow_6 ?_
  refine g_top (y := 1) (by decide) ?_
  refine va_callr (va_runV (As := [.int 1]) (rest := []) X.1 (m_J2_grow_2 l D dA A E hE R kA (by first | assumption | omega) lo) (cwV 1 X.1.2.2.2.2 (lw_V q214 q216 qs2 q69 q217) rfl rfl rfl (by decide +kernel) ⟨Nat.le_of_ble_eq_true rfl, Nat.le_of_ble_eq_true rfl⟩) (g_preV hE X.2 hw 0 rfl rfl) rfl rfl hl.1 rfl (lv_room (Nat.le_of_ble_eq_true rfl)) dJ2_grow_7 ⟨Nat.le_of_ble_eq_true rfl, Nat.le_of_ble_eq_true rfl⟩) hw.2.2 (fun q _ h => h) (fun q h => h) (fun u q_2 t H locs ht hvm h_1 hB hz9 hk9 hS => ?_)
  have hw : gW D A ((lo, .inr (14, [.int 1, .ref q_2, .int 0])) :: (q_2, .inl (dA 3, 10, .inr (.inr (.inr (.inr (fun _ => none)))))) :: R) s H locs := g_aft ht hB hS
  exact g_aret () X hw hr (Or.inr ⟨_, rfl⟩) hlocks trivial rfl dJ2_grow_10

set_option maxHeartbeats 4000000 in
theorem m_J2_add_2E (l : Launch) (D : va_G) (dA : Nat → ClassId) (A : Nat → Prop) (E : State → Prop) (hE : gSt A E) (R : va_W) (kA : Nat → Nat) (hKE : gKE A E kA) (lo : Nat) (v : Nat) (hv : gObj R v)  : Met l yJ2_add_2 (ws_ yJ2_add_2 cJ2_add_2 4 (Option.none : Option FieldType)) ({ frames := 3, cells := 1, slots := 10, locals := 57 }) (va_Pc [.ref lo, .ref v, .ref (kA 33), .int 0] (gB D dA A E ((lo, .inr (14, [.int 1, .ref (kA 33), .int 0])) :: R))) (va_Qv (fun (u : Nat) => True) (fun u => gE D A ((lo, .inr (14, [.int 1, .ref u, .int 1])) :: (u, .inl (dA 3, 10, .inr (.inr (.inr (.inr (va_up (fun _ => none) 0 (some v))))))) :: R)) A) (1) (10) A := by
  refine g_start rfl rfl ?_
  intro p e s m args below meth c ls X hr hlocks hin hw hl
  have hx := X.1.1
  have hb := X.1.2.1
  have hl : lv_has ls 4 [(0, .ref lo), (1, .ref v), (2, .ref (kA 33)), (3, .int 0)] := hl
  refine lv_iload_n hx hb dJ2_add_2_0 rfl (lv_at hl 3 rfl) ?_
  refine lv_aload_n hx hb dJ2_add_2_1 rfl (lv_at hl 2 rfl) ?_
  refine g_alenL X (hKE _ (gE.now hE X hw)).2.2.2.2.2.1.2 dJ2_add_2_2 ?_
  refine lv_icmp_ne (tgt := 11) hx hb dJ2_add_2_3 (by decide) (fun c_1 => absurd (by decide) c_1) (fun c_1 => ?_)
  refine lv_aload_n hx hb dJ2_add_2_6 rfl (lv_at hl 0 rfl) ?_
  refine va_callr (va_runV (As := []) (rest := []) X.1 (m_J2_grow l D dA A E hE R kA (by first | assumption | omega) lo) (cwV 0 X.1.2.2.2.2 (lw_V q210 q212 qs1 q69 q213) rfl rfl rfl (by decide +kernel) ⟨Nat.le_of_ble_eq_true rfl, Nat.le_of_ble_eq_true rfl⟩) (g_preV hE X.2 hw 0 rfl rfl) rfl rfl hl.1 rfl (lv_room (Nat.le_of_ble_eq_true rfl)) dJ2_add_2_7 ⟨Nat.le_of_ble_eq_true rfl, Nat.le_of_ble_eq_true rfl⟩) hw.2.2 (fun q _ h => h) (fun q h => h) (fun u q_3 t H locs ht hvm h_2 hB hz9 hk9 hS => ?_)
  have hw : gW D A ((lo, .inr (14, [.int 1, .ref q_3, .int 0])) :: (q_3, .inl (dA 3, 10, .inr (.inr (.inr (.inr (fun _ => none)))))) :: R) s H locs := g_aft ht hB hS
  refine lv_astore_n (lv' := [(2, .ref q_3), (0, .ref lo), (1, .ref v), (3, .int 0)]) hx hb dJ2_add_2_10 rfl hl (by decide) rfl (fun ls hl => ?_)
  refine lv_aload_n hx hb dJ2_add_2_11 rfl (lv_at hl 0 rfl) ?_
  refine lv_iload_n hx hb dJ2_add_2_12 rfl (lv_at hl 3 rfl) ?_
  refine lv_aload_n hx hb dJ2_add_2_13 rfl (lv_at hl 2 rfl) ?_
  refine g_aastR (ws' := (lo, .inr (14, [.int 1, .ref q_3, .int 0])) :: (q_3, .inl (dA 3, 10, .inr (.inr (.inr (.inr (va_up (fun _ => none) 0 (some v))))))) :: R) X hw 1 rfl (hv.mono (fun q h => List.mem_cons_of_mem _ (List.mem_cons_of_mem _ h))) (i := 0) (by decide) (by decide) rfl dJ2_add_2_14 (fun H locs hw => ?_)
  refine lv_aload_n hx hb dJ2_add_2_15 rfl (lv_at hl 1 rfl) ?_
  refine lv_iload_n hx hb dJ2_add_2_16 rfl (lv_at hl 3 rfl) ?_
  refine lv_iconst (v := 1) hx hb dJ2_add_2_17 (by decide) ?_
  refine lv_iadd hx hb dJ2_add_2_18 ?_
  refine g_top (y := 1) (by decide) ?_
  refine g_put (ws' := (lo, .inr (14, [.int 1, .ref q_3, .int 1])) :: (q_3, .inl (dA 3, 10, .inr (.inr (.inr (.inr (va_up (fun _ => none) 0 (some v))))))) :: R) X cfJ2 hw 0 2 rfl rfl q143 rfl rfl rfl rfl rfl rfl dJ2_add_2_19 (fun H locs hw => ?_)
  exact g_vret q_3 X hw hr hlocks trivial rfl dJ2_add_2_22

set_option maxHeartbeats 4000000 in
theorem m_J2_addE (l : Launch) (D : va_G) (dA : Nat → ClassId) (A : Nat → Prop) (E : State → Prop) (hE : gSt A E) (R : va_W) (kA : Nat → Nat) (hKE : gKE A E kA) (lo : Nat) (v : Nat) (hv : gObj R v)  : Met l yJ2_add (ws_ yJ2_add cJ2_add 2 (Option.some FieldType.boolean)) ({ frames := 4, cells := 1, slots := 10, locals := 80 }) (va_Pc [.ref lo, .ref v] (gB D dA A E ((lo, .inr (14, [.int 0, .ref (kA 33), .int 0])) :: R))) (va_Qi (fun (r : Int32) (u : Nat) => r = 1) (fun u => gE D A ((lo, .inr (14, [.int 1, .ref u, .int 1])) :: (u, .inl (dA 3, 10, .inr (.inr (.inr (.inr (va_up (fun _ => none) 0 (some v))))))) :: R)) A) (1) (10) A := by
  refine g_start rfl rfl ?_
  intro p e s m args below meth c ls X hr hlocks hin hw hl
  have hx := X.1.1
  have hb := X.1.2.1
  have hl : lv_has ls 2 [(0, .ref lo), (1, .ref v)] := hl
  refine lv_aload_n hx hb dJ2_add_0 rfl (lv_at hl 0 rfl) ?_
  refine lv_dup hx hb dJ2_add_1 rfl ?_
  refine g_getU X cfJ2 hw 0 0 rfl rfl q145 q146 rfl dJ2_add_2 ?_
  refine lv_iconst (v := 1) hx hb dJ2_add_5 (by decide) ?_
  refine lv_iadd hx hb dJ2_add_6 ?_
  refine g_top (y := 1) (by decide) ?_
  refine g_putU (ws' := (lo, .inr (14, [.int 1, .ref (kA 33), .int 0])) :: R) X cfJ2 hw 0 0 rfl rfl q145 q146 rfl rfl rfl rfl rfl dJ2_add_7 (fun H locs hw => ?_)
  refine lv_aload_n hx hb dJ2_add_10 rfl (lv_at hl 0 rfl) ?_
  refine lv_aload_n hx hb dJ2_add_11 rfl (lv_at hl 1 rfl) ?_
  refine lv_aload_n hx hb dJ2_add_12 rfl (lv_at hl 0 rfl) ?_
  refine g_get X cfJ2 hw 0 1 rfl rfl q142 rfl rfl dJ2_add_13 ?_
  refine lv_aload_n hx hb dJ2_add_16 rfl (lv_at hl 0 rfl) ?_
  refine g_get X cfJ2 hw 0 2 rfl rfl q143 rfl rfl dJ2_add_17 ?_
  refine va_callv (va_runV (As := [.ref v, .ref (kA 33), .int 0]) (rest := []) X.1 (m_J2_add_2E l D dA A E hE R kA (by first | assumption | omega) lo v (hv.mono (fun q h => h))) (cwV 3 X.1.2.2.2.2 (lw_V q206 q208 qs0 q69 q209) rfl rfl rfl (by decide +kernel) ⟨Nat.le_of_ble_eq_true rfl, Nat.le_of_ble_eq_true rfl⟩) (g_preV hE X.2 hw 0 rfl rfl) rfl rfl hl.1 rfl (lv_room (Nat.le_of_ble_eq_true rfl)) dJ2_add_20 ⟨Nat.le_of_ble_eq_true rfl, Nat.le_of_ble_eq_true rfl⟩) hw.2.2 (fun q _ h => h) (fun q h => h) (fun u t H locs ht hvm h_1 hB hz9 hk9 hS => ?_)
  obtain ⟨u_2, rfl⟩ : ∃ z, z = u := ⟨_, rfl⟩
  have hw : gW D A ((lo, .inr (14, [.int 1, .ref u_2, .int 1])) :: (u_2, .inl (dA 3, 10, .inr (.inr (.inr (.inr (va_up (fun _ => none) 0 (some v))))))) :: R) s H locs := g_aft ht hB hS
  refine lv_iconst (v := 1) hx hb dJ2_add_23 (by decide) ?_
  exact g_zret (v := 1) u_2 X hw hr hlocks rfl rfl rfl dJ2_add_24

set_option maxHeartbeats 4000000 in
theorem m_J6_init (l : Launch) (D : va_G) (dA : Nat → ClassId) (A : Nat → Prop) (E : State → Prop) (hE : gSt A E) (R : va_W) (o : Nat) : Met l yJ6_init (ws_ yJ6_init cJ6_init 1 (Option.none : Option FieldType)) ({ frames := 2, cells := 1, slots := 17, locals := 32 }) (va_Pc [.ref o] (gB D dA A E ((o, .inr (15, [.null, .int 0, .int 0])) :: R))) (va_Qv (fun (u : Nat) => True) (fun u => gE D A ((o, .inr (15, [.ref u, .int 0, .int 0])) :: (u, .inl (dA 3, 17, .inr (.inr (.inr (.inr (fun _ => none)))))) :: R)) A) (1) (17) A := by
  refine g_start rfl rfl ?_
  intro p e s m args below meth c ls X hr hlocks hin hw hl
  have hx := X.1.1
  have hb := X.1.2.1
  have hl : lv_has ls 1 [(0, .ref o)] := hl
  refine lv_aload_n hx hb dJ6_init_0 rfl (lv_at hl 0 rfl) ?_
  refine va_callv (va_runI (As := []) (rest := []) X.1 (m_J0_init l D dA A E hE ((o, .inr (15, [.null, .int 0, .int 0])) :: R) o) (cwI 0 X.1.2.2.2.2 (lw_meth q136) rfl rfl rfl (X.1.2.2.2.2 _ q67) (X.1.2.2.2.2 _ q331) (X.1.2.2.2.2 _ q135) rfl (by decide +kernel) ⟨Nat.le_of_ble_eq_true rfl, Nat.le_of_ble_eq_true rfl⟩) (g_preS hE X.2 hw) rfl rfl hl.1 rfl (lv_room (Nat.le_of_ble_eq_true rfl)) dJ6_init_1 ⟨Nat.le_of_ble_eq_true rfl, Nat.le_of_ble_eq_true rfl⟩) hw.2.2 (fun q _ h => h) (fun q h => h) (fun u t H locs ht hvm h_1 hB hz9 hk9 hS => ?_)
  have hw : gW D A ((o, .inr (15, [.null, .int 0, .int 0])) :: R) s H locs := g_aft ht hB hS
  refine lv_aload_n hx hb dJ6_init_4 rfl (lv_at hl 0 rfl) ?_
  refine lv_bipush (v := 17) hx hb dJ6_init_5 (by decide) ?_
  refine g_newq (N' := 17) X hw 3 q332 q139 rfl rfl (by first | decide | omega) (Nat.le_of_ble_eq_true rfl) (Nat.le_of_ble_eq_true rfl) dJ6_init_7 (fun q_2 H hw => ?_)
  refine g_put (ws' := (q_2, .inl (dA 3, 17, .inr (.inr (.inr (.inr (fun _ => none)))))) :: (o, .inr (15, [.ref q_2, .int 0, .int 0])) :: R) X cfJ6 hw 1 0 rfl rfl q333 rfl rfl rfl rfl rfl rfl dJ6_init_10 (fun H locs hw => ?_)
  have hw : gW D A ((o, .inr (15, [.ref q_2, .int 0, .int 0])) :: (q_2, .inl (dA 3, 17, .inr (.inr (.inr (.inr (fun _ => none)))))) :: R) s _ _ := g_perm (X := [(q_2, .inl (dA 3, 17, .inr (.inr (.inr (.inr (fun _ => none)))))), (o, .inr (15, [.ref q_2, .int 0, .int 0]))]) (cx := [(o, .inr (15, [.ref q_2, .int 0, .int 0])), (q_2, .inl (dA 3, 17, .inr (.inr (.inr (.inr (fun _ => none))))))]) (pl := R) hw [1, 0] rfl rfl rfl rfl
  exact g_vret q_2 X hw hr hlocks trivial rfl dJ6_init_13

set_option maxHeartbeats 4000000 in
theorem m_J6_inc (l : Launch) (D : va_G) (dA : Nat → ClassId) (A : Nat → Prop) (E : State → Prop) (hE : gSt A E) (R : va_W) (i n : Nat) (h1 : i < n) (h2 : n ≤ 1000) : Met l yJ6_inc (ws_ yJ6_inc cJ6_inc 2 (Option.some FieldType.int)) ({ frames := 0, cells := 0, slots := 0, locals := 0 }) (va_Pc [.int (nI i), .int (nI n)] (gB D dA A E (R))) (va_Qi (fun (r : Int32) (_ : Unit) => r = nI (incN i n)) (fun _ => gE D A (R)) A) (0) (0) A := by
  refine g_start rfl rfl ?_
  intro p e s m args below meth c ls X hr hlocks hin hw hl
  have hx := X.1.1
  have hb := X.1.2.1
  have hl : lv_has ls 2 [(0, .int (nI i)), (1, .int (nI n))] := hl
  refine lv_iinc (v := nI (i + 1)) (lv' := [(0, .int (nI (i + 1))), (1, .int (nI n))]) hx hb dJ6_inc_0 hl (k := 0) rfl (nI_add i 1) (by decide) rfl (fun ls hl => ?_)
  refine lv_iload_n hx hb dJ6_inc_3 rfl (lv_at hl 0 rfl) ?_
  refine lv_iload_n hx hb dJ6_inc_4 rfl (lv_at hl 1 rfl) ?_
  refine lv_icmp_lt (tgt := 10) hx hb dJ6_inc_5 (by decide) (fun c_1 => ?_) (fun c_1 => ?_)
  · skip
    have c_1 : i + 1 < n := (nI_ltI (a := i + 1) (b := n) (by omega) (by omega)).mp c_1
    refine lv_iload_n hx hb dJ6_inc_10 rfl (lv_at hl 0 rfl) ?_
    exact g_iret (v := nI (i + 1)) () X hw hr hlocks  (by rw [incN, if_pos (by omega)]) rfl dJ6_inc_11
  · skip
    have c_1 : ¬ (i + 1 < n) := fun q => c_1 ((nI_ltI (a := i + 1) (b := n) (by omega) (by omega)).mpr q)
    refine lv_iconst (v := 0) hx hb dJ6_inc_8 (by decide) ?_
    refine lv_istore_n (lv' := [(0, .int 0), (1, .int (nI n))]) hx hb dJ6_inc_9 rfl hl (by decide) rfl (fun ls hl => ?_)
    refine lv_iload_n hx hb dJ6_inc_10 rfl (lv_at hl 0 rfl) ?_
    exact g_iret (v := 0) () X hw hr hlocks  (by rw [incN, if_neg (by omega)]; rfl) rfl dJ6_inc_11

set_option maxHeartbeats 4000000 in
theorem m_J6_sub (l : Launch) (D : va_G) (dA : Nat → ClassId) (A : Nat → Prop) (E : State → Prop) (hE : gSt A E) (R : va_W) (x y n : Nat) (h1 : x ≤ n) (h2 : y ≤ n) (h3 : n ≤ 1000) : Met l yJ6_sub (ws_ yJ6_sub cJ6_sub 3 (Option.some FieldType.int)) ({ frames := 0, cells := 0, slots := 0, locals := 0 }) (va_Pc [.int (nI x), .int (nI y), .int (nI n)] (gB D dA A E (R))) (va_Qi (fun (r : Int32) (_ : Unit) => r = nI (subN x y n)) (fun _ => gE D A (R)) A) (0) (0) A := by
  refine g_start rfl rfl ?_
  intro p e s m args below meth c ls X hr hlocks hin hw hl
  have hx := X.1.1
  have hb := X.1.2.1
  have hl : lv_has ls 3 [(0, .int (nI x)), (1, .int (nI y)), (2, .int (nI n))] := hl
  refine lv_iload_n hx hb dJ6_sub_0 rfl (lv_at hl 0 rfl) ?_
  refine lv_iload_n hx hb dJ6_sub_1 rfl (lv_at hl 1 rfl) ?_
  refine lv_isub hx hb dJ6_sub_2 ?_
  refine lv_dup hx hb dJ6_sub_3 rfl ?_
  refine lv_istore_n (lv' := [(0, .int ((nI x) - (nI y))), (1, .int (nI y)), (2, .int (nI n))]) hx hb dJ6_sub_4 rfl hl (by decide) rfl (fun ls hl => ?_)
  refine lv_if_ge (tgt := 12) hx hb dJ6_sub_5 (by decide) (fun c_1 => ?_) (fun c_1 => ?_)
  · skip
    have c_1 := Int32.not_lt.mpr c_1
    refine lv_iload_n hx hb dJ6_sub_12 rfl (lv_at hl 0 rfl) ?_
    exact g_iret (v := (nI x) - (nI y)) () X hw hr hlocks  (by exact nsub_t ((nsub_ge (a := x) (b := y) (by omega) (by omega)).mp (Int32.not_lt.mp c_1))) rfl dJ6_sub_13
  · skip
    have c_1 := Int32.not_le.mp c_1
    refine lv_iload_n hx hb dJ6_sub_8 rfl (lv_at hl 0 rfl) ?_
    refine lv_iload_n hx hb dJ6_sub_9 rfl (lv_at hl 2 rfl) ?_
    refine lv_iadd hx hb dJ6_sub_10 ?_
    refine lv_istore_n (lv' := [(0, .int (((nI x) - (nI y)) + (nI n))), (1, .int (nI y)), (2, .int (nI n))]) hx hb dJ6_sub_11 rfl hl (by decide) rfl (fun ls hl => ?_)
    refine lv_iload_n hx hb dJ6_sub_12 rfl (lv_at hl 0 rfl) ?_
    exact g_iret (v := ((nI x) - (nI y)) + (nI n)) () X hw hr hlocks  (by exact nsub_f (fun q => absurd ((nsub_ge (a := x) (b := y) (by omega) (by omega)).mpr q) (Int32.not_le.mpr c_1)) h2) rfl dJ6_sub_13

set_option maxHeartbeats 4000000 in
theorem m_J6_elementAt (l : Launch) (D : va_G) (dA : Nat → ClassId) (A : Nat → Prop) (E : State → Prop) (hE : gSt A E) (R : va_W) (dr j : Nat) (df : Nat → Option Nat) (x : Nat) (hj : j < 17) (hx2 : df j = some x) : Met l yJ6_elementAt (ws_ yJ6_elementAt cJ6_elementAt 2 (Option.some (FieldType.object "java/lang/Object"))) ({ frames := 0, cells := 0, slots := 0, locals := 0 }) (va_Pc [.ref dr, .int (nI j)] (gB D dA A E ((dr, .inl (dA 3, 17, .inr (.inr (.inr (.inr df))))) :: R))) (va_Qr (fun (_ : Unit) => True) (fun _ a t => a = x ∧ gE D A ((dr, .inl (dA 3, 17, .inr (.inr (.inr (.inr df))))) :: R) t) A) (0) (0) A := by
  refine g_start rfl rfl ?_
  intro p e s m args below meth c ls X hr hlocks hin hw hl
  have hx := X.1.1
  have hb := X.1.2.1
  have hl : lv_has ls 2 [(0, .ref dr), (1, .int (nI j))] := hl
  refine lv_aload_n hx hb dJ6_elementAt_0 rfl (lv_at hl 0 rfl) ?_
  refine lv_iload_n hx hb dJ6_elementAt_1 rfl (lv_at hl 1 rfl) ?_
  refine g_aald X hw 0 3 rfl rfl (i := j) (by omega) (by first | decide | omega) dJ6_elementAt_2 ?_
  refine g_stk (st' := [.ref x]) (by rw [hx2]; rfl) ?_
  exact g_aretK (ad := fun _ => x) () X hw hr (Or.inl ⟨_, rfl⟩) hlocks trivial (rfl) rfl dJ6_elementAt_3

set_option maxHeartbeats 4000000 in
theorem m_J6_size (l : Launch) (D : va_G) (dA : Nat → ClassId) (A : Nat → Prop) (E : State → Prop) (hE : gSt A E) (R : va_W) (dq dr dh dt : Nat) (df : Nat → Option Nat) (hdh : dh < 17) (hdt : dt < 17)  : Met l yJ6_size (ws_ yJ6_size cJ6_size 1 (Option.some FieldType.int)) ({ frames := 1, cells := 0, slots := 0, locals := 22 }) (va_Pc [.ref dq] (gB D dA A E ((dq, .inr (15, [.ref dr, .int (nI dh), .int (nI dt)])) :: (dr, .inl (dA 3, 17, .inr (.inr (.inr (.inr df))))) :: R))) (va_Qi (fun (r : Int32) (_ : Unit) => r = nI (subN dt dh 17)) (fun _ => gE D A ((dq, .inr (15, [.ref dr, .int (nI dh), .int (nI dt)])) :: (dr, .inl (dA 3, 17, .inr (.inr (.inr (.inr df))))) :: R)) A) (0) (0) A := by
  refine g_start rfl rfl ?_
  intro p e s m args below meth c ls X hr hlocks hin hw hl
  have hx := X.1.1
  have hb := X.1.2.1
  have hl : lv_has ls 1 [(0, .ref dq)] := hl
  refine lv_aload_n hx hb dJ6_size_0 rfl (lv_at hl 0 rfl) ?_
  refine g_get X cfJ6 hw 0 2 rfl rfl q335 rfl rfl dJ6_size_1 ?_
  refine lv_aload_n hx hb dJ6_size_4 rfl (lv_at hl 0 rfl) ?_
  refine g_get X cfJ6 hw 0 1 rfl rfl q334 rfl rfl dJ6_size_5 ?_
  refine lv_aload_n hx hb dJ6_size_8 rfl (lv_at hl 0 rfl) ?_
  refine g_get X cfJ6 hw 0 0 rfl rfl q333 rfl rfl dJ6_size_9 ?_
  refine g_alen X hw 1 3 rfl rfl dJ6_size_12 ?_
  refine va_calli (va_runS (As := [.int (nI dt), .int (nI dh), .int 17]) (rest := []) X.1 (m_J6_sub l D dA A E hE ((dq, .inr (15, [.ref dr, .int (nI dh), .int (nI dt)])) :: (dr, .inl (dA 3, 17, .inr (.inr (.inr (.inr df))))) :: R) dt dh 17 (by first | assumption | omega) (by first | assumption | omega) (by first | assumption | omega)) (va_cwS 3 X.1.2.2.2.2 (lw_S q754 q755 q75 q756) rfl rfl rfl (by decide +kernel) ⟨Nat.le_of_ble_eq_true rfl, Nat.le_of_ble_eq_true rfl⟩) (g_preS hE X.2 hw) rfl rfl hl.1 rfl (lv_room (Nat.le_of_ble_eq_true rfl)) dJ6_size_13 ⟨Nat.le_of_ble_eq_true rfl, Nat.le_of_ble_eq_true rfl⟩) hw.2.2 (fun q _ h => h) (fun q h => h) (fun r_2 u t H locs ht hvm h_1 hB hz9 hk9 hS => ?_)
  have hw : gW D A ((dq, .inr (15, [.ref dr, .int (nI dh), .int (nI dt)])) :: (dr, .inl (dA 3, 17, .inr (.inr (.inr (.inr df))))) :: R) s H locs := g_aft ht hB hS
  obtain rfl : r_2 = nI (subN dt dh 17) := h_1
  exact g_iret (v := nI (subN dt dh 17)) () X hw hr hlocks  rfl rfl dJ6_size_16

set_option maxHeartbeats 4000000 in
theorem m_J6_isEmpty (l : Launch) (D : va_G) (dA : Nat → ClassId) (A : Nat → Prop) (E : State → Prop) (hE : gSt A E) (R : va_W) (dq dr dh dt : Nat) (df : Nat → Option Nat) (hdh : dh < 17) (hdt : dt < 17)  : Met l yJ6_isEmpty (ws_ yJ6_isEmpty cJ6_isEmpty 1 (Option.some FieldType.boolean)) ({ frames := 0, cells := 0, slots := 0, locals := 0 }) (va_Pc [.ref dq] (gB D dA A E ((dq, .inr (15, [.ref dr, .int (nI dh), .int (nI dt)])) :: (dr, .inl (dA 3, 17, .inr (.inr (.inr (.inr df))))) :: R))) (va_Qi (fun (r : Int32) (_ : Unit) => r = bZ (decide (dh = dt))) (fun _ => gE D A ((dq, .inr (15, [.ref dr, .int (nI dh), .int (nI dt)])) :: (dr, .inl (dA 3, 17, .inr (.inr (.inr (.inr df))))) :: R)) A) (0) (0) A := by
  refine g_start rfl rfl ?_
  intro p e s m args below meth c ls X hr hlocks hin hw hl
  have hx := X.1.1
  have hb := X.1.2.1
  have hl : lv_has ls 1 [(0, .ref dq)] := hl
  refine lv_aload_n hx hb dJ6_isEmpty_0 rfl (lv_at hl 0 rfl) ?_
  refine g_get X cfJ6 hw 0 1 rfl rfl q334 rfl rfl dJ6_isEmpty_1 ?_
  refine lv_aload_n hx hb dJ6_isEmpty_4 rfl (lv_at hl 0 rfl) ?_
  refine g_get X cfJ6 hw 0 2 rfl rfl q335 rfl rfl dJ6_isEmpty_5 ?_
  refine lv_icmp_ne (tgt := 15) hx hb dJ6_isEmpty_8 (by decide) (fun c_1 => ?_) (fun c_1 => ?_)
  · skip
    have c_1 : ¬ (dh = dt) := fun q => c_1 ((nI_eq (a := dh) (b := dt) (by omega) (by omega)).mpr q)
    refine lv_iconst (v := 0) hx hb dJ6_isEmpty_15 (by decide) ?_
    exact g_zret (v := 0) () X hw hr hlocks rfl (by rw [decide_eq_false c_1]; rfl) rfl dJ6_isEmpty_16
  · skip
    have c_1 : dh = dt := (nI_eq (a := dh) (b := dt) (by omega) (by omega)).mp c_1
    refine lv_iconst (v := 1) hx hb dJ6_isEmpty_11 (by decide) ?_
    refine lv_goto (tgt := 16) hx hb dJ6_isEmpty_12 (by decide) ?_
    exact g_zret (v := 1) () X hw hr hlocks rfl (by rw [decide_eq_true c_1]; rfl) rfl dJ6_isEmpty_16

set_option maxHeartbeats 4000000 in
theorem m_J6_addLast (l : Launch) (D : va_G) (dA : Nat → ClassId) (A : Nat → Prop) (E : State → Prop) (hE : gSt A E) (R : va_W) (dq dr dh dt : Nat) (df : Nat → Option Nat) (hdh : dh < 17) (hdt : dt < 17) (v : Nat) (hv : gObj R v) (hne : ¬ dh = incN dt 17) : Met l yJ6_addLast (ws_ yJ6_addLast cJ6_addLast 3 (Option.none : Option FieldType)) ({ frames := 1, cells := 0, slots := 0, locals := 21 }) (va_Pc [.ref dq, .ref v] (gB D dA A E ((dq, .inr (15, [.ref dr, .int (nI dh), .int (nI dt)])) :: (dr, .inl (dA 3, 17, .inr (.inr (.inr (.inr df))))) :: R))) (va_Qv (fun (_ : Unit) => True) (fun _ => gE D A ((dq, .inr (15, [.ref dr, .int (nI dh), .int (nI (incN dt 17))])) :: (dr, .inl (dA 3, 17, .inr (.inr (.inr (.inr (va_up df dt (some v))))))) :: R)) A) (0) (0) A := by
  refine g_start rfl rfl ?_
  intro p e s m args below meth c ls X hr hlocks hin hw hl
  have hx := X.1.1
  have hb := X.1.2.1
  have hl : lv_has ls 3 [(0, .ref dq), (1, .ref v)] := hl
  refine lv_aload_n hx hb dJ6_addLast_0 rfl (lv_at hl 1 rfl) ?_
  refine lv_ifnonnull (tgt := 12) hx hb dJ6_addLast_1 (by decide) ?_
  refine lv_aload_n hx hb dJ6_addLast_12 rfl (lv_at hl 0 rfl) ?_
  refine g_get X cfJ6 hw 0 0 rfl rfl q333 rfl rfl dJ6_addLast_13 ?_
  refine lv_astore_n (lv' := [(2, .ref dr), (0, .ref dq), (1, .ref v)]) hx hb dJ6_addLast_16 rfl hl (by decide) rfl (fun ls hl => ?_)
  refine lv_aload_n hx hb dJ6_addLast_17 rfl (lv_at hl 0 rfl) ?_
  refine lv_aload_n hx hb dJ6_addLast_18 rfl (lv_at hl 1 rfl) ?_
  refine g_get X cfJ6 hw 0 2 rfl rfl q335 rfl rfl dJ6_addLast_19 ?_
  refine lv_aload_n hx hb dJ6_addLast_22 rfl (lv_at hl 2 rfl) ?_
  refine g_aastR (ws' := (dq, .inr (15, [.ref dr, .int (nI dh), .int (nI dt)])) :: (dr, .inl (dA 3, 17, .inr (.inr (.inr (.inr (va_up df dt (some v))))))) :: R) X hw 1 rfl (hv.mono (fun q h => List.mem_cons_of_mem _ (List.mem_cons_of_mem _ h))) (i := dt) (by omega) (by first | decide | omega) rfl dJ6_addLast_23 (fun H locs hw => ?_)
  refine lv_aload_n hx hb dJ6_addLast_24 rfl (lv_at hl 1 rfl) ?_
  refine g_get X cfJ6 hw 0 1 rfl rfl q334 rfl rfl dJ6_addLast_25 ?_
  refine lv_aload_n hx hb dJ6_addLast_28 rfl (lv_at hl 1 rfl) ?_
  refine lv_aload_n hx hb dJ6_addLast_29 rfl (lv_at hl 1 rfl) ?_
  refine g_get X cfJ6 hw 0 2 rfl rfl q335 rfl rfl dJ6_addLast_30 ?_
  refine lv_aload_n hx hb dJ6_addLast_33 rfl (lv_at hl 0 rfl) ?_
  refine g_alen X hw 1 3 rfl rfl dJ6_addLast_34 ?_
  refine va_calli (va_runS (As := [.int (nI dt), .int 17]) (rest := [.ref dq, .int (nI dh)]) X.1 (m_J6_inc l D dA A E hE ((dq, .inr (15, [.ref dr, .int (nI dh), .int (nI dt)])) :: (dr, .inl (dA 3, 17, .inr (.inr (.inr (.inr (va_up df dt (some v))))))) :: R) dt 17 (by first | assumption | omega) (by first | assumption | omega)) (va_cwS 2 X.1.2.2.2.2 (lw_S q735 q736 q75 q737) rfl rfl rfl (by decide +kernel) ⟨Nat.le_of_ble_eq_true rfl, Nat.le_of_ble_eq_true rfl⟩) (g_preS hE X.2 hw) rfl rfl hl.1 rfl (lv_room (Nat.le_of_ble_eq_true rfl)) dJ6_addLast_35 ⟨Nat.le_of_ble_eq_true rfl, Nat.le_of_ble_eq_true rfl⟩) hw.2.2 (fun q _ h => h) (fun q h => h) (fun r_2 u t H locs ht hvm h_1 hB hz9 hk9 hS => ?_)
  have hw : gW D A ((dq, .inr (15, [.ref dr, .int (nI dh), .int (nI dt)])) :: (dr, .inl (dA 3, 17, .inr (.inr (.inr (.inr (va_up df dt (some v))))))) :: R) s H locs := g_aft ht hB hS
  obtain rfl : r_2 = nI (incN dt 17) := h_1
  refine lv_dup_x1 hx hb dJ6_addLast_38 rfl rfl ?_
  refine g_put (ws' := (dq, .inr (15, [.ref dr, .int (nI dh), .int (nI (incN dt 17))])) :: (dr, .inl (dA 3, 17, .inr (.inr (.inr (.inr (va_up df dt (some v))))))) :: R) X cfJ6 hw 0 2 rfl rfl q335 rfl rfl rfl rfl rfl rfl dJ6_addLast_39 (fun H locs hw => ?_)
  refine lv_icmp_ne (tgt := 50) hx hb dJ6_addLast_42 (by decide) (fun c_3 => ?_) (fun c_3 => absurd c_3 (fun q => hne ((nI_eq (a := dh) (b := incN dt 17) (by omega) (by unfold incN; split <;> omega)).mp q)))
  exact g_vret () X hw hr hlocks trivial rfl dJ6_addLast_50

set_option maxHeartbeats 4000000 in
theorem m_J6_pollFirst (l : Launch) (D : va_G) (dA : Nat → ClassId) (A : Nat → Prop) (E : State → Prop) (hE : gSt A E) (R : va_W) (dq dr dh dt : Nat) (df : Nat → Option Nat) (hdh : dh < 17) (hdt : dt < 17) (x : Nat) (hx2 : df dh = some x) : Met l yJ6_pollFirst (ws_ yJ6_pollFirst cJ6_pollFirst 4 (Option.some (FieldType.object "java/lang/Object"))) ({ frames := 1, cells := 0, slots := 0, locals := 21 }) (va_Pc [.ref dq] (gB D dA A E ((dq, .inr (15, [.ref dr, .int (nI dh), .int (nI dt)])) :: (dr, .inl (dA 3, 17, .inr (.inr (.inr (.inr df))))) :: R))) (va_Qr (fun (_ : Unit) => True) (fun _ a t => a = x ∧ gE D A ((dq, .inr (15, [.ref dr, .int (nI (incN dh 17)), .int (nI dt)])) :: (dr, .inl (dA 3, 17, .inr (.inr (.inr (.inr (va_up df dh none)))))) :: R) t) A) (0) (0) A := by
  refine g_start rfl rfl ?_
  intro p e s m args below meth c ls X hr hlocks hin hw hl
  have hx := X.1.1
  have hb := X.1.2.1
  have hl : lv_has ls 4 [(0, .ref dq)] := hl
  refine lv_aload_n hx hb dJ6_pollFirst_0 rfl (lv_at hl 0 rfl) ?_
  refine g_get X cfJ6 hw 0 0 rfl rfl q333 rfl rfl dJ6_pollFirst_1 ?_
  refine lv_dup hx hb dJ6_pollFirst_4 rfl ?_
  refine lv_astore_n (lv' := [(1, .ref dr), (0, .ref dq)]) hx hb dJ6_pollFirst_5 rfl hl (by decide) rfl (fun ls hl => ?_)
  refine lv_aload_n hx hb dJ6_pollFirst_6 rfl (lv_at hl 1 rfl) ?_
  refine g_get X cfJ6 hw 0 1 rfl rfl q334 rfl rfl dJ6_pollFirst_7 ?_
  refine lv_dup hx hb dJ6_pollFirst_10 rfl ?_
  refine lv_istore_n (lv' := [(2, .int (nI dh)), (1, .ref dr), (0, .ref dq)]) hx hb dJ6_pollFirst_11 rfl hl (by decide) rfl (fun ls hl => ?_)
  have hw : gW D A ((dr, .inl (dA 3, 17, .inr (.inr (.inr (.inr df))))) :: (dq, .inr (15, [.ref dr, .int (nI dh), .int (nI dt)])) :: R) s _ _ := g_perm (X := [(dq, .inr (15, [.ref dr, .int (nI dh), .int (nI dt)])), (dr, .inl (dA 3, 17, .inr (.inr (.inr (.inr df)))))]) (cx := [(dr, .inl (dA 3, 17, .inr (.inr (.inr (.inr df))))), (dq, .inr (15, [.ref dr, .int (nI dh), .int (nI dt)]))]) (pl := R) hw [1, 0] rfl rfl rfl rfl
  refine va_callr (va_runS (As := [.ref dr, .int (nI dh)]) (rest := []) X.1 (m_J6_elementAt l D dA A E hE ((dq, .inr (15, [.ref dr, .int (nI dh), .int (nI dt)])) :: R) dr dh df x (by first | assumption | omega) hx2) (va_cwS 2 X.1.2.2.2.2 (lw_S q765 q766 q75 q767) rfl rfl rfl (by decide +kernel) ⟨Nat.le_of_ble_eq_true rfl, Nat.le_of_ble_eq_true rfl⟩) (g_preS hE X.2 hw) rfl rfl hl.1 rfl (lv_room (Nat.le_of_ble_eq_true rfl)) dJ6_pollFirst_12 ⟨Nat.le_of_ble_eq_true rfl, Nat.le_of_ble_eq_true rfl⟩) hw.2.2 (fun q _ h => h) (fun q h => h) (fun u q_2 t H locs ht hvm h_1 hB hz9 hk9 hS => ?_)
  obtain ⟨er_q_2, hB⟩ := hB
  obtain rfl := er_q_2.symm
  have hw : gW D A ((dr, .inl (dA 3, 17, .inr (.inr (.inr (.inr df))))) :: (dq, .inr (15, [.ref dr, .int (nI dh), .int (nI dt)])) :: R) s H locs := g_aft ht hB hS
  refine lv_astore_n (lv' := [(3, .ref x), (2, .int (nI dh)), (1, .ref dr), (0, .ref dq)]) hx hb dJ6_pollFirst_15 rfl hl (by decide) rfl (fun ls hl => ?_)
  refine lv_aload_n hx hb dJ6_pollFirst_16 rfl (lv_at hl 0 rfl) ?_
  refine lv_ifnull hx hb dJ6_pollFirst_17 ?_
  refine lv_aload_n hx hb dJ6_pollFirst_20 rfl (lv_at hl 2 rfl) ?_
  refine lv_iload_n hx hb dJ6_pollFirst_21 rfl (lv_at hl 1 rfl) ?_
  refine lv_null hx hb dJ6_pollFirst_22 ?_
  refine g_aastN (ws' := (dr, .inl (dA 3, 17, .inr (.inr (.inr (.inr (va_up df dh none)))))) :: (dq, .inr (15, [.ref dr, .int (nI dh), .int (nI dt)])) :: R) X hw 0 rfl (i := dh) (by omega) (by first | decide | omega) rfl dJ6_pollFirst_23 (fun H locs hw => ?_)
  refine lv_aload_n hx hb dJ6_pollFirst_24 rfl (lv_at hl 3 rfl) ?_
  refine lv_iload_n hx hb dJ6_pollFirst_25 rfl (lv_at hl 1 rfl) ?_
  refine lv_aload_n hx hb dJ6_pollFirst_26 rfl (lv_at hl 2 rfl) ?_
  refine g_alen X hw 0 3 rfl rfl dJ6_pollFirst_27 ?_
  refine va_calli (va_runS (As := [.int (nI dh), .int 17]) (rest := [.ref dq]) X.1 (m_J6_inc l D dA A E hE ((dr, .inl (dA 3, 17, .inr (.inr (.inr (.inr (va_up df dh none)))))) :: (dq, .inr (15, [.ref dr, .int (nI dh), .int (nI dt)])) :: R) dh 17 (by first | assumption | omega) (by first | assumption | omega)) (va_cwS 2 X.1.2.2.2.2 (lw_S q735 q736 q75 q737) rfl rfl rfl (by decide +kernel) ⟨Nat.le_of_ble_eq_true rfl, Nat.le_of_ble_eq_true rfl⟩) (g_preS hE X.2 hw) rfl rfl hl.1 rfl (lv_room (Nat.le_of_ble_eq_true rfl)) dJ6_pollFirst_28 ⟨Nat.le_of_ble_eq_true rfl, Nat.le_of_ble_eq_true rfl⟩) hw.2.2 (fun q _ h => h) (fun q h => h) (fun r_4 u t H locs ht hvm h_3 hB hz9 hk9 hS => ?_)
  have hw : gW D A ((dr, .inl (dA 3, 17, .inr (.inr (.inr (.inr (va_up df dh none)))))) :: (dq, .inr (15, [.ref dr, .int (nI dh), .int (nI dt)])) :: R) s H locs := g_aft ht hB hS
  obtain rfl : r_4 = nI (incN dh 17) := h_3
  refine g_put (ws' := (dr, .inl (dA 3, 17, .inr (.inr (.inr (.inr (va_up df dh none)))))) :: (dq, .inr (15, [.ref dr, .int (nI (incN dh 17)), .int (nI dt)])) :: R) X cfJ6 hw 1 1 rfl rfl q334 rfl rfl rfl rfl rfl rfl dJ6_pollFirst_31 (fun H locs hw => ?_)
  refine lv_aload_n hx hb dJ6_pollFirst_34 rfl (lv_at hl 0 rfl) ?_
  have hw : gW D A ((dq, .inr (15, [.ref dr, .int (nI (incN dh 17)), .int (nI dt)])) :: (dr, .inl (dA 3, 17, .inr (.inr (.inr (.inr (va_up df dh none)))))) :: R) s _ _ := g_perm (X := [(dr, .inl (dA 3, 17, .inr (.inr (.inr (.inr (va_up df dh none)))))), (dq, .inr (15, [.ref dr, .int (nI (incN dh 17)), .int (nI dt)]))]) (cx := [(dq, .inr (15, [.ref dr, .int (nI (incN dh 17)), .int (nI dt)])), (dr, .inl (dA 3, 17, .inr (.inr (.inr (.inr (va_up df dh none))))))]) (pl := R) hw [1, 0] rfl rfl rfl rfl
  exact g_aretK (ad := fun _ => x) () X hw hr (Or.inl ⟨_, rfl⟩) hlocks trivial (rfl) rfl dJ6_pollFirst_35

set_option maxHeartbeats 4000000 in
theorem m_J6_removeFirst (l : Launch) (D : va_G) (dA : Nat → ClassId) (A : Nat → Prop) (E : State → Prop) (hE : gSt A E) (R : va_W) (dq dr dh dt : Nat) (df : Nat → Option Nat) (hdh : dh < 17) (hdt : dt < 17) (x : Nat) (hx2 : df dh = some x) : Met l yJ6_removeFirst (ws_ yJ6_removeFirst cJ6_removeFirst 2 (Option.some (FieldType.object "java/lang/Object"))) ({ frames := 2, cells := 0, slots := 0, locals := 44 }) (va_Pc [.ref dq] (gB D dA A E ((dq, .inr (15, [.ref dr, .int (nI dh), .int (nI dt)])) :: (dr, .inl (dA 3, 17, .inr (.inr (.inr (.inr df))))) :: R))) (va_Qr (fun (_ : Unit) => True) (fun _ a t => a = x ∧ gE D A ((dq, .inr (15, [.ref dr, .int (nI (incN dh 17)), .int (nI dt)])) :: (dr, .inl (dA 3, 17, .inr (.inr (.inr (.inr (va_up df dh none)))))) :: R) t) A) (0) (0) A := by
  refine g_start rfl rfl ?_
  intro p e s m args below meth c ls X hr hlocks hin hw hl
  have hx := X.1.1
  have hb := X.1.2.1
  have hl : lv_has ls 2 [(0, .ref dq)] := hl
  refine lv_aload_n hx hb dJ6_removeFirst_0 rfl (lv_at hl 0 rfl) ?_
  refine va_callr (va_runV (As := []) (rest := []) X.1 (m_J6_pollFirst l D dA A E hE R dq dr dh dt df (by first | assumption | omega) (by first | assumption | omega) x hx2) (cwV 0 X.1.2.2.2.2 (lw_V q761 q762 q763 q75 q764) rfl rfl rfl (by decide +kernel) ⟨Nat.le_of_ble_eq_true rfl, Nat.le_of_ble_eq_true rfl⟩) (g_preV hE X.2 hw 0 rfl rfl) rfl rfl hl.1 rfl (lv_room (Nat.le_of_ble_eq_true rfl)) dJ6_removeFirst_1 ⟨Nat.le_of_ble_eq_true rfl, Nat.le_of_ble_eq_true rfl⟩) hw.2.2 (fun q _ h => h) (fun q h => h) (fun u q_2 t H locs ht hvm h_1 hB hz9 hk9 hS => ?_)
  obtain ⟨er_q_2, hB⟩ := hB
  obtain rfl := er_q_2.symm
  have hw : gW D A ((dq, .inr (15, [.ref dr, .int (nI (incN dh 17)), .int (nI dt)])) :: (dr, .inl (dA 3, 17, .inr (.inr (.inr (.inr (va_up df dh none)))))) :: R) s H locs := g_aft ht hB hS
  refine lv_astore_n (lv' := [(1, .ref x), (0, .ref dq)]) hx hb dJ6_removeFirst_4 rfl hl (by decide) rfl (fun ls hl => ?_)
  refine lv_aload_n hx hb dJ6_removeFirst_5 rfl (lv_at hl 0 rfl) ?_
  refine lv_ifnonnull (tgt := 17) hx hb dJ6_removeFirst_6 (by decide) ?_
  refine lv_aload_n hx hb dJ6_removeFirst_17 rfl (lv_at hl 0 rfl) ?_
  exact g_aretK (ad := fun _ => x) () X hw hr (Or.inl ⟨_, rfl⟩) hlocks trivial (rfl) rfl dJ6_removeFirst_18
