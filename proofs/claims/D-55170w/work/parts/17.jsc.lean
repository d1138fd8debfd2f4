set_option maxHeartbeats 4000000 in
theorem m_J7_init (l : Launch) (D : va_G) (dA : Nat → ClassId) (A : Nat → Prop) (E : State → Prop) (hE : gSt A E) (R : va_W) (kA : Nat → Nat) (hKE : gKE A E kA) (o n : Nat) (hn : n ≤ 500) : Met l yJ7_init (ws_ yJ7_init cJ7_init 2 (Option.none : Option FieldType)) ({ frames := 1, cells := 1, slots := n, locals := 12 }) (va_Pc [.ref o, .int (nI n)] (gB D dA A E ((o, .inr (16, [.null, .int 0, .int 0, .int 0])) :: R))) (va_Qv (fun (u : Nat) => True) (fun u => gE D A ((o, .inr (16, [.ref u, .int 0, .int 0, .int 0])) :: (u, .inl (dA 2, n, .inl (fun _ => 0))) :: R)) A) (1) (n) A := by
  refine g_start rfl rfl ?_
  intro p e s m args below meth c ls X hr hlocks hin hw hl
  have hx := X.1.1
  have hb := X.1.2.1
  have hl : lv_has ls 2 [(0, .ref o), (1, .int (nI n))] := hl
  refine lv_aload_n hx hb dJ7_init_0 rfl (lv_at hl 0 rfl) ?_
  refine W.objInit hx hb X.1.2.2.2.1 (X.1.2.2.2.2 _ q353) (X.1.2.2.2.2 _ q109) (X.1.2.2.2.2 _ q110) rfl (by rw [X.1.2.2.1]; exact hl.1) rfl dJ7_init_1 (Nat.le_of_ble_eq_true rfl) (Nat.le_of_ble_eq_true rfl) ?_
  refine W.eq (g2 := F0 m 4 ls []) rfl ?_
  refine g_gets X hw (hKE s X.2.2.2.1).2.2.1 q354 rfl dJ7_init_4 ?_
  refine lv_if_eq (tgt := 25) hx hb dJ7_init_7 (by decide) (fun c_1 => absurd c_1 (by decide)) (fun c_1 => ?_)
  refine lv_aload_n hx hb dJ7_init_10 rfl (lv_at hl 0 rfl) ?_
  refine lv_iload_n hx hb dJ7_init_11 rfl (lv_at hl 1 rfl) ?_
  refine g_newi (atype := .byte) (ty := .byte) (N' := n) X hw 2 rfl rfl ⟨fun _ h => (by cases h), fun _ => rfl⟩ q377 rfl (by first | decide | omega) (Nat.le_of_ble_eq_true rfl) (by dsimp only; omega) (by first | decide | (simp only [componentBytes]; omega)) dJ7_init_12 (fun q_2 H hw => ?_)
  refine g_put (ws' := (q_2, .inl (dA 2, n, .inl (fun _ => 0))) :: (o, .inr (16, [.ref q_2, .int 0, .int 0, .int 0])) :: R) X cfJ8 hw 1 0 rfl rfl q363 rfl rfl rfl rfl rfl rfl dJ7_init_14 (fun H locs hw => ?_)
  refine lv_aload_n hx hb dJ7_init_17 rfl (lv_at hl 0 rfl) ?_
  refine lv_iconst (v := 0) hx hb dJ7_init_18 (by decide) ?_
  refine g_put (ws' := (q_2, .inl (dA 2, n, .inl (fun _ => 0))) :: (o, .inr (16, [.ref q_2, .int 0, .int 0, .int 0])) :: R) X cfJ8 hw 1 1 rfl rfl q364 rfl rfl rfl rfl rfl rfl dJ7_init_19 (fun H locs hw => ?_)
  refine lv_goto (tgt := 38) hx hb dJ7_init_22 (by decide) ?_
  refine W.widen (k := 1) (n := n) (by first | exact Nat.le_of_ble_eq_true rfl | omega) (by first | exact Nat.le_of_ble_eq_true rfl | omega) ?_
  have hw : gW D A ((o, .inr (16, [.ref q_2, .int 0, .int 0, .int 0])) :: (q_2, .inl (dA 2, n, .inl (fun _ => 0))) :: R) s _ _ := g_perm (X := [(q_2, .inl (dA 2, n, .inl (fun _ => 0))), (o, .inr (16, [.ref q_2, .int 0, .int 0, .int 0]))]) (cx := [(o, .inr (16, [.ref q_2, .int 0, .int 0, .int 0])), (q_2, .inl (dA 2, n, .inl (fun _ => 0)))]) (pl := R) hw [1, 0] rfl rfl rfl rfl
  exact g_vret q_2 X hw hr hlocks trivial rfl dJ7_init_38

set_option maxHeartbeats 4000000 in
theorem m_J8_init (l : Launch) (D : va_G) (dA : Nat → ClassId) (A : Nat → Prop) (E : State → Prop) (hE : gSt A E) (R : va_W) (kA : Nat → Nat) (hKE : gKE A E kA) (o : Nat) : Met l yJ8_init (ws_ yJ8_init cJ8_init 1 (Option.none : Option FieldType)) ({ frames := 2, cells := 1, slots := 16, locals := 33 }) (va_Pc [.ref o] (gB D dA A E ((o, .inr (16, [.null, .int 0, .int 0, .int 0])) :: R))) (va_Qv (fun (u : Nat) => True) (fun u => gE D A ((o, .inr (16, [.ref u, .int 0, .int 0, .int 0])) :: (u, .inl (dA 2, 16, .inl (fun _ => 0))) :: R)) A) (1) (16) A := by
  refine g_start rfl rfl ?_
  intro p e s m args below meth c ls X hr hlocks hin hw hl
  have hx := X.1.1
  have hb := X.1.2.1
  have hl : lv_has ls 1 [(0, .ref o)] := hl
  refine lv_aload_n hx hb dJ8_init_0 rfl (lv_at hl 0 rfl) ?_
  refine lv_bipush (v := 16) hx hb dJ8_init_1 (by decide) ?_
  refine va_callv (va_runI (As := [.int 16]) (rest := []) X.1 (m_J7_init l D dA A E hE R kA (by first | assumption | omega) o 16 (by first | assumption | omega)) (cwI 1 X.1.2.2.2.2 (lw_meth q352) rfl rfl rfl (X.1.2.2.2.2 _ q76) (X.1.2.2.2.2 _ q350) (X.1.2.2.2.2 _ q351) rfl (by decide +kernel) ⟨Nat.le_of_ble_eq_true rfl, Nat.le_of_ble_eq_true rfl⟩) (g_preS hE X.2 hw) rfl rfl hl.1 rfl (lv_room (Nat.le_of_ble_eq_true rfl)) dJ8_init_3 ⟨Nat.le_of_ble_eq_true rfl, Nat.le_of_ble_eq_true rfl⟩) hw.2.2 (fun q _ h => h) (fun q h => h) (fun u t H locs ht hvm h_1 hB hz9 hk9 hS => ?_)
  obtain ⟨u_2, rfl⟩ : ∃ z, z = u := ⟨_, rfl⟩
  have hw : gW D A ((o, .inr (16, [.ref u_2, .int 0, .int 0, .int 0])) :: (u_2, .inl (dA 2, 16, .inl (fun _ => 0))) :: R) s H locs := g_aft ht hB hS
  exact g_vret u_2 X hw hr hlocks trivial rfl dJ8_init_6

set_option maxHeartbeats 4000000 in
theorem m_J8_append_3 (l : Launch) (D : va_G) (dA : Nat → ClassId) (A : Nat → Prop) (E : State → Prop) (hE : gSt A E) (R : va_W) (kA : Nat → Nat) (hKE : gKE A E kA) (sa sb sn : Nat) (sf : gG) (hs : gTxt dA E R sa sb sn sf) (o ob oc on : Nat) (ml : Int32) (of : gG) (hon : on ≤ oc) (hoc : oc ≤ 262) (hof : gAsc of oc) (hn : on + sn ≤ 130) : Met l yJ8_append_3 (ws_ yJ8_append_3 cJ8_append_3 2 (Option.some (FieldType.object "java/lang/AbstractStringBuilder"))) ({ frames := 6, cells := 1, slots := 262, locals := 128 }) (va_Pc [.ref o, .ref sa] (gB D dA A E ((o, .inr (16, [.ref ob, .int 0, .int ml, .int (nI on)])) :: (ob, .inl (dA 2, oc, .inl of)) :: R))) (va_Qr (fun (u : Nat × Nat × gG) => on + sn ≤ u.2.1 ∧ u.2.1 ≤ 262 ∧ gAsc u.2.2 u.2.1 ∧ (∀ k, k < on → u.2.2 k = of k) ∧ ∀ k, k < sn → u.2.2 (on + k) = sf k) (fun u a t => a = o ∧ gE D A ((o, .inr (16, [.ref u.1, .int 0, .int ml, .int (nI (on + sn))])) :: (u.1, .inl (dA 2, u.2.1, .inl u.2.2)) :: R) t) A) (1) (262) A := by
  refine g_start rfl rfl ?_
  intro p e s m args below meth c ls X hr hlocks hin hw hl
  have hx := X.1.1
  have hb := X.1.2.1
  have hl : lv_has ls 2 [(0, .ref o), (1, .ref sa)] := hl
  refine lv_aload_n hx hb dJ8_append_3_0 rfl (lv_at hl 0 rfl) ?_
  refine lv_aload_n hx hb dJ8_append_3_1 rfl (lv_at hl 1 rfl) ?_
  refine va_callr (va_runV (As := [.ref sa]) (rest := []) X.1 (m_J8_append_2 l D dA A E hE R kA (by first | assumption | omega) sa sb sn sf (hs.mono (fun q h => h)) o ob oc on ml of (by first | assumption | omega) (by first | assumption | omega) (by first | assumption | omega) (by first | assumption | omega)) (cwV 1 X.1.2.2.2.2 (lw_V q1687 q1295 q1296 q77 q1297) rfl rfl rfl (by decide +kernel) ⟨Nat.le_of_ble_eq_true rfl, Nat.le_of_ble_eq_true rfl⟩) (g_preV hE X.2 hw 0 rfl rfl) rfl rfl hl.1 rfl (lv_room (Nat.le_of_ble_eq_true rfl)) dJ8_append_3_2 ⟨Nat.le_of_ble_eq_true rfl, Nat.le_of_ble_eq_true rfl⟩) hw.2.2 (fun q _ h => h) (fun q h => h) (fun u q_2 t H locs ht hvm h_1 hB hz9 hk9 hS => ?_)
  obtain ⟨cb_3, cc_4, cf_5⟩ := u
  obtain ⟨er_q_2, hB⟩ := hB
  obtain rfl := er_q_2.symm
  have hw : gW D A ((o, .inr (16, [.ref cb_3, .int 0, .int ml, .int (nI (on + sn))])) :: (cb_3, .inl (dA 2, cc_4, .inl cf_5)) :: R) s H locs := g_aft ht hB hS
  have h_1 : on + sn ≤ cc_4 ∧ cc_4 ≤ 262 ∧ gAsc cf_5 cc_4 ∧ (∀ k, k < on → cf_5 k = of k) ∧ ∀ k, k < sn → cf_5 (on + k) = sf k := h_1
  exact g_aretK (ad := fun u => o) (cb_3, cc_4, cf_5) X hw hr (Or.inl ⟨_, rfl⟩) hlocks (by exact h_1) (rfl) rfl dJ8_append_3_5

set_option maxHeartbeats 4000000 in
theorem m_J7_init_2 (l : Launch) (D : va_G) (dA : Nat → ClassId) (A : Nat → Prop) (E : State → Prop) (hE : gSt A E) (R : va_W) (kA : Nat → Nat) (hKE : gKE A E kA) (sa sb sn : Nat) (sf : gG) (hs : gTxt dA E R sa sb sn sf) (o : Nat) (hn : sn ≤ 100) : Met l yJ7_init_2 (ws_ yJ7_init_2 cJ7_init_2 5 (Option.none : Option FieldType)) ({ frames := 7, cells := 2, slots := 400, locals := 149 }) (va_Pc [.ref o, .ref sa] (gB D dA A E ((o, .inr (16, [.null, .int 0, .int 0, .int 0])) :: R))) (va_Qv (fun (u : Nat × Nat × gG) => sn ≤ u.2.1 ∧ u.2.1 ≤ 262 ∧ gAsc u.2.2 u.2.1 ∧ ∀ k, k < sn → u.2.2 k = sf k) (fun u => gE D A ((o, .inr (16, [.ref u.1, .int 0, .int 0, .int (nI sn)])) :: (u.1, .inl (dA 2, u.2.1, .inl u.2.2)) :: R)) A) (2) (400) A := by
  refine g_start rfl rfl ?_
  intro p e s m args below meth c ls X hr hlocks hin hw hl
  have hx := X.1.1
  have hb := X.1.2.1
  have hl : lv_has ls 5 [(0, .ref o), (1, .ref sa)] := hl
  refine lv_aload_n hx hb dJ7_init_2_0 rfl (lv_at hl 0 rfl) ?_
  refine W.objInit hx hb X.1.2.2.2.1 (X.1.2.2.2.2 _ q353) (X.1.2.2.2.2 _ q109) (X.1.2.2.2.2 _ q110) rfl (by rw [X.1.2.2.1]; exact hl.1) rfl dJ7_init_2_1 (Nat.le_of_ble_eq_true rfl) (Nat.le_of_ble_eq_true rfl) ?_
  refine W.eq (g2 := F0 m 4 ls []) rfl ?_
  refine lv_aload_n hx hb dJ7_init_2_4 rfl (lv_at hl 1 rfl) ?_
  refine va_calli (va_runV (As := []) (rest := []) X.1 (m_J9_length l D dA A E hE ((o, .inr (16, [.null, .int 0, .int 0, .int 0])) :: R) kA (by first | assumption | omega) sa sb sn sf (hs.mono (fun q h => List.mem_cons_of_mem _ h))) (cwV 0 X.1.2.2.2.2 (lw_V q1317 q1247 q2228 q78 q1249) rfl rfl rfl (by decide +kernel) ⟨Nat.le_of_ble_eq_true rfl, Nat.le_of_ble_eq_true rfl⟩) (g_preR hE X.2 hw (gTxt.at hE X hw hs (fun q h => List.mem_cons_of_mem _ h)).1) rfl rfl hl.1 rfl (lv_room (Nat.le_of_ble_eq_true rfl)) dJ7_init_2_5 ⟨Nat.le_of_ble_eq_true rfl, Nat.le_of_ble_eq_true rfl⟩) hw.2.2 (fun q _ h => h) (fun q h => h) (fun r_3 u t H locs ht hvm h_2 hB hz9 hk9 hS => ?_)
  have hw : gW D A ((o, .inr (16, [.null, .int 0, .int 0, .int 0])) :: R) s H locs := g_aft ht hB hS
  obtain rfl : r_3 = nI sn := h_2
  refine lv_istore_n (lv' := [(2, .int (nI sn)), (0, .ref o), (1, .ref sa)]) hx hb dJ7_init_2_8 rfl hl (by decide) rfl (fun ls hl => ?_)
  refine lv_iload_n hx hb dJ7_init_2_9 rfl (lv_at hl 0 rfl) ?_
  refine lv_ldc (v := 2147483631) hx hb X.1.2.2.2.1 (X.1.2.2.2.2 _ q1683) dJ7_init_2_10 ?_
  refine lv_icmp_ge (tgt := 22) hx hb dJ7_init_2_12 (by decide) (fun c_4 => absurd c_4 (nI_ge (a := sn) (b := 2147483631) (by omega) (by omega))) (fun c_4 => ?_)
  refine lv_iload_n hx hb dJ7_init_2_15 rfl (lv_at hl 0 rfl) ?_
  refine lv_bipush (v := 16) hx hb dJ7_init_2_16 (by decide) ?_
  refine lv_iadd hx hb dJ7_init_2_18 ?_
  refine g_addN (a := sn) (b := 16) ?_
  refine lv_goto (tgt := 24) hx hb dJ7_init_2_19 (by decide) ?_
  refine lv_istore_n (lv' := [(3, .int (nI (sn + 16))), (2, .int (nI sn)), (0, .ref o), (1, .ref sa)]) hx hb dJ7_init_2_24 rfl hl (by decide) rfl (fun ls hl => ?_)
  refine lv_aload_n hx hb dJ7_init_2_25 rfl (lv_at hl 3 rfl) ?_
  refine va_calli (va_runV (As := []) (rest := []) X.1 (m_J9_coder l D dA A E hE ((o, .inr (16, [.null, .int 0, .int 0, .int 0])) :: R) kA (by first | assumption | omega) sa sb sn sf (hs.mono (fun q h => List.mem_cons_of_mem _ h))) (cwV 0 X.1.2.2.2.2 (lw_V q1326 q1251 q1252 q78 q1253) rfl rfl rfl (by decide +kernel) ⟨Nat.le_of_ble_eq_true rfl, Nat.le_of_ble_eq_true rfl⟩) (g_preR hE X.2 hw (gTxt.at hE X hw hs (fun q h => List.mem_cons_of_mem _ h)).1) rfl rfl hl.1 rfl (lv_room (Nat.le_of_ble_eq_true rfl)) dJ7_init_2_26 ⟨Nat.le_of_ble_eq_true rfl, Nat.le_of_ble_eq_true rfl⟩) hw.2.2 (fun q _ h => h) (fun q h => h) (fun r_7 u t H locs ht hvm h_6 hB hz9 hk9 hS => ?_)
  have hw : gW D A ((o, .inr (16, [.null, .int 0, .int 0, .int 0])) :: R) s H locs := g_aft ht hB hS
  obtain rfl : r_7 = 0 := h_6
  refine lv_istore (lv' := [(4, .int 0), (3, .int (nI (sn + 16))), (2, .int (nI sn)), (0, .ref o), (1, .ref sa)]) hx hb dJ7_init_2_29 hl (by decide) rfl (fun ls hl => ?_)
  refine lv_aload_n hx hb dJ7_init_2_31 rfl (lv_at hl 3 rfl) ?_
  refine lv_iload hx hb dJ7_init_2_32 (lv_at hl 0 rfl) ?_
  refine g_put (ws' := (o, .inr (16, [.null, .int 0, .int 0, .int 0])) :: R) X cfJ8 hw 0 1 rfl rfl q364 rfl rfl rfl rfl rfl rfl dJ7_init_2_34 (fun H locs hw => ?_)
  refine lv_aload_n hx hb dJ7_init_2_37 rfl (lv_at hl 3 rfl) ?_
  refine lv_iload hx hb dJ7_init_2_38 (lv_at hl 0 rfl) ?_
  refine lv_if_ne (tgt := 49) hx hb dJ7_init_2_40 (by decide) (fun c_8 => absurd (by decide) c_8) (fun c_8 => ?_)
  refine lv_iload_n hx hb dJ7_init_2_43 rfl (lv_at hl 1 rfl) ?_
  refine g_newi (atype := .byte) (ty := .byte) (N' := sn + 16) X hw 2 rfl rfl ⟨fun _ h => (by cases h), fun _ => rfl⟩ q377 rfl (by first | decide | omega) (Nat.le_of_ble_eq_true rfl) (by dsimp only; omega) (by first | decide | (simp only [componentBytes]; omega)) dJ7_init_2_44 (fun q_9 H hw => ?_)
  refine lv_goto (tgt := 53) hx hb dJ7_init_2_46 (by decide) ?_
  refine g_put (ws' := (q_9, .inl (dA 2, sn + 16, .inl (fun _ => 0))) :: (o, .inr (16, [.ref q_9, .int 0, .int 0, .int 0])) :: R) X cfJ8 hw 1 0 rfl rfl q363 rfl rfl rfl rfl rfl rfl dJ7_init_2_53 (fun H locs hw => ?_)
  refine lv_aload_n hx hb dJ7_init_2_56 rfl (lv_at hl 3 rfl) ?_
  refine lv_aload_n hx hb dJ7_init_2_57 rfl (lv_at hl 4 rfl) ?_
  have hof : gAsc (fun _ => (0 : Int32)) (sn + 16) := asc_0
  have hw : gW D A ((o, .inr (16, [.ref q_9, .int 0, .int 0, .int 0])) :: (q_9, .inl (dA 2, sn + 16, .inl (fun _ => 0))) :: R) s _ _ := g_perm (X := [(q_9, .inl (dA 2, sn + 16, .inl (fun _ => 0))), (o, .inr (16, [.ref q_9, .int 0, .int 0, .int 0]))]) (cx := [(o, .inr (16, [.ref q_9, .int 0, .int 0, .int 0])), (q_9, .inl (dA 2, sn + 16, .inl (fun _ => 0)))]) (pl := R) hw [1, 0] rfl rfl rfl rfl
  refine va_callr (va_runU (As := [.ref sa]) (rest := []) X.1 (m_J8_append_3 l D dA A E hE R kA (by first | assumption | omega) sa sb sn sf (hs.mono (fun q h => h)) o q_9 (sn + 16) 0 0 (fun _ => 0) (by first | assumption | omega) (by first | assumption | omega) (by first | assumption | omega) (by first | assumption | omega)) (va_cwO 1 X.1.2.2.2.2 (lw_app (lw_in6 q1684 q2226 q1299 q2233 q1685 q77) (lw_meth q1686)) rfl rfl rfl q1300 (by decide +kernel) ⟨Nat.le_of_ble_eq_true rfl, Nat.le_of_ble_eq_true rfl⟩) (g_preV hE X.2 hw 0 rfl rfl) rfl rfl hl.1 rfl (lv_room (Nat.le_of_ble_eq_true rfl)) dJ7_init_2_58 ⟨by dsimp only; omega, by dsimp only; omega⟩) hw.2.2 (fun q _ h => h) (fun q h => h) (fun u q_11 t H locs ht hvm h_10 hB hz9 hk9 hS => ?_)
  obtain ⟨cb_12, cc_13, cf_14⟩ := u
  obtain ⟨er_q_11, hB⟩ := hB
  obtain rfl := er_q_11.symm
  have hw : gW D A ((o, .inr (16, [.ref cb_12, .int 0, .int 0, .int (nI (0 + sn))])) :: (cb_12, .inl (dA 2, cc_13, .inl cf_14)) :: R) s H locs := g_aft ht hB hS
  have h_10 : 0 + sn ≤ cc_13 ∧ cc_13 ≤ 262 ∧ gAsc cf_14 cc_13 ∧ (∀ k, k < 0 → cf_14 k = (fun _ => 0) k) ∧ ∀ k, k < sn → cf_14 (0 + k) = sf k := h_10
  refine lv_pop hx hb dJ7_init_2_61 rfl ?_
  refine W.widen (k := 2) (n := 400) (by first | exact Nat.le_of_ble_eq_true rfl | omega) (by first | exact Nat.le_of_ble_eq_true rfl | omega) ?_
  have hw : gW D A ((o, .inr (16, [.ref cb_12, .int 0, .int 0, .int (nI sn)])) :: (cb_12, .inl (dA 2, cc_13, .inl cf_14)) :: R) s _ _ := g_ws hw (by simp)
  exact g_vret (cb_12, cc_13, cf_14) X hw hr hlocks (by exact ⟨by have := h_10.1; simp at this; exact this, h_10.2.1, h_10.2.2.1, fun k hk => by have := h_10.2.2.2.2 k hk; rw [Nat.zero_add] at this; exact this⟩) rfl dJ7_init_2_62

set_option maxHeartbeats 4000000 in
theorem m_J8_init_2 (l : Launch) (D : va_G) (dA : Nat → ClassId) (A : Nat → Prop) (E : State → Prop) (hE : gSt A E) (R : va_W) (kA : Nat → Nat) (hKE : gKE A E kA) (sa sb sn : Nat) (sf : gG) (hs : gTxt dA E R sa sb sn sf) (o : Nat) (hn : sn ≤ 100) : Met l yJ8_init_2 (ws_ yJ8_init_2 cJ8_init_2 2 (Option.none : Option FieldType)) ({ frames := 8, cells := 2, slots := 400, locals := 173 }) (va_Pc [.ref o, .ref sa] (gB D dA A E ((o, .inr (16, [.null, .int 0, .int 0, .int 0])) :: R))) (va_Qv (fun (u : Nat × Nat × gG) => sn ≤ u.2.1 ∧ u.2.1 ≤ 262 ∧ gAsc u.2.2 u.2.1 ∧ ∀ k, k < sn → u.2.2 k = sf k) (fun u => gE D A ((o, .inr (16, [.ref u.1, .int 0, .int 0, .int (nI sn)])) :: (u.1, .inl (dA 2, u.2.1, .inl u.2.2)) :: R)) A) (2) (400) A := by
  refine g_start rfl rfl ?_
  intro p e s m args below meth c ls X hr hlocks hin hw hl
  have hx := X.1.1
  have hb := X.1.2.1
  have hl : lv_has ls 2 [(0, .ref o), (1, .ref sa)] := hl
  refine lv_aload_n hx hb dJ8_init_2_0 rfl (lv_at hl 0 rfl) ?_
  refine lv_aload_n hx hb dJ8_init_2_1 rfl (lv_at hl 1 rfl) ?_
  refine va_callv (va_runI (As := [.ref sa]) (rest := []) X.1 (m_J7_init_2 l D dA A E hE R kA (by first | assumption | omega) sa sb sn sf (hs.mono (fun q h => h)) o (by first | assumption | omega)) (cwI 1 X.1.2.2.2.2 (lw_meth q1682) rfl rfl rfl (X.1.2.2.2.2 _ q76) (X.1.2.2.2.2 _ q1680) (X.1.2.2.2.2 _ q1681) rfl (by decide +kernel) ⟨Nat.le_of_ble_eq_true rfl, Nat.le_of_ble_eq_true rfl⟩) (g_preS hE X.2 hw) rfl rfl hl.1 rfl (lv_room (Nat.le_of_ble_eq_true rfl)) dJ8_init_2_2 ⟨Nat.le_of_ble_eq_true rfl, Nat.le_of_ble_eq_true rfl⟩) hw.2.2 (fun q _ h => h) (fun q h => h) (fun u t H locs ht hvm h_1 hB hz9 hk9 hS => ?_)
  obtain ⟨cb_2, cc_3, cf_4⟩ := u
  have hw : gW D A ((o, .inr (16, [.ref cb_2, .int 0, .int 0, .int (nI sn)])) :: (cb_2, .inl (dA 2, cc_3, .inl cf_4)) :: R) s H locs := g_aft ht hB hS
  have h_1 : sn ≤ cc_3 ∧ cc_3 ≤ 262 ∧ gAsc cf_4 cc_3 ∧ ∀ k, k < sn → cf_4 k = sf k := h_1
  exact g_vret (cb_2, cc_3, cf_4) X hw hr hlocks (by exact h_1) rfl dJ8_init_2_5

set_option maxHeartbeats 4000000 in
theorem m_J20_stringSize (l : Launch) (D : va_G) (dA : Nat → ClassId) (A : Nat → Prop) (E : State → Prop) (hE : gSt A E) (R : va_W) (d : Nat) (hd : d < 10) : Met l yJ20_stringSize (ws_ yJ20_stringSize cJ20_stringSize 4 (Option.some FieldType.int)) ({ frames := 0, cells := 0, slots := 0, locals := 0 }) (va_Pc [.int (nI d)] (gB D dA A E (R))) (va_Qi (fun (r : Int32) (_ : Unit) => r = 1) (fun _ => gE D A (R)) A) (0) (0) A := by
  refine g_start rfl rfl ?_
  intro p e s m args below meth c ls X hr hlocks hin hw hl
  have hx := X.1.1
  have hb := X.1.2.1
  have hl : lv_has ls 4 [(0, .int (nI d))] := hl
  refine lv_iconst (v := 1) hx hb dJ20_stringSize_0 (by decide) ?_
  refine lv_istore_n (lv' := [(1, .int 1), (0, .int (nI d))]) hx hb dJ20_stringSize_1 rfl hl (by decide) rfl (fun ls hl => ?_)
  refine lv_iload_n hx hb dJ20_stringSize_2 rfl (lv_at hl 1 rfl) ?_
  refine lv_if_lt (tgt := 11) hx hb dJ20_stringSize_3 (by decide) (fun c_1 => absurd c_1 (nI_pos (by omega))) (fun c_1 => ?_)
  refine lv_iconst (v := 0) hx hb dJ20_stringSize_6 (by decide) ?_
  refine lv_istore_n (lv' := [(1, .int 0), (0, .int (nI d))]) hx hb dJ20_stringSize_7 rfl hl (by decide) rfl (fun ls hl => ?_)
  refine lv_iload_n hx hb dJ20_stringSize_8 rfl (lv_at hl 1 rfl) ?_
  refine lv_ineg hx hb dJ20_stringSize_9 ?_
  refine lv_istore_n (lv' := [(0, .int (-(nI d))), (1, .int 0)]) hx hb dJ20_stringSize_10 rfl hl (by decide) rfl (fun ls hl => ?_)
  refine lv_bipush (v := (-10)) hx hb dJ20_stringSize_11 (by decide) ?_
  refine lv_istore_n (lv' := [(2, .int (-10)), (0, .int (-(nI d))), (1, .int 0)]) hx hb dJ20_stringSize_13 rfl hl (by decide) rfl (fun ls hl => ?_)
  refine lv_iconst (v := 1) hx hb dJ20_stringSize_14 (by decide) ?_
  refine lv_istore_n (lv' := [(3, .int 1), (2, .int (-10)), (0, .int (-(nI d))), (1, .int 0)]) hx hb dJ20_stringSize_15 rfl hl (by decide) rfl (fun ls hl => ?_)
  refine lv_iload_n hx hb dJ20_stringSize_16 rfl (lv_at hl 0 rfl) ?_
  refine lv_bipush (v := 10) hx hb dJ20_stringSize_17 (by decide) ?_
  refine lv_icmp_ge (tgt := 42) hx hb dJ20_stringSize_19 (by decide) (fun c_2 => absurd c_2 (by decide)) (fun c_2 => ?_)
  refine lv_iload_n hx hb dJ20_stringSize_22 rfl (lv_at hl 2 rfl) ?_
  refine lv_iload_n hx hb dJ20_stringSize_23 rfl (lv_at hl 1 rfl) ?_
  refine lv_icmp_le (tgt := 31) hx hb dJ20_stringSize_24 (by decide) (fun c_3 => absurd c_3 ((nI_negd d hd).1)) (fun c_3 => ?_)
  refine lv_iload_n hx hb dJ20_stringSize_27 rfl (lv_at hl 0 rfl) ?_
  refine lv_iload_n hx hb dJ20_stringSize_28 rfl (lv_at hl 3 rfl) ?_
  refine lv_iadd hx hb dJ20_stringSize_29 ?_
  refine g_top (y := 1) (by decide) ?_
  exact g_iret (v := 1) () X hw hr hlocks  rfl rfl dJ20_stringSize_30

set_option maxHeartbeats 4000000 in
theorem m_J20_getChars (l : Launch) (D : va_G) (dA : Nat → ClassId) (A : Nat → Prop) (E : State → Prop) (hE : gSt A E) (R : va_W) (kA : Nat → Nat) (hKE : gKE A E kA) (d : Nat) (hd : d < 10) (ob oc on : Nat) (of : gG) (h1 : on < oc) (h2 : oc ≤ 5000) : Met l yJ20_getChars (ws_ yJ20_getChars cJ20_getChars 7 (Option.some FieldType.int)) ({ frames := 0, cells := 0, slots := 0, locals := 0 }) (va_Pc [.int (nI d), .int (nI (on + 1)), .ref ob] (gB D dA A E ((ob, .inl (dA 2, oc, .inl of)) :: R))) (va_Qi (fun (r : Int32) (_ : Unit) => True) (fun _ => gE D A ((ob, .inl (dA 2, oc, .inl (upd of on (nI (48 + d))))) :: R)) A) (0) (0) A := by
  refine g_start rfl rfl ?_
  intro p e s m args below meth c ls X hr hlocks hin hw hl
  have hx := X.1.1
  have hb := X.1.2.1
  have hl : lv_has ls 7 [(0, .int (nI d)), (1, .int (nI (on + 1))), (2, .ref ob)] := hl
  refine lv_iload_n hx hb dJ20_getChars_0 rfl (lv_at hl 1 rfl) ?_
  refine lv_istore (lv' := [(5, .int (nI (on + 1))), (0, .int (nI d)), (1, .int (nI (on + 1))), (2, .ref ob)]) hx hb dJ20_getChars_1 hl (by decide) rfl (fun ls hl => ?_)
  refine lv_iload_n hx hb dJ20_getChars_3 rfl (lv_at hl 1 rfl) ?_
  refine lv_if_ge (tgt := 11) hx hb dJ20_getChars_4 (by decide) (fun c_1 => ?_) (fun c_1 => absurd (nI_pos' (by omega)) c_1)
  refine lv_iconst (v := 0) hx hb dJ20_getChars_11 (by decide) ?_
  refine lv_istore (lv' := [(6, .int 0), (5, .int (nI (on + 1))), (0, .int (nI d)), (1, .int (nI (on + 1))), (2, .ref ob)]) hx hb dJ20_getChars_12 hl (by decide) rfl (fun ls hl => ?_)
  refine lv_iload hx hb dJ20_getChars_14 (lv_at hl 0 rfl) ?_
  refine lv_if_ne (tgt := 22) hx hb dJ20_getChars_16 (by decide) (fun c_2 => absurd (by decide) c_2) (fun c_2 => ?_)
  refine lv_iload_n hx hb dJ20_getChars_19 rfl (lv_at hl 2 rfl) ?_
  refine lv_ineg hx hb dJ20_getChars_20 ?_
  refine lv_istore_n (lv' := [(0, .int (-(nI d))), (6, .int 0), (5, .int (nI (on + 1))), (1, .int (nI (on + 1))), (2, .ref ob)]) hx hb dJ20_getChars_21 rfl hl (by decide) rfl (fun ls hl => ?_)
  refine lv_iload_n hx hb dJ20_getChars_22 rfl (lv_at hl 0 rfl) ?_
  refine lv_bipush (v := (-100)) hx hb dJ20_getChars_23 (by decide) ?_
  refine lv_icmp_gt (tgt := 72) hx hb dJ20_getChars_25 (by decide) (fun c_3 => ?_) (fun c_3 => absurd ((nI_negd d hd).2.1) c_3)
  refine lv_aload_n hx hb dJ20_getChars_72 rfl (lv_at hl 4 rfl) ?_
  refine lv_iinc (v := (nI (on + 1)) + (-1)) (lv' := [(5, .int ((nI (on + 1)) + (-1))), (0, .int (-(nI d))), (6, .int 0), (1, .int (nI (on + 1))), (2, .ref ob)]) hx hb dJ20_getChars_73 hl (k := 2) rfl rfl (by decide) rfl (fun ls hl => ?_)
  rw [nI_dec] at hl
  have hl : lv_has ls 7 [(5, .int (nI on)), (0, .int (-(nI d))), (6, .int 0), (1, .int (nI (on + 1))), (2, .ref ob)] := hl
  refine lv_iload hx hb dJ20_getChars_76 (lv_at hl 0 rfl) ?_
  refine g_gets X hw (hKE s X.2.2.2.1).2.2.2.2.1.1 q1701 rfl dJ20_getChars_78 ?_
  refine lv_iload_n hx hb dJ20_getChars_81 rfl (lv_at hl 1 rfl) ?_
  refine lv_ineg hx hb dJ20_getChars_82 ?_
  refine g_top (y := nI d) Int32.neg_neg ?_
  refine g_baldR X (hKE _ (gE.now hE X hw)).2.2.2.2.1.2 (i := d) (by first | decide | omega) (by first | decide | omega) dJ20_getChars_83 ?_
  refine g_bast (ws' := (ob, .inl (dA 2, oc, .inl (upd of on (vp_nar .byte (gDig d))))) :: R) X hw 0 rfl (i := on) (by omega) (by first | decide | omega) rfl dJ20_getChars_84 (fun H locs hw => ?_)
  have hw : gW D A ((ob, .inl (dA 2, oc, .inl (upd of on (nI (48 + d))))) :: R) s _ _ := g_ws hw (by rw [(nI_negd d hd).2.2.2])
  refine lv_iload_n hx hb dJ20_getChars_85 rfl (lv_at hl 1 rfl) ?_
  refine lv_bipush (v := (-9)) hx hb dJ20_getChars_86 (by decide) ?_
  refine lv_icmp_ge (tgt := 104) hx hb dJ20_getChars_88 (by decide) (fun c_4 => ?_) (fun c_4 => absurd ((nI_negd d hd).2.2.1) c_4)
  refine lv_iload hx hb dJ20_getChars_104 (lv_at hl 2 rfl) ?_
  refine lv_if_eq (tgt := 118) hx hb dJ20_getChars_106 (by decide) (fun c_5 => ?_) (fun c_5 => absurd (by decide) c_5)
  refine lv_iload hx hb dJ20_getChars_118 (lv_at hl 0 rfl) ?_
  exact g_iret (v := nI on) () X hw hr hlocks  trivial rfl dJ20_getChars_120

set_option maxHeartbeats 4000000 in
theorem m_J7_append_3 (l : Launch) (D : va_G) (dA : Nat → ClassId) (A : Nat → Prop) (E : State → Prop) (hE : gSt A E) (R : va_W) (kA : Nat → Nat) (hKE : gKE A E kA) (o ob oc on : Nat) (ml : Int32) (of : gG) (hon : on ≤ oc) (hoc : oc ≤ 262) (hof : gAsc of oc) (d : Nat) (hd : d < 10) (hn : on < 130) : Met l yJ7_append_3 (ws_ yJ7_append_3 cJ7_append_3 4 (Option.some (FieldType.object "java/lang/AbstractStringBuilder"))) ({ frames := 4, cells := 1, slots := 262, locals := 84 }) (va_Pc [.ref o, .int (nI d)] (gB D dA A E ((o, .inr (16, [.ref ob, .int 0, .int ml, .int (nI on)])) :: (ob, .inl (dA 2, oc, .inl of)) :: R))) (va_Qr (fun (u : Nat × Nat × gG) => on + 1 ≤ u.2.1 ∧ u.2.1 ≤ 262 ∧ gAsc u.2.2 u.2.1 ∧ (∀ k, k < on → u.2.2 k = of k) ∧ u.2.2 on = nI (48 + d)) (fun u a t => a = o ∧ gE D A ((o, .inr (16, [.ref u.1, .int 0, .int ml, .int (nI (on + 1))])) :: (u.1, .inl (dA 2, u.2.1, .inl u.2.2)) :: R) t) A) (1) (262) A := by
  refine g_start rfl rfl ?_
  intro p e s m args below meth c ls X hr hlocks hin hw hl
  have hx := X.1.1
  have hb := X.1.2.1
  have hl : lv_has ls 4 [(0, .ref o), (1, .int (nI d))] := hl
  refine lv_aload_n hx hb dJ7_append_3_0 rfl (lv_at hl 0 rfl) ?_
  refine g_get X cfJ8 hw 0 3 rfl rfl q367 rfl rfl dJ7_append_3_1 ?_
  refine lv_istore_n (lv' := [(2, .int (nI on)), (0, .ref o), (1, .int (nI d))]) hx hb dJ7_append_3_4 rfl hl (by decide) rfl (fun ls hl => ?_)
  refine lv_iload_n hx hb dJ7_append_3_5 rfl (lv_at hl 0 rfl) ?_
  refine lv_iload_n hx hb dJ7_append_3_6 rfl (lv_at hl 2 rfl) ?_
  refine va_calli (va_runS (As := [.int (nI d)]) (rest := [.int (nI on)]) X.1 (m_J20_stringSize l D dA A E hE ((o, .inr (16, [.ref ob, .int 0, .int ml, .int (nI on)])) :: (ob, .inl (dA 2, oc, .inl of)) :: R) d (by first | assumption | omega)) (va_cwS 1 X.1.2.2.2.2 (lw_S q1695 q1696 q101 q1697) rfl rfl rfl (by decide +kernel) ⟨Nat.le_of_ble_eq_true rfl, Nat.le_of_ble_eq_true rfl⟩) (g_preS hE X.2 hw) rfl rfl hl.1 rfl (lv_room (Nat.le_of_ble_eq_true rfl)) dJ7_append_3_7 ⟨Nat.le_of_ble_eq_true rfl, Nat.le_of_ble_eq_true rfl⟩) hw.2.2 (fun q _ h => h) (fun q h => h) (fun r_2 u t H locs ht hvm h_1 hB hz9 hk9 hS => ?_)
  have hw : gW D A ((o, .inr (16, [.ref ob, .int 0, .int ml, .int (nI on)])) :: (ob, .inl (dA 2, oc, .inl of)) :: R) s H locs := g_aft ht hB hS
  obtain rfl : r_2 = 1 := h_1
  refine lv_iadd hx hb dJ7_append_3_10 ?_
  refine g_addN (a := on) (b := 1) ?_
  refine lv_istore_n (lv' := [(3, .int (nI (on + 1))), (2, .int (nI on)), (0, .ref o), (1, .int (nI d))]) hx hb dJ7_append_3_11 rfl hl (by decide) rfl (fun ls hl => ?_)
  refine lv_aload_n hx hb dJ7_append_3_12 rfl (lv_at hl 2 rfl) ?_
  refine lv_iload_n hx hb dJ7_append_3_13 rfl (lv_at hl 0 rfl) ?_
  refine va_callv (va_runU (As := [.int (nI (on + 1))]) (rest := []) X.1 (m_J7_ensureCapacityInternal l D dA A E hE R kA (by first | assumption | omega) o ob oc on ml of (by first | assumption | omega) (by first | assumption | omega) (by first | assumption | omega) (on + 1) (by first | assumption | omega)) (g_cwP 1 X.1.2.2.2.2 q1101 q2222 q1103 q76 q1104 ((hKE s X.2.2.2.1).2.2.2.2.2.2.2.2 _ (List.mem_of_getElem? (i := 0) rfl)) rfl rfl (by decide +kernel) ⟨Nat.le_of_ble_eq_true rfl, Nat.le_of_ble_eq_true rfl⟩) (g_preV hE X.2 hw 0 rfl rfl) rfl rfl hl.1 rfl (lv_room (Nat.le_of_ble_eq_true rfl)) dJ7_append_3_14 ⟨Nat.le_of_ble_eq_true rfl, Nat.le_of_ble_eq_true rfl⟩) hw.2.2 (fun q _ h => h) (fun q h => h) (fun u t H locs ht hvm h_3 hB hz9 hk9 hS => ?_)
  obtain ⟨cb_4, cc_5, cf_6⟩ := u
  have hw : gW D A ((o, .inr (16, [.ref cb_4, .int 0, .int ml, .int (nI on)])) :: (cb_4, .inl (dA 2, cc_5, .inl cf_6)) :: R) s H locs := g_aft ht hB hS
  have h_3 : (on + 1) ≤ cc_5 ∧ cc_5 ≤ 262 ∧ gAsc cf_6 cc_5 ∧ ∀ k, k < oc → cf_6 k = of k := h_3
  obtain ⟨hE1, hE2, hE3, hE4⟩ := h_3
  try dsimp only at hE1 hE2 hE3 hE4
  refine lv_aload_n hx hb dJ7_append_3_17 rfl (lv_at hl 2 rfl) ?_
  refine va_calli (va_runU (As := []) (rest := []) X.1 (m_J7_isLatin1 l D dA A E hE R kA (by first | assumption | omega) o cb_4 cc_5 on ml cf_6) (va_cwU 0 X.1.2.2.2.2 (lw_app (lw_in5 q1121 q1123 q1124 q1122 q76) (lw_meth q1125)) rfl rfl rfl rfl (by decide +kernel) ⟨Nat.le_of_ble_eq_true rfl, Nat.le_of_ble_eq_true rfl⟩) (g_preV hE X.2 hw 0 rfl rfl) rfl rfl hl.1 rfl (lv_room (Nat.le_of_ble_eq_true rfl)) dJ7_append_3_18 ⟨Nat.le_of_ble_eq_true rfl, Nat.le_of_ble_eq_true rfl⟩) hw.2.2 (fun q _ h => h) (fun q h => h) (fun r_8 u t H locs ht hvm h_7 hB hz9 hk9 hS => ?_)
  have hw : gW D A ((o, .inr (16, [.ref cb_4, .int 0, .int ml, .int (nI on)])) :: (cb_4, .inl (dA 2, cc_5, .inl cf_6)) :: R) s H locs := g_aft ht hB hS
  obtain rfl : r_8 = 1 := h_7
  refine lv_if_eq (tgt := 37) hx hb dJ7_append_3_21 (by decide) (fun c_9 => absurd c_9 (by decide)) (fun c_9 => ?_)
  refine lv_iload_n hx hb dJ7_append_3_24 rfl (lv_at hl 3 rfl) ?_
  refine lv_iload_n hx hb dJ7_append_3_25 rfl (lv_at hl 0 rfl) ?_
  refine lv_aload_n hx hb dJ7_append_3_26 rfl (lv_at hl 2 rfl) ?_
  refine g_get X cfJ8 hw 0 0 rfl rfl q363 rfl rfl dJ7_append_3_27 ?_
  have hw : gW D A ((cb_4, .inl (dA 2, cc_5, .inl cf_6)) :: (o, .inr (16, [.ref cb_4, .int 0, .int ml, .int (nI on)])) :: R) s _ _ := g_perm (X := [(o, .inr (16, [.ref cb_4, .int 0, .int ml, .int (nI on)])), (cb_4, .inl (dA 2, cc_5, .inl cf_6))]) (cx := [(cb_4, .inl (dA 2, cc_5, .inl cf_6)), (o, .inr (16, [.ref cb_4, .int 0, .int ml, .int (nI on)]))]) (pl := R) hw [1, 0] rfl rfl rfl rfl
  refine va_calli (va_runS (As := [.int (nI d), .int (nI (on + 1)), .ref cb_4]) (rest := []) X.1 (m_J20_getChars l D dA A E hE ((o, .inr (16, [.ref cb_4, .int 0, .int ml, .int (nI on)])) :: R) kA (by first | assumption | omega) d (by first | assumption | omega) cb_4 cc_5 on cf_6 (by first | assumption | omega) (by first | assumption | omega)) (va_cwS 3 X.1.2.2.2.2 (lw_S q1698 q1699 q101 q1700) rfl rfl rfl (by decide +kernel) ⟨Nat.le_of_ble_eq_true rfl, Nat.le_of_ble_eq_true rfl⟩) (g_preS hE X.2 hw) rfl rfl hl.1 rfl (lv_room (Nat.le_of_ble_eq_true rfl)) dJ7_append_3_30 ⟨Nat.le_of_ble_eq_true rfl, Nat.le_of_ble_eq_true rfl⟩) hw.2.2 (fun q _ h => h) (fun q h => h) (fun r_11 u t H locs ht hvm h_10 hB hz9 hk9 hS => ?_)
  have hw : gW D A ((cb_4, .inl (dA 2, cc_5, .inl (upd cf_6 on (nI (48 + d))))) :: (o, .inr (16, [.ref cb_4, .int 0, .int ml, .int (nI on)])) :: R) s H locs := g_aft ht hB hS
  have h_10 : True := h_10
  refine lv_pop hx hb dJ7_append_3_33 rfl ?_
  refine lv_goto (tgt := 48) hx hb dJ7_append_3_34 (by decide) ?_
  refine lv_aload_n hx hb dJ7_append_3_48 rfl (lv_at hl 2 rfl) ?_
  refine lv_iload_n hx hb dJ7_append_3_49 rfl (lv_at hl 0 rfl) ?_
  refine g_put (ws' := (cb_4, .inl (dA 2, cc_5, .inl (upd cf_6 on (nI (48 + d))))) :: (o, .inr (16, [.ref cb_4, .int 0, .int ml, .int (nI (on + 1))])) :: R) X cfJ8 hw 1 3 rfl rfl q367 rfl rfl rfl rfl rfl rfl dJ7_append_3_50 (fun H locs hw => ?_)
  refine lv_aload_n hx hb dJ7_append_3_53 rfl (lv_at hl 2 rfl) ?_
  have hw : gW D A ((o, .inr (16, [.ref cb_4, .int 0, .int ml, .int (nI (on + 1))])) :: (cb_4, .inl (dA 2, cc_5, .inl (upd cf_6 on (nI (48 + d))))) :: R) s _ _ := g_perm (X := [(cb_4, .inl (dA 2, cc_5, .inl (upd cf_6 on (nI (48 + d))))), (o, .inr (16, [.ref cb_4, .int 0, .int ml, .int (nI (on + 1))]))]) (cx := [(o, .inr (16, [.ref cb_4, .int 0, .int ml, .int (nI (on + 1))])), (cb_4, .inl (dA 2, cc_5, .inl (upd cf_6 on (nI (48 + d)))))]) (pl := R) hw [1, 0] rfl rfl rfl rfl
  exact g_aretK (ad := fun u => o) (cb_4, cc_5, upd cf_6 on (nI (48 + d))) X hw hr (Or.inl ⟨_, rfl⟩) hlocks (by exact ⟨by dsimp only; omega, by dsimp only; omega, asc_upd hE3 (by omega), fun k hk => (upd_n (by omega)).trans (hE4 k (by omega)), upd_s⟩) (rfl) rfl dJ7_append_3_54

set_option maxHeartbeats 4000000 in
theorem m_J8_append_4 (l : Launch) (D : va_G) (dA : Nat → ClassId) (A : Nat → Prop) (E : State → Prop) (hE : gSt A E) (R : va_W) (kA : Nat → Nat) (hKE : gKE A E kA) (o ob oc on : Nat) (ml : Int32) (of : gG) (hon : on ≤ oc) (hoc : oc ≤ 262) (hof : gAsc of oc) (d : Nat) (hd : d < 10) (hn : on < 130) : Met l yJ8_append_4 (ws_ yJ8_append_4 cJ8_append_4 2 (Option.some (FieldType.object "java/lang/StringBuilder"))) ({ frames := 5, cells := 1, slots := 262, locals := 107 }) (va_Pc [.ref o, .int (nI d)] (gB D dA A E ((o, .inr (16, [.ref ob, .int 0, .int ml, .int (nI on)])) :: (ob, .inl (dA 2, oc, .inl of)) :: R))) (va_Qr (fun (u : Nat × Nat × gG) => on + 1 ≤ u.2.1 ∧ u.2.1 ≤ 262 ∧ gAsc u.2.2 u.2.1 ∧ (∀ k, k < on → u.2.2 k = of k) ∧ u.2.2 on = nI (48 + d)) (fun u a t => a = o ∧ gE D A ((o, .inr (16, [.ref u.1, .int 0, .int ml, .int (nI (on + 1))])) :: (u.1, .inl (dA 2, u.2.1, .inl u.2.2)) :: R) t) A) (1) (262) A := by
  refine g_start rfl rfl ?_
  intro p e s m args below meth c ls X hr hlocks hin hw hl
  have hx := X.1.1
  have hb := X.1.2.1
  have hl : lv_has ls 2 [(0, .ref o), (1, .int (nI d))] := hl
  refine lv_aload_n hx hb dJ8_append_4_0 rfl (lv_at hl 0 rfl) ?_
  refine lv_iload_n hx hb dJ8_append_4_1 rfl (lv_at hl 1 rfl) ?_
  refine va_callr (va_runSU (g_cat X.2.1 16 rfl) (As := [.int (nI d)]) (rest := []) X.1 (m_J7_append_3 l D dA A E hE R kA (by first | assumption | omega) o ob oc on ml of (by first | assumption | omega) (by first | assumption | omega) (by first | assumption | omega) d (by first | assumption | omega) (by first | assumption | omega)) (va_cwSU 1 X.1.2.2.2.2 (lw_app (lw_in5 q1692 q2234 q376 q1693 q76) (lw_meth q1694)) rfl rfl rfl (by decide +kernel) ⟨Nat.le_of_ble_eq_true rfl, Nat.le_of_ble_eq_true rfl⟩) (g_preV hE X.2 hw 0 rfl rfl) rfl rfl hl.1 rfl (lv_room (Nat.le_of_ble_eq_true rfl)) dJ8_append_4_2 ⟨Nat.le_of_ble_eq_true rfl, Nat.le_of_ble_eq_true rfl⟩) hw.2.2 (fun q _ h => h) (fun q h => h) (fun u q_2 t H locs ht hvm h_1 hB hz9 hk9 hS => ?_)
  obtain ⟨cb_3, cc_4, cf_5⟩ := u
  obtain ⟨er_q_2, hB⟩ := hB
  obtain rfl := er_q_2.symm
  have hw : gW D A ((o, .inr (16, [.ref cb_3, .int 0, .int ml, .int (nI (on + 1))])) :: (cb_3, .inl (dA 2, cc_4, .inl cf_5)) :: R) s H locs := g_aft ht hB hS
  have h_1 : on + 1 ≤ cc_4 ∧ cc_4 ≤ 262 ∧ gAsc cf_5 cc_4 ∧ (∀ k, k < on → cf_5 k = of k) ∧ cf_5 on = nI (48 + d) := h_1
  refine lv_pop hx hb dJ8_append_4_5 rfl ?_
  refine lv_aload_n hx hb dJ8_append_4_6 rfl (lv_at hl 0 rfl) ?_
  exact g_aretK (ad := fun u => o) (cb_3, cc_4, cf_5) X hw hr (Or.inl ⟨_, rfl⟩) hlocks (by exact h_1) (rfl) rfl dJ8_append_4_7

set_option maxHeartbeats 4000000 in
theorem m_J7_length (l : Launch) (D : va_G) (dA : Nat → ClassId) (A : Nat → Prop) (E : State → Prop) (hE : gSt A E) (R : va_W) (o ob oc on : Nat) (ml : Int32) (of : gG)  : Met l yJ7_length (ws_ yJ7_length cJ7_length 1 (Option.some FieldType.int)) ({ frames := 0, cells := 0, slots := 0, locals := 0 }) (va_Pc [.ref o] (gB D dA A E ((o, .inr (16, [.ref ob, .int 0, .int ml, .int (nI on)])) :: (ob, .inl (dA 2, oc, .inl of)) :: R))) (va_Qi (fun (r : Int32) (_ : Unit) => r = nI on) (fun _ => gE D A ((o, .inr (16, [.ref ob, .int 0, .int ml, .int (nI on)])) :: (ob, .inl (dA 2, oc, .inl of)) :: R)) A) (0) (0) A := by
  refine g_start rfl rfl ?_
  intro p e s m args below meth c ls X hr hlocks hin hw hl
  have hx := X.1.1
  have hb := X.1.2.1
  have hl : lv_has ls 1 [(0, .ref o)] := hl
  refine lv_aload_n hx hb dJ7_length_0 rfl (lv_at hl 0 rfl) ?_
  refine g_get X cfJ8 hw 0 3 rfl rfl q367 rfl rfl dJ7_length_1 ?_
  exact g_iret (v := nI on) () X hw hr hlocks  rfl rfl dJ7_length_4

set_option maxHeartbeats 4000000 in
theorem m_J8_length (l : Launch) (D : va_G) (dA : Nat → ClassId) (A : Nat → Prop) (E : State → Prop) (hE : gSt A E) (R : va_W) (o ob oc on : Nat) (ml : Int32) (of : gG)  : Met l yJ8_length (ws_ yJ8_length cJ8_length 1 (Option.some FieldType.int)) ({ frames := 1, cells := 0, slots := 0, locals := 20 }) (va_Pc [.ref o] (gB D dA A E ((o, .inr (16, [.ref ob, .int 0, .int ml, .int (nI on)])) :: (ob, .inl (dA 2, oc, .inl of)) :: R))) (va_Qi (fun (r : Int32) (_ : Unit) => r = nI on) (fun _ => gE D A ((o, .inr (16, [.ref ob, .int 0, .int ml, .int (nI on)])) :: (ob, .inl (dA 2, oc, .inl of)) :: R)) A) (0) (0) A := by
  refine g_start rfl rfl ?_
  intro p e s m args below meth c ls X hr hlocks hin hw hl
  have hx := X.1.1
  have hb := X.1.2.1
  have hl : lv_has ls 1 [(0, .ref o)] := hl
  refine lv_aload_n hx hb dJ8_length_0 rfl (lv_at hl 0 rfl) ?_
  refine va_calli (va_runSU (g_cat X.2.1 16 rfl) (As := []) (rest := []) X.1 (m_J7_length l D dA A E hE R o ob oc on ml of) (va_cwSU 0 X.1.2.2.2.2 (lw_app (lw_in5 q1091 q2220 q376 q1092 q76) (lw_meth q1093)) rfl rfl rfl (by decide +kernel) ⟨Nat.le_of_ble_eq_true rfl, Nat.le_of_ble_eq_true rfl⟩) (g_preV hE X.2 hw 0 rfl rfl) rfl rfl hl.1 rfl (lv_room (Nat.le_of_ble_eq_true rfl)) dJ8_length_1 ⟨Nat.le_of_ble_eq_true rfl, Nat.le_of_ble_eq_true rfl⟩) hw.2.2 (fun q _ h => h) (fun q h => h) (fun r_2 u t H locs ht hvm h_1 hB hz9 hk9 hS => ?_)
  have hw : gW D A ((o, .inr (16, [.ref ob, .int 0, .int ml, .int (nI on)])) :: (ob, .inl (dA 2, oc, .inl of)) :: R) s H locs := g_aft ht hB hS
  obtain rfl : r_2 = nI on := h_1
  exact g_iret (v := nI on) () X hw hr hlocks  rfl rfl dJ8_length_4

set_option maxHeartbeats 4000000 in
theorem m_J7_getValue (l : Launch) (D : va_G) (dA : Nat → ClassId) (A : Nat → Prop) (E : State → Prop) (hE : gSt A E) (R : va_W) (o ob oc on : Nat) (ml : Int32) (of : gG)  : Met l yJ7_getValue (ws_ yJ7_getValue cJ7_getValue 1 (Option.some (FieldType.array FieldType.byte))) ({ frames := 0, cells := 0, slots := 0, locals := 0 }) (va_Pc [.ref o] (gB D dA A E ((o, .inr (16, [.ref ob, .int 0, .int ml, .int (nI on)])) :: (ob, .inl (dA 2, oc, .inl of)) :: R))) (va_Qr (fun (_ : Unit) => True) (fun _ a t => a = ob ∧ gE D A ((o, .inr (16, [.ref ob, .int 0, .int ml, .int (nI on)])) :: (ob, .inl (dA 2, oc, .inl of)) :: R) t) A) (0) (0) A := by
  refine g_start rfl rfl ?_
  intro p e s m args below meth c ls X hr hlocks hin hw hl
  have hx := X.1.1
  have hb := X.1.2.1
  have hl : lv_has ls 1 [(0, .ref o)] := hl
  refine lv_aload_n hx hb dJ7_getValue_0 rfl (lv_at hl 0 rfl) ?_
  refine g_get X cfJ8 hw 0 0 rfl rfl q363 rfl rfl dJ7_getValue_1 ?_
  exact g_aretK (ad := fun _ => ob) () X hw hr (Or.inr ⟨_, rfl⟩) hlocks trivial (rfl) rfl dJ7_getValue_4

set_option maxHeartbeats 4000000 in
theorem m_J7_charAt (l : Launch) (D : va_G) (dA : Nat → ClassId) (A : Nat → Prop) (E : State → Prop) (hE : gSt A E) (R : va_W) (kA : Nat → Nat) (hKE : gKE A E kA) (o ob oc on : Nat) (ml : Int32) (of : gG) (hon : on ≤ oc) (hoc : oc ≤ 262) (hof : gAsc of oc) (i : Nat) (hi : i < on) : Met l yJ7_charAt (ws_ yJ7_charAt cJ7_charAt 5 (Option.some FieldType.char)) ({ frames := 2, cells := 0, slots := 0, locals := 43 }) (va_Pc [.ref o, .int (nI i)] (gB D dA A E ((o, .inr (16, [.ref ob, .int 0, .int ml, .int (nI on)])) :: (ob, .inl (dA 2, oc, .inl of)) :: R))) (va_Qi (fun (r : Int32) (_ : Unit) => r = of i) (fun _ => gE D A ((o, .inr (16, [.ref ob, .int 0, .int ml, .int (nI on)])) :: (ob, .inl (dA 2, oc, .inl of)) :: R)) A) (0) (0) A := by
  refine g_start rfl rfl ?_
  intro p e s m args below meth c ls X hr hlocks hin hw hl
  have hx := X.1.1
  have hb := X.1.2.1
  have hl : lv_has ls 5 [(0, .ref o), (1, .int (nI i))] := hl
  refine lv_aload_n hx hb dJ7_charAt_0 rfl (lv_at hl 0 rfl) ?_
  refine g_get X cfJ8 hw 0 1 rfl rfl q364 rfl rfl dJ7_charAt_1 ?_
  refine lv_istore_n (lv' := [(2, .int 0), (0, .ref o), (1, .int (nI i))]) hx hb dJ7_charAt_4 rfl hl (by decide) rfl (fun ls hl => ?_)
  refine lv_aload_n hx hb dJ7_charAt_5 rfl (lv_at hl 1 rfl) ?_
  refine g_get X cfJ8 hw 0 0 rfl rfl q363 rfl rfl dJ7_charAt_6 ?_
  refine lv_astore_n (lv' := [(3, .ref ob), (2, .int 0), (0, .ref o), (1, .int (nI i))]) hx hb dJ7_charAt_9 rfl hl (by decide) rfl (fun ls hl => ?_)
  refine lv_aload_n hx hb dJ7_charAt_10 rfl (lv_at hl 2 rfl) ?_
  refine g_get X cfJ8 hw 0 3 rfl rfl q367 rfl rfl dJ7_charAt_11 ?_
  refine lv_aload_n hx hb dJ7_charAt_14 rfl (lv_at hl 0 rfl) ?_
  refine g_alen X hw 1 2 rfl rfl dJ7_charAt_15 ?_
  refine lv_iload_n hx hb dJ7_charAt_16 rfl (lv_at hl 1 rfl) ?_
  refine lv_ishr hx hb dJ7_charAt_17 ?_
  refine g_top (y := nI oc) (sb_shr0 _) ?_
  refine va_mmin hx hb (by rw [X.1.2.2.1, hl.1]) X.1.2.2.2.1 (X.1.2.2.2.2 _ q1289) (X.1.2.2.2.2 _ q264) (X.1.2.2.2.2 _ q72) (X.1.2.2.2.2 _ q265) (Nat.le_of_ble_eq_true rfl) (Nat.le_of_ble_eq_true rfl) (by first | exact Nat.le_of_ble_eq_true rfl | (dsimp only; omega)) (by first | exact Nat.le_of_ble_eq_true rfl | (dsimp only; omega)) dJ7_charAt_18 ?_
  refine g_top (y := nI (min on oc)) (nI_min (a := on) (b := oc) (by omega) (by omega)) ?_
  refine g_top (y := nI on) (by rw [Nat.min_eq_left (by omega)]) ?_
  refine lv_istore (lv' := [(4, .int (nI on)), (3, .ref ob), (2, .int 0), (0, .ref o), (1, .int (nI i))]) hx hb dJ7_charAt_21 hl (by decide) rfl (fun ls hl => ?_)
  refine lv_iload_n hx hb dJ7_charAt_23 rfl (lv_at hl 4 rfl) ?_
  refine lv_iload hx hb dJ7_charAt_24 (lv_at hl 0 rfl) ?_
  refine va_callv (va_runS (As := [.int (nI i), .int (nI on)]) (rest := []) X.1 (m_J9_checkIndex l D dA A E hE ((o, .inr (16, [.ref ob, .int 0, .int ml, .int (nI on)])) :: (ob, .inl (dA 2, oc, .inl of)) :: R) kA (by first | assumption | omega) i on (by first | assumption | omega) (by first | assumption | omega)) (va_cwS 2 X.1.2.2.2.2 (lw_S q1290 q1169 q78 q1170) rfl rfl rfl (by decide +kernel) ⟨Nat.le_of_ble_eq_true rfl, Nat.le_of_ble_eq_true rfl⟩) (g_preS hE X.2 hw) rfl rfl hl.1 rfl (lv_room (Nat.le_of_ble_eq_true rfl)) dJ7_charAt_26 ⟨Nat.le_of_ble_eq_true rfl, Nat.le_of_ble_eq_true rfl⟩) hw.2.2 (fun q _ h => h) (fun q h => h) (fun u t H locs ht hvm h_1 hB hz9 hk9 hS => ?_)
  have hw : gW D A ((o, .inr (16, [.ref ob, .int 0, .int ml, .int (nI on)])) :: (ob, .inl (dA 2, oc, .inl of)) :: R) s H locs := g_aft ht hB hS
  refine lv_iload_n hx hb dJ7_charAt_29 rfl (lv_at hl 2 rfl) ?_
  refine lv_if_ne (tgt := 42) hx hb dJ7_charAt_30 (by decide) (fun c_2 => absurd (by decide) c_2) (fun c_2 => ?_)
  refine lv_aload_n hx hb dJ7_charAt_33 rfl (lv_at hl 1 rfl) ?_
  refine lv_iload_n hx hb dJ7_charAt_34 rfl (lv_at hl 4 rfl) ?_
  refine g_bald X hw 1 rfl (i := i) (by omega) (by first | decide | omega) dJ7_charAt_35 ?_
  refine lv_sipush (v := 255) hx hb dJ7_charAt_36 (by decide) ?_
  refine lv_iand hx hb dJ7_charAt_39 ?_
  refine lv_i2c (v := (((of i) &&& 255).toUInt32 % 65536).toInt32) hx hb dJ7_charAt_40 rfl ?_
  exact g_zret (v := (((of i) &&& 255).toUInt32 % 65536).toInt32) () X hw hr hlocks (asc_nar hof (i := i) (by omega)) (by exact asc_chr hof (i := i) (by omega)) rfl dJ7_charAt_41

set_option maxHeartbeats 4000000 in
theorem m_J8_charAt (l : Launch) (D : va_G) (dA : Nat → ClassId) (A : Nat → Prop) (E : State → Prop) (hE : gSt A E) (R : va_W) (kA : Nat → Nat) (hKE : gKE A E kA) (o ob oc on : Nat) (ml : Int32) (of : gG) (hon : on ≤ oc) (hoc : oc ≤ 262) (hof : gAsc of oc) (i : Nat) (hi : i < on) : Met l yJ8_charAt (ws_ yJ8_charAt cJ8_charAt 2 (Option.some FieldType.char)) ({ frames := 3, cells := 0, slots := 0, locals := 67 }) (va_Pc [.ref o, .int (nI i)] (gB D dA A E ((o, .inr (16, [.ref ob, .int 0, .int ml, .int (nI on)])) :: (ob, .inl (dA 2, oc, .inl of)) :: R))) (va_Qi (fun (r : Int32) (_ : Unit) => r = of i) (fun _ => gE D A ((o, .inr (16, [.ref ob, .int 0, .int ml, .int (nI on)])) :: (ob, .inl (dA 2, oc, .inl of)) :: R)) A) (0) (0) A := by
  refine g_start rfl rfl ?_
  intro p e s m args below meth c ls X hr hlocks hin hw hl
  have hx := X.1.1
  have hb := X.1.2.1
  have hl : lv_has ls 2 [(0, .ref o), (1, .int (nI i))] := hl
  refine lv_aload_n hx hb dJ8_charAt_0 rfl (lv_at hl 0 rfl) ?_
  refine lv_iload_n hx hb dJ8_charAt_1 rfl (lv_at hl 1 rfl) ?_
  refine va_calli (va_runSU (g_cat X.2.1 16 rfl) (As := [.int (nI i)]) (rest := []) X.1 (m_J7_charAt l D dA A E hE R kA (by first | assumption | omega) o ob oc on ml of (by first | assumption | omega) (by first | assumption | omega) (by first | assumption | omega) i (by first | assumption | omega)) (va_cwSU 1 X.1.2.2.2.2 (lw_app (lw_in5 q1286 q2225 q376 q1287 q76) (lw_meth q1288)) rfl rfl rfl (by decide +kernel) ⟨Nat.le_of_ble_eq_true rfl, Nat.le_of_ble_eq_true rfl⟩) (g_preV hE X.2 hw 0 rfl rfl) rfl rfl hl.1 rfl (lv_room (Nat.le_of_ble_eq_true rfl)) dJ8_charAt_2 ⟨Nat.le_of_ble_eq_true rfl, Nat.le_of_ble_eq_true rfl⟩) hw.2.2 (fun q _ h => h) (fun q h => h) (fun r_2 u t H locs ht hvm h_1 hB hz9 hk9 hS => ?_)
  have hw : gW D A ((o, .inr (16, [.ref ob, .int 0, .int ml, .int (nI on)])) :: (ob, .inl (dA 2, oc, .inl of)) :: R) s H locs := g_aft ht hB hS
  obtain rfl : r_2 = of i := h_1
  exact g_zret (v := of i) () X hw hr hlocks (asc_nar2 hof (i := i) (by omega)) rfl rfl dJ8_charAt_5

set_option maxHeartbeats 4000000 in
theorem m_J7_setLength (l : Launch) (D : va_G) (dA : Nat → ClassId) (A : Nat → Prop) (E : State → Prop) (hE : gSt A E) (R : va_W) (kA : Nat → Nat) (hKE : gKE A E kA) (o ob oc on : Nat) (ml : Int32) (of : gG) (hon : on ≤ oc) (hoc : oc ≤ 262) (hof : gAsc of oc)  : Met l yJ7_setLength (ws_ yJ7_setLength cJ7_setLength 2 (Option.none : Option FieldType)) ({ frames := 4, cells := 1, slots := 262, locals := 84 }) (va_Pc [.ref o, .int 0] (gB D dA A E ((o, .inr (16, [.ref ob, .int 0, .int ml, .int (nI on)])) :: (ob, .inl (dA 2, oc, .inl of)) :: R))) (va_Qv (fun (u : Nat × Nat × gG × Int32) => u.2.1 ≤ 262 ∧ gAsc u.2.2.1 u.2.1) (fun u => gE D A ((o, .inr (16, [.ref u.1, .int 0, .int u.2.2.2, .int 0])) :: (u.1, .inl (dA 2, u.2.1, .inl u.2.2.1)) :: R)) A) (1) (262) A := by
  refine g_start rfl rfl ?_
  intro p e s m args below meth c ls X hr hlocks hin hw hl
  have hx := X.1.1
  have hb := X.1.2.1
  have hl : lv_has ls 2 [(0, .ref o), (1, .int 0)] := hl
  refine lv_iload_n hx hb dJ7_setLength_0 rfl (lv_at hl 1 rfl) ?_
  refine lv_if_ge (tgt := 13) hx hb dJ7_setLength_1 (by decide) (fun c_1 => ?_) (fun c_1 => absurd (by decide) c_1)
  refine lv_aload_n hx hb dJ7_setLength_13 rfl (lv_at hl 0 rfl) ?_
  refine lv_iload_n hx hb dJ7_setLength_14 rfl (lv_at hl 1 rfl) ?_
  refine va_callv (va_runU (As := [.int 0]) (rest := []) X.1 (m_J7_ensureCapacityInternal l D dA A E hE R kA (by first | assumption | omega) o ob oc on ml of (by first | assumption | omega) (by first | assumption | omega) (by first | assumption | omega) 0 (by first | assumption | omega)) (g_cwP 1 X.1.2.2.2.2 q1101 q2222 q1103 q76 q1104 ((hKE s X.2.2.2.1).2.2.2.2.2.2.2.2 _ (List.mem_of_getElem? (i := 0) rfl)) rfl rfl (by decide +kernel) ⟨Nat.le_of_ble_eq_true rfl, Nat.le_of_ble_eq_true rfl⟩) (g_preV hE X.2 hw 0 rfl rfl) rfl rfl hl.1 rfl (lv_room (Nat.le_of_ble_eq_true rfl)) dJ7_setLength_15 ⟨Nat.le_of_ble_eq_true rfl, Nat.le_of_ble_eq_true rfl⟩) hw.2.2 (fun q _ h => h) (fun q h => h) (fun u t H locs ht hvm h_2 hB hz9 hk9 hS => ?_)
  obtain ⟨cb_3, cc_4, cf_5⟩ := u
  have hw : gW D A ((o, .inr (16, [.ref cb_3, .int 0, .int ml, .int (nI on)])) :: (cb_3, .inl (dA 2, cc_4, .inl cf_5)) :: R) s H locs := g_aft ht hB hS
  have h_2 : 0 ≤ cc_4 ∧ cc_4 ≤ 262 ∧ gAsc cf_5 cc_4 ∧ ∀ k, k < oc → cf_5 k = of k := h_2
  obtain ⟨hE1, hE2, hE3, hE4⟩ := h_2
  try dsimp only at hE1 hE2 hE3 hE4
  refine lv_aload_n hx hb dJ7_setLength_18 rfl (lv_at hl 0 rfl) ?_
  refine g_get X cfJ8 hw 0 3 rfl rfl q367 rfl rfl dJ7_setLength_19 ?_
  refine lv_iload_n hx hb dJ7_setLength_22 rfl (lv_at hl 1 rfl) ?_
  refine lv_icmp_ge (tgt := 63) hx hb dJ7_setLength_23 (by decide) (fun c_6 => ?_) (fun c_6 => absurd (nI_pos' (by omega)) c_6)
  refine lv_aload_n hx hb dJ7_setLength_63 rfl (lv_at hl 0 rfl) ?_
  refine g_get X cfJ8 hw 0 3 rfl rfl q367 rfl rfl dJ7_setLength_64 ?_
  refine lv_iload_n hx hb dJ7_setLength_67 rfl (lv_at hl 1 rfl) ?_
  refine lv_icmp_le (tgt := 76) hx hb dJ7_setLength_68 (by decide) (fun c_7 => ?_) (fun c_7 => ?_)
  · skip
    have c_7 := Int32.not_lt.mpr c_7
    have c_7 : ¬ (0 < on) := fun q => c_7 ((nI_ltI (a := 0) (b := on) (by omega) (by omega)).mpr q)
    refine lv_aload_n hx hb dJ7_setLength_76 rfl (lv_at hl 0 rfl) ?_
    refine lv_iload_n hx hb dJ7_setLength_77 rfl (lv_at hl 1 rfl) ?_
    refine g_put (ws' := (o, .inr (16, [.ref cb_3, .int 0, .int ml, .int 0])) :: (cb_3, .inl (dA 2, cc_4, .inl cf_5)) :: R) X cfJ8 hw 0 3 rfl rfl q367 rfl rfl rfl rfl rfl rfl dJ7_setLength_78 (fun H locs hw => ?_)
    exact g_vret (cb_3, cc_4, cf_5, ml) X hw hr hlocks (by exact ⟨hE2, hE3⟩) rfl dJ7_setLength_81
  · skip
    have c_7 := Int32.not_le.mp c_7
    have c_7 : 0 < on := (nI_ltI (a := 0) (b := on) (by omega) (by omega)).mp c_7
    refine lv_aload_n hx hb dJ7_setLength_71 rfl (lv_at hl 0 rfl) ?_
    refine lv_iconst (v := 1) hx hb dJ7_setLength_72 (by decide) ?_
    refine g_put (ws' := (o, .inr (16, [.ref cb_3, .int 0, .int 1, .int (nI on)])) :: (cb_3, .inl (dA 2, cc_4, .inl cf_5)) :: R) X cfJ8 hw 0 2 rfl rfl q365 rfl rfl rfl rfl rfl rfl dJ7_setLength_73 (fun H locs hw => ?_)
    refine lv_aload_n hx hb dJ7_setLength_76 rfl (lv_at hl 0 rfl) ?_
    refine lv_iload_n hx hb dJ7_setLength_77 rfl (lv_at hl 1 rfl) ?_
    refine g_put (ws' := (o, .inr (16, [.ref cb_3, .int 0, .int 1, .int 0])) :: (cb_3, .inl (dA 2, cc_4, .inl cf_5)) :: R) X cfJ8 hw 0 3 rfl rfl q367 rfl rfl rfl rfl rfl rfl dJ7_setLength_78 (fun H locs hw => ?_)
    exact g_vret (cb_3, cc_4, cf_5, 1) X hw hr hlocks (by exact ⟨hE2, hE3⟩) rfl dJ7_setLength_81

set_option maxHeartbeats 4000000 in
theorem m_J8_setLength (l : Launch) (D : va_G) (dA : Nat → ClassId) (A : Nat → Prop) (E : State → Prop) (hE : gSt A E) (R : va_W) (kA : Nat → Nat) (hKE : gKE A E kA) (o ob oc on : Nat) (ml : Int32) (of : gG) (hon : on ≤ oc) (hoc : oc ≤ 262) (hof : gAsc of oc)  : Met l yJ8_setLength (ws_ yJ8_setLength cJ8_setLength 2 (Option.none : Option FieldType)) ({ frames := 5, cells := 1, slots := 262, locals := 105 }) (va_Pc [.ref o, .int 0] (gB D dA A E ((o, .inr (16, [.ref ob, .int 0, .int ml, .int (nI on)])) :: (ob, .inl (dA 2, oc, .inl of)) :: R))) (va_Qv (fun (u : Nat × Nat × gG × Int32) => u.2.1 ≤ 262 ∧ gAsc u.2.2.1 u.2.1) (fun u => gE D A ((o, .inr (16, [.ref u.1, .int 0, .int u.2.2.2, .int 0])) :: (u.1, .inl (dA 2, u.2.1, .inl u.2.2.1)) :: R)) A) (1) (262) A := by
  refine g_start rfl rfl ?_
  intro p e s m args below meth c ls X hr hlocks hin hw hl
  have hx := X.1.1
  have hb := X.1.2.1
  have hl : lv_has ls 2 [(0, .ref o), (1, .int 0)] := hl
  refine lv_aload_n hx hb dJ8_setLength_0 rfl (lv_at hl 0 rfl) ?_
  refine lv_iload_n hx hb dJ8_setLength_1 rfl (lv_at hl 1 rfl) ?_
  refine va_callv (va_runSU (g_cat X.2.1 16 rfl) (As := [.int 0]) (rest := []) X.1 (m_J7_setLength l D dA A E hE R kA (by first | assumption | omega) o ob oc on ml of (by first | assumption | omega) (by first | assumption | omega) (by first | assumption | omega)) (va_cwSU 1 X.1.2.2.2.2 (lw_app (lw_in5 q1651 q2232 q376 q1652 q76) (lw_meth q1653)) rfl rfl rfl (by decide +kernel) ⟨Nat.le_of_ble_eq_true rfl, Nat.le_of_ble_eq_true rfl⟩) (g_preV hE X.2 hw 0 rfl rfl) rfl rfl hl.1 rfl (lv_room (Nat.le_of_ble_eq_true rfl)) dJ8_setLength_2 ⟨Nat.le_of_ble_eq_true rfl, Nat.le_of_ble_eq_true rfl⟩) hw.2.2 (fun q _ h => h) (fun q h => h) (fun u t H locs ht hvm h_1 hB hz9 hk9 hS => ?_)
  obtain ⟨cb_2, cc_3, cf_4, cl_5⟩ := u
  have hw : gW D A ((o, .inr (16, [.ref cb_2, .int 0, .int cl_5, .int 0])) :: (cb_2, .inl (dA 2, cc_3, .inl cf_4)) :: R) s H locs := g_aft ht hB hS
  have h_1 : cc_3 ≤ 262 ∧ gAsc cf_4 cc_3 := h_1
  exact g_vret (cb_2, cc_3, cf_4, cl_5) X hw hr hlocks (by exact h_1) rfl dJ8_setLength_5

set_option maxHeartbeats 4000000 in
theorem m_J5_checkLength (l : Launch) (D : va_G) (dA : Nat → ClassId) (A : Nat → Prop) (E : State → Prop) (hE : gSt A E) (R : va_W) (x y : Nat) (h1 : x ≤ y) (h2 : y < 100000) : Met l yJ5_checkLength (ws_ yJ5_checkLength cJ5_checkLength 2 (Option.none : Option FieldType)) ({ frames := 0, cells := 0, slots := 0, locals := 0 }) (va_Pc [.int (nI x), .int (nI y)] (gB D dA A E (R))) (va_Qv (fun (_ : Unit) => True) (fun _ => gE D A (R)) A) (0) (0) A := by
  refine g_start rfl rfl ?_
  intro p e s m args below meth c ls X hr hlocks hin hw hl
  have hx := X.1.1
  have hb := X.1.2.1
  have hl : lv_has ls 2 [(0, .int (nI x)), (1, .int (nI y))] := hl
  refine lv_iload_n hx hb dJ5_checkLength_0 rfl (lv_at hl 1 rfl) ?_
  refine lv_iload_n hx hb dJ5_checkLength_1 rfl (lv_at hl 0 rfl) ?_
  refine lv_icmp_ge (tgt := 37) hx hb dJ5_checkLength_2 (by decide) (fun c_1 => ?_) (fun c_1 => absurd (nI_le h1 (by omega)) c_1)
  exact g_vret () X hw hr hlocks trivial rfl dJ5_checkLength_37

set_option maxHeartbeats 4000000 in
theorem m_J5_copyOfRangeByte (l : Launch) (D : va_G) (dA : Nat → ClassId) (A : Nat → Prop) (E : State → Prop) (hE : gSt A E) (R : va_W) (ob oc n : Nat) (of : gG) (hn : n ≤ oc) (hoc : oc ≤ 262) (hof : gAsc of oc) : Met l yJ5_copyOfRangeByte (ws_ yJ5_copyOfRangeByte cJ5_copyOfRangeByte 5 (Option.some (FieldType.array FieldType.byte))) ({ frames := 1, cells := 1, slots := n, locals := 40 }) (va_Pc [.ref ob, .int 0, .int (nI n)] (gB D dA A E ((ob, .inl (dA 2, oc, .inl of)) :: R))) (va_Qr (fun (u : gG) => gAsc u n ∧ ∀ k, k < n → u k = of k) (fun u a => gE D A ((a, .inl (dA 2, n, .inl u)) :: (ob, .inl (dA 2, oc, .inl of)) :: R)) A) (1) (n) A := by
  refine g_start rfl rfl ?_
  intro p e s m args below meth c ls X hr hlocks hin hw hl
  have hx := X.1.1
  have hb := X.1.2.1
  have hl : lv_has ls 5 [(0, .ref ob), (1, .int 0), (2, .int (nI n))] := hl
  refine lv_iload_n hx hb dJ5_copyOfRangeByte_0 rfl (lv_at hl 1 rfl) ?_
  refine lv_iload_n hx hb dJ5_copyOfRangeByte_1 rfl (lv_at hl 2 rfl) ?_
  refine va_callv (va_runS (As := [.int 0, .int (nI n)]) (rest := []) X.1 (m_J5_checkLength l D dA A E hE ((ob, .inl (dA 2, oc, .inl of)) :: R) 0 n (by first | assumption | omega) (by first | assumption | omega)) (va_cwS 2 X.1.2.2.2.2 (lw_S q1360 q1361 q73 q1362) rfl rfl rfl (by decide +kernel) ⟨Nat.le_of_ble_eq_true rfl, Nat.le_of_ble_eq_true rfl⟩) (g_preS hE X.2 hw) rfl rfl hl.1 rfl (lv_room (Nat.le_of_ble_eq_true rfl)) dJ5_copyOfRangeByte_2 ⟨by dsimp only; omega, by dsimp only; omega⟩) hw.2.2 (fun q _ h => h) (fun q h => h) (fun u t H locs ht hvm h_1 hB hz9 hk9 hS => ?_)
  have hw : gW D A ((ob, .inl (dA 2, oc, .inl of)) :: R) s H locs := g_aft ht hB hS
  refine lv_iload_n hx hb dJ5_copyOfRangeByte_5 rfl (lv_at hl 2 rfl) ?_
  refine lv_iload_n hx hb dJ5_copyOfRangeByte_6 rfl (lv_at hl 1 rfl) ?_
  refine lv_isub hx hb dJ5_copyOfRangeByte_7 ?_
  refine g_top (y := nI n) (Int32.sub_zero _) ?_
  refine lv_istore_n (lv' := [(3, .int (nI n)), (0, .ref ob), (1, .int 0), (2, .int (nI n))]) hx hb dJ5_copyOfRangeByte_8 rfl hl (by decide) rfl (fun ls hl => ?_)
  refine lv_iload_n hx hb dJ5_copyOfRangeByte_9 rfl (lv_at hl 0 rfl) ?_
  refine g_newi (atype := .byte) (ty := .byte) (N' := n) X hw 2 rfl rfl ⟨fun _ h => (by cases h), fun _ => rfl⟩ q377 rfl (by first | decide | omega) (Nat.le_of_ble_eq_true rfl) (by dsimp only; omega) (by first | decide | (simp only [componentBytes]; omega)) dJ5_copyOfRangeByte_10 (fun q_2 H hw => ?_)
  refine lv_astore (lv' := [(4, .ref q_2), (3, .int (nI n)), (0, .ref ob), (1, .int 0), (2, .int (nI n))]) hx hb dJ5_copyOfRangeByte_12 hl (by decide) rfl (fun ls hl => ?_)
  refine lv_aload_n hx hb dJ5_copyOfRangeByte_14 rfl (lv_at hl 2 rfl) ?_
  refine lv_iload_n hx hb dJ5_copyOfRangeByte_15 rfl (lv_at hl 3 rfl) ?_
  refine lv_aload hx hb dJ5_copyOfRangeByte_16 (lv_at hl 0 rfl) ?_
  refine lv_iconst (v := 0) hx hb dJ5_copyOfRangeByte_18 (by decide) ?_
  refine lv_aload_n hx hb dJ5_copyOfRangeByte_19 rfl (lv_at hl 2 rfl) ?_
  refine g_alen X hw 1 2 rfl rfl dJ5_copyOfRangeByte_20 ?_
  refine lv_iload_n hx hb dJ5_copyOfRangeByte_21 rfl (lv_at hl 3 rfl) ?_
  refine lv_isub hx hb dJ5_copyOfRangeByte_22 ?_
  refine g_top (y := nI oc) (Int32.sub_zero _) ?_
  refine lv_iload_n hx hb dJ5_copyOfRangeByte_23 rfl (lv_at hl 1 rfl) ?_
  refine va_mmin hx hb (by rw [X.1.2.2.1, hl.1]) X.1.2.2.2.1 (X.1.2.2.2.2 _ q263) (X.1.2.2.2.2 _ q264) (X.1.2.2.2.2 _ q72) (X.1.2.2.2.2 _ q265) (Nat.le_of_ble_eq_true rfl) (Nat.le_of_ble_eq_true rfl) (by first | exact Nat.le_of_ble_eq_true rfl | (dsimp only; omega)) (by first | exact Nat.le_of_ble_eq_true rfl | (dsimp only; omega)) dJ5_copyOfRangeByte_24 ?_
  refine g_top (y := nI (min oc n)) (nI_min (a := oc) (b := n) (by omega) (by omega)) ?_
  refine g_top (y := nI n) (by rw [Nat.min_eq_right (by omega)]) ?_
  refine g_copyR (ws' := (q_2, .inl (dA 2, n, .inl (va_cpy of (fun _ => 0) 0 0 n))) :: (ob, .inl (dA 2, oc, .inl of)) :: R) X hl.1 hw q266 q268 q267 q74 (gT0.of X.2.1 2 rfl (hw.1 1 _ rfl)) 0 rfl (sp := 0) (dp := 0) (n := n) (by omega) (by omega) (by first | decide | omega) (by first | decide | omega) (fun i hi => by rw [Nat.zero_add]; exact asc_fit hof (by omega)) (Nat.le_of_ble_eq_true rfl) (by first | decide +kernel | (dsimp only; decide +kernel)) rfl dJ5_copyOfRangeByte_27 (fun H locs hw => ?_)
  refine lv_aload hx hb dJ5_copyOfRangeByte_30 (lv_at hl 0 rfl) ?_
  refine W.widen (k := 1) (n := n) (by first | exact Nat.le_of_ble_eq_true rfl | omega) (by first | exact Nat.le_of_ble_eq_true rfl | omega) ?_
  exact g_aret (va_cpy of (fun _ => 0) 0 0 n) X hw hr (Or.inr ⟨_, rfl⟩) hlocks (by exact ⟨asc_cpy (fun i hi => by rw [Nat.zero_add]; exact hof i (by omega)) asc_0, fun k hk => cpy_lo hk⟩) rfl dJ5_copyOfRangeByte_32

set_option maxHeartbeats 4000000 in
theorem m_J5_copyOfRange (l : Launch) (D : va_G) (dA : Nat → ClassId) (A : Nat → Prop) (E : State → Prop) (hE : gSt A E) (R : va_W) (ob oc n : Nat) (of : gG) (hn : n ≤ oc) (hoc : oc ≤ 262) (hof : gAsc of oc) : Met l yJ5_copyOfRange (ws_ yJ5_copyOfRange cJ5_copyOfRange 3 (Option.some (FieldType.array FieldType.byte))) ({ frames := 2, cells := 1, slots := n, locals := 64 }) (va_Pc [.ref ob, .int 0, .int (nI n)] (gB D dA A E ((ob, .inl (dA 2, oc, .inl of)) :: R))) (va_Qr (fun (u : gG) => gAsc u n ∧ ∀ k, k < n → u k = of k) (fun u a => gE D A ((a, .inl (dA 2, n, .inl u)) :: (ob, .inl (dA 2, oc, .inl of)) :: R)) A) (1) (n) A := by
  refine g_start rfl rfl ?_
  intro p e s m args below meth c ls X hr hlocks hin hw hl
  have hx := X.1.1
  have hb := X.1.2.1
  have hl : lv_has ls 3 [(0, .ref ob), (1, .int 0), (2, .int (nI n))] := hl
  refine lv_iload_n hx hb dJ5_copyOfRange_0 rfl (lv_at hl 1 rfl) ?_
  refine lv_if_ne (tgt := 10) hx hb dJ5_copyOfRange_1 (by decide) (fun c_1 => absurd (by decide) c_1) (fun c_1 => ?_)
  refine lv_iload_n hx hb dJ5_copyOfRange_4 rfl (lv_at hl 2 rfl) ?_
  refine lv_aload_n hx hb dJ5_copyOfRange_5 rfl (lv_at hl 0 rfl) ?_
  refine g_alen X hw 0 2 rfl rfl dJ5_copyOfRange_6 ?_
  refine lv_icmp_eq (tgt := 17) hx hb dJ5_copyOfRange_7 (by decide) (fun c_2 => ?_) (fun c_2 => ?_)
  · skip
    have c_2 : n = oc := (nI_eq (a := n) (b := oc) (by omega) (by omega)).mp c_2
    refine lv_aload_n hx hb dJ5_copyOfRange_17 rfl (lv_at hl 0 rfl) ?_
    have heqn : n = oc := c_2
    subst heqn
    refine g_cloneB X hl.1 hw q1114 0 rfl (fun i hi => asc_fit hof (by omega)) (Nat.le_of_ble_eq_true rfl) (Nat.le_of_ble_eq_true rfl) (Nat.le_of_ble_eq_true rfl) (by dsimp only; omega) dJ5_copyOfRange_18 (fun q_3 H hw => ?_)
    refine g_castB X hw q1120 0 rfl dJ5_copyOfRange_21 ?_
    refine W.widen (k := 1) (n := n) (by first | exact Nat.le_of_ble_eq_true rfl | omega) (by first | exact Nat.le_of_ble_eq_true rfl | omega) ?_
    exact g_aret of X hw hr (Or.inr ⟨_, rfl⟩) hlocks (by exact ⟨hof, fun k hk => rfl⟩) rfl dJ5_copyOfRange_24
  · skip
    have c_2 : ¬ (n = oc) := fun q => c_2 ((nI_eq (a := n) (b := oc) (by omega) (by omega)).mpr q)
    refine lv_aload_n hx hb dJ5_copyOfRange_10 rfl (lv_at hl 0 rfl) ?_
    refine lv_iload_n hx hb dJ5_copyOfRange_11 rfl (lv_at hl 1 rfl) ?_
    refine lv_iload_n hx hb dJ5_copyOfRange_12 rfl (lv_at hl 2 rfl) ?_
    refine va_callr (va_runS (As := [.ref ob, .int 0, .int (nI n)]) (rest := []) X.1 (m_J5_copyOfRangeByte l D dA A E hE R ob oc n of (by first | assumption | omega) (by first | assumption | omega) (by first | assumption | omega)) (va_cwS 3 X.1.2.2.2.2 (lw_S q1357 q1358 q73 q1359) rfl rfl rfl (by decide +kernel) ⟨Nat.le_of_ble_eq_true rfl, Nat.le_of_ble_eq_true rfl⟩) (g_preS hE X.2 hw) rfl rfl hl.1 rfl (lv_room (Nat.le_of_ble_eq_true rfl)) dJ5_copyOfRange_13 ⟨by dsimp only; omega, by dsimp only; omega⟩) hw.2.2 (fun q _ h => h) (fun q h => h) (fun u q_5 t H locs ht hvm h_4 hB hz9 hk9 hS => ?_)
    obtain ⟨u_6, rfl⟩ : ∃ z, z = u := ⟨_, rfl⟩
    have hw : gW D A ((q_5, .inl (dA 2, n, .inl u_6)) :: (ob, .inl (dA 2, oc, .inl of)) :: R) s H locs := g_aft ht hB hS
    have h_4 : gAsc u_6 n ∧ ∀ k, k < n → u_6 k = of k := h_4
    refine W.widen (k := 1) (n := n) (by first | exact Nat.le_of_ble_eq_true rfl | omega) (by first | exact Nat.le_of_ble_eq_true rfl | omega) ?_
    exact g_aret u_6 X hw hr (Or.inr ⟨_, rfl⟩) hlocks (by exact h_4) rfl dJ5_copyOfRange_16
