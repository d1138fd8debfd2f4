set_option maxHeartbeats 4000000 in
theorem m_X12_here (l : Launch) (D : va_G) (dA : Nat → ClassId) (A : Nat → Prop) (E : State → Prop) (hE : gSt A E) (R : va_W) (kA : Nat → Nat) (hKE : gKE A E kA) (rd ws o tb tc tn pl : Nat) (tl : Int32) (tf : gG) (h60 : tn ≤ 60) (htc : tn ≤ tc) (htd : tc ≤ 262) (htf : gAsc tf tc) (hpl : pl ≤ tn)  : Met l yX12_here (ws_ yX12_here cX12_here 1 (Option.some FieldType.int)) ({ frames := 4, cells := 0, slots := 0, locals := 88 }) (va_Pc [.ref rd] (gB D dA A E ((rd, .inr (11, [.ref ws, .ref o, .int (nI pl)])) :: (o, .inr (16, [.ref tb, .int 0, .int tl, .int (nI tn)])) :: (tb, .inl (dA 2, tc, .inl tf)) :: R))) (va_Qi (fun (r : Int32) (_ : Unit) => r = hereJ tf tn pl) (fun _ => gE D A ((rd, .inr (11, [.ref ws, .ref o, .int (nI pl)])) :: (o, .inr (16, [.ref tb, .int 0, .int tl, .int (nI tn)])) :: (tb, .inl (dA 2, tc, .inl tf)) :: R)) A) (0) (0) A := by
  refine g_start rfl rfl ?_
  intro p e s m args below meth c ls X hr hlocks hin hw hl
  have hx := X.1.1
  have hb := X.1.2.1
  have hl : lv_has ls 1 [(0, .ref rd)] := hl
  refine lv_aload_n hx hb dX12_here_0 rfl (lv_at hl 0 rfl) ?_
  refine g_get X cfX12 hw 0 2 rfl rfl q1196 rfl rfl dX12_here_1 ?_
  refine lv_aload_n hx hb dX12_here_4 rfl (lv_at hl 0 rfl) ?_
  refine g_get X cfX12 hw 0 1 rfl rfl q1195 rfl rfl dX12_here_5 ?_
  replace hw : gW D A ((o, .inr (16, [.ref tb, .int 0, .int tl, .int (nI tn)])) :: (tb, .inl (dA 2, tc, .inl tf)) :: (rd, .inr (11, [.ref ws, .ref o, .int (nI pl)])) :: R) s _ _ := g_perm (X := [(rd, .inr (11, [.ref ws, .ref o, .int (nI pl)])), (o, .inr (16, [.ref tb, .int 0, .int tl, .int (nI tn)])), (tb, .inl (dA 2, tc, .inl tf))]) (cx := [(o, .inr (16, [.ref tb, .int 0, .int tl, .int (nI tn)])), (tb, .inl (dA 2, tc, .inl tf)), (rd, .inr (11, [.ref ws, .ref o, .int (nI pl)]))]) (pl := R) hw [1, 2, 0] rfl rfl rfl rfl
  refine va_callFi (va_runF (g_cat X.2.1 16 rfl) (As := []) (rest := [.int (nI pl)]) X.1 (m_J8_length l D dA A E hE ((rd, .inr (11, [.ref ws, .ref o, .int (nI pl)])) :: R) o tb tc tn tl tf) (va_cwF 0 X.1.2.2.2.2 (lw_app (lw_in4 q1241 q1255 q1088 q77) (lw_meth q1090)) rfl rfl rfl (X.2.2.1.fw 5 rfl) (by decide +kernel) ⟨Nat.le_of_ble_eq_true rfl, Nat.le_of_ble_eq_true rfl⟩) (g_preV hE X.2 hw 0 rfl rfl) rfl rfl hl.1 rfl (lv_room (Nat.le_of_ble_eq_true rfl)) dX12_here_8 ⟨Nat.le_of_ble_eq_true rfl, Nat.le_of_ble_eq_true rfl⟩) hw.2.2 (fun q _ h => h) (fun q h => h) (fun r_2 u t H locs ht hvm h_1 hB hz9 hk9 hS => ?_)
  replace hw : gW D A ((o, .inr (16, [.ref tb, .int 0, .int tl, .int (nI tn)])) :: (tb, .inl (dA 2, tc, .inl tf)) :: (rd, .inr (11, [.ref ws, .ref o, .int (nI pl)])) :: R) s H locs := g_aft ht hB hS
  clear hS hk9 hz9 hB hvm ht
  clear t
  obtain rfl : r_2 = nI tn := h_1
  refine lv_icmp_ge (tgt := 32) hx hb dX12_here_13 (by decide) (fun c_3 => ?_) (fun c_3 => ?_)
  · skip
    have c_3 := Int32.not_lt.mpr c_3
    have c_3 : ¬ (pl < tn) := fun q => c_3 ((nI_ltI (a := pl) (b := tn) (by omega) (by omega)).mpr q)
    refine lv_bipush (v := (-11)) hx hb dX12_here_32 (by decide) ?_
    replace hw : gW D A ((rd, .inr (11, [.ref ws, .ref o, .int (nI pl)])) :: (o, .inr (16, [.ref tb, .int 0, .int tl, .int (nI tn)])) :: (tb, .inl (dA 2, tc, .inl tf)) :: R) s _ _ := g_perm (X := [(o, .inr (16, [.ref tb, .int 0, .int tl, .int (nI tn)])), (tb, .inl (dA 2, tc, .inl tf)), (rd, .inr (11, [.ref ws, .ref o, .int (nI pl)]))]) (cx := [(rd, .inr (11, [.ref ws, .ref o, .int (nI pl)])), (o, .inr (16, [.ref tb, .int 0, .int tl, .int (nI tn)])), (tb, .inl (dA 2, tc, .inl tf))]) (pl := R) hw [2, 0, 1] rfl rfl rfl rfl
    exact g_iret (v := (-11)) () X hw hr hlocks  (by rw [hereJ, if_neg (by omega)]) rfl dX12_here_34
  · skip
    have c_3 := Int32.not_le.mp c_3
    have c_3 : pl < tn := (nI_ltI (a := pl) (b := tn) (by omega) (by omega)).mp c_3
    refine lv_aload_n hx hb dX12_here_16 rfl (lv_at hl 0 rfl) ?_
    refine g_get X cfX12 hw 2 1 rfl rfl q1195 rfl rfl dX12_here_17 ?_
    refine lv_aload_n hx hb dX12_here_20 rfl (lv_at hl 0 rfl) ?_
    refine g_get X cfX12 hw 2 2 rfl rfl q1196 rfl rfl dX12_here_21 ?_
    refine va_callFi (va_runF (g_cat X.2.1 16 rfl) (As := [.int (nI pl)]) (rest := []) X.1 (m_J8_charAt l D dA A E hE ((rd, .inr (11, [.ref ws, .ref o, .int (nI pl)])) :: R) kA (by first | assumption | omega | decide) o tb tc tn tl tf (by first | assumption | omega | decide) (by first | assumption | omega | decide) (by first | assumption | omega | decide) pl (by first | assumption | omega | decide)) (va_cwF 1 X.1.2.2.2.2 (lw_app (lw_in4 q1259 q1281 q1283 q77) (lw_meth q1285)) rfl rfl rfl (X.2.2.1.fw 6 rfl) (by decide +kernel) ⟨Nat.le_of_ble_eq_true rfl, Nat.le_of_ble_eq_true rfl⟩) (g_preV hE X.2 hw 0 rfl rfl) rfl rfl hl.1 rfl (lv_room (Nat.le_of_ble_eq_true rfl)) dX12_here_24 ⟨Nat.le_of_ble_eq_true rfl, Nat.le_of_ble_eq_true rfl⟩) hw.2.2 (fun q _ h => h) (fun q h => h) (fun r_5 u t H locs ht hvm h_4 hB hz9 hk9 hS => ?_)
    replace hw : gW D A ((o, .inr (16, [.ref tb, .int 0, .int tl, .int (nI tn)])) :: (tb, .inl (dA 2, tc, .inl tf)) :: (rd, .inr (11, [.ref ws, .ref o, .int (nI pl)])) :: R) s H locs := g_aft ht hB hS
    clear hS hk9 hz9 hB hvm ht
    clear t
    obtain rfl : r_5 = tf pl := h_4
    refine lv_goto (tgt := 34) hx hb dX12_here_29 (by decide) ?_
    replace hw : gW D A ((rd, .inr (11, [.ref ws, .ref o, .int (nI pl)])) :: (o, .inr (16, [.ref tb, .int 0, .int tl, .int (nI tn)])) :: (tb, .inl (dA 2, tc, .inl tf)) :: R) s _ _ := g_perm (X := [(o, .inr (16, [.ref tb, .int 0, .int tl, .int (nI tn)])), (tb, .inl (dA 2, tc, .inl tf)), (rd, .inr (11, [.ref ws, .ref o, .int (nI pl)]))]) (cx := [(rd, .inr (11, [.ref ws, .ref o, .int (nI pl)])), (o, .inr (16, [.ref tb, .int 0, .int tl, .int (nI tn)])), (tb, .inl (dA 2, tc, .inl tf))]) (pl := R) hw [2, 0, 1] rfl rfl rfl rfl
    exact g_iret (v := tf pl) () X hw hr hlocks  (by rw [hereJ, if_pos (by omega)]) rfl dX12_here_34

set_option maxHeartbeats 4000000 in
theorem m_X12_needsN (l : Launch) (D : va_G) (dA : Nat → ClassId) (A : Nat → Prop) (E : State → Prop) (hE : gSt A E) (R : va_W) (rd ws o pl : Nat)  : Met l yX12_needs (ws_ yX12_needs cX12_needs 2 (Option.none : Option FieldType)) ({ frames := 0, cells := 0, slots := 0, locals := 0 }) (va_Pc [.ref rd, .int 1] (gB D dA A E ((rd, .inr (11, [.ref ws, .ref o, .int (nI pl)])) :: R))) (va_Qv (fun (_ : Unit) => True) (fun _ => gE D A ((rd, .inr (11, [.ref ws, .ref o, .int (nI pl)])) :: R)) A) (0) (0) A := by
  refine g_start rfl rfl ?_
  intro p e s m args below meth c ls X hr hlocks hin hw hl
  have hx := X.1.1
  have hb := X.1.2.1
  have hl : lv_has ls 2 [(0, .ref rd), (1, .int 1)] := hl
  refine lv_iload_n hx hb dX12_needs_0 rfl (lv_at hl 1 rfl) ?_
  refine lv_if_ne (tgt := 16) hx hb dX12_needs_1 (by decide) (fun c_1 => ?_) (fun c_1 => absurd c_1 (by decide))
  exact g_vret () X hw hr hlocks trivial rfl dX12_needs_16

set_option maxHeartbeats 4000000 in
theorem m_X12_needsT (l : Launch) (D : va_G) (dA : Nat → ClassId) (A : Nat → Prop) (E : State → Prop) (hE : gSt A E) (R : va_W) (kA : Nat → Nat) (hKE : gKE A E kA) (rd ws o pl : Nat)  : vy_Met l yX12_needs (ws_ yX12_needs cX12_needs 2 (Option.none : Option FieldType)) ({ frames := 4, cells := 1, slots := 8, locals := 81 }) (va_Pc [.ref rd, .int 0] (gB D dA A E ((rd, .inr (11, [.ref ws, .ref o, .int (nI pl)])) :: R))) (va_Qv (fun (_ : Unit) => False) (fun _ => gE D A ((rd, .inr (11, [.ref ws, .ref o, .int (nI pl)])) :: R)) A) (vy_X (fun (tu : Int32) => tu = nI pl) (gTh D A RX14 13 wroF (fun tu => (rd, .inr (11, [.ref ws, .ref o, .int (nI pl)])) :: R)) A) (1) (8) A := by
  refine g_startX rfl rfl ?_
  intro p e s m args below meth c ls X hr hlocks hin hnt hw hl
  have hx := X.1.1
  have hb := X.1.2.1
  have hl : lv_has ls 2 [(0, .ref rd), (1, .int 0)] := hl
  refine lv_iload_n hx hb dX12_needs_0 rfl (lv_at hl 1 rfl) ?_
  refine lv_if_ne (tgt := 16) hx hb dX12_needs_1 (by decide) (fun c_1 => absurd (by decide) c_1) (fun c_1 => ?_)
  refine g_new (fs := [.null, .null, .null, .null, .null, .int 0, .int 0]) X cfX14 hw q1508 q1509 q102 (fun j hj => by rcases (show j = 0 ∨ j = 1 ∨ j = 2 ∨ j = 3 ∨ j = 4 ∨ j = 5 ∨ j = 6 by omega) with rfl | rfl | rfl | rfl | rfl | rfl | rfl <;> rfl) (Nat.le_of_ble_eq_true rfl) (Nat.le_of_ble_eq_true rfl) dX12_needs_4 (fun q_2 H hw9 => ?_)
  replace hw := hw9
  clear hw9
  refine lv_dup hx hb dX12_needs_7 rfl ?_
  refine lv_aload_n hx hb dX12_needs_8 rfl (lv_at hl 0 rfl) ?_
  refine g_get X cfX12 hw 1 2 rfl rfl q1196 rfl rfl dX12_needs_9 ?_
  refine va_callv (va_runI (As := [.int (nI pl)]) (rest := [.ref q_2]) X.1 (m_X14_init l D dA A E hE ((rd, .inr (11, [.ref ws, .ref o, .int (nI pl)])) :: R) kA (by first | assumption | omega | decide) q_2 (nI pl)) (cwI 1 X.1.2.2.2.2 (lw_meth q1519) rfl rfl rfl (X.1.2.2.2.2 _ q102) (X.1.2.2.2.2 _ q1517) (X.1.2.2.2.2 _ q1518) rfl (by decide +kernel) ⟨Nat.le_of_ble_eq_true rfl, Nat.le_of_ble_eq_true rfl⟩) (g_preS hE X.2 hw) rfl rfl hl.1 rfl (lv_room (Nat.le_of_ble_eq_true rfl)) dX12_needs_12 ⟨Nat.le_of_ble_eq_true rfl, Nat.le_of_ble_eq_true rfl⟩) hw.2.2 (fun q _ h => h) (fun q h => h) (fun u t H locs ht hvm h_3 hB hz9 hk9 hS => ?_)
  replace hw : gW D A ((q_2, .inr (13, [.null, .null, .null, .null, .null, .int 0, .int (nI pl)])) :: (rd, .inr (11, [.ref ws, .ref o, .int (nI pl)])) :: R) s H locs := g_aft ht hB hS
  clear hS hk9 hz9 hB hvm ht
  clear t
  refine vx_athrow X.1.1 X.1.2.1 dX12_needs_15 ?_
  exact g_thr (px := fun (tu : Int32) => tu = nI pl) (nI pl) X hw hnt hlocks rfl (by first | assumption | rfl) rfl (rfl) (by first | exact Nat.le_of_ble_eq_true rfl | omega) (by first | exact Nat.le_of_ble_eq_true rfl | omega)

set_option maxHeartbeats 4000000 in
theorem m_X12_takesY (l : Launch) (D : va_G) (dA : Nat → ClassId) (A : Nat → Prop) (E : State → Prop) (hE : gSt A E) (R : va_W) (kA : Nat → Nat) (hKE : gKE A E kA) (rd ws o tb tc tn pl : Nat) (tl : Int32) (tf : gG) (h60 : tn ≤ 60) (htc : tn ≤ tc) (htd : tc ≤ 262) (htf : gAsc tf tc) (hpl : pl ≤ tn) (c0 : Int32) (hc0 : hereJ tf tn pl = c0) : Met l yX12_takes (ws_ yX12_takes cX12_takes 3 (Option.some FieldType.boolean)) ({ frames := 5, cells := 0, slots := 0, locals := 108 }) (va_Pc [.ref rd, .int c0] (gB D dA A E ((rd, .inr (11, [.ref ws, .ref o, .int (nI pl)])) :: (o, .inr (16, [.ref tb, .int 0, .int tl, .int (nI tn)])) :: (tb, .inl (dA 2, tc, .inl tf)) :: R))) (va_Qi (fun (r : Int32) (_ : Unit) => r = 1) (fun _ => gE D A ((rd, .inr (11, [.ref ws, .ref o, .int (nI (pl + 1))])) :: (o, .inr (16, [.ref tb, .int 0, .int tl, .int (nI tn)])) :: (tb, .inl (dA 2, tc, .inl tf)) :: R)) A) (0) (0) A := by
  refine g_start rfl rfl ?_
  intro p e s m args below meth c ls X hr hlocks hin hw hl
  have hx := X.1.1
  have hb := X.1.2.1
  have hl : lv_has ls 3 [(0, .ref rd), (1, .int c0)] := hl
  refine lv_aload_n hx hb dX12_takes_0 rfl (lv_at hl 0 rfl) ?_
  refine va_calli (va_runV (As := []) (rest := []) X.1 (m_X12_here l D dA A E hE R kA (by first | assumption | omega | decide) rd ws o tb tc tn pl tl tf (by first | assumption | omega | decide) (by first | assumption | omega | decide) (by first | assumption | omega | decide) (by first | assumption | omega | decide) (by first | assumption | omega | decide)) (cwV 0 X.1.2.2.2.2 (lw_V q1236 q1238 qs17 q95 q1239) rfl rfl rfl (by decide +kernel) ⟨Nat.le_of_ble_eq_true rfl, Nat.le_of_ble_eq_true rfl⟩) (g_preV hE X.2 hw 0 rfl rfl) rfl rfl hl.1 rfl (lv_room (Nat.le_of_ble_eq_true rfl)) dX12_takes_1 ⟨Nat.le_of_ble_eq_true rfl, Nat.le_of_ble_eq_true rfl⟩) hw.2.2 (fun q _ h => h) (fun q h => h) (fun r_2 u t H locs ht hvm h_1 hB hz9 hk9 hS => ?_)
  replace hw : gW D A ((rd, .inr (11, [.ref ws, .ref o, .int (nI pl)])) :: (o, .inr (16, [.ref tb, .int 0, .int tl, .int (nI tn)])) :: (tb, .inl (dA 2, tc, .inl tf)) :: R) s H locs := g_aft ht hB hS
  clear hS hk9 hz9 hB hvm ht
  clear t
  obtain rfl : r_2 = hereJ tf tn pl := h_1
  refine lv_iload_n hx hb dX12_takes_4 rfl (lv_at hl 1 rfl) ?_
  refine lv_icmp_ne (tgt := 12) hx hb dX12_takes_5 (by decide) (fun c_3 => absurd (hc0) c_3) (fun c_3 => ?_)
  refine lv_iconst (v := 1) hx hb dX12_takes_8 (by decide) ?_
  refine lv_goto (tgt := 13) hx hb dX12_takes_9 (by decide) ?_
  refine lv_istore_n (lv' := [(2, .int 1), (0, .ref rd), (1, .int c0)]) hx hb dX12_takes_13 rfl hl (by decide) rfl (fun ls hl9 => ?_)
  replace hl := hl9
  clear hl9
  refine lv_aload_n hx hb dX12_takes_14 rfl (lv_at hl 1 rfl) ?_
  refine lv_dup hx hb dX12_takes_15 rfl ?_
  refine g_get X cfX12 hw 0 2 rfl rfl q1196 rfl rfl dX12_takes_16 ?_
  refine lv_iload_n hx hb dX12_takes_19 rfl (lv_at hl 0 rfl) ?_
  refine lv_if_eq (tgt := 27) hx hb dX12_takes_20 (by decide) (fun c_4 => absurd c_4 (by decide)) (fun c_4 => ?_)
  refine lv_iconst (v := 1) hx hb dX12_takes_23 (by decide) ?_
  refine lv_goto (tgt := 28) hx hb dX12_takes_24 (by decide) ?_
  refine lv_iadd hx hb dX12_takes_28 ?_
  refine g_addN (a := pl) (b := 1) ?_
  refine g_put (ws' := (rd, .inr (11, [.ref ws, .ref o, .int (nI (pl + 1))])) :: (o, .inr (16, [.ref tb, .int 0, .int tl, .int (nI tn)])) :: (tb, .inl (dA 2, tc, .inl tf)) :: R) X cfX12 hw 0 2 rfl rfl q1196 rfl rfl rfl rfl rfl rfl dX12_takes_29 (fun H locs hw9 => ?_)
  replace hw := hw9
  clear hw9
  refine lv_iload_n hx hb dX12_takes_32 rfl (lv_at hl 0 rfl) ?_
  exact g_zret (v := 1) () X hw hr hlocks rfl rfl rfl dX12_takes_33

set_option maxHeartbeats 4000000 in
theorem m_X12_takesN (l : Launch) (D : va_G) (dA : Nat → ClassId) (A : Nat → Prop) (E : State → Prop) (hE : gSt A E) (R : va_W) (kA : Nat → Nat) (hKE : gKE A E kA) (rd ws o tb tc tn pl : Nat) (tl : Int32) (tf : gG) (h60 : tn ≤ 60) (htc : tn ≤ tc) (htd : tc ≤ 262) (htf : gAsc tf tc) (hpl : pl ≤ tn) (c0 : Int32) (hc0 : ¬ hereJ tf tn pl = c0) : Met l yX12_takes (ws_ yX12_takes cX12_takes 3 (Option.some FieldType.boolean)) ({ frames := 5, cells := 0, slots := 0, locals := 108 }) (va_Pc [.ref rd, .int c0] (gB D dA A E ((rd, .inr (11, [.ref ws, .ref o, .int (nI pl)])) :: (o, .inr (16, [.ref tb, .int 0, .int tl, .int (nI tn)])) :: (tb, .inl (dA 2, tc, .inl tf)) :: R))) (va_Qi (fun (r : Int32) (_ : Unit) => r = 0) (fun _ => gE D A ((rd, .inr (11, [.ref ws, .ref o, .int (nI pl)])) :: (o, .inr (16, [.ref tb, .int 0, .int tl, .int (nI tn)])) :: (tb, .inl (dA 2, tc, .inl tf)) :: R)) A) (0) (0) A := by
  refine g_start rfl rfl ?_
  intro p e s m args below meth c ls X hr hlocks hin hw hl
  have hx := X.1.1
  have hb := X.1.2.1
  have hl : lv_has ls 3 [(0, .ref rd), (1, .int c0)] := hl
  refine lv_aload_n hx hb dX12_takes_0 rfl (lv_at hl 0 rfl) ?_
  refine va_calli (va_runV (As := []) (rest := []) X.1 (m_X12_here l D dA A E hE R kA (by first | assumption | omega | decide) rd ws o tb tc tn pl tl tf (by first | assumption | omega | decide) (by first | assumption | omega | decide) (by first | assumption | omega | decide) (by first | assumption | omega | decide) (by first | assumption | omega | decide)) (cwV 0 X.1.2.2.2.2 (lw_V q1236 q1238 qs17 q95 q1239) rfl rfl rfl (by decide +kernel) ⟨Nat.le_of_ble_eq_true rfl, Nat.le_of_ble_eq_true rfl⟩) (g_preV hE X.2 hw 0 rfl rfl) rfl rfl hl.1 rfl (lv_room (Nat.le_of_ble_eq_true rfl)) dX12_takes_1 ⟨Nat.le_of_ble_eq_true rfl, Nat.le_of_ble_eq_true rfl⟩) hw.2.2 (fun q _ h => h) (fun q h => h) (fun r_2 u t H locs ht hvm h_1 hB hz9 hk9 hS => ?_)
  replace hw : gW D A ((rd, .inr (11, [.ref ws, .ref o, .int (nI pl)])) :: (o, .inr (16, [.ref tb, .int 0, .int tl, .int (nI tn)])) :: (tb, .inl (dA 2, tc, .inl tf)) :: R) s H locs := g_aft ht hB hS
  clear hS hk9 hz9 hB hvm ht
  clear t
  obtain rfl : r_2 = hereJ tf tn pl := h_1
  refine lv_iload_n hx hb dX12_takes_4 rfl (lv_at hl 1 rfl) ?_
  refine lv_icmp_ne (tgt := 12) hx hb dX12_takes_5 (by decide) (fun c_3 => ?_) (fun c_3 => absurd c_3 (hc0))
  refine lv_iconst (v := 0) hx hb dX12_takes_12 (by decide) ?_
  refine lv_istore_n (lv' := [(2, .int 0), (0, .ref rd), (1, .int c0)]) hx hb dX12_takes_13 rfl hl (by decide) rfl (fun ls hl9 => ?_)
  replace hl := hl9
  clear hl9
  refine lv_aload_n hx hb dX12_takes_14 rfl (lv_at hl 1 rfl) ?_
  refine lv_dup hx hb dX12_takes_15 rfl ?_
  refine g_get X cfX12 hw 0 2 rfl rfl q1196 rfl rfl dX12_takes_16 ?_
  refine lv_iload_n hx hb dX12_takes_19 rfl (lv_at hl 0 rfl) ?_
  refine lv_if_eq (tgt := 27) hx hb dX12_takes_20 (by decide) (fun c_4 => ?_) (fun c_4 => absurd (by decide) c_4)
  refine lv_iconst (v := 0) hx hb dX12_takes_27 (by decide) ?_
  refine lv_iadd hx hb dX12_takes_28 ?_
  refine g_addN (a := pl) (b := 0) ?_
  refine g_put (ws' := (rd, .inr (11, [.ref ws, .ref o, .int (nI (pl + 0))])) :: (o, .inr (16, [.ref tb, .int 0, .int tl, .int (nI tn)])) :: (tb, .inl (dA 2, tc, .inl tf)) :: R) X cfX12 hw 0 2 rfl rfl q1196 rfl rfl rfl rfl rfl rfl dX12_takes_29 (fun H locs hw9 => ?_)
  replace hw := hw9
  clear hw9
  refine lv_iload_n hx hb dX12_takes_32 rfl (lv_at hl 0 rfl) ?_
  exact g_zret (v := 0) () X hw hr hlocks rfl rfl rfl dX12_takes_33

set_option maxHeartbeats 4000000 in
theorem m_X12_number1 (l : Launch) (D : va_G) (dA : Nat → ClassId) (A : Nat → Prop) (E : State → Prop) (hE : gSt A E) (R : va_W) (kA : Nat → Nat) (hKE : gKE A E kA) (rd ws o tb tc tn pl : Nat) (tl : Int32) (tf : gG) (h60 : tn ≤ 60) (htc : tn ≤ tc) (htd : tc ≤ 262) (htf : gAsc tf tc) (hpl : pl ≤ tn)  : vy_Met l yX12_number (ws_ yX12_number cX12_number 4 (Option.some FieldType.int)) ({ frames := 5, cells := 1, slots := 8, locals := 108 }) (va_Pc [.ref rd, .int 1] (gB D dA A E ((rd, .inr (11, [.ref ws, .ref o, .int (nI pl)])) :: (o, .inr (16, [.ref tb, .int 0, .int tl, .int (nI tn)])) :: (tb, .inl (dA 2, tc, .inl tf)) :: R))) (va_Qi (fun (r : Int32) (_ : Unit) => (digitP tf tn pl false).2.2 = false ∧ r = (digitP tf tn pl false).1) (fun _ => gE D A ((rd, .inr (11, [.ref ws, .ref o, .int (nI ((digitP tf tn pl false).2.1))])) :: (o, .inr (16, [.ref tb, .int 0, .int tl, .int (nI tn)])) :: (tb, .inl (dA 2, tc, .inl tf)) :: R)) A) (vy_X (fun (tu : Int32) => (digitP tf tn pl false).2 = (pl, true) ∧ tu = nI pl) (gTh D A RX14 13 wroF (fun tu => (rd, .inr (11, [.ref ws, .ref o, .int (nI pl)])) :: (o, .inr (16, [.ref tb, .int 0, .int tl, .int (nI tn)])) :: (tb, .inl (dA 2, tc, .inl tf)) :: R)) A) (1) (8) A := by
  refine g_startX rfl rfl ?_
  intro p e s m args below meth c ls X hr hlocks hin hnt hw hl
  have hx := X.1.1
  have hb := X.1.2.1
  have hl : lv_has ls 4 [(0, .ref rd), (1, .int 1)] := hl
  refine lv_aload_n hx hb dX12_number_0 rfl (lv_at hl 0 rfl) ?_
  refine lv_aload_n hx hb dX12_number_1 rfl (lv_at hl 0 rfl) ?_
  refine va_calli (va_runV (As := []) (rest := [.ref rd]) X.1 (m_X12_here l D dA A E hE R kA (by first | assumption | omega | decide) rd ws o tb tc tn pl tl tf (by first | assumption | omega | decide) (by first | assumption | omega | decide) (by first | assumption | omega | decide) (by first | assumption | omega | decide) (by first | assumption | omega | decide)) (cwV 0 X.1.2.2.2.2 (lw_V q1236 q1238 qs17 q95 q1239) rfl rfl rfl (by decide +kernel) ⟨Nat.le_of_ble_eq_true rfl, Nat.le_of_ble_eq_true rfl⟩) (g_preV hE X.2 hw 0 rfl rfl) rfl rfl hl.1 rfl (lv_room (Nat.le_of_ble_eq_true rfl)) dX12_number_2 ⟨Nat.le_of_ble_eq_true rfl, Nat.le_of_ble_eq_true rfl⟩) hw.2.2 (fun q _ h => h) (fun q h => h) (fun r_2 u t H locs ht hvm h_1 hB hz9 hk9 hS => ?_)
  replace hw : gW D A ((rd, .inr (11, [.ref ws, .ref o, .int (nI pl)])) :: (o, .inr (16, [.ref tb, .int 0, .int tl, .int (nI tn)])) :: (tb, .inl (dA 2, tc, .inl tf)) :: R) s H locs := g_aft ht hB hS
  clear hS hk9 hz9 hB hvm ht
  clear t
  obtain rfl : r_2 = hereJ tf tn pl := h_1
  refine lv_bipush (v := 48) hx hb dX12_number_5 (by decide) ?_
  refine lv_bipush (v := 57) hx hb dX12_number_7 (by decide) ?_
  refine va_calli (va_runSN (As := [.int (hereJ tf tn pl), .int 48, .int 57]) (rest := [.ref rd]) X.1 (m_X0_isIn l D dA A E hE ((rd, .inr (11, [.ref ws, .ref o, .int (nI pl)])) :: (o, .inr (16, [.ref tb, .int 0, .int tl, .int (nI tn)])) :: (tb, .inl (dA 2, tc, .inl tf)) :: R) (hereJ tf tn pl) 48 57) ⟨va_cnB 3 X.1.2.2.2.2 (lw_meth q419) rfl rfl rfl (X.2.2.1.nw q1552 rfl) (X.1.2.2.2.2 _ q64) (by decide +kernel) ⟨Nat.le_of_ble_eq_true rfl, Nat.le_of_ble_eq_true rfl⟩, X.1.2.2.2.2 _ q418, trivial⟩ (g_preS hE X.2 hw) rfl rfl hl.1 rfl (lv_room (Nat.le_of_ble_eq_true rfl)) dX12_number_9 ⟨Nat.le_of_ble_eq_true rfl, Nat.le_of_ble_eq_true rfl⟩) hw.2.2 (fun q _ h => h) (fun q h => h) (fun r_4 u t H locs ht hvm h_3 hB hz9 hk9 hS => ?_)
  replace hw : gW D A ((rd, .inr (11, [.ref ws, .ref o, .int (nI pl)])) :: (o, .inr (16, [.ref tb, .int 0, .int tl, .int (nI tn)])) :: (tb, .inl (dA 2, tc, .inl tf)) :: R) s H locs := g_aft ht hB hS
  clear hS hk9 hz9 hB hvm ht
  clear t
  obtain rfl : r_4 = bZ (inR (hereJ tf tn pl) 48 57) := h_3
  by_cases hd9_5 : inR (hereJ tf tn pl) 48 57 = true
  · skip
    refine g_top (y := 1) (by rw [hd9_5]; rfl) ?_
    have hlt := dig_lt hd9_5
    refine va_callv (va_runV (As := [.int 1]) (rest := []) X.1 (m_X12_needsN l D dA A E hE ((o, .inr (16, [.ref tb, .int 0, .int tl, .int (nI tn)])) :: (tb, .inl (dA 2, tc, .inl tf)) :: R) rd ws o pl) (cwV 1 X.1.2.2.2.2 (lw_V q1504 q1506 qs19 q95 q1507) rfl rfl rfl (by decide +kernel) ⟨Nat.le_of_ble_eq_true rfl, Nat.le_of_ble_eq_true rfl⟩) (g_preV hE X.2 hw 0 rfl rfl) rfl rfl hl.1 rfl (lv_room (Nat.le_of_ble_eq_true rfl)) dX12_number_12 ⟨Nat.le_of_ble_eq_true rfl, Nat.le_of_ble_eq_true rfl⟩) hw.2.2 (fun q _ h => h) (fun q h => h) (fun u t H locs ht hvm h_6 hB hz9 hk9 hS => ?_)
    replace hw : gW D A ((rd, .inr (11, [.ref ws, .ref o, .int (nI pl)])) :: (o, .inr (16, [.ref tb, .int 0, .int tl, .int (nI tn)])) :: (tb, .inl (dA 2, tc, .inl tf)) :: R) s H locs := g_aft ht hB hS
    clear hS hk9 hz9 hB hvm ht
    clear t
    refine lv_iconst (v := 0) hx hb dX12_number_15 (by decide) ?_
    refine lv_istore_n (lv' := [(2, .int 0), (0, .ref rd), (1, .int 1)]) hx hb dX12_number_16 rfl hl (by decide) rfl (fun ls hl9 => ?_)
    replace hl := hl9
    clear hl9
    refine lv_iconst (v := 0) hx hb dX12_number_17 (by decide) ?_
    refine lv_istore_n (lv' := [(3, .int 0), (2, .int 0), (0, .ref rd), (1, .int 1)]) hx hb dX12_number_18 rfl hl (by decide) rfl (fun ls hl9 => ?_)
    replace hl := hl9
    clear hl9
    refine lv_iload_n hx hb dX12_number_19 rfl (lv_at hl 0 rfl) ?_
    refine lv_iload_n hx hb dX12_number_20 rfl (lv_at hl 3 rfl) ?_
    refine lv_icmp_ge (tgt := 67) hx hb dX12_number_21 (by decide) (fun c_7 => absurd c_7 (by decide)) (fun c_7 => ?_)
    refine lv_aload_n hx hb dX12_number_24 rfl (lv_at hl 2 rfl) ?_
    refine va_calli (va_runV (As := []) (rest := []) X.1 (m_X12_here l D dA A E hE R kA (by first | assumption | omega | decide) rd ws o tb tc tn pl tl tf (by first | assumption | omega | decide) (by first | assumption | omega | decide) (by first | assumption | omega | decide) (by first | assumption | omega | decide) (by first | assumption | omega | decide)) (cwV 0 X.1.2.2.2.2 (lw_V q1236 q1238 qs17 q95 q1239) rfl rfl rfl (by decide +kernel) ⟨Nat.le_of_ble_eq_true rfl, Nat.le_of_ble_eq_true rfl⟩) (g_preV hE X.2 hw 0 rfl rfl) rfl rfl hl.1 rfl (lv_room (Nat.le_of_ble_eq_true rfl)) dX12_number_25 ⟨Nat.le_of_ble_eq_true rfl, Nat.le_of_ble_eq_true rfl⟩) hw.2.2 (fun q _ h => h) (fun q h => h) (fun r_9 u t H locs ht hvm h_8 hB hz9 hk9 hS => ?_)
    replace hw : gW D A ((rd, .inr (11, [.ref ws, .ref o, .int (nI pl)])) :: (o, .inr (16, [.ref tb, .int 0, .int tl, .int (nI tn)])) :: (tb, .inl (dA 2, tc, .inl tf)) :: R) s H locs := g_aft ht hB hS
    clear hS hk9 hz9 hB hvm ht
    clear t
    obtain rfl : r_9 = hereJ tf tn pl := h_8
    refine lv_bipush (v := 48) hx hb dX12_number_28 (by decide) ?_
    refine lv_bipush (v := 57) hx hb dX12_number_30 (by decide) ?_
    refine va_calli (va_runSN (As := [.int (hereJ tf tn pl), .int 48, .int 57]) (rest := []) X.1 (m_X0_isIn l D dA A E hE ((rd, .inr (11, [.ref ws, .ref o, .int (nI pl)])) :: (o, .inr (16, [.ref tb, .int 0, .int tl, .int (nI tn)])) :: (tb, .inl (dA 2, tc, .inl tf)) :: R) (hereJ tf tn pl) 48 57) ⟨va_cnB 3 X.1.2.2.2.2 (lw_meth q419) rfl rfl rfl (X.2.2.1.nw q1552 rfl) (X.1.2.2.2.2 _ q64) (by decide +kernel) ⟨Nat.le_of_ble_eq_true rfl, Nat.le_of_ble_eq_true rfl⟩, X.1.2.2.2.2 _ q418, trivial⟩ (g_preS hE X.2 hw) rfl rfl hl.1 rfl (lv_room (Nat.le_of_ble_eq_true rfl)) dX12_number_32 ⟨Nat.le_of_ble_eq_true rfl, Nat.le_of_ble_eq_true rfl⟩) hw.2.2 (fun q _ h => h) (fun q h => h) (fun r_11 u t H locs ht hvm h_10 hB hz9 hk9 hS => ?_)
    replace hw : gW D A ((rd, .inr (11, [.ref ws, .ref o, .int (nI pl)])) :: (o, .inr (16, [.ref tb, .int 0, .int tl, .int (nI tn)])) :: (tb, .inl (dA 2, tc, .inl tf)) :: R) s H locs := g_aft ht hB hS
    clear hS hk9 hz9 hB hvm ht
    clear t
    obtain rfl : r_11 = bZ (inR (hereJ tf tn pl) 48 57) := h_10
    refine lv_if_eq (tgt := 67) hx hb dX12_number_35 (by decide) (fun c_12 => absurd c_12 (by rw [hd9_5]; decide)) (fun c_12 => ?_)
    refine lv_bipush (v := 10) hx hb dX12_number_38 (by decide) ?_
    refine lv_iload_n hx hb dX12_number_40 rfl (lv_at hl 1 rfl) ?_
    refine lv_imul hx hb dX12_number_41 ?_
    refine g_top (y := 0) (by decide) ?_
    refine lv_aload_n hx hb dX12_number_42 rfl (lv_at hl 2 rfl) ?_
    refine va_calli (va_runV (As := []) (rest := [.int 0]) X.1 (m_X12_here l D dA A E hE R kA (by first | assumption | omega | decide) rd ws o tb tc tn pl tl tf (by first | assumption | omega | decide) (by first | assumption | omega | decide) (by first | assumption | omega | decide) (by first | assumption | omega | decide) (by first | assumption | omega | decide)) (cwV 0 X.1.2.2.2.2 (lw_V q1236 q1238 qs17 q95 q1239) rfl rfl rfl (by decide +kernel) ⟨Nat.le_of_ble_eq_true rfl, Nat.le_of_ble_eq_true rfl⟩) (g_preV hE X.2 hw 0 rfl rfl) rfl rfl hl.1 rfl (lv_room (Nat.le_of_ble_eq_true rfl)) dX12_number_43 ⟨Nat.le_of_ble_eq_true rfl, Nat.le_of_ble_eq_true rfl⟩) hw.2.2 (fun q _ h => h) (fun q h => h) (fun r_14 u t H locs ht hvm h_13 hB hz9 hk9 hS => ?_)
    replace hw : gW D A ((rd, .inr (11, [.ref ws, .ref o, .int (nI pl)])) :: (o, .inr (16, [.ref tb, .int 0, .int tl, .int (nI tn)])) :: (tb, .inl (dA 2, tc, .inl tf)) :: R) s H locs := g_aft ht hB hS
    clear hS hk9 hz9 hB hvm ht
    clear t
    obtain rfl : r_14 = hereJ tf tn pl := h_13
    refine lv_iadd hx hb dX12_number_46 ?_
    refine g_top (y := hereJ tf tn pl) (Int32.zero_add _) ?_
    refine lv_bipush (v := 48) hx hb dX12_number_47 (by decide) ?_
    refine lv_isub hx hb dX12_number_49 ?_
    refine lv_istore_n (lv' := [(2, .int ((hereJ tf tn pl) - 48)), (3, .int 0), (0, .ref rd), (1, .int 1)]) hx hb dX12_number_50 rfl hl (by decide) rfl (fun ls hl9 => ?_)
    replace hl := hl9
    clear hl9
    refine lv_aload_n hx hb dX12_number_51 rfl (lv_at hl 2 rfl) ?_
    refine lv_dup hx hb dX12_number_52 rfl ?_
    refine g_get X cfX12 hw 0 2 rfl rfl q1196 rfl rfl dX12_number_53 ?_
    refine lv_iconst (v := 1) hx hb dX12_number_56 (by decide) ?_
    refine lv_iadd hx hb dX12_number_57 ?_
    refine g_addN (a := pl) (b := 1) ?_
    refine g_put (ws' := (rd, .inr (11, [.ref ws, .ref o, .int (nI (pl + 1))])) :: (o, .inr (16, [.ref tb, .int 0, .int tl, .int (nI tn)])) :: (tb, .inl (dA 2, tc, .inl tf)) :: R) X cfX12 hw 0 2 rfl rfl q1196 rfl rfl rfl rfl rfl rfl dX12_number_58 (fun H locs hw9 => ?_)
    replace hw := hw9
    clear hw9
    refine lv_iinc (v := 1) (lv' := [(3, .int 1), (2, .int ((hereJ tf tn pl) - 48)), (0, .ref rd), (1, .int 1)]) hx hb dX12_number_61 hl (k := 1) rfl (nI_add 0 1) (by decide) rfl (fun ls hl9 => ?_)
    replace hl := hl9
    clear hl9
    refine lv_goto (tgt := 19) hx hb dX12_number_64 (by decide) ?_
    refine lv_iload_n hx hb dX12_number_19 rfl (lv_at hl 0 rfl) ?_
    refine lv_iload_n hx hb dX12_number_20 rfl (lv_at hl 3 rfl) ?_
    refine lv_icmp_ge (tgt := 67) hx hb dX12_number_21 (by decide) (fun c_15 => ?_) (fun c_15 => absurd (by decide) c_15)
    refine lv_iload_n hx hb dX12_number_67 rfl (lv_at hl 1 rfl) ?_
    refine W.widen (k := 1) (n := 8) (by first | exact Nat.le_of_ble_eq_true rfl | omega) (by first | exact Nat.le_of_ble_eq_true rfl | omega) ?_
    exact vy_ret (g_iret (v := (hereJ tf tn pl) - 48) () X hw hr hlocks  (by rw [dig_1 hd9_5]; exact ⟨rfl, by simp⟩) (by rw [dig_1 hd9_5]) dX12_number_68)
  · skip
    refine g_top (y := 0) (by rw [Bool.eq_false_iff.mpr hd9_5]; rfl) ?_
    refine vy_callv (vy_runV (As := [.int 0]) (rest := []) X.1 (m_X12_needsT l D dA A E hE ((o, .inr (16, [.ref tb, .int 0, .int tl, .int (nI tn)])) :: (tb, .inl (dA 2, tc, .inl tf)) :: R) kA (by first | assumption | omega | decide) rd ws o pl) (cwV 1 X.1.2.2.2.2 (lw_V q1504 q1506 qs19 q95 q1507) rfl rfl rfl (by decide +kernel) ⟨Nat.le_of_ble_eq_true rfl, Nat.le_of_ble_eq_true rfl⟩) (g_preV hE X.2 hw 0 rfl rfl) rfl rfl hl.1 rfl (lv_room (Nat.le_of_ble_eq_true rfl)) dX12_number_12 ⟨Nat.le_of_ble_eq_true rfl, Nat.le_of_ble_eq_true rfl⟩) hw.2.2 (fun q _ h => h) (fun q h => h) (fun q _ h => h) (fun E9 ce9 q9 u9 t H locs ht hvm hp9 hB9 hz9 hk9 hS hce9 hcv9 hcl9 => ?_) (fun u t H locs ht hvm h_16 hB hz9 hk9 hS => ?_)
    · obtain ⟨-, hB⟩ := hB9
      obtain ⟨q_17, rfl⟩ : ∃ z, z = q9 := ⟨_, rfl⟩
      obtain ⟨u_18, rfl⟩ : ∃ z, z = u9 := ⟨_, rfl⟩
      replace hw : gW D A ((q_17, .inr (13, [.null, .null, .null, .null, .null, .int 0, .int u_18])) :: (rd, .inr (11, [.ref ws, .ref o, .int (nI pl)])) :: (o, .inr (16, [.ref tb, .int 0, .int tl, .int (nI tn)])) :: (tb, .inl (dA 2, tc, .inl tf)) :: R) s H locs := g_aft ht hB hS
      have hp_19 : u_18 = nI pl := hp9
      exact g_thr (px := fun (tu : Int32) => (digitP tf tn pl false).2 = (pl, true) ∧ tu = nI pl) u_18 X hw hnt hlocks rfl (by exact ⟨by rw [dig_0 hd9_5], hp_19⟩) rfl (rfl) (by first | exact Nat.le_of_ble_eq_true rfl | omega) (by first | exact Nat.le_of_ble_eq_true rfl | omega)
    exact h_16.elim

set_option maxHeartbeats 4000000 in
theorem m_X12_number2 (l : Launch) (D : va_G) (dA : Nat → ClassId) (A : Nat → Prop) (E : State → Prop) (hE : gSt A E) (R : va_W) (kA : Nat → Nat) (hKE : gKE A E kA) (rd ws o tb tc tn pl : Nat) (tl : Int32) (tf : gG) (h60 : tn ≤ 60) (htc : tn ≤ tc) (htd : tc ≤ 262) (htf : gAsc tf tc) (hpl : pl ≤ tn)  : vy_Met l yX12_number (ws_ yX12_number cX12_number 4 (Option.some FieldType.int)) ({ frames := 5, cells := 1, slots := 8, locals := 108 }) (va_Pc [.ref rd, .int 2] (gB D dA A E ((rd, .inr (11, [.ref ws, .ref o, .int (nI pl)])) :: (o, .inr (16, [.ref tb, .int 0, .int tl, .int (nI tn)])) :: (tb, .inl (dA 2, tc, .inl tf)) :: R))) (va_Qi (fun (r : Int32) (_ : Unit) => (numberP tf tn pl false).2.2 = false ∧ r = (numberP tf tn pl false).1) (fun _ => gE D A ((rd, .inr (11, [.ref ws, .ref o, .int (nI ((numberP tf tn pl false).2.1))])) :: (o, .inr (16, [.ref tb, .int 0, .int tl, .int (nI tn)])) :: (tb, .inl (dA 2, tc, .inl tf)) :: R)) A) (vy_X (fun (tu : Int32) => (numberP tf tn pl false).2 = (pl, true) ∧ tu = nI pl) (gTh D A RX14 13 wroF (fun tu => (rd, .inr (11, [.ref ws, .ref o, .int (nI pl)])) :: (o, .inr (16, [.ref tb, .int 0, .int tl, .int (nI tn)])) :: (tb, .inl (dA 2, tc, .inl tf)) :: R)) A) (1) (8) A := by
  refine g_startX rfl rfl ?_
  intro p e s m args below meth c ls X hr hlocks hin hnt hw hl
  have hx := X.1.1
  have hb := X.1.2.1
  have hl : lv_has ls 4 [(0, .ref rd), (1, .int 2)] := hl
  refine lv_aload_n hx hb dX12_number_0 rfl (lv_at hl 0 rfl) ?_
  refine lv_aload_n hx hb dX12_number_1 rfl (lv_at hl 0 rfl) ?_
  refine va_calli (va_runV (As := []) (rest := [.ref rd]) X.1 (m_X12_here l D dA A E hE R kA (by first | assumption | omega | decide) rd ws o tb tc tn pl tl tf (by first | assumption | omega | decide) (by first | assumption | omega | decide) (by first | assumption | omega | decide) (by first | assumption | omega | decide) (by first | assumption | omega | decide)) (cwV 0 X.1.2.2.2.2 (lw_V q1236 q1238 qs17 q95 q1239) rfl rfl rfl (by decide +kernel) ⟨Nat.le_of_ble_eq_true rfl, Nat.le_of_ble_eq_true rfl⟩) (g_preV hE X.2 hw 0 rfl rfl) rfl rfl hl.1 rfl (lv_room (Nat.le_of_ble_eq_true rfl)) dX12_number_2 ⟨Nat.le_of_ble_eq_true rfl, Nat.le_of_ble_eq_true rfl⟩) hw.2.2 (fun q _ h => h) (fun q h => h) (fun r_2 u t H locs ht hvm h_1 hB hz9 hk9 hS => ?_)
  replace hw : gW D A ((rd, .inr (11, [.ref ws, .ref o, .int (nI pl)])) :: (o, .inr (16, [.ref tb, .int 0, .int tl, .int (nI tn)])) :: (tb, .inl (dA 2, tc, .inl tf)) :: R) s H locs := g_aft ht hB hS
  clear hS hk9 hz9 hB hvm ht
  clear t
  obtain rfl : r_2 = hereJ tf tn pl := h_1
  refine lv_bipush (v := 48) hx hb dX12_number_5 (by decide) ?_
  refine lv_bipush (v := 57) hx hb dX12_number_7 (by decide) ?_
  refine va_calli (va_runSN (As := [.int (hereJ tf tn pl), .int 48, .int 57]) (rest := [.ref rd]) X.1 (m_X0_isIn l D dA A E hE ((rd, .inr (11, [.ref ws, .ref o, .int (nI pl)])) :: (o, .inr (16, [.ref tb, .int 0, .int tl, .int (nI tn)])) :: (tb, .inl (dA 2, tc, .inl tf)) :: R) (hereJ tf tn pl) 48 57) ⟨va_cnB 3 X.1.2.2.2.2 (lw_meth q419) rfl rfl rfl (X.2.2.1.nw q1552 rfl) (X.1.2.2.2.2 _ q64) (by decide +kernel) ⟨Nat.le_of_ble_eq_true rfl, Nat.le_of_ble_eq_true rfl⟩, X.1.2.2.2.2 _ q418, trivial⟩ (g_preS hE X.2 hw) rfl rfl hl.1 rfl (lv_room (Nat.le_of_ble_eq_true rfl)) dX12_number_9 ⟨Nat.le_of_ble_eq_true rfl, Nat.le_of_ble_eq_true rfl⟩) hw.2.2 (fun q _ h => h) (fun q h => h) (fun r_4 u t H locs ht hvm h_3 hB hz9 hk9 hS => ?_)
  replace hw : gW D A ((rd, .inr (11, [.ref ws, .ref o, .int (nI pl)])) :: (o, .inr (16, [.ref tb, .int 0, .int tl, .int (nI tn)])) :: (tb, .inl (dA 2, tc, .inl tf)) :: R) s H locs := g_aft ht hB hS
  clear hS hk9 hz9 hB hvm ht
  clear t
  obtain rfl : r_4 = bZ (inR (hereJ tf tn pl) 48 57) := h_3
  by_cases hd9_5 : inR (hereJ tf tn pl) 48 57 = true
  · skip
    refine g_top (y := 1) (by rw [hd9_5]; rfl) ?_
    have hlt := dig_lt hd9_5
    refine va_callv (va_runV (As := [.int 1]) (rest := []) X.1 (m_X12_needsN l D dA A E hE ((o, .inr (16, [.ref tb, .int 0, .int tl, .int (nI tn)])) :: (tb, .inl (dA 2, tc, .inl tf)) :: R) rd ws o pl) (cwV 1 X.1.2.2.2.2 (lw_V q1504 q1506 qs19 q95 q1507) rfl rfl rfl (by decide +kernel) ⟨Nat.le_of_ble_eq_true rfl, Nat.le_of_ble_eq_true rfl⟩) (g_preV hE X.2 hw 0 rfl rfl) rfl rfl hl.1 rfl (lv_room (Nat.le_of_ble_eq_true rfl)) dX12_number_12 ⟨Nat.le_of_ble_eq_true rfl, Nat.le_of_ble_eq_true rfl⟩) hw.2.2 (fun q _ h => h) (fun q h => h) (fun u t H locs ht hvm h_6 hB hz9 hk9 hS => ?_)
    replace hw : gW D A ((rd, .inr (11, [.ref ws, .ref o, .int (nI pl)])) :: (o, .inr (16, [.ref tb, .int 0, .int tl, .int (nI tn)])) :: (tb, .inl (dA 2, tc, .inl tf)) :: R) s H locs := g_aft ht hB hS
    clear hS hk9 hz9 hB hvm ht
    clear t
    refine lv_iconst (v := 0) hx hb dX12_number_15 (by decide) ?_
    refine lv_istore_n (lv' := [(2, .int 0), (0, .ref rd), (1, .int 2)]) hx hb dX12_number_16 rfl hl (by decide) rfl (fun ls hl9 => ?_)
    replace hl := hl9
    clear hl9
    refine lv_iconst (v := 0) hx hb dX12_number_17 (by decide) ?_
    refine lv_istore_n (lv' := [(3, .int 0), (2, .int 0), (0, .ref rd), (1, .int 2)]) hx hb dX12_number_18 rfl hl (by decide) rfl (fun ls hl9 => ?_)
    replace hl := hl9
    clear hl9
    refine lv_iload_n hx hb dX12_number_19 rfl (lv_at hl 0 rfl) ?_
    refine lv_iload_n hx hb dX12_number_20 rfl (lv_at hl 3 rfl) ?_
    refine lv_icmp_ge (tgt := 67) hx hb dX12_number_21 (by decide) (fun c_7 => absurd c_7 (by decide)) (fun c_7 => ?_)
    refine lv_aload_n hx hb dX12_number_24 rfl (lv_at hl 2 rfl) ?_
    refine va_calli (va_runV (As := []) (rest := []) X.1 (m_X12_here l D dA A E hE R kA (by first | assumption | omega | decide) rd ws o tb tc tn pl tl tf (by first | assumption | omega | decide) (by first | assumption | omega | decide) (by first | assumption | omega | decide) (by first | assumption | omega | decide) (by first | assumption | omega | decide)) (cwV 0 X.1.2.2.2.2 (lw_V q1236 q1238 qs17 q95 q1239) rfl rfl rfl (by decide +kernel) ⟨Nat.le_of_ble_eq_true rfl, Nat.le_of_ble_eq_true rfl⟩) (g_preV hE X.2 hw 0 rfl rfl) rfl rfl hl.1 rfl (lv_room (Nat.le_of_ble_eq_true rfl)) dX12_number_25 ⟨Nat.le_of_ble_eq_true rfl, Nat.le_of_ble_eq_true rfl⟩) hw.2.2 (fun q _ h => h) (fun q h => h) (fun r_9 u t H locs ht hvm h_8 hB hz9 hk9 hS => ?_)
    replace hw : gW D A ((rd, .inr (11, [.ref ws, .ref o, .int (nI pl)])) :: (o, .inr (16, [.ref tb, .int 0, .int tl, .int (nI tn)])) :: (tb, .inl (dA 2, tc, .inl tf)) :: R) s H locs := g_aft ht hB hS
    clear hS hk9 hz9 hB hvm ht
    clear t
    obtain rfl : r_9 = hereJ tf tn pl := h_8
    refine lv_bipush (v := 48) hx hb dX12_number_28 (by decide) ?_
    refine lv_bipush (v := 57) hx hb dX12_number_30 (by decide) ?_
    refine va_calli (va_runSN (As := [.int (hereJ tf tn pl), .int 48, .int 57]) (rest := []) X.1 (m_X0_isIn l D dA A E hE ((rd, .inr (11, [.ref ws, .ref o, .int (nI pl)])) :: (o, .inr (16, [.ref tb, .int 0, .int tl, .int (nI tn)])) :: (tb, .inl (dA 2, tc, .inl tf)) :: R) (hereJ tf tn pl) 48 57) ⟨va_cnB 3 X.1.2.2.2.2 (lw_meth q419) rfl rfl rfl (X.2.2.1.nw q1552 rfl) (X.1.2.2.2.2 _ q64) (by decide +kernel) ⟨Nat.le_of_ble_eq_true rfl, Nat.le_of_ble_eq_true rfl⟩, X.1.2.2.2.2 _ q418, trivial⟩ (g_preS hE X.2 hw) rfl rfl hl.1 rfl (lv_room (Nat.le_of_ble_eq_true rfl)) dX12_number_32 ⟨Nat.le_of_ble_eq_true rfl, Nat.le_of_ble_eq_true rfl⟩) hw.2.2 (fun q _ h => h) (fun q h => h) (fun r_11 u t H locs ht hvm h_10 hB hz9 hk9 hS => ?_)
    replace hw : gW D A ((rd, .inr (11, [.ref ws, .ref o, .int (nI pl)])) :: (o, .inr (16, [.ref tb, .int 0, .int tl, .int (nI tn)])) :: (tb, .inl (dA 2, tc, .inl tf)) :: R) s H locs := g_aft ht hB hS
    clear hS hk9 hz9 hB hvm ht
    clear t
    obtain rfl : r_11 = bZ (inR (hereJ tf tn pl) 48 57) := h_10
    refine lv_if_eq (tgt := 67) hx hb dX12_number_35 (by decide) (fun c_12 => absurd c_12 (by rw [hd9_5]; decide)) (fun c_12 => ?_)
    refine lv_bipush (v := 10) hx hb dX12_number_38 (by decide) ?_
    refine lv_iload_n hx hb dX12_number_40 rfl (lv_at hl 1 rfl) ?_
    refine lv_imul hx hb dX12_number_41 ?_
    refine g_top (y := 0) (by decide) ?_
    refine lv_aload_n hx hb dX12_number_42 rfl (lv_at hl 2 rfl) ?_
    refine va_calli (va_runV (As := []) (rest := [.int 0]) X.1 (m_X12_here l D dA A E hE R kA (by first | assumption | omega | decide) rd ws o tb tc tn pl tl tf (by first | assumption | omega | decide) (by first | assumption | omega | decide) (by first | assumption | omega | decide) (by first | assumption | omega | decide) (by first | assumption | omega | decide)) (cwV 0 X.1.2.2.2.2 (lw_V q1236 q1238 qs17 q95 q1239) rfl rfl rfl (by decide +kernel) ⟨Nat.le_of_ble_eq_true rfl, Nat.le_of_ble_eq_true rfl⟩) (g_preV hE X.2 hw 0 rfl rfl) rfl rfl hl.1 rfl (lv_room (Nat.le_of_ble_eq_true rfl)) dX12_number_43 ⟨Nat.le_of_ble_eq_true rfl, Nat.le_of_ble_eq_true rfl⟩) hw.2.2 (fun q _ h => h) (fun q h => h) (fun r_14 u t H locs ht hvm h_13 hB hz9 hk9 hS => ?_)
    replace hw : gW D A ((rd, .inr (11, [.ref ws, .ref o, .int (nI pl)])) :: (o, .inr (16, [.ref tb, .int 0, .int tl, .int (nI tn)])) :: (tb, .inl (dA 2, tc, .inl tf)) :: R) s H locs := g_aft ht hB hS
    clear hS hk9 hz9 hB hvm ht
    clear t
    obtain rfl : r_14 = hereJ tf tn pl := h_13
    refine lv_iadd hx hb dX12_number_46 ?_
    refine g_top (y := hereJ tf tn pl) (Int32.zero_add _) ?_
    refine lv_bipush (v := 48) hx hb dX12_number_47 (by decide) ?_
    refine lv_isub hx hb dX12_number_49 ?_
    refine lv_istore_n (lv' := [(2, .int ((hereJ tf tn pl) - 48)), (3, .int 0), (0, .ref rd), (1, .int 2)]) hx hb dX12_number_50 rfl hl (by decide) rfl (fun ls hl9 => ?_)
    replace hl := hl9
    clear hl9
    refine lv_aload_n hx hb dX12_number_51 rfl (lv_at hl 2 rfl) ?_
    refine lv_dup hx hb dX12_number_52 rfl ?_
    refine g_get X cfX12 hw 0 2 rfl rfl q1196 rfl rfl dX12_number_53 ?_
    refine lv_iconst (v := 1) hx hb dX12_number_56 (by decide) ?_
    refine lv_iadd hx hb dX12_number_57 ?_
    refine g_addN (a := pl) (b := 1) ?_
    refine g_put (ws' := (rd, .inr (11, [.ref ws, .ref o, .int (nI (pl + 1))])) :: (o, .inr (16, [.ref tb, .int 0, .int tl, .int (nI tn)])) :: (tb, .inl (dA 2, tc, .inl tf)) :: R) X cfX12 hw 0 2 rfl rfl q1196 rfl rfl rfl rfl rfl rfl dX12_number_58 (fun H locs hw9 => ?_)
    replace hw := hw9
    clear hw9
    refine lv_iinc (v := 1) (lv' := [(3, .int 1), (2, .int ((hereJ tf tn pl) - 48)), (0, .ref rd), (1, .int 2)]) hx hb dX12_number_61 hl (k := 1) rfl (nI_add 0 1) (by decide) rfl (fun ls hl9 => ?_)
    replace hl := hl9
    clear hl9
    refine lv_goto (tgt := 19) hx hb dX12_number_64 (by decide) ?_
    refine lv_iload_n hx hb dX12_number_19 rfl (lv_at hl 0 rfl) ?_
    refine lv_iload_n hx hb dX12_number_20 rfl (lv_at hl 3 rfl) ?_
    refine lv_icmp_ge (tgt := 67) hx hb dX12_number_21 (by decide) (fun c_15 => absurd c_15 (by decide)) (fun c_15 => ?_)
    refine lv_aload_n hx hb dX12_number_24 rfl (lv_at hl 2 rfl) ?_
    refine va_calli (va_runV (As := []) (rest := []) X.1 (m_X12_here l D dA A E hE R kA (by first | assumption | omega | decide) rd ws o tb tc tn (pl + 1) tl tf (by first | assumption | omega | decide) (by first | assumption | omega | decide) (by first | assumption | omega | decide) (by first | assumption | omega | decide) (by first | assumption | omega | decide)) (cwV 0 X.1.2.2.2.2 (lw_V q1236 q1238 qs17 q95 q1239) rfl rfl rfl (by decide +kernel) ⟨Nat.le_of_ble_eq_true rfl, Nat.le_of_ble_eq_true rfl⟩) (g_preV hE X.2 hw 0 rfl rfl) rfl rfl hl.1 rfl (lv_room (Nat.le_of_ble_eq_true rfl)) dX12_number_25 ⟨Nat.le_of_ble_eq_true rfl, Nat.le_of_ble_eq_true rfl⟩) hw.2.2 (fun q _ h => h) (fun q h => h) (fun r_17 u t H locs ht hvm h_16 hB hz9 hk9 hS => ?_)
    replace hw : gW D A ((rd, .inr (11, [.ref ws, .ref o, .int (nI (pl + 1))])) :: (o, .inr (16, [.ref tb, .int 0, .int tl, .int (nI tn)])) :: (tb, .inl (dA 2, tc, .inl tf)) :: R) s H locs := g_aft ht hB hS
    clear hS hk9 hz9 hB hvm ht
    clear t
    obtain rfl : r_17 = hereJ tf tn (pl + 1) := h_16
    refine lv_bipush (v := 48) hx hb dX12_number_28 (by decide) ?_
    refine lv_bipush (v := 57) hx hb dX12_number_30 (by decide) ?_
    refine va_calli (va_runSN (As := [.int (hereJ tf tn (pl + 1)), .int 48, .int 57]) (rest := []) X.1 (m_X0_isIn l D dA A E hE ((rd, .inr (11, [.ref ws, .ref o, .int (nI (pl + 1))])) :: (o, .inr (16, [.ref tb, .int 0, .int tl, .int (nI tn)])) :: (tb, .inl (dA 2, tc, .inl tf)) :: R) (hereJ tf tn (pl + 1)) 48 57) ⟨va_cnB 3 X.1.2.2.2.2 (lw_meth q419) rfl rfl rfl (X.2.2.1.nw q1552 rfl) (X.1.2.2.2.2 _ q64) (by decide +kernel) ⟨Nat.le_of_ble_eq_true rfl, Nat.le_of_ble_eq_true rfl⟩, X.1.2.2.2.2 _ q418, trivial⟩ (g_preS hE X.2 hw) rfl rfl hl.1 rfl (lv_room (Nat.le_of_ble_eq_true rfl)) dX12_number_32 ⟨Nat.le_of_ble_eq_true rfl, Nat.le_of_ble_eq_true rfl⟩) hw.2.2 (fun q _ h => h) (fun q h => h) (fun r_19 u t H locs ht hvm h_18 hB hz9 hk9 hS => ?_)
    replace hw : gW D A ((rd, .inr (11, [.ref ws, .ref o, .int (nI (pl + 1))])) :: (o, .inr (16, [.ref tb, .int 0, .int tl, .int (nI tn)])) :: (tb, .inl (dA 2, tc, .inl tf)) :: R) s H locs := g_aft ht hB hS
    clear hS hk9 hz9 hB hvm ht
    clear t
    obtain rfl : r_19 = bZ (inR (hereJ tf tn (pl + 1)) 48 57) := h_18
    refine lv_if_eq (tgt := 67) hx hb dX12_number_35 (by decide) (fun c_20 => ?_) (fun c_20 => ?_)
    · skip
      have c_20 := bZ_0.mp c_20
      refine lv_iload_n hx hb dX12_number_67 rfl (lv_at hl 1 rfl) ?_
      refine W.widen (k := 1) (n := 8) (by first | exact Nat.le_of_ble_eq_true rfl | omega) (by first | exact Nat.le_of_ble_eq_true rfl | omega) ?_
      exact vy_ret (g_iret (v := (hereJ tf tn pl) - 48) () X hw hr hlocks  (by rw [num_1 hd9_5 (by rw [c_20]; decide)]; exact ⟨rfl, by simp⟩) (by rw [num_1 hd9_5 (by rw [c_20]; decide)]) dX12_number_68)
    · skip
      have c_20 := bZ_1 c_20
      refine lv_bipush (v := 10) hx hb dX12_number_38 (by decide) ?_
      refine lv_iload_n hx hb dX12_number_40 rfl (lv_at hl 1 rfl) ?_
      refine lv_imul hx hb dX12_number_41 ?_
      refine lv_aload_n hx hb dX12_number_42 rfl (lv_at hl 2 rfl) ?_
      refine va_calli (va_runV (As := []) (rest := [.int (10 * ((hereJ tf tn pl) - 48))]) X.1 (m_X12_here l D dA A E hE R kA (by first | assumption | omega | decide) rd ws o tb tc tn (pl + 1) tl tf (by first | assumption | omega | decide) (by first | assumption | omega | decide) (by first | assumption | omega | decide) (by first | assumption | omega | decide) (by first | assumption | omega | decide)) (cwV 0 X.1.2.2.2.2 (lw_V q1236 q1238 qs17 q95 q1239) rfl rfl rfl (by decide +kernel) ⟨Nat.le_of_ble_eq_true rfl, Nat.le_of_ble_eq_true rfl⟩) (g_preV hE X.2 hw 0 rfl rfl) rfl rfl hl.1 rfl (lv_room (Nat.le_of_ble_eq_true rfl)) dX12_number_43 ⟨Nat.le_of_ble_eq_true rfl, Nat.le_of_ble_eq_true rfl⟩) hw.2.2 (fun q _ h => h) (fun q h => h) (fun r_22 u t H locs ht hvm h_21 hB hz9 hk9 hS => ?_)
      replace hw : gW D A ((rd, .inr (11, [.ref ws, .ref o, .int (nI (pl + 1))])) :: (o, .inr (16, [.ref tb, .int 0, .int tl, .int (nI tn)])) :: (tb, .inl (dA 2, tc, .inl tf)) :: R) s H locs := g_aft ht hB hS
      clear hS hk9 hz9 hB hvm ht
      clear t
      obtain rfl : r_22 = hereJ tf tn (pl + 1) := h_21
      refine lv_iadd hx hb dX12_number_46 ?_
      refine lv_bipush (v := 48) hx hb dX12_number_47 (by decide) ?_
      refine lv_isub hx hb dX12_number_49 ?_
      refine lv_istore_n (lv' := [(2, .int (((10 * ((hereJ tf tn pl) - 48)) + (hereJ tf tn (pl + 1))) - 48)), (3, .int 1), (0, .ref rd), (1, .int 2)]) hx hb dX12_number_50 rfl hl (by decide) rfl (fun ls hl9 => ?_)
      replace hl := hl9
      clear hl9
      refine lv_aload_n hx hb dX12_number_51 rfl (lv_at hl 2 rfl) ?_
      refine lv_dup hx hb dX12_number_52 rfl ?_
      refine g_get X cfX12 hw 0 2 rfl rfl q1196 rfl rfl dX12_number_53 ?_
      refine lv_iconst (v := 1) hx hb dX12_number_56 (by decide) ?_
      refine lv_iadd hx hb dX12_number_57 ?_
      refine g_addN (a := pl + 1) (b := 1) ?_
      refine g_put (ws' := (rd, .inr (11, [.ref ws, .ref o, .int (nI (pl + 1 + 1))])) :: (o, .inr (16, [.ref tb, .int 0, .int tl, .int (nI tn)])) :: (tb, .inl (dA 2, tc, .inl tf)) :: R) X cfX12 hw 0 2 rfl rfl q1196 rfl rfl rfl rfl rfl rfl dX12_number_58 (fun H locs hw9 => ?_)
      replace hw := hw9
      clear hw9
      refine lv_iinc (v := 2) (lv' := [(3, .int 2), (2, .int (((10 * ((hereJ tf tn pl) - 48)) + (hereJ tf tn (pl + 1))) - 48)), (0, .ref rd), (1, .int 2)]) hx hb dX12_number_61 hl (k := 1) rfl (nI_add 1 1) (by decide) rfl (fun ls hl9 => ?_)
      replace hl := hl9
      clear hl9
      refine lv_goto (tgt := 19) hx hb dX12_number_64 (by decide) ?_
      refine lv_iload_n hx hb dX12_number_19 rfl (lv_at hl 0 rfl) ?_
      refine lv_iload_n hx hb dX12_number_20 rfl (lv_at hl 3 rfl) ?_
      refine lv_icmp_ge (tgt := 67) hx hb dX12_number_21 (by decide) (fun c_23 => ?_) (fun c_23 => absurd (by decide) c_23)
      refine lv_iload_n hx hb dX12_number_67 rfl (lv_at hl 1 rfl) ?_
      refine W.widen (k := 1) (n := 8) (by first | exact Nat.le_of_ble_eq_true rfl | omega) (by first | exact Nat.le_of_ble_eq_true rfl | omega) ?_
      exact vy_ret (g_iret (v := ((10 * ((hereJ tf tn pl) - 48)) + (hereJ tf tn (pl + 1))) - 48) () X hw hr hlocks  (by rw [num_2 hd9_5 c_20]; exact ⟨rfl, by simp [Int32.sub_eq_add_neg, Int32.add_assoc]⟩) (by rw [num_2 hd9_5 c_20]) dX12_number_68)
  · skip
    refine g_top (y := 0) (by rw [Bool.eq_false_iff.mpr hd9_5]; rfl) ?_
    refine vy_callv (vy_runV (As := [.int 0]) (rest := []) X.1 (m_X12_needsT l D dA A E hE ((o, .inr (16, [.ref tb, .int 0, .int tl, .int (nI tn)])) :: (tb, .inl (dA 2, tc, .inl tf)) :: R) kA (by first | assumption | omega | decide) rd ws o pl) (cwV 1 X.1.2.2.2.2 (lw_V q1504 q1506 qs19 q95 q1507) rfl rfl rfl (by decide +kernel) ⟨Nat.le_of_ble_eq_true rfl, Nat.le_of_ble_eq_true rfl⟩) (g_preV hE X.2 hw 0 rfl rfl) rfl rfl hl.1 rfl (lv_room (Nat.le_of_ble_eq_true rfl)) dX12_number_12 ⟨Nat.le_of_ble_eq_true rfl, Nat.le_of_ble_eq_true rfl⟩) hw.2.2 (fun q _ h => h) (fun q h => h) (fun q _ h => h) (fun E9 ce9 q9 u9 t H locs ht hvm hp9 hB9 hz9 hk9 hS hce9 hcv9 hcl9 => ?_) (fun u t H locs ht hvm h_24 hB hz9 hk9 hS => ?_)
    · obtain ⟨-, hB⟩ := hB9
      obtain ⟨q_25, rfl⟩ : ∃ z, z = q9 := ⟨_, rfl⟩
      obtain ⟨u_26, rfl⟩ : ∃ z, z = u9 := ⟨_, rfl⟩
      replace hw : gW D A ((q_25, .inr (13, [.null, .null, .null, .null, .null, .int 0, .int u_26])) :: (rd, .inr (11, [.ref ws, .ref o, .int (nI pl)])) :: (o, .inr (16, [.ref tb, .int 0, .int tl, .int (nI tn)])) :: (tb, .inl (dA 2, tc, .inl tf)) :: R) s H locs := g_aft ht hB hS
      have hp_27 : u_26 = nI pl := hp9
      exact g_thr (px := fun (tu : Int32) => (numberP tf tn pl false).2 = (pl, true) ∧ tu = nI pl) u_26 X hw hnt hlocks rfl (by exact ⟨by rw [num_0 hd9_5], hp_27⟩) rfl (rfl) (by first | exact Nat.le_of_ble_eq_true rfl | omega) (by first | exact Nat.le_of_ble_eq_true rfl | omega)
    exact h_24.elim

set_option maxHeartbeats 4000000 in
theorem m_X12_behind (l : Launch) (D : va_G) (dA : Nat → ClassId) (A : Nat → Prop) (E : State → Prop) (hE : gSt A E) (R : va_W) (kA : Nat → Nat) (hKE : gKE A E kA) (rd ws o tb tc tn pl : Nat) (tl : Int32) (tf : gG) (h60 : tn ≤ 60) (htc : tn ≤ tc) (htd : tc ≤ 262) (htf : gAsc tf tc) (hpl : pl ≤ tn) (c0 : Int32) (hc0 : ¬ c0 = -11) : vy_Met l yX12_behind (ws_ yX12_behind cX12_behind 2 (Option.some FieldType.int)) ({ frames := 6, cells := 1, slots := 8, locals := 131 }) (va_Pc [.ref rd, .int c0] (gB D dA A E ((rd, .inr (11, [.ref ws, .ref o, .int (nI pl)])) :: (o, .inr (16, [.ref tb, .int 0, .int tl, .int (nI tn)])) :: (tb, .inl (dA 2, tc, .inl tf)) :: R))) (va_Qi (fun (r : Int32) (_ : Unit) => (behP tf tn c0 pl false).2.2 = false ∧ r = (behP tf tn c0 pl false).1) (fun _ => gE D A ((rd, .inr (11, [.ref ws, .ref o, .int (nI ((behP tf tn c0 pl false).2.1))])) :: (o, .inr (16, [.ref tb, .int 0, .int tl, .int (nI tn)])) :: (tb, .inl (dA 2, tc, .inl tf)) :: R)) A) (vy_X (fun (tu : Int32) => ∃ z, z ≤ tn ∧ (behP tf tn c0 pl false).2 = (z, true) ∧ tu = nI z) (gTh D A RX14 13 wroF (fun tu => (rd, .inr (11, [.ref ws, .ref o, .int tu])) :: (o, .inr (16, [.ref tb, .int 0, .int tl, .int (nI tn)])) :: (tb, .inl (dA 2, tc, .inl tf)) :: R)) A) (1) (8) A := by
  refine g_startX rfl rfl ?_
  intro p e s m args below meth c ls X hr hlocks hin hnt hw hl
  have hx := X.1.1
  have hb := X.1.2.1
  have hl : lv_has ls 2 [(0, .ref rd), (1, .int c0)] := hl
  have hsy := @sgn_y tf tn pl c0 hc0
  by_cases bc_1 : hereJ tf tn pl = c0
  · skip
    have hlt := (hsy bc_1).1
    refine lv_aload_n hx hb dX12_behind_0 rfl (lv_at hl 0 rfl) ?_
    refine lv_aload_n hx hb dX12_behind_1 rfl (lv_at hl 0 rfl) ?_
    refine lv_iload_n hx hb dX12_behind_2 rfl (lv_at hl 1 rfl) ?_
    refine va_calli (va_runV (As := [.int c0]) (rest := [.ref rd]) X.1 (m_X12_takesY l D dA A E hE R kA (by first | assumption | omega | decide) rd ws o tb tc tn pl tl tf (by first | assumption | omega | decide) (by first | assumption | omega | decide) (by first | assumption | omega | decide) (by first | assumption | omega | decide) (by first | assumption | omega | decide) c0 (by first | assumption | omega | decide)) (cwV 1 X.1.2.2.2.2 (lw_V q1606 q1608 qs22 q95 q1609) rfl rfl rfl (by decide +kernel) ⟨Nat.le_of_ble_eq_true rfl, Nat.le_of_ble_eq_true rfl⟩) (g_preV hE X.2 hw 0 rfl rfl) rfl rfl hl.1 rfl (lv_room (Nat.le_of_ble_eq_true rfl)) dX12_behind_3 ⟨Nat.le_of_ble_eq_true rfl, Nat.le_of_ble_eq_true rfl⟩) hw.2.2 (fun q _ h => h) (fun q h => h) (fun r_3 u t H locs ht hvm h_2 hB hz9 hk9 hS => ?_)
    replace hw : gW D A ((rd, .inr (11, [.ref ws, .ref o, .int (nI (pl + 1))])) :: (o, .inr (16, [.ref tb, .int 0, .int tl, .int (nI tn)])) :: (tb, .inl (dA 2, tc, .inl tf)) :: R) s H locs := g_aft ht hB hS
    clear hS hk9 hz9 hB hvm ht
    clear t
    obtain rfl : r_3 = 1 := h_2
    refine va_callv (va_runV (As := [.int 1]) (rest := []) X.1 (m_X12_needsN l D dA A E hE ((o, .inr (16, [.ref tb, .int 0, .int tl, .int (nI tn)])) :: (tb, .inl (dA 2, tc, .inl tf)) :: R) rd ws o (pl + 1)) (cwV 1 X.1.2.2.2.2 (lw_V q1504 q1506 qs19 q95 q1507) rfl rfl rfl (by decide +kernel) ⟨Nat.le_of_ble_eq_true rfl, Nat.le_of_ble_eq_true rfl⟩) (g_preV hE X.2 hw 0 rfl rfl) rfl rfl hl.1 rfl (lv_room (Nat.le_of_ble_eq_true rfl)) dX12_behind_6 ⟨Nat.le_of_ble_eq_true rfl, Nat.le_of_ble_eq_true rfl⟩) hw.2.2 (fun q _ h => h) (fun q h => h) (fun u t H locs ht hvm h_4 hB hz9 hk9 hS => ?_)
    replace hw : gW D A ((rd, .inr (11, [.ref ws, .ref o, .int (nI (pl + 1))])) :: (o, .inr (16, [.ref tb, .int 0, .int tl, .int (nI tn)])) :: (tb, .inl (dA 2, tc, .inl tf)) :: R) s H locs := g_aft ht hB hS
    clear hS hk9 hz9 hB hvm ht
    clear t
    refine lv_aload_n hx hb dX12_behind_9 rfl (lv_at hl 0 rfl) ?_
    refine lv_iconst (v := 1) hx hb dX12_behind_10 (by decide) ?_
    refine vy_calli (vy_runV (As := [.int 1]) (rest := []) X.1 (m_X12_number1 l D dA A E hE R kA (by first | assumption | omega | decide) rd ws o tb tc tn (pl + 1) tl tf (by first | assumption | omega | decide) (by first | assumption | omega | decide) (by first | assumption | omega | decide) (by first | assumption | omega | decide) (by first | assumption | omega | decide)) (cwV 1 X.1.2.2.2.2 (lw_V q1548 q1550 qs20 q95 q1551) rfl rfl rfl (by decide +kernel) ⟨Nat.le_of_ble_eq_true rfl, Nat.le_of_ble_eq_true rfl⟩) (g_preV hE X.2 hw 0 rfl rfl) rfl rfl hl.1 rfl (lv_room (Nat.le_of_ble_eq_true rfl)) dX12_behind_11 ⟨Nat.le_of_ble_eq_true rfl, Nat.le_of_ble_eq_true rfl⟩) hw.2.2 (fun q _ h => h) (fun q h => h) (fun q _ h => h) (fun E9 ce9 q9 u9 t H locs ht hvm hp9 hB9 hz9 hk9 hS hce9 hcv9 hcl9 => ?_) (fun r_6 u t H locs ht hvm h_5 hB hz9 hk9 hS => ?_)
    · obtain ⟨-, hB⟩ := hB9
      obtain ⟨q_7, rfl⟩ : ∃ z, z = q9 := ⟨_, rfl⟩
      obtain ⟨u_8, rfl⟩ : ∃ z, z = u9 := ⟨_, rfl⟩
      replace hw : gW D A ((q_7, .inr (13, [.null, .null, .null, .null, .null, .int 0, .int u_8])) :: (rd, .inr (11, [.ref ws, .ref o, .int (nI (pl + 1))])) :: (o, .inr (16, [.ref tb, .int 0, .int tl, .int (nI tn)])) :: (tb, .inl (dA 2, tc, .inl tf)) :: R) s H locs := g_aft ht hB hS
      have hp_9 : (digitP tf tn (pl + 1) false).2 = ((pl + 1), true) ∧ u_8 = nI (pl + 1) := hp9
      exact g_thr (px := fun (tu : Int32) => ∃ z, z ≤ tn ∧ (behP tf tn c0 pl false).2 = (z, true) ∧ tu = nI z) u_8 X hw hnt hlocks rfl (by exact ⟨pl + 1, by omega, by rw [beh_y hc0 bc_1]; exact hp_9.1, hp_9.2⟩) rfl (by rw [hp_9.2]) (by first | exact Nat.le_of_ble_eq_true rfl | omega) (by first | exact Nat.le_of_ble_eq_true rfl | omega)
    replace hw : gW D A ((rd, .inr (11, [.ref ws, .ref o, .int (nI ((digitP tf tn (pl + 1) false).2.1))])) :: (o, .inr (16, [.ref tb, .int 0, .int tl, .int (nI tn)])) :: (tb, .inl (dA 2, tc, .inl tf)) :: R) s H locs := g_aft ht hB hS
    clear hS hk9 hz9 hB hvm ht
    clear t
    have h_5 : (digitP tf tn (pl + 1) false).2.2 = false ∧ r_6 = (digitP tf tn (pl + 1) false).1 := h_5
    exact vy_ret (g_iret (v := r_6) () X hw hr hlocks  (by rw [beh_y hc0 bc_1]; exact h_5) (by rw [beh_y hc0 bc_1]) dX12_behind_14)
  · skip
    refine lv_aload_n hx hb dX12_behind_0 rfl (lv_at hl 0 rfl) ?_
    refine lv_aload_n hx hb dX12_behind_1 rfl (lv_at hl 0 rfl) ?_
    refine lv_iload_n hx hb dX12_behind_2 rfl (lv_at hl 1 rfl) ?_
    refine va_calli (va_runV (As := [.int c0]) (rest := [.ref rd]) X.1 (m_X12_takesN l D dA A E hE R kA (by first | assumption | omega | decide) rd ws o tb tc tn pl tl tf (by first | assumption | omega | decide) (by first | assumption | omega | decide) (by first | assumption | omega | decide) (by first | assumption | omega | decide) (by first | assumption | omega | decide) c0 (by first | assumption | omega | decide)) (cwV 1 X.1.2.2.2.2 (lw_V q1606 q1608 qs22 q95 q1609) rfl rfl rfl (by decide +kernel) ⟨Nat.le_of_ble_eq_true rfl, Nat.le_of_ble_eq_true rfl⟩) (g_preV hE X.2 hw 0 rfl rfl) rfl rfl hl.1 rfl (lv_room (Nat.le_of_ble_eq_true rfl)) dX12_behind_3 ⟨Nat.le_of_ble_eq_true rfl, Nat.le_of_ble_eq_true rfl⟩) hw.2.2 (fun q _ h => h) (fun q h => h) (fun r_11 u t H locs ht hvm h_10 hB hz9 hk9 hS => ?_)
    replace hw : gW D A ((rd, .inr (11, [.ref ws, .ref o, .int (nI pl)])) :: (o, .inr (16, [.ref tb, .int 0, .int tl, .int (nI tn)])) :: (tb, .inl (dA 2, tc, .inl tf)) :: R) s H locs := g_aft ht hB hS
    clear hS hk9 hz9 hB hvm ht
    clear t
    obtain rfl : r_11 = 0 := h_10
    refine vy_callv (vy_runV (As := [.int 0]) (rest := []) X.1 (m_X12_needsT l D dA A E hE ((o, .inr (16, [.ref tb, .int 0, .int tl, .int (nI tn)])) :: (tb, .inl (dA 2, tc, .inl tf)) :: R) kA (by first | assumption | omega | decide) rd ws o pl) (cwV 1 X.1.2.2.2.2 (lw_V q1504 q1506 qs19 q95 q1507) rfl rfl rfl (by decide +kernel) ⟨Nat.le_of_ble_eq_true rfl, Nat.le_of_ble_eq_true rfl⟩) (g_preV hE X.2 hw 0 rfl rfl) rfl rfl hl.1 rfl (lv_room (Nat.le_of_ble_eq_true rfl)) dX12_behind_6 ⟨Nat.le_of_ble_eq_true rfl, Nat.le_of_ble_eq_true rfl⟩) hw.2.2 (fun q _ h => h) (fun q h => h) (fun q _ h => h) (fun E9 ce9 q9 u9 t H locs ht hvm hp9 hB9 hz9 hk9 hS hce9 hcv9 hcl9 => ?_) (fun u t H locs ht hvm h_12 hB hz9 hk9 hS => ?_)
    · obtain ⟨-, hB⟩ := hB9
      obtain ⟨q_13, rfl⟩ : ∃ z, z = q9 := ⟨_, rfl⟩
      obtain ⟨u_14, rfl⟩ : ∃ z, z = u9 := ⟨_, rfl⟩
      replace hw : gW D A ((q_13, .inr (13, [.null, .null, .null, .null, .null, .int 0, .int u_14])) :: (rd, .inr (11, [.ref ws, .ref o, .int (nI pl)])) :: (o, .inr (16, [.ref tb, .int 0, .int tl, .int (nI tn)])) :: (tb, .inl (dA 2, tc, .inl tf)) :: R) s H locs := g_aft ht hB hS
      have hp_15 : u_14 = nI pl := hp9
      exact g_thr (px := fun (tu : Int32) => ∃ z, z ≤ tn ∧ (behP tf tn c0 pl false).2 = (z, true) ∧ tu = nI z) u_14 X hw hnt hlocks rfl (by exact ⟨pl, by omega, by rw [beh_n bc_1], hp_15⟩) rfl (by rw [hp_15]) (by first | exact Nat.le_of_ble_eq_true rfl | omega) (by first | exact Nat.le_of_ble_eq_true rfl | omega)
    exact h_12.elim

set_option maxHeartbeats 4000000 in
theorem m_X12_isWord (l : Launch) (D : va_G) (dA : Nat → ClassId) (A : Nat → Prop) (E : State → Prop) (hE : gSt A E) (R : va_W) (kA : Nat → Nat) (hKE : gKE A E kA) (rd ws o pl xa xb xn : Nat) (xf : gG) (hx2 : gTxt dA E R xa xb xn xf)  : Met l yX12_isWord (ws_ yX12_isWord cX12_isWord 7 (Option.some FieldType.boolean)) ({ frames := 2, cells := 0, slots := 0, locals := 44 }) (va_Pc [.ref rd, .ref xa] (gB D dA A E ((rd, .inr (11, [.ref ws, .ref o, .int (nI pl)])) :: (ws, .inl (dA 5, 9, .inr (.inr (.inr (.inr (wsF kA)))))) :: R))) (va_Qi (fun (r : Int32) (_ : Unit) => r = bZ (wdL xf xn 9)) (fun _ => gE D A ((rd, .inr (11, [.ref ws, .ref o, .int (nI pl)])) :: (ws, .inl (dA 5, 9, .inr (.inr (.inr (.inr (wsF kA)))))) :: R)) A) (0) (0) A := by
  refine g_start rfl rfl ?_
  intro p e s m args below meth c ls X hr hlocks hin hw hl
  have hx := X.1.1
  have hb := X.1.2.1
  have hl : lv_has ls 7 [(0, .ref rd), (1, .ref xa)] := hl
  refine lv_iconst (v := 0) hx hb dX12_isWord_0 (by decide) ?_
  refine lv_istore_n (lv' := [(2, .int 0), (0, .ref rd), (1, .ref xa)]) hx hb dX12_isWord_1 rfl hl (by decide) rfl (fun ls hl9 => ?_)
  replace hl := hl9
  clear hl9
  refine lv_aload_n hx hb dX12_isWord_2 rfl (lv_at hl 1 rfl) ?_
  refine g_get X cfX12 hw 0 0 rfl rfl q1194 rfl rfl dX12_isWord_3 ?_
  refine lv_astore_n (lv' := [(3, .ref ws), (2, .int 0), (0, .ref rd), (1, .ref xa)]) hx hb dX12_isWord_6 rfl hl (by decide) rfl (fun ls hl9 => ?_)
  replace hl := hl9
  clear hl9
  refine lv_aload_n hx hb dX12_isWord_7 rfl (lv_at hl 0 rfl) ?_
  refine g_alen X hw 1 5 rfl rfl dX12_isWord_8 ?_
  refine lv_istore (lv' := [(4, .int 9), (3, .ref ws), (2, .int 0), (0, .ref rd), (1, .ref xa)]) hx hb dX12_isWord_9 hl (by decide) rfl (fun ls hl9 => ?_)
  replace hl := hl9
  clear hl9
  refine lv_iconst (v := 0) hx hb dX12_isWord_11 (by decide) ?_
  refine lv_istore (lv' := [(5, .int 0), (4, .int 9), (3, .ref ws), (2, .int 0), (0, .ref rd), (1, .ref xa)]) hx hb dX12_isWord_12 hl (by decide) rfl (fun ls hl9 => ?_)
  replace hl := hl9
  clear hl9
  have loop_1 : ∀ (fuel : Nat) (i : Nat), ∀ (hi : i ≤ 9), (9 - i) < fuel → ∀ (H : Heap) (locs : List Loc) (hw : gW D A ((rd, .inr (11, [.ref ws, .ref o, .int (nI pl)])) :: (ws, .inl (dA 5, 9, .inr (.inr (.inr (.inr (wsF kA)))))) :: R) s H locs) (ls : Array Slot) (hl : lv_has ls 7 [(5, .int (nI i)), (4, .int 9), (3, .ref ws), (2, .int (bZ (wdL xf xn i))), (0, .ref rd), (1, .ref xa)]), W p l e ({ frames := 2, cells := 0, slots := 0, locals := 44 }) s m args below meth c H locs (0) (0) (MQ below (va_Qi (fun (r : Int32) (_ : Unit) => r = bZ (wdL xf xn 9)) (fun _ => gE D A ((rd, .inr (11, [.ref ws, .ref o, .int (nI pl)])) :: (ws, .inl (dA 5, 9, .inr (.inr (.inr (.inr (wsF kA)))))) :: R)) A) args s (0) (0) A) (F0 m 14 ls []) := by
    clear hw hl
    intro fuel
    induction fuel with
    | zero => intro i hi hf; exact absurd hf (Nat.not_lt_zero _)
    | succ fuel ih_loop_1 =>
      intro i hi hfuel_loop_1 H locs hw ls hl
      refine lv_iload hx hb dX12_isWord_14 (lv_at hl 0 rfl) ?_
      refine lv_iload hx hb dX12_isWord_16 (lv_at hl 1 rfl) ?_
      refine lv_icmp_ge (tgt := 42) hx hb dX12_isWord_18 (by decide) (fun c_2 => ?_) (fun c_2 => ?_)
      · skip
        have c_2 := Int32.not_lt.mpr c_2
        have c_2 : ¬ (i < 9) := fun q => c_2 ((nI_ltI (a := i) (b := 9) (by omega) (by omega)).mpr q)
        refine lv_iload_n hx hb dX12_isWord_42 rfl (lv_at hl 3 rfl) ?_
        exact g_zret (v := bZ (wdL xf xn i)) () X hw hr hlocks (g_narZ (by first | assumption | exact bZ_01 _)) (by exact congrArg (fun z => bZ (wdL xf xn z)) (by omega)) rfl dX12_isWord_43
      · skip
        have c_2 := Int32.not_le.mp c_2
        have c_2 : i < 9 := (nI_ltI (a := i) (b := 9) (by omega) (by omega)).mp c_2
        refine lv_aload_n hx hb dX12_isWord_21 rfl (lv_at hl 2 rfl) ?_
        refine lv_iload hx hb dX12_isWord_22 (lv_at hl 0 rfl) ?_
        refine g_aald X hw 1 5 rfl rfl (i := i) (by omega) (by first | decide | omega) dX12_isWord_24 ?_
        refine g_stk (st' := [.ref (kA (i + 1))]) (by rw [wsF_at (by omega)]; rfl) ?_
        refine lv_astore (lv' := [(6, .ref (kA (i + 1))), (5, .int (nI i)), (4, .int 9), (3, .ref ws), (2, .int (bZ (wdL xf xn i))), (0, .ref rd), (1, .ref xa)]) hx hb dX12_isWord_25 hl (by decide) rfl (fun ls hl9 => ?_)
        replace hl := hl9
        clear hl9
        refine lv_iload_n hx hb dX12_isWord_27 rfl (lv_at hl 4 rfl) ?_
        refine lv_aload hx hb dX12_isWord_28 (lv_at hl 0 rfl) ?_
        refine lv_aload_n hx hb dX12_isWord_30 rfl (lv_at hl 6 rfl) ?_
        refine va_calli (va_runV (As := [.ref xa]) (rest := [.int (bZ (wdL xf xn i))]) X.1 (m_J9_equals l D dA A E hE ((rd, .inr (11, [.ref ws, .ref o, .int (nI pl)])) :: (ws, .inl (dA 5, 9, .inr (.inr (.inr (.inr (wsF kA)))))) :: R) kA (by first | assumption | omega | decide) (kA (i + 1)) (kA (16 + (i + 1))) (gLen (i + 1)) (gByt (i + 1)) (gTxt.k hKE (i := (i + 1)) (by first | decide | omega)) xa xb xn xf (hx2.mono (fun q h => List.mem_cons_of_mem _ (List.mem_cons_of_mem _ h)))) (cwV 1 X.1.2.2.2.2 (lw_V q1227 q1228 q1229 q78 q1230) rfl rfl rfl (by decide +kernel) ⟨Nat.le_of_ble_eq_true rfl, Nat.le_of_ble_eq_true rfl⟩) (g_preR hE X.2 hw (gTxt.at hE X hw (gTxt.k (R := (rd, .inr (11, [.ref ws, .ref o, .int (nI pl)])) :: (ws, .inl (dA 5, 9, .inr (.inr (.inr (.inr (wsF kA)))))) :: R) hKE (i := (i + 1)) (by first | decide | omega)) (fun q h => h)).1) rfl rfl hl.1 rfl (lv_room (Nat.le_of_ble_eq_true rfl)) dX12_isWord_31 ⟨Nat.le_of_ble_eq_true rfl, Nat.le_of_ble_eq_true rfl⟩) hw.2.2 (fun q _ h => h) (fun q h => h) (fun r_5 u t H locs ht hvm h_4 hB hz9 hk9 hS => ?_)
        replace hw : gW D A ((rd, .inr (11, [.ref ws, .ref o, .int (nI pl)])) :: (ws, .inl (dA 5, 9, .inr (.inr (.inr (.inr (wsF kA)))))) :: R) s H locs := g_aft ht hB hS
        clear hS hk9 hz9 hB hvm ht
        clear t
        obtain rfl : r_5 = bZ (txEq (gByt (i + 1)) (gLen (i + 1)) xf xn) := h_4
        refine lv_ior hx hb dX12_isWord_34 ?_
        refine lv_istore_n (lv' := [(2, .int ((bZ (wdL xf xn i)) ||| (bZ (txEq (gByt (i + 1)) (gLen (i + 1)) xf xn)))), (6, .ref (kA (i + 1))), (5, .int (nI i)), (4, .int 9), (3, .ref ws), (0, .ref rd), (1, .ref xa)]) hx hb dX12_isWord_35 rfl hl (by decide) rfl (fun ls hl9 => ?_)
        replace hl := hl9
        clear hl9
        refine lv_iinc (v := nI (i + 1)) (lv' := [(5, .int (nI (i + 1))), (2, .int ((bZ (wdL xf xn i)) ||| (bZ (txEq (gByt (i + 1)) (gLen (i + 1)) xf xn)))), (6, .ref (kA (i + 1))), (4, .int 9), (3, .ref ws), (0, .ref rd), (1, .ref xa)]) hx hb dX12_isWord_36 hl (k := 2) rfl (nI_add i 1) (by decide) rfl (fun ls hl9 => ?_)
        replace hl := hl9
        clear hl9
        refine lv_goto (tgt := 14) hx hb dX12_isWord_39 (by decide) ?_
        have hl : lv_has ls 7 [(5, .int (nI (i + 1))), (4, .int 9), (3, .ref ws), (2, .int ((bZ (wdL xf xn i)) ||| (bZ (txEq (gByt (i + 1)) (gLen (i + 1)) xf xn)))), (0, .ref rd), (1, .ref xa)] := (lv_sub hl [0, 3, 4, 1, 5, 6] rfl)
        rw [show (bZ (wdL xf xn i)) ||| (bZ (txEq (gByt (i + 1)) (gLen (i + 1)) xf xn)) = bZ (wdL xf xn (i + 1)) from by rw [bZ_or]; rfl] at hl
        have hl : lv_has ls 7 [(5, .int (nI (i + 1))), (4, .int 9), (3, .ref ws), (2, .int (bZ (wdL xf xn (i + 1)))), (0, .ref rd), (1, .ref xa)] := hl
        exact ih_loop_1 (i + 1) (by first | assumption | omega) (by omega) _ _ hw _ (hl)
  have hl : lv_has ls 7 [(5, .int 0), (4, .int 9), (3, .ref ws), (2, .int 0), (0, .ref rd), (1, .ref xa)] := (lv_sub hl [0, 1, 2, 3, 4, 5] rfl)
  have hl : lv_has ls 7 [(5, .int 0), (4, .int 9), (3, .ref ws), (2, .int (bZ (wdL xf xn 0))), (0, .ref rd), (1, .ref xa)] := by exact hl
  exact loop_1 ((9 - 0) + 1) 0 (by first | assumption | omega) (Nat.lt_succ_self _) _ _ hw _ (hl)

set_option maxHeartbeats 4000000 in
theorem m_X12_isBeginning (l : Launch) (D : va_G) (dA : Nat → ClassId) (A : Nat → Prop) (E : State → Prop) (hE : gSt A E) (R : va_W) (kA : Nat → Nat) (hKE : gKE A E kA) (rd ws o pl xa xb xn : Nat) (xf : gG) (hx2 : gTxt dA E R xa xb xn xf) (hx7 : xn ≤ 7) : Met l yX12_isBeginning (ws_ yX12_isBeginning cX12_isBeginning 7 (Option.some FieldType.boolean)) ({ frames := 4, cells := 0, slots := 0, locals := 88 }) (va_Pc [.ref rd, .ref xa] (gB D dA A E ((rd, .inr (11, [.ref ws, .ref o, .int (nI pl)])) :: (ws, .inl (dA 5, 9, .inr (.inr (.inr (.inr (wsF kA)))))) :: R))) (va_Qi (fun (r : Int32) (_ : Unit) => r = bZ (bgL xf xn 9)) (fun _ => gE D A ((rd, .inr (11, [.ref ws, .ref o, .int (nI pl)])) :: (ws, .inl (dA 5, 9, .inr (.inr (.inr (.inr (wsF kA)))))) :: R)) A) (0) (0) A := by
  refine g_start rfl rfl ?_
  intro p e s m args below meth c ls X hr hlocks hin hw hl
  have hx := X.1.1
  have hb := X.1.2.1
  have hl : lv_has ls 7 [(0, .ref rd), (1, .ref xa)] := hl
  refine lv_iconst (v := 0) hx hb dX12_isBeginning_0 (by decide) ?_
  refine lv_istore_n (lv' := [(2, .int 0), (0, .ref rd), (1, .ref xa)]) hx hb dX12_isBeginning_1 rfl hl (by decide) rfl (fun ls hl9 => ?_)
  replace hl := hl9
  clear hl9
  refine lv_aload_n hx hb dX12_isBeginning_2 rfl (lv_at hl 1 rfl) ?_
  refine g_get X cfX12 hw 0 0 rfl rfl q1194 rfl rfl dX12_isBeginning_3 ?_
  refine lv_astore_n (lv' := [(3, .ref ws), (2, .int 0), (0, .ref rd), (1, .ref xa)]) hx hb dX12_isBeginning_6 rfl hl (by decide) rfl (fun ls hl9 => ?_)
  replace hl := hl9
  clear hl9
  refine lv_aload_n hx hb dX12_isBeginning_7 rfl (lv_at hl 0 rfl) ?_
  refine g_alen X hw 1 5 rfl rfl dX12_isBeginning_8 ?_
  refine lv_istore (lv' := [(4, .int 9), (3, .ref ws), (2, .int 0), (0, .ref rd), (1, .ref xa)]) hx hb dX12_isBeginning_9 hl (by decide) rfl (fun ls hl9 => ?_)
  replace hl := hl9
  clear hl9
  refine lv_iconst (v := 0) hx hb dX12_isBeginning_11 (by decide) ?_
  refine lv_istore (lv' := [(5, .int 0), (4, .int 9), (3, .ref ws), (2, .int 0), (0, .ref rd), (1, .ref xa)]) hx hb dX12_isBeginning_12 hl (by decide) rfl (fun ls hl9 => ?_)
  replace hl := hl9
  clear hl9
  have loop_1 : ∀ (fuel : Nat) (i : Nat), ∀ (hi : i ≤ 9), (9 - i) < fuel → ∀ (H : Heap) (locs : List Loc) (hw : gW D A ((rd, .inr (11, [.ref ws, .ref o, .int (nI pl)])) :: (ws, .inl (dA 5, 9, .inr (.inr (.inr (.inr (wsF kA)))))) :: R) s H locs) (ls : Array Slot) (hl : lv_has ls 7 [(5, .int (nI i)), (4, .int 9), (3, .ref ws), (2, .int (bZ (bgL xf xn i))), (0, .ref rd), (1, .ref xa)]), W p l e ({ frames := 4, cells := 0, slots := 0, locals := 88 }) s m args below meth c H locs (0) (0) (MQ below (va_Qi (fun (r : Int32) (_ : Unit) => r = bZ (bgL xf xn 9)) (fun _ => gE D A ((rd, .inr (11, [.ref ws, .ref o, .int (nI pl)])) :: (ws, .inl (dA 5, 9, .inr (.inr (.inr (.inr (wsF kA)))))) :: R)) A) args s (0) (0) A) (F0 m 14 ls []) := by
    clear hw hl
    intro fuel
    induction fuel with
    | zero => intro i hi hf; exact absurd hf (Nat.not_lt_zero _)
    | succ fuel ih_loop_1 =>
      intro i hi hfuel_loop_1 H locs hw ls hl
      refine lv_iload hx hb dX12_isBeginning_14 (lv_at hl 0 rfl) ?_
      refine lv_iload hx hb dX12_isBeginning_16 (lv_at hl 1 rfl) ?_
      refine lv_icmp_ge (tgt := 42) hx hb dX12_isBeginning_18 (by decide) (fun c_2 => ?_) (fun c_2 => ?_)
      · skip
        have c_2 := Int32.not_lt.mpr c_2
        have c_2 : ¬ (i < 9) := fun q => c_2 ((nI_ltI (a := i) (b := 9) (by omega) (by omega)).mpr q)
        refine lv_iload_n hx hb dX12_isBeginning_42 rfl (lv_at hl 3 rfl) ?_
        exact g_zret (v := bZ (bgL xf xn i)) () X hw hr hlocks (g_narZ (by first | assumption | exact bZ_01 _)) (by exact congrArg (fun z => bZ (bgL xf xn z)) (by omega)) rfl dX12_isBeginning_43
      · skip
        have c_2 := Int32.not_le.mp c_2
        have c_2 : i < 9 := (nI_ltI (a := i) (b := 9) (by omega) (by omega)).mp c_2
        refine lv_aload_n hx hb dX12_isBeginning_21 rfl (lv_at hl 2 rfl) ?_
        refine lv_iload hx hb dX12_isBeginning_22 (lv_at hl 0 rfl) ?_
        refine g_aald X hw 1 5 rfl rfl (i := i) (by omega) (by first | decide | omega) dX12_isBeginning_24 ?_
        refine g_stk (st' := [.ref (kA (i + 1))]) (by rw [wsF_at (by omega)]; rfl) ?_
        refine lv_astore (lv' := [(6, .ref (kA (i + 1))), (5, .int (nI i)), (4, .int 9), (3, .ref ws), (2, .int (bZ (bgL xf xn i))), (0, .ref rd), (1, .ref xa)]) hx hb dX12_isBeginning_25 hl (by decide) rfl (fun ls hl9 => ?_)
        replace hl := hl9
        clear hl9
        refine lv_iload_n hx hb dX12_isBeginning_27 rfl (lv_at hl 4 rfl) ?_
        refine lv_aload hx hb dX12_isBeginning_28 (lv_at hl 0 rfl) ?_
        refine lv_aload_n hx hb dX12_isBeginning_30 rfl (lv_at hl 6 rfl) ?_
        refine va_calli (va_runV (As := [.ref xa]) (rest := [.int (bZ (bgL xf xn i))]) X.1 (m_J9_startsWith l D dA A E hE ((rd, .inr (11, [.ref ws, .ref o, .int (nI pl)])) :: (ws, .inl (dA 5, 9, .inr (.inr (.inr (.inr (wsF kA)))))) :: R) kA (by first | assumption | omega | decide) (kA (i + 1)) (kA (16 + (i + 1))) (gLen (i + 1)) (gByt (i + 1)) (gTxt.k hKE (i := (i + 1)) (by first | decide | omega)) xa xb xn xf (hx2.mono (fun q h => List.mem_cons_of_mem _ (List.mem_cons_of_mem _ h))) (by first | assumption | omega | decide)) (cwV 1 X.1.2.2.2.2 (lw_V q1390 q1391 q1392 q78 q1393) rfl rfl rfl (by decide +kernel) ⟨Nat.le_of_ble_eq_true rfl, Nat.le_of_ble_eq_true rfl⟩) (g_preR hE X.2 hw (gTxt.at hE X hw (gTxt.k (R := (rd, .inr (11, [.ref ws, .ref o, .int (nI pl)])) :: (ws, .inl (dA 5, 9, .inr (.inr (.inr (.inr (wsF kA)))))) :: R) hKE (i := (i + 1)) (by first | decide | omega)) (fun q h => h)).1) rfl rfl hl.1 rfl (lv_room (Nat.le_of_ble_eq_true rfl)) dX12_isBeginning_31 ⟨Nat.le_of_ble_eq_true rfl, Nat.le_of_ble_eq_true rfl⟩) hw.2.2 (fun q _ h => h) (fun q h => h) (fun r_5 u t H locs ht hvm h_4 hB hz9 hk9 hS => ?_)
        replace hw : gW D A ((rd, .inr (11, [.ref ws, .ref o, .int (nI pl)])) :: (ws, .inl (dA 5, 9, .inr (.inr (.inr (.inr (wsF kA)))))) :: R) s H locs := g_aft ht hB hS
        clear hS hk9 hz9 hB hvm ht
        clear t
        obtain rfl : r_5 = bZ (txPre (gByt (i + 1)) (gLen (i + 1)) xf xn) := h_4
        refine lv_ior hx hb dX12_isBeginning_34 ?_
        refine lv_istore_n (lv' := [(2, .int ((bZ (bgL xf xn i)) ||| (bZ (txPre (gByt (i + 1)) (gLen (i + 1)) xf xn)))), (6, .ref (kA (i + 1))), (5, .int (nI i)), (4, .int 9), (3, .ref ws), (0, .ref rd), (1, .ref xa)]) hx hb dX12_isBeginning_35 rfl hl (by decide) rfl (fun ls hl9 => ?_)
        replace hl := hl9
        clear hl9
        refine lv_iinc (v := nI (i + 1)) (lv' := [(5, .int (nI (i + 1))), (2, .int ((bZ (bgL xf xn i)) ||| (bZ (txPre (gByt (i + 1)) (gLen (i + 1)) xf xn)))), (6, .ref (kA (i + 1))), (4, .int 9), (3, .ref ws), (0, .ref rd), (1, .ref xa)]) hx hb dX12_isBeginning_36 hl (k := 2) rfl (nI_add i 1) (by decide) rfl (fun ls hl9 => ?_)
        replace hl := hl9
        clear hl9
        refine lv_goto (tgt := 14) hx hb dX12_isBeginning_39 (by decide) ?_
        have hl : lv_has ls 7 [(5, .int (nI (i + 1))), (4, .int 9), (3, .ref ws), (2, .int ((bZ (bgL xf xn i)) ||| (bZ (txPre (gByt (i + 1)) (gLen (i + 1)) xf xn)))), (0, .ref rd), (1, .ref xa)] := (lv_sub hl [0, 3, 4, 1, 5, 6] rfl)
        rw [show (bZ (bgL xf xn i)) ||| (bZ (txPre (gByt (i + 1)) (gLen (i + 1)) xf xn)) = bZ (bgL xf xn (i + 1)) from by rw [bZ_or]; rfl] at hl
        have hl : lv_has ls 7 [(5, .int (nI (i + 1))), (4, .int 9), (3, .ref ws), (2, .int (bZ (bgL xf xn (i + 1)))), (0, .ref rd), (1, .ref xa)] := hl
        exact ih_loop_1 (i + 1) (by first | assumption | omega) (by omega) _ _ hw _ (hl)
  have hl : lv_has ls 7 [(5, .int 0), (4, .int 9), (3, .ref ws), (2, .int 0), (0, .ref rd), (1, .ref xa)] := (lv_sub hl [0, 1, 2, 3, 4, 5] rfl)
  have hl : lv_has ls 7 [(5, .int 0), (4, .int 9), (3, .ref ws), (2, .int (bZ (bgL xf xn 0))), (0, .ref rd), (1, .ref xa)] := by exact hl
  exact loop_1 ((9 - 0) + 1) 0 (by first | assumption | omega) (Nat.lt_succ_self _) _ _ hw _ (hl)
