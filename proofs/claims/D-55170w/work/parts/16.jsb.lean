set_option maxHeartbeats 4000000 in
theorem m_J3_newLength (l : Launch) (D : va_G) (dA : Nat → ClassId) (A : Nat → Prop) (E : State → Prop) (hE : gSt A E) (R : va_W) (x y z : Nat) (h1 : x < 10000) (h2 : y < 10000) (h3 : z < 10000) (h4 : 0 < x + max y z) : Met l yJ3_newLength (ws_ yJ3_newLength cJ3_newLength 4 (Option.some FieldType.int)) ({ frames := 1, cells := 0, slots := 0, locals := 14 }) (va_Pc [.int (nI x), .int (nI y), .int (nI z)] (gB D dA A E (R))) (va_Qi (fun (r : Int32) (_ : Unit) => r = nI (x + max y z)) (fun _ => gE D A (R)) A) (0) (0) A := by
  refine g_start rfl rfl ?_
  intro p e s m args below meth c ls X hr hlocks hin hw hl
  have hx := X.1.1
  have hb := X.1.2.1
  have hl : lv_has ls 4 [(0, .int (nI x)), (1, .int (nI y)), (2, .int (nI z))] := hl
  refine lv_iload_n hx hb dJ3_newLength_0 rfl (lv_at hl 0 rfl) ?_
  refine lv_iload_n hx hb dJ3_newLength_1 rfl (lv_at hl 1 rfl) ?_
  refine lv_iload_n hx hb dJ3_newLength_2 rfl (lv_at hl 2 rfl) ?_
  refine va_mmax hx hb (by rw [X.1.2.2.1, hl.1]) X.1.2.2.2.1 (X.1.2.2.2.2 _ q223) (X.1.2.2.2.2 _ q224) (X.1.2.2.2.2 _ q72) (X.1.2.2.2.2 _ q225) (Nat.le_of_ble_eq_true rfl) (Nat.le_of_ble_eq_true rfl) (by first | exact Nat.le_of_ble_eq_true rfl | (dsimp only; omega)) (by first | exact Nat.le_of_ble_eq_true rfl | (dsimp only; omega)) dJ3_newLength_3 ?_
  refine g_top (y := nI (max y z)) (nI_max (a := y) (b := z) (by omega) (by omega)) ?_
  refine lv_iadd hx hb dJ3_newLength_6 ?_
  refine g_addN (a := x) (b := max y z) ?_
  refine lv_istore_n (lv' := [(3, .int (nI (x + max y z))), (0, .int (nI x)), (1, .int (nI y)), (2, .int (nI z))]) hx hb dJ3_newLength_7 rfl hl (by decide) rfl (fun ls hl => ?_)
  refine lv_iconst (v := 0) hx hb dJ3_newLength_8 (by decide) ?_
  refine lv_iload_n hx hb dJ3_newLength_9 rfl (lv_at hl 0 rfl) ?_
  refine lv_icmp_ge (tgt := 21) hx hb dJ3_newLength_10 (by decide) (fun c_1 => absurd c_1 (nI_nle (by omega) (by omega))) (fun c_1 => ?_)
  refine lv_iload_n hx hb dJ3_newLength_13 rfl (lv_at hl 0 rfl) ?_
  refine lv_ldc (v := 2147483639) hx hb X.1.2.2.2.1 (X.1.2.2.2.2 _ q226) dJ3_newLength_14 ?_
  refine lv_icmp_gt (tgt := 21) hx hb dJ3_newLength_16 (by decide) (fun c_2 => absurd c_2 (nI_nlt (a := 2147483639) (b := x + max y z) (by omega) (by omega))) (fun c_2 => ?_)
  refine lv_iload_n hx hb dJ3_newLength_19 rfl (lv_at hl 0 rfl) ?_
  exact g_iret (v := nI (x + max y z)) () X hw hr hlocks  rfl rfl dJ3_newLength_20

set_option maxHeartbeats 4000000 in
theorem m_J7_newCapacity (l : Launch) (D : va_G) (dA : Nat → ClassId) (A : Nat → Prop) (E : State → Prop) (hE : gSt A E) (R : va_W) (o ob oc on : Nat) (ml : Int32) (of : gG) (q : Nat) (h1 : oc < q) (h2 : q < 5000) : Met l yJ7_newCapacity (ws_ yJ7_newCapacity cJ7_newCapacity 6 (Option.some FieldType.int)) ({ frames := 2, cells := 0, slots := 0, locals := 37 }) (va_Pc [.ref o, .int (nI q)] (gB D dA A E ((o, .inr (16, [.ref ob, .int 0, .int ml, .int (nI on)])) :: (ob, .inl (dA 2, oc, .inl of)) :: R))) (va_Qi (fun (r : Int32) (_ : Unit) => r = nI (oc + max (q - oc) (oc + 2))) (fun _ => gE D A ((o, .inr (16, [.ref ob, .int 0, .int ml, .int (nI on)])) :: (ob, .inl (dA 2, oc, .inl of)) :: R)) A) (0) (0) A := by
  refine g_start rfl rfl ?_
  intro p e s m args below meth c ls X hr hlocks hin hw hl
  have hx := X.1.1
  have hb := X.1.2.1
  have hl : lv_has ls 6 [(0, .ref o), (1, .int (nI q))] := hl
  refine lv_aload_n hx hb dJ7_newCapacity_0 rfl (lv_at hl 0 rfl) ?_
  refine g_get X cfJ8 hw 0 0 rfl rfl q363 rfl rfl dJ7_newCapacity_1 ?_
  refine g_alen X hw 1 2 rfl rfl dJ7_newCapacity_4 ?_
  refine lv_istore_n (lv' := [(2, .int (nI oc)), (0, .ref o), (1, .int (nI q))]) hx hb dJ7_newCapacity_5 rfl hl (by decide) rfl (fun ls hl => ?_)
  refine lv_iload_n hx hb dJ7_newCapacity_6 rfl (lv_at hl 2 rfl) ?_
  refine lv_aload_n hx hb dJ7_newCapacity_7 rfl (lv_at hl 1 rfl) ?_
  refine g_get X cfJ8 hw 0 1 rfl rfl q364 rfl rfl dJ7_newCapacity_8 ?_
  refine lv_ishl hx hb dJ7_newCapacity_11 ?_
  refine g_top (y := nI q) (sb_shl0 _) ?_
  refine lv_istore_n (lv' := [(3, .int (nI q)), (2, .int (nI oc)), (0, .ref o), (1, .int (nI q))]) hx hb dJ7_newCapacity_12 rfl hl (by decide) rfl (fun ls hl => ?_)
  refine lv_iload_n hx hb dJ7_newCapacity_13 rfl (lv_at hl 0 rfl) ?_
  refine lv_iload_n hx hb dJ7_newCapacity_14 rfl (lv_at hl 1 rfl) ?_
  refine lv_isub hx hb dJ7_newCapacity_15 ?_
  refine g_subN (a := q) (b := oc) (by omega) ?_
  refine lv_istore (lv' := [(4, .int (nI (q - oc))), (3, .int (nI q)), (2, .int (nI oc)), (0, .ref o), (1, .int (nI q))]) hx hb dJ7_newCapacity_16 hl (by decide) rfl (fun ls hl => ?_)
  refine lv_iload_n hx hb dJ7_newCapacity_18 rfl (lv_at hl 2 rfl) ?_
  refine lv_iload hx hb dJ7_newCapacity_19 (lv_at hl 0 rfl) ?_
  refine lv_iload_n hx hb dJ7_newCapacity_21 rfl (lv_at hl 2 rfl) ?_
  refine lv_iconst (v := 2) hx hb dJ7_newCapacity_22 (by decide) ?_
  refine lv_aload_n hx hb dJ7_newCapacity_23 rfl (lv_at hl 3 rfl) ?_
  refine g_get X cfJ8 hw 0 1 rfl rfl q364 rfl rfl dJ7_newCapacity_24 ?_
  refine lv_ishl hx hb dJ7_newCapacity_27 ?_
  refine g_top (y := 2) (sb_shl0 _) ?_
  refine lv_iadd hx hb dJ7_newCapacity_28 ?_
  refine g_addN (a := oc) (b := 2) ?_
  refine va_calli (va_runS (As := [.int (nI oc), .int (nI (q - oc)), .int (nI (oc + 2))]) (rest := []) X.1 (m_J3_newLength l D dA A E hE ((o, .inr (16, [.ref ob, .int 0, .int ml, .int (nI on)])) :: (ob, .inl (dA 2, oc, .inl of)) :: R) oc (q - oc) (oc + 2) (by first | assumption | omega) (by first | assumption | omega) (by first | assumption | omega) (by first | assumption | omega)) (va_cwS 3 X.1.2.2.2.2 (lw_S q1109 q221 q71 q222) rfl rfl rfl (by decide +kernel) ⟨Nat.le_of_ble_eq_true rfl, Nat.le_of_ble_eq_true rfl⟩) (g_preS hE X.2 hw) rfl rfl hl.1 rfl (lv_room (Nat.le_of_ble_eq_true rfl)) dJ7_newCapacity_29 ⟨Nat.le_of_ble_eq_true rfl, Nat.le_of_ble_eq_true rfl⟩) hw.2.2 (fun q _ h => h) (fun q h => h) (fun r_2 u t H locs ht hvm h_1 hB hz9 hk9 hS => ?_)
  have hw : gW D A ((o, .inr (16, [.ref ob, .int 0, .int ml, .int (nI on)])) :: (ob, .inl (dA 2, oc, .inl of)) :: R) s H locs := g_aft ht hB hS
  obtain rfl : r_2 = nI (oc + max (q - oc) (oc + 2)) := h_1
  refine lv_istore (lv' := [(5, .int (nI (oc + max (q - oc) (oc + 2)))), (4, .int (nI (q - oc))), (3, .int (nI q)), (2, .int (nI oc)), (0, .ref o), (1, .int (nI q))]) hx hb dJ7_newCapacity_32 hl (by decide) rfl (fun ls hl => ?_)
  refine lv_iload hx hb dJ7_newCapacity_34 (lv_at hl 0 rfl) ?_
  refine lv_ldc (v := 2147483647) hx hb X.1.2.2.2.1 (X.1.2.2.2.2 _ q1110) dJ7_newCapacity_36 ?_
  refine lv_icmp_ne (tgt := 51) hx hb dJ7_newCapacity_38 (by decide) (fun c_3 => ?_) (fun c_3 => absurd c_3 (fun q9 => by have := (nI_eq (a := (oc + max (q - oc) (oc + 2))) (b := 2147483647) (by omega) (by omega)).mp q9; omega))
  refine lv_iload hx hb dJ7_newCapacity_51 (lv_at hl 0 rfl) ?_
  refine lv_aload_n hx hb dJ7_newCapacity_53 rfl (lv_at hl 4 rfl) ?_
  refine g_get X cfJ8 hw 0 1 rfl rfl q364 rfl rfl dJ7_newCapacity_54 ?_
  refine lv_ishr hx hb dJ7_newCapacity_57 ?_
  refine g_top (y := nI (oc + max (q - oc) (oc + 2))) (sb_shr0 _) ?_
  exact g_iret (v := nI (oc + max (q - oc) (oc + 2))) () X hw hr hlocks  rfl rfl dJ7_newCapacity_58

set_option maxHeartbeats 4000000 in
theorem m_J5_copyOf_3 (l : Launch) (D : va_G) (dA : Nat → ClassId) (A : Nat → Prop) (E : State → Prop) (hE : gSt A E) (R : va_W) (ob oc q : Nat) (of : gG) (h1 : oc < q) (h2 : q ≤ 5000) (hof : gAsc of oc) : Met l yJ5_copyOf_3 (ws_ yJ5_copyOf_3 cJ5_copyOf_3 3 (Option.some (FieldType.array FieldType.byte))) ({ frames := 1, cells := 1, slots := q, locals := 40 }) (va_Pc [.ref ob, .int (nI q)] (gB D dA A E ((ob, .inl (dA 2, oc, .inl of)) :: R))) (va_Qr (fun (_ : Unit) => True) (fun _ a => gE D A ((a, .inl (dA 2, q, .inl (va_cpy of (fun _ => 0) 0 0 oc))) :: (ob, .inl (dA 2, oc, .inl of)) :: R)) A) (1) (q) A := by
  refine g_start rfl rfl ?_
  intro p e s m args below meth c ls X hr hlocks hin hw hl
  have hx := X.1.1
  have hb := X.1.2.1
  have hl : lv_has ls 3 [(0, .ref ob), (1, .int (nI q))] := hl
  refine lv_iload_n hx hb dJ5_copyOf_3_0 rfl (lv_at hl 1 rfl) ?_
  refine lv_aload_n hx hb dJ5_copyOf_3_1 rfl (lv_at hl 0 rfl) ?_
  refine g_alen X hw 0 2 rfl rfl dJ5_copyOf_3_2 ?_
  refine lv_icmp_ne (tgt := 14) hx hb dJ5_copyOf_3_3 (by decide) (fun c_1 => ?_) (fun c_1 => absurd c_1 (fun q9 => by have := (nI_eq (a := q) (b := oc) (by omega) (by omega)).mp q9; omega))
  refine lv_iload_n hx hb dJ5_copyOf_3_14 rfl (lv_at hl 1 rfl) ?_
  refine g_newi (atype := .byte) (ty := .byte) (N' := q) X hw 2 rfl rfl ⟨fun _ h => (by cases h), fun _ => rfl⟩ q377 rfl (by first | decide | omega) (Nat.le_of_ble_eq_true rfl) (by dsimp only; omega) (by first | decide | (simp only [componentBytes]; omega)) dJ5_copyOf_3_15 (fun q_2 H hw => ?_)
  refine lv_astore_n (lv' := [(2, .ref q_2), (0, .ref ob), (1, .int (nI q))]) hx hb dJ5_copyOf_3_17 rfl hl (by decide) rfl (fun ls hl => ?_)
  refine lv_aload_n hx hb dJ5_copyOf_3_18 rfl (lv_at hl 1 rfl) ?_
  refine lv_iconst (v := 0) hx hb dJ5_copyOf_3_19 (by decide) ?_
  refine lv_aload_n hx hb dJ5_copyOf_3_20 rfl (lv_at hl 0 rfl) ?_
  refine lv_iconst (v := 0) hx hb dJ5_copyOf_3_21 (by decide) ?_
  refine lv_aload_n hx hb dJ5_copyOf_3_22 rfl (lv_at hl 1 rfl) ?_
  refine g_alen X hw 1 2 rfl rfl dJ5_copyOf_3_23 ?_
  refine lv_iload_n hx hb dJ5_copyOf_3_24 rfl (lv_at hl 2 rfl) ?_
  refine va_mmin hx hb (by rw [X.1.2.2.1, hl.1]) X.1.2.2.2.1 (X.1.2.2.2.2 _ q263) (X.1.2.2.2.2 _ q264) (X.1.2.2.2.2 _ q72) (X.1.2.2.2.2 _ q265) (Nat.le_of_ble_eq_true rfl) (Nat.le_of_ble_eq_true rfl) (by first | exact Nat.le_of_ble_eq_true rfl | (dsimp only; omega)) (by first | exact Nat.le_of_ble_eq_true rfl | (dsimp only; omega)) dJ5_copyOf_3_25 ?_
  refine g_top (y := nI (min oc q)) (nI_min (a := oc) (b := q) (by omega) (by omega)) ?_
  refine g_top (y := nI oc) (by rw [Nat.min_eq_left (by omega)]) ?_
  refine g_copyR (ws' := (q_2, .inl (dA 2, q, .inl (va_cpy of (fun _ => 0) 0 0 oc))) :: (ob, .inl (dA 2, oc, .inl of)) :: R) X hl.1 hw q266 q268 q267 q74 (gT0.of X.2.1 2 rfl (hw.1 1 _ rfl)) 0 rfl (sp := 0) (dp := 0) (n := oc) (by omega) (by omega) (by first | decide | omega) (by first | decide | omega) (fun i hi => asc_fit hof (by omega)) (Nat.le_of_ble_eq_true rfl) (by first | decide +kernel | (dsimp only; decide +kernel)) rfl dJ5_copyOf_3_28 (fun H locs hw => ?_)
  refine lv_aload_n hx hb dJ5_copyOf_3_31 rfl (lv_at hl 0 rfl) ?_
  refine W.widen (k := 1) (n := q) (by first | exact Nat.le_of_ble_eq_true rfl | omega) (by first | exact Nat.le_of_ble_eq_true rfl | omega) ?_
  exact g_aret () X hw hr (Or.inr ⟨_, rfl⟩) hlocks trivial rfl dJ5_copyOf_3_32

set_option maxHeartbeats 4000000 in
theorem m_J7_ensureCapacityInternal (l : Launch) (D : va_G) (dA : Nat → ClassId) (A : Nat → Prop) (E : State → Prop) (hE : gSt A E) (R : va_W) (kA : Nat → Nat) (hKE : gKE A E kA) (o ob oc on : Nat) (ml : Int32) (of : gG) (hon : on ≤ oc) (hoc : oc ≤ 262) (hof : gAsc of oc) (q : Nat) (hq : q ≤ 130) : Met l yJ7_ensureCapacityInternal (ws_ yJ7_ensureCapacityInternal cJ7_ensureCapacityInternal 3 (Option.none : Option FieldType)) ({ frames := 3, cells := 1, slots := 262, locals := 62 }) (va_Pc [.ref o, .int (nI q)] (gB D dA A E ((o, .inr (16, [.ref ob, .int 0, .int ml, .int (nI on)])) :: (ob, .inl (dA 2, oc, .inl of)) :: R))) (va_Qv (fun (u : Nat × Nat × gG) => q ≤ u.2.1 ∧ u.2.1 ≤ 262 ∧ gAsc u.2.2 u.2.1 ∧ ∀ k, k < oc → u.2.2 k = of k) (fun u => gE D A ((o, .inr (16, [.ref u.1, .int 0, .int ml, .int (nI on)])) :: (u.1, .inl (dA 2, u.2.1, .inl u.2.2)) :: R)) A) (1) (262) A := by
  refine g_start rfl rfl ?_
  intro p e s m args below meth c ls X hr hlocks hin hw hl
  have hx := X.1.1
  have hb := X.1.2.1
  have hl : lv_has ls 3 [(0, .ref o), (1, .int (nI q))] := hl
  refine lv_aload_n hx hb dJ7_ensureCapacityInternal_0 rfl (lv_at hl 0 rfl) ?_
  refine g_get X cfJ8 hw 0 0 rfl rfl q363 rfl rfl dJ7_ensureCapacityInternal_1 ?_
  refine g_alen X hw 1 2 rfl rfl dJ7_ensureCapacityInternal_4 ?_
  refine lv_aload_n hx hb dJ7_ensureCapacityInternal_5 rfl (lv_at hl 0 rfl) ?_
  refine g_get X cfJ8 hw 0 1 rfl rfl q364 rfl rfl dJ7_ensureCapacityInternal_6 ?_
  refine lv_ishr hx hb dJ7_ensureCapacityInternal_9 ?_
  refine g_top (y := nI oc) (sb_shr0 _) ?_
  refine lv_istore_n (lv' := [(2, .int (nI oc)), (0, .ref o), (1, .int (nI q))]) hx hb dJ7_ensureCapacityInternal_10 rfl hl (by decide) rfl (fun ls hl => ?_)
  refine lv_iload_n hx hb dJ7_ensureCapacityInternal_11 rfl (lv_at hl 2 rfl) ?_
  refine lv_iload_n hx hb dJ7_ensureCapacityInternal_12 rfl (lv_at hl 0 rfl) ?_
  refine lv_isub hx hb dJ7_ensureCapacityInternal_13 ?_
  refine lv_if_le (tgt := 38) hx hb dJ7_ensureCapacityInternal_14 (by decide) (fun c_1 => ?_) (fun c_1 => ?_)
  · skip
    have c_1 := Int32.not_lt.mpr c_1
    refine W.widen (k := 1) (n := 262) (by first | exact Nat.le_of_ble_eq_true rfl | omega) (by first | exact Nat.le_of_ble_eq_true rfl | omega) ?_
    exact g_vret (ob, oc, of) X hw hr hlocks (by exact ⟨by have := (not_congr (nsub_pos (a := q) (b := oc) (by omega) (by omega))).mp c_1; dsimp only; omega, by dsimp only; omega, hof, fun k hk => rfl⟩) rfl dJ7_ensureCapacityInternal_38
  · skip
    have c_1 := Int32.not_le.mp c_1
    have hgr := (nsub_pos (a := q) (b := oc) (by omega) (by omega)).mp c_1
    refine lv_aload_n hx hb dJ7_ensureCapacityInternal_17 rfl (lv_at hl 1 rfl) ?_
    refine lv_aload_n hx hb dJ7_ensureCapacityInternal_18 rfl (lv_at hl 1 rfl) ?_
    refine g_get X cfJ8 hw 0 0 rfl rfl q363 rfl rfl dJ7_ensureCapacityInternal_19 ?_
    refine lv_aload_n hx hb dJ7_ensureCapacityInternal_22 rfl (lv_at hl 1 rfl) ?_
    refine lv_iload_n hx hb dJ7_ensureCapacityInternal_23 rfl (lv_at hl 2 rfl) ?_
    refine va_calli (va_runU (As := [.int (nI q)]) (rest := [.ref ob, .ref o]) X.1 (m_J7_newCapacity l D dA A E hE R o ob oc on ml of q (by first | assumption | omega) (by first | assumption | omega)) (g_cwP 1 X.1.2.2.2.2 q1105 q2223 q1107 q76 q1108 ((hKE s X.2.2.2.1).2.2.2.2.2.2.2.2 _ (List.mem_of_getElem? (i := 1) rfl)) rfl rfl (by decide +kernel) ⟨Nat.le_of_ble_eq_true rfl, Nat.le_of_ble_eq_true rfl⟩) (g_preV hE X.2 hw 0 rfl rfl) rfl rfl hl.1 rfl (lv_room (Nat.le_of_ble_eq_true rfl)) dJ7_ensureCapacityInternal_24 ⟨Nat.le_of_ble_eq_true rfl, Nat.le_of_ble_eq_true rfl⟩) hw.2.2 (fun q _ h => h) (fun q h => h) (fun r_3 u t H locs ht hvm h_2 hB hz9 hk9 hS => ?_)
    have hw : gW D A ((o, .inr (16, [.ref ob, .int 0, .int ml, .int (nI on)])) :: (ob, .inl (dA 2, oc, .inl of)) :: R) s H locs := g_aft ht hB hS
    obtain rfl : r_3 = nI (oc + max (q - oc) (oc + 2)) := h_2
    refine lv_aload_n hx hb dJ7_ensureCapacityInternal_27 rfl (lv_at hl 1 rfl) ?_
    refine g_get X cfJ8 hw 0 1 rfl rfl q364 rfl rfl dJ7_ensureCapacityInternal_28 ?_
    refine lv_ishl hx hb dJ7_ensureCapacityInternal_31 ?_
    refine g_top (y := nI (oc + max (q - oc) (oc + 2))) (sb_shl0 _) ?_
    have hw : gW D A ((ob, .inl (dA 2, oc, .inl of)) :: (o, .inr (16, [.ref ob, .int 0, .int ml, .int (nI on)])) :: R) s _ _ := g_perm (X := [(o, .inr (16, [.ref ob, .int 0, .int ml, .int (nI on)])), (ob, .inl (dA 2, oc, .inl of))]) (cx := [(ob, .inl (dA 2, oc, .inl of)), (o, .inr (16, [.ref ob, .int 0, .int ml, .int (nI on)]))]) (pl := R) hw [1, 0] rfl rfl rfl rfl
    refine va_callr (va_runS (As := [.ref ob, .int (nI (oc + max (q - oc) (oc + 2)))]) (rest := [.ref o]) X.1 (m_J5_copyOf_3 l D dA A E hE ((o, .inr (16, [.ref ob, .int 0, .int ml, .int (nI on)])) :: R) ob oc (oc + max (q - oc) (oc + 2)) of (by first | assumption | omega) (by first | assumption | omega) (by first | assumption | omega)) (va_cwS 2 X.1.2.2.2.2 (lw_S q1111 q1112 q73 q1113) rfl rfl rfl (by decide +kernel) ⟨Nat.le_of_ble_eq_true rfl, Nat.le_of_ble_eq_true rfl⟩) (g_preS hE X.2 hw) rfl rfl hl.1 rfl (lv_room (Nat.le_of_ble_eq_true rfl)) dJ7_ensureCapacityInternal_32 ⟨by dsimp only; omega, by dsimp only; omega⟩) hw.2.2 (fun q _ h => h) (fun q h => h) (fun u q_5 t H locs ht hvm h_4 hB hz9 hk9 hS => ?_)
    have hw : gW D A ((q_5, .inl (dA 2, oc + max (q - oc) (oc + 2), .inl (va_cpy of (fun _ => 0) 0 0 oc))) :: (ob, .inl (dA 2, oc, .inl of)) :: (o, .inr (16, [.ref ob, .int 0, .int ml, .int (nI on)])) :: R) s H locs := g_aft ht hB hS
    refine g_put (ws' := (q_5, .inl (dA 2, oc + max (q - oc) (oc + 2), .inl (va_cpy of (fun _ => 0) 0 0 oc))) :: (ob, .inl (dA 2, oc, .inl of)) :: (o, .inr (16, [.ref q_5, .int 0, .int ml, .int (nI on)])) :: R) X cfJ8 hw 2 0 rfl rfl q363 rfl rfl rfl rfl rfl rfl dJ7_ensureCapacityInternal_35 (fun H locs hw => ?_)
    refine W.widen (k := 1) (n := 262) (by first | exact Nat.le_of_ble_eq_true rfl | omega) (by first | exact Nat.le_of_ble_eq_true rfl | omega) ?_
    have hw : gW D A ((o, .inr (16, [.ref q_5, .int 0, .int ml, .int (nI on)])) :: (q_5, .inl (dA 2, oc + max (q - oc) (oc + 2), .inl (va_cpy of (fun _ => 0) 0 0 oc))) :: R) s _ _ := g_perm (X := [(q_5, .inl (dA 2, oc + max (q - oc) (oc + 2), .inl (va_cpy of (fun _ => 0) 0 0 oc))), (ob, .inl (dA 2, oc, .inl of)), (o, .inr (16, [.ref q_5, .int 0, .int ml, .int (nI on)]))]) (cx := [(o, .inr (16, [.ref q_5, .int 0, .int ml, .int (nI on)])), (q_5, .inl (dA 2, oc + max (q - oc) (oc + 2), .inl (va_cpy of (fun _ => 0) 0 0 oc)))]) (pl := R) hw [2, 0] rfl rfl rfl rfl
    exact g_vret (q_5, oc + max (q - oc) (oc + 2), va_cpy of (fun _ => 0) 0 0 oc) X hw hr hlocks (by exact ⟨by dsimp only; omega, by dsimp only; omega, asc_cpy (fun i hi => by rw [Nat.zero_add]; exact hof i hi) asc_0, fun k hk => by dsimp only; exact cpy_lo hk⟩) rfl dJ7_ensureCapacityInternal_38

set_option maxHeartbeats 4000000 in
theorem m_J7_isLatin1 (l : Launch) (D : va_G) (dA : Nat → ClassId) (A : Nat → Prop) (E : State → Prop) (hE : gSt A E) (R : va_W) (kA : Nat → Nat) (hKE : gKE A E kA) (o ob oc on : Nat) (ml : Int32) (of : gG)  : Met l yJ7_isLatin1 (ws_ yJ7_isLatin1 cJ7_isLatin1 1 (Option.some FieldType.boolean)) ({ frames := 0, cells := 0, slots := 0, locals := 0 }) (va_Pc [.ref o] (gB D dA A E ((o, .inr (16, [.ref ob, .int 0, .int ml, .int (nI on)])) :: (ob, .inl (dA 2, oc, .inl of)) :: R))) (va_Qi (fun (r : Int32) (_ : Unit) => r = 1) (fun _ => gE D A ((o, .inr (16, [.ref ob, .int 0, .int ml, .int (nI on)])) :: (ob, .inl (dA 2, oc, .inl of)) :: R)) A) (0) (0) A := by
  refine g_start rfl rfl ?_
  intro p e s m args below meth c ls X hr hlocks hin hw hl
  have hx := X.1.1
  have hb := X.1.2.1
  have hl : lv_has ls 1 [(0, .ref o)] := hl
  refine g_gets X hw (hKE s X.2.2.2.1).2.2.1 q354 rfl dJ7_isLatin1_0 ?_
  refine lv_if_eq (tgt := 17) hx hb dJ7_isLatin1_3 (by decide) (fun c_1 => absurd c_1 (by decide)) (fun c_1 => ?_)
  refine lv_aload_n hx hb dJ7_isLatin1_6 rfl (lv_at hl 0 rfl) ?_
  refine g_get X cfJ8 hw 0 1 rfl rfl q364 rfl rfl dJ7_isLatin1_7 ?_
  refine lv_if_ne (tgt := 17) hx hb dJ7_isLatin1_10 (by decide) (fun c_2 => absurd (by decide) c_2) (fun c_2 => ?_)
  refine lv_iconst (v := 1) hx hb dJ7_isLatin1_13 (by decide) ?_
  refine lv_goto (tgt := 18) hx hb dJ7_isLatin1_14 (by decide) ?_
  exact g_zret (v := 1) () X hw hr hlocks rfl rfl rfl dJ7_isLatin1_18

set_option maxHeartbeats 4000000 in
theorem m_J17_canEncode (l : Launch) (D : va_G) (dA : Nat → ClassId) (A : Nat → Prop) (E : State → Prop) (hE : gSt A E) (R : va_W) (ch : Nat) (hch : ch < 128) : Met l yJ17_canEncode (ws_ yJ17_canEncode cJ17_canEncode 1 (Option.some FieldType.boolean)) ({ frames := 0, cells := 0, slots := 0, locals := 0 }) (va_Pc [.int (nI ch)] (gB D dA A E (R))) (va_Qi (fun (r : Int32) (_ : Unit) => r = 1) (fun _ => gE D A (R)) A) (0) (0) A := by
  refine g_start rfl rfl ?_
  intro p e s m args below meth c ls X hr hlocks hin hw hl
  have hx := X.1.1
  have hb := X.1.2.1
  have hl : lv_has ls 1 [(0, .int (nI ch))] := hl
  refine lv_iload_n hx hb dJ17_canEncode_0 rfl (lv_at hl 0 rfl) ?_
  refine lv_sipush (v := 255) hx hb dJ17_canEncode_1 (by decide) ?_
  refine lv_icmp_gt (tgt := 11) hx hb dJ17_canEncode_4 (by decide) (fun c_1 => absurd c_1 (nI_nlt (a := 255) (b := ch) (by omega) (by omega))) (fun c_1 => ?_)
  refine lv_iconst (v := 1) hx hb dJ17_canEncode_7 (by decide) ?_
  refine lv_goto (tgt := 12) hx hb dJ17_canEncode_8 (by decide) ?_
  exact g_zret (v := 1) () X hw hr hlocks rfl rfl rfl dJ17_canEncode_12

set_option maxHeartbeats 4000000 in
theorem m_J7_append (l : Launch) (D : va_G) (dA : Nat → ClassId) (A : Nat → Prop) (E : State → Prop) (hE : gSt A E) (R : va_W) (kA : Nat → Nat) (hKE : gKE A E kA) (o ob oc on : Nat) (ml : Int32) (of : gG) (hon : on ≤ oc) (hoc : oc ≤ 262) (hof : gAsc of oc) (ch : Nat) (hch : ch < 128) (hn : on < 130) : Met l yJ7_append (ws_ yJ7_append cJ7_append 2 (Option.some (FieldType.object "java/lang/AbstractStringBuilder"))) ({ frames := 4, cells := 1, slots := 262, locals := 84 }) (va_Pc [.ref o, .int (nI ch)] (gB D dA A E ((o, .inr (16, [.ref ob, .int 0, .int ml, .int (nI on)])) :: (ob, .inl (dA 2, oc, .inl of)) :: R))) (va_Qr (fun (u : Nat × Nat × gG) => on + 1 ≤ u.2.1 ∧ u.2.1 ≤ 262 ∧ gAsc u.2.2 u.2.1 ∧ (∀ k, k < on → u.2.2 k = of k) ∧ u.2.2 on = nI ch) (fun u a t => a = o ∧ gE D A ((o, .inr (16, [.ref u.1, .int 0, .int ml, .int (nI (on + 1))])) :: (u.1, .inl (dA 2, u.2.1, .inl u.2.2)) :: R) t) A) (1) (262) A := by
  refine g_start rfl rfl ?_
  intro p e s m args below meth c ls X hr hlocks hin hw hl
  have hx := X.1.1
  have hb := X.1.2.1
  have hl : lv_has ls 2 [(0, .ref o), (1, .int (nI ch))] := hl
  refine lv_aload_n hx hb dJ7_append_0 rfl (lv_at hl 0 rfl) ?_
  refine lv_aload_n hx hb dJ7_append_1 rfl (lv_at hl 0 rfl) ?_
  refine g_get X cfJ8 hw 0 3 rfl rfl q367 rfl rfl dJ7_append_2 ?_
  refine lv_iconst (v := 1) hx hb dJ7_append_5 (by decide) ?_
  refine lv_iadd hx hb dJ7_append_6 ?_
  refine g_addN (a := on) (b := 1) ?_
  refine va_callv (va_runU (As := [.int (nI (on + 1))]) (rest := []) X.1 (m_J7_ensureCapacityInternal l D dA A E hE R kA (by first | assumption | omega) o ob oc on ml of (by first | assumption | omega) (by first | assumption | omega) (by first | assumption | omega) (on + 1) (by first | assumption | omega)) (g_cwP 1 X.1.2.2.2.2 q1101 q2222 q1103 q76 q1104 ((hKE s X.2.2.2.1).2.2.2.2.2.2.2.2 _ (List.mem_of_getElem? (i := 0) rfl)) rfl rfl (by decide +kernel) ⟨Nat.le_of_ble_eq_true rfl, Nat.le_of_ble_eq_true rfl⟩) (g_preV hE X.2 hw 0 rfl rfl) rfl rfl hl.1 rfl (lv_room (Nat.le_of_ble_eq_true rfl)) dJ7_append_7 ⟨Nat.le_of_ble_eq_true rfl, Nat.le_of_ble_eq_true rfl⟩) hw.2.2 (fun q _ h => h) (fun q h => h) (fun u t H locs ht hvm h_1 hB hz9 hk9 hS => ?_)
  obtain ⟨cb_2, cc_3, cf_4⟩ := u
  have hw : gW D A ((o, .inr (16, [.ref cb_2, .int 0, .int ml, .int (nI on)])) :: (cb_2, .inl (dA 2, cc_3, .inl cf_4)) :: R) s H locs := g_aft ht hB hS
  have h_1 : (on + 1) ≤ cc_3 ∧ cc_3 ≤ 262 ∧ gAsc cf_4 cc_3 ∧ ∀ k, k < oc → cf_4 k = of k := h_1
  obtain ⟨hE1, hE2, hE3, hE4⟩ := h_1
  try dsimp only at hE1 hE2 hE3 hE4
  refine lv_aload_n hx hb dJ7_append_10 rfl (lv_at hl 0 rfl) ?_
  refine va_calli (va_runU (As := []) (rest := []) X.1 (m_J7_isLatin1 l D dA A E hE R kA (by first | assumption | omega) o cb_2 cc_3 on ml cf_4) (va_cwU 0 X.1.2.2.2.2 (lw_app (lw_in5 q1121 q1123 q1124 q1122 q76) (lw_meth q1125)) rfl rfl rfl rfl (by decide +kernel) ⟨Nat.le_of_ble_eq_true rfl, Nat.le_of_ble_eq_true rfl⟩) (g_preV hE X.2 hw 0 rfl rfl) rfl rfl hl.1 rfl (lv_room (Nat.le_of_ble_eq_true rfl)) dJ7_append_11 ⟨Nat.le_of_ble_eq_true rfl, Nat.le_of_ble_eq_true rfl⟩) hw.2.2 (fun q _ h => h) (fun q h => h) (fun r_6 u t H locs ht hvm h_5 hB hz9 hk9 hS => ?_)
  have hw : gW D A ((o, .inr (16, [.ref cb_2, .int 0, .int ml, .int (nI on)])) :: (cb_2, .inl (dA 2, cc_3, .inl cf_4)) :: R) s H locs := g_aft ht hB hS
  obtain rfl : r_6 = 1 := h_5
  refine lv_if_eq (tgt := 45) hx hb dJ7_append_14 (by decide) (fun c_7 => absurd c_7 (by decide)) (fun c_7 => ?_)
  refine lv_iload_n hx hb dJ7_append_17 rfl (lv_at hl 1 rfl) ?_
  refine va_calli (va_runS (As := [.int (nI ch)]) (rest := []) X.1 (m_J17_canEncode l D dA A E hE ((o, .inr (16, [.ref cb_2, .int 0, .int ml, .int (nI on)])) :: (cb_2, .inl (dA 2, cc_3, .inl cf_4)) :: R) ch (by first | assumption | omega)) (va_cwS 1 X.1.2.2.2.2 (lw_S q1126 q1127 q94 q1128) rfl rfl rfl (by decide +kernel) ⟨Nat.le_of_ble_eq_true rfl, Nat.le_of_ble_eq_true rfl⟩) (g_preS hE X.2 hw) rfl rfl hl.1 rfl (lv_room (Nat.le_of_ble_eq_true rfl)) dJ7_append_18 ⟨Nat.le_of_ble_eq_true rfl, Nat.le_of_ble_eq_true rfl⟩) hw.2.2 (fun q _ h => h) (fun q h => h) (fun r_9 u t H locs ht hvm h_8 hB hz9 hk9 hS => ?_)
  have hw : gW D A ((o, .inr (16, [.ref cb_2, .int 0, .int ml, .int (nI on)])) :: (cb_2, .inl (dA 2, cc_3, .inl cf_4)) :: R) s H locs := g_aft ht hB hS
  obtain rfl : r_9 = 1 := h_8
  refine lv_if_eq (tgt := 45) hx hb dJ7_append_21 (by decide) (fun c_10 => absurd c_10 (by decide)) (fun c_10 => ?_)
  refine lv_aload_n hx hb dJ7_append_24 rfl (lv_at hl 0 rfl) ?_
  refine g_get X cfJ8 hw 0 0 rfl rfl q363 rfl rfl dJ7_append_25 ?_
  refine lv_aload_n hx hb dJ7_append_28 rfl (lv_at hl 0 rfl) ?_
  refine lv_dup hx hb dJ7_append_29 rfl ?_
  refine g_get X cfJ8 hw 0 3 rfl rfl q367 rfl rfl dJ7_append_30 ?_
  refine lv_dup_x1 hx hb dJ7_append_33 rfl rfl ?_
  refine lv_iconst (v := 1) hx hb dJ7_append_34 (by decide) ?_
  refine lv_iadd hx hb dJ7_append_35 ?_
  refine g_addN (a := on) (b := 1) ?_
  refine g_put (ws' := (o, .inr (16, [.ref cb_2, .int 0, .int ml, .int (nI (on + 1))])) :: (cb_2, .inl (dA 2, cc_3, .inl cf_4)) :: R) X cfJ8 hw 0 3 rfl rfl q367 rfl rfl rfl rfl rfl rfl dJ7_append_36 (fun H locs hw => ?_)
  refine lv_iload_n hx hb dJ7_append_39 rfl (lv_at hl 1 rfl) ?_
  refine lv_i2b (v := (nI ch).toInt8.toInt32) hx hb dJ7_append_40 rfl ?_
  refine g_bast (ws' := (o, .inr (16, [.ref cb_2, .int 0, .int ml, .int (nI (on + 1))])) :: (cb_2, .inl (dA 2, cc_3, .inl (upd cf_4 on (vp_nar .byte ((nI ch).toInt8.toInt32))))) :: R) X hw 1 rfl (i := on) (by omega) (by first | decide | omega) rfl dJ7_append_41 (fun H locs hw => ?_)
  have hw : gW D A ((o, .inr (16, [.ref cb_2, .int 0, .int ml, .int (nI (on + 1))])) :: (cb_2, .inl (dA 2, cc_3, .inl (upd cf_4 on (nI ch)))) :: R) s _ _ := g_ws hw (by rw [chr_b hch])
  refine lv_goto (tgt := 75) hx hb dJ7_append_42 (by decide) ?_
  refine lv_aload_n hx hb dJ7_append_75 rfl (lv_at hl 0 rfl) ?_
  exact g_aretK (ad := fun u => o) (cb_2, cc_3, upd cf_4 on (nI ch)) X hw hr (Or.inl ⟨_, rfl⟩) hlocks (by exact ⟨by dsimp only; omega, by dsimp only; omega, asc_upd hE3 hch, fun k hk => (upd_n (by omega)).trans (hE4 k (by omega)), upd_s⟩) (rfl) rfl dJ7_append_76

set_option maxHeartbeats 4000000 in
theorem m_J8_append (l : Launch) (D : va_G) (dA : Nat → ClassId) (A : Nat → Prop) (E : State → Prop) (hE : gSt A E) (R : va_W) (kA : Nat → Nat) (hKE : gKE A E kA) (o ob oc on : Nat) (ml : Int32) (of : gG) (hon : on ≤ oc) (hoc : oc ≤ 262) (hof : gAsc of oc) (ch : Nat) (hch : ch < 128) (hn : on < 130) : Met l yJ8_append (ws_ yJ8_append cJ8_append 2 (Option.some (FieldType.object "java/lang/StringBuilder"))) ({ frames := 5, cells := 1, slots := 262, locals := 105 }) (va_Pc [.ref o, .int (nI ch)] (gB D dA A E ((o, .inr (16, [.ref ob, .int 0, .int ml, .int (nI on)])) :: (ob, .inl (dA 2, oc, .inl of)) :: R))) (va_Qr (fun (u : Nat × Nat × gG) => on + 1 ≤ u.2.1 ∧ u.2.1 ≤ 262 ∧ gAsc u.2.2 u.2.1 ∧ (∀ k, k < on → u.2.2 k = of k) ∧ u.2.2 on = nI ch) (fun u a t => a = o ∧ gE D A ((o, .inr (16, [.ref u.1, .int 0, .int ml, .int (nI (on + 1))])) :: (u.1, .inl (dA 2, u.2.1, .inl u.2.2)) :: R) t) A) (1) (262) A := by
  refine g_start rfl rfl ?_
  intro p e s m args below meth c ls X hr hlocks hin hw hl
  have hx := X.1.1
  have hb := X.1.2.1
  have hl : lv_has ls 2 [(0, .ref o), (1, .int (nI ch))] := hl
  refine lv_aload_n hx hb dJ8_append_0 rfl (lv_at hl 0 rfl) ?_
  refine lv_iload_n hx hb dJ8_append_1 rfl (lv_at hl 1 rfl) ?_
  refine va_callr (va_runSU (g_cat X.2.1 16 rfl) (As := [.int (nI ch)]) (rest := []) X.1 (m_J7_append l D dA A E hE R kA (by first | assumption | omega) o ob oc on ml of (by first | assumption | omega) (by first | assumption | omega) (by first | assumption | omega) ch (by first | assumption | omega) (by first | assumption | omega)) (va_cwSU 1 X.1.2.2.2.2 (lw_app (lw_in5 q1098 q2221 q376 q1099 q76) (lw_meth q1100)) rfl rfl rfl (by decide +kernel) ⟨Nat.le_of_ble_eq_true rfl, Nat.le_of_ble_eq_true rfl⟩) (g_preV hE X.2 hw 0 rfl rfl) rfl rfl hl.1 rfl (lv_room (Nat.le_of_ble_eq_true rfl)) dJ8_append_2 ⟨Nat.le_of_ble_eq_true rfl, Nat.le_of_ble_eq_true rfl⟩) hw.2.2 (fun q _ h => h) (fun q h => h) (fun u q_2 t H locs ht hvm h_1 hB hz9 hk9 hS => ?_)
  obtain ⟨cb_3, cc_4, cf_5⟩ := u
  obtain ⟨er_q_2, hB⟩ := hB
  obtain rfl := er_q_2.symm
  have hw : gW D A ((o, .inr (16, [.ref cb_3, .int 0, .int ml, .int (nI (on + 1))])) :: (cb_3, .inl (dA 2, cc_4, .inl cf_5)) :: R) s H locs := g_aft ht hB hS
  have h_1 : on + 1 ≤ cc_4 ∧ cc_4 ≤ 262 ∧ gAsc cf_5 cc_4 ∧ (∀ k, k < on → cf_5 k = of k) ∧ cf_5 on = nI ch := h_1
  refine lv_pop hx hb dJ8_append_5 rfl ?_
  refine lv_aload_n hx hb dJ8_append_6 rfl (lv_at hl 0 rfl) ?_
  exact g_aretK (ad := fun u => o) (cb_3, cc_4, cf_5) X hw hr (Or.inl ⟨_, rfl⟩) hlocks (by exact h_1) (rfl) rfl dJ8_append_7

set_option maxHeartbeats 4000000 in
theorem m_J9_getBytes (l : Launch) (D : va_G) (dA : Nat → ClassId) (A : Nat → Prop) (E : State → Prop) (hE : gSt A E) (R : va_W) (kA : Nat → Nat) (hKE : gKE A E kA) (sa sb sn : Nat) (sf : gG) (hs : gTxt dA E R sa sb sn sf) (ob oc on : Nat) (of : gG) (h1 : on + sn ≤ oc) (h2 : oc ≤ 5000) : Met l yJ9_getBytes (ws_ yJ9_getBytes cJ9_getBytes 4 (Option.none : Option FieldType)) ({ frames := 1, cells := 0, slots := 0, locals := 40 }) (va_Pc [.ref sa, .ref ob, .int (nI on), .int 0] (gB D dA A E ((ob, .inl (dA 2, oc, .inl of)) :: R))) (va_Qv (fun (_ : Unit) => True) (fun _ => gE D A ((ob, .inl (dA 2, oc, .inl (va_cpy sf of 0 on sn))) :: R)) A) (0) (0) A := by
  refine g_start rfl rfl ?_
  intro p e s m args below meth c ls X hr hlocks hin hw hl
  have hx := X.1.1
  have hb := X.1.2.1
  have hl : lv_has ls 4 [(0, .ref sa), (1, .ref ob), (2, .int (nI on)), (3, .int 0)] := hl
  have hs1 := hs.1
  have hs2 := hs.2.1
  refine lv_aload_n hx hb dJ9_getBytes_0 rfl (lv_at hl 0 rfl) ?_
  refine va_calli (va_runV (As := []) (rest := []) X.1 (m_J9_coder l D dA A E hE ((ob, .inl (dA 2, oc, .inl of)) :: R) kA (by first | assumption | omega) sa sb sn sf (hs.mono (fun q h => List.mem_cons_of_mem _ h))) (cwV 0 X.1.2.2.2.2 (lw_V q1250 q1251 q1252 q78 q1253) rfl rfl rfl (by decide +kernel) ⟨Nat.le_of_ble_eq_true rfl, Nat.le_of_ble_eq_true rfl⟩) (g_preR hE X.2 hw (gTxt.at hE X hw hs (fun q h => List.mem_cons_of_mem _ h)).1) rfl rfl hl.1 rfl (lv_room (Nat.le_of_ble_eq_true rfl)) dJ9_getBytes_1 ⟨Nat.le_of_ble_eq_true rfl, Nat.le_of_ble_eq_true rfl⟩) hw.2.2 (fun q _ h => h) (fun q h => h) (fun r_3 u t H locs ht hvm h_2 hB hz9 hk9 hS => ?_)
  have hw : gW D A ((ob, .inl (dA 2, oc, .inl of)) :: R) s H locs := g_aft ht hB hS
  obtain rfl : r_3 = 0 := h_2
  refine lv_iload_n hx hb dJ9_getBytes_4 rfl (lv_at hl 3 rfl) ?_
  refine lv_icmp_ne (tgt := 28) hx hb dJ9_getBytes_5 (by decide) (fun c_4 => absurd (by decide) c_4) (fun c_4 => ?_)
  refine lv_aload_n hx hb dJ9_getBytes_8 rfl (lv_at hl 0 rfl) ?_
  refine g_getR X (gTxt.at hE X hw hs (fun q h => List.mem_cons_of_mem _ h)).2.2.1 q1373 rfl dJ9_getBytes_9 ?_
  refine lv_iconst (v := 0) hx hb dJ9_getBytes_12 (by decide) ?_
  refine lv_aload_n hx hb dJ9_getBytes_13 rfl (lv_at hl 1 rfl) ?_
  refine lv_iload_n hx hb dJ9_getBytes_14 rfl (lv_at hl 2 rfl) ?_
  refine lv_iload_n hx hb dJ9_getBytes_15 rfl (lv_at hl 3 rfl) ?_
  refine lv_ishl hx hb dJ9_getBytes_16 ?_
  refine g_top (y := nI on) (sb_shl0 _) ?_
  refine lv_aload_n hx hb dJ9_getBytes_17 rfl (lv_at hl 0 rfl) ?_
  refine g_getR X (gTxt.at hE X hw hs (fun q h => List.mem_cons_of_mem _ h)).2.2.1 q1373 rfl dJ9_getBytes_18 ?_
  refine g_alenR X (gTxt.at hE X hw hs (fun q h => List.mem_cons_of_mem _ h)).2.2.2 dJ9_getBytes_21 ?_
  refine g_copyR (ws' := (ob, .inl (dA 2, oc, .inl (va_cpy sf of 0 on sn))) :: R) X hl.1 hw q1331 q268 q267 q74 (gTxt.at hE X hw hs (fun q h => List.mem_cons_of_mem _ h)).2.2.2 0 rfl (sp := 0) (dp := on) (n := sn) (by omega) (by omega) (by first | decide | omega) (by first | decide | omega) (fun i hi => by rw [Nat.zero_add]; exact asc_fit hs.2.1 hi) (Nat.le_of_ble_eq_true rfl) (by first | decide +kernel | (dsimp only; decide +kernel)) rfl dJ9_getBytes_22 (fun H locs hw => ?_)
  refine lv_goto (tgt := 43) hx hb dJ9_getBytes_25 (by decide) ?_
  exact g_vret () X hw hr hlocks trivial rfl dJ9_getBytes_43

set_option maxHeartbeats 4000000 in
theorem m_J7_inflateIfNeededFor (l : Launch) (D : va_G) (dA : Nat → ClassId) (A : Nat → Prop) (E : State → Prop) (hE : gSt A E) (R : va_W) (kA : Nat → Nat) (hKE : gKE A E kA) (sa sb sn : Nat) (sf : gG) (hs : gTxt dA E R sa sb sn sf) (o ob oc on : Nat) (ml : Int32) (of : gG)  : Met l yJ7_inflateIfNeededFor (ws_ yJ7_inflateIfNeededFor cJ7_inflateIfNeededFor 2 (Option.none : Option FieldType)) ({ frames := 1, cells := 0, slots := 0, locals := 20 }) (va_Pc [.ref o, .ref sa] (gB D dA A E ((o, .inr (16, [.ref ob, .int 0, .int ml, .int (nI on)])) :: (ob, .inl (dA 2, oc, .inl of)) :: R))) (va_Qv (fun (_ : Unit) => True) (fun _ => gE D A ((o, .inr (16, [.ref ob, .int 0, .int ml, .int (nI on)])) :: (ob, .inl (dA 2, oc, .inl of)) :: R)) A) (0) (0) A := by
  refine g_start rfl rfl ?_
  intro p e s m args below meth c ls X hr hlocks hin hw hl
  have hx := X.1.1
  have hb := X.1.2.1
  have hl : lv_has ls 2 [(0, .ref o), (1, .ref sa)] := hl
  refine g_gets X hw (hKE s X.2.2.2.1).2.2.1 q354 rfl dJ7_inflateIfNeededFor_0 ?_
  refine lv_if_eq (tgt := 21) hx hb dJ7_inflateIfNeededFor_3 (by decide) (fun c_1 => absurd c_1 (by decide)) (fun c_1 => ?_)
  refine lv_aload_n hx hb dJ7_inflateIfNeededFor_6 rfl (lv_at hl 0 rfl) ?_
  refine g_get X cfJ8 hw 0 1 rfl rfl q364 rfl rfl dJ7_inflateIfNeededFor_7 ?_
  refine lv_aload_n hx hb dJ7_inflateIfNeededFor_10 rfl (lv_at hl 1 rfl) ?_
  refine va_calli (va_runV (As := []) (rest := [.int 0]) X.1 (m_J9_coder l D dA A E hE ((o, .inr (16, [.ref ob, .int 0, .int ml, .int (nI on)])) :: (ob, .inl (dA 2, oc, .inl of)) :: R) kA (by first | assumption | omega) sa sb sn sf (hs.mono (fun q h => List.mem_cons_of_mem _ (List.mem_cons_of_mem _ h)))) (cwV 0 X.1.2.2.2.2 (lw_V q1326 q1251 q1252 q78 q1253) rfl rfl rfl (by decide +kernel) ⟨Nat.le_of_ble_eq_true rfl, Nat.le_of_ble_eq_true rfl⟩) (g_preR hE X.2 hw (gTxt.at hE X hw hs (fun q h => List.mem_cons_of_mem _ (List.mem_cons_of_mem _ h))).1) rfl rfl hl.1 rfl (lv_room (Nat.le_of_ble_eq_true rfl)) dJ7_inflateIfNeededFor_11 ⟨Nat.le_of_ble_eq_true rfl, Nat.le_of_ble_eq_true rfl⟩) hw.2.2 (fun q _ h => h) (fun q h => h) (fun r_4 u t H locs ht hvm h_3 hB hz9 hk9 hS => ?_)
  have hw : gW D A ((o, .inr (16, [.ref ob, .int 0, .int ml, .int (nI on)])) :: (ob, .inl (dA 2, oc, .inl of)) :: R) s H locs := g_aft ht hB hS
  obtain rfl : r_4 = 0 := h_3
  refine lv_icmp_eq (tgt := 21) hx hb dJ7_inflateIfNeededFor_14 (by decide) (fun c_5 => ?_) (fun c_5 => absurd (by decide) c_5)
  exact g_vret () X hw hr hlocks trivial rfl dJ7_inflateIfNeededFor_21

set_option maxHeartbeats 4000000 in
theorem m_J7_putStringAt (l : Launch) (D : va_G) (dA : Nat → ClassId) (A : Nat → Prop) (E : State → Prop) (hE : gSt A E) (R : va_W) (kA : Nat → Nat) (hKE : gKE A E kA) (sa sb sn : Nat) (sf : gG) (hs : gTxt dA E R sa sb sn sf) (o ob oc on : Nat) (ml : Int32) (of : gG) (h1 : on + sn ≤ oc) (h2 : oc ≤ 5000) : Met l yJ7_putStringAt (ws_ yJ7_putStringAt cJ7_putStringAt 3 (Option.none : Option FieldType)) ({ frames := 2, cells := 0, slots := 0, locals := 63 }) (va_Pc [.ref o, .int (nI on), .ref sa] (gB D dA A E ((o, .inr (16, [.ref ob, .int 0, .int ml, .int (nI on)])) :: (ob, .inl (dA 2, oc, .inl of)) :: R))) (va_Qv (fun (_ : Unit) => True) (fun _ => gE D A ((o, .inr (16, [.ref ob, .int 0, .int ml, .int (nI on)])) :: (ob, .inl (dA 2, oc, .inl (va_cpy sf of 0 on sn))) :: R)) A) (0) (0) A := by
  refine g_start rfl rfl ?_
  intro p e s m args below meth c ls X hr hlocks hin hw hl
  have hx := X.1.1
  have hb := X.1.2.1
  have hl : lv_has ls 3 [(0, .ref o), (1, .int (nI on)), (2, .ref sa)] := hl
  refine lv_aload_n hx hb dJ7_putStringAt_0 rfl (lv_at hl 0 rfl) ?_
  refine lv_aload_n hx hb dJ7_putStringAt_1 rfl (lv_at hl 2 rfl) ?_
  refine va_callv (va_runU (As := [.ref sa]) (rest := []) X.1 (m_J7_inflateIfNeededFor l D dA A E hE R kA (by first | assumption | omega) sa sb sn sf (hs.mono (fun q h => h)) o ob oc on ml of) (g_cwP 1 X.1.2.2.2.2 q1322 q2230 q1324 q76 q1325 ((hKE s X.2.2.2.1).2.2.2.2.2.2.2.2 _ (List.mem_of_getElem? (i := 3) rfl)) rfl rfl (by decide +kernel) ⟨Nat.le_of_ble_eq_true rfl, Nat.le_of_ble_eq_true rfl⟩) (g_preV hE X.2 hw 0 rfl rfl) rfl rfl hl.1 rfl (lv_room (Nat.le_of_ble_eq_true rfl)) dJ7_putStringAt_2 ⟨Nat.le_of_ble_eq_true rfl, Nat.le_of_ble_eq_true rfl⟩) hw.2.2 (fun q _ h => h) (fun q h => h) (fun u t H locs ht hvm h_1 hB hz9 hk9 hS => ?_)
  have hw : gW D A ((o, .inr (16, [.ref ob, .int 0, .int ml, .int (nI on)])) :: (ob, .inl (dA 2, oc, .inl of)) :: R) s H locs := g_aft ht hB hS
  refine lv_aload_n hx hb dJ7_putStringAt_5 rfl (lv_at hl 2 rfl) ?_
  refine lv_aload_n hx hb dJ7_putStringAt_6 rfl (lv_at hl 0 rfl) ?_
  refine g_get X cfJ8 hw 0 0 rfl rfl q363 rfl rfl dJ7_putStringAt_7 ?_
  refine lv_iload_n hx hb dJ7_putStringAt_10 rfl (lv_at hl 1 rfl) ?_
  refine lv_aload_n hx hb dJ7_putStringAt_11 rfl (lv_at hl 0 rfl) ?_
  refine g_get X cfJ8 hw 0 1 rfl rfl q364 rfl rfl dJ7_putStringAt_12 ?_
  have hw : gW D A ((ob, .inl (dA 2, oc, .inl of)) :: (o, .inr (16, [.ref ob, .int 0, .int ml, .int (nI on)])) :: R) s _ _ := g_perm (X := [(o, .inr (16, [.ref ob, .int 0, .int ml, .int (nI on)])), (ob, .inl (dA 2, oc, .inl of))]) (cx := [(ob, .inl (dA 2, oc, .inl of)), (o, .inr (16, [.ref ob, .int 0, .int ml, .int (nI on)]))]) (pl := R) hw [1, 0] rfl rfl rfl rfl
  refine va_callv (va_runV (As := [.ref ob, .int (nI on), .int 0]) (rest := []) X.1 (m_J9_getBytes l D dA A E hE ((o, .inr (16, [.ref ob, .int 0, .int ml, .int (nI on)])) :: R) kA (by first | assumption | omega) sa sb sn sf (hs.mono (fun q h => List.mem_cons_of_mem _ h)) ob oc on of (by first | assumption | omega) (by first | assumption | omega)) (cwV 3 X.1.2.2.2.2 (lw_V q1327 q1328 q1329 q78 q1330) rfl rfl rfl (by decide +kernel) ⟨Nat.le_of_ble_eq_true rfl, Nat.le_of_ble_eq_true rfl⟩) (g_preR hE X.2 hw (gTxt.at hE X hw hs (fun q h => List.mem_cons_of_mem _ (List.mem_cons_of_mem _ h))).1) rfl rfl hl.1 rfl (lv_room (Nat.le_of_ble_eq_true rfl)) dJ7_putStringAt_15 ⟨Nat.le_of_ble_eq_true rfl, Nat.le_of_ble_eq_true rfl⟩) hw.2.2 (fun q _ h => h) (fun q h => h) (fun u t H locs ht hvm h_3 hB hz9 hk9 hS => ?_)
  have hw : gW D A ((ob, .inl (dA 2, oc, .inl (va_cpy sf of 0 on sn))) :: (o, .inr (16, [.ref ob, .int 0, .int ml, .int (nI on)])) :: R) s H locs := g_aft ht hB hS
  have hw : gW D A ((o, .inr (16, [.ref ob, .int 0, .int ml, .int (nI on)])) :: (ob, .inl (dA 2, oc, .inl (va_cpy sf of 0 on sn))) :: R) s _ _ := g_perm (X := [(ob, .inl (dA 2, oc, .inl (va_cpy sf of 0 on sn))), (o, .inr (16, [.ref ob, .int 0, .int ml, .int (nI on)]))]) (cx := [(o, .inr (16, [.ref ob, .int 0, .int ml, .int (nI on)])), (ob, .inl (dA 2, oc, .inl (va_cpy sf of 0 on sn)))]) (pl := R) hw [1, 0] rfl rfl rfl rfl
  exact g_vret () X hw hr hlocks trivial rfl dJ7_putStringAt_18

set_option maxHeartbeats 4000000 in
theorem m_J7_append_2 (l : Launch) (D : va_G) (dA : Nat → ClassId) (A : Nat → Prop) (E : State → Prop) (hE : gSt A E) (R : va_W) (kA : Nat → Nat) (hKE : gKE A E kA) (sa sb sn : Nat) (sf : gG) (hs : gTxt dA E R sa sb sn sf) (o ob oc on : Nat) (ml : Int32) (of : gG) (hon : on ≤ oc) (hoc : oc ≤ 262) (hof : gAsc of oc) (hn : on + sn ≤ 130) : Met l yJ7_append_2 (ws_ yJ7_append_2 cJ7_append_2 3 (Option.some (FieldType.object "java/lang/AbstractStringBuilder"))) ({ frames := 4, cells := 1, slots := 262, locals := 85 }) (va_Pc [.ref o, .ref sa] (gB D dA A E ((o, .inr (16, [.ref ob, .int 0, .int ml, .int (nI on)])) :: (ob, .inl (dA 2, oc, .inl of)) :: R))) (va_Qr (fun (u : Nat × Nat × gG) => on + sn ≤ u.2.1 ∧ u.2.1 ≤ 262 ∧ gAsc u.2.2 u.2.1 ∧ (∀ k, k < on → u.2.2 k = of k) ∧ ∀ k, k < sn → u.2.2 (on + k) = sf k) (fun u a t => a = o ∧ gE D A ((o, .inr (16, [.ref u.1, .int 0, .int ml, .int (nI (on + sn))])) :: (u.1, .inl (dA 2, u.2.1, .inl u.2.2)) :: R) t) A) (1) (262) A := by
  refine g_start rfl rfl ?_
  intro p e s m args below meth c ls X hr hlocks hin hw hl
  have hx := X.1.1
  have hb := X.1.2.1
  have hl : lv_has ls 3 [(0, .ref o), (1, .ref sa)] := hl
  refine lv_aload_n hx hb dJ7_append_2_0 rfl (lv_at hl 1 rfl) ?_
  refine lv_ifnonnull (tgt := 9) hx hb dJ7_append_2_1 (by decide) ?_
  refine lv_aload_n hx hb dJ7_append_2_9 rfl (lv_at hl 1 rfl) ?_
  refine va_calli (va_runV (As := []) (rest := []) X.1 (m_J9_length l D dA A E hE ((o, .inr (16, [.ref ob, .int 0, .int ml, .int (nI on)])) :: (ob, .inl (dA 2, oc, .inl of)) :: R) kA (by first | assumption | omega) sa sb sn sf (hs.mono (fun q h => List.mem_cons_of_mem _ (List.mem_cons_of_mem _ h)))) (cwV 0 X.1.2.2.2.2 (lw_V q1317 q1247 q2228 q78 q1249) rfl rfl rfl (by decide +kernel) ⟨Nat.le_of_ble_eq_true rfl, Nat.le_of_ble_eq_true rfl⟩) (g_preR hE X.2 hw (gTxt.at hE X hw hs (fun q h => List.mem_cons_of_mem _ (List.mem_cons_of_mem _ h))).1) rfl rfl hl.1 rfl (lv_room (Nat.le_of_ble_eq_true rfl)) dJ7_append_2_10 ⟨Nat.le_of_ble_eq_true rfl, Nat.le_of_ble_eq_true rfl⟩) hw.2.2 (fun q _ h => h) (fun q h => h) (fun r_3 u t H locs ht hvm h_2 hB hz9 hk9 hS => ?_)
  have hw : gW D A ((o, .inr (16, [.ref ob, .int 0, .int ml, .int (nI on)])) :: (ob, .inl (dA 2, oc, .inl of)) :: R) s H locs := g_aft ht hB hS
  obtain rfl : r_3 = nI sn := h_2
  refine lv_istore_n (lv' := [(2, .int (nI sn)), (0, .ref o), (1, .ref sa)]) hx hb dJ7_append_2_13 rfl hl (by decide) rfl (fun ls hl => ?_)
  refine lv_aload_n hx hb dJ7_append_2_14 rfl (lv_at hl 1 rfl) ?_
  refine lv_aload_n hx hb dJ7_append_2_15 rfl (lv_at hl 1 rfl) ?_
  refine g_get X cfJ8 hw 0 3 rfl rfl q367 rfl rfl dJ7_append_2_16 ?_
  refine lv_iload_n hx hb dJ7_append_2_19 rfl (lv_at hl 0 rfl) ?_
  refine lv_iadd hx hb dJ7_append_2_20 ?_
  refine g_addN (a := on) (b := sn) ?_
  refine va_callv (va_runU (As := [.int (nI (on + sn))]) (rest := []) X.1 (m_J7_ensureCapacityInternal l D dA A E hE R kA (by first | assumption | omega) o ob oc on ml of (by first | assumption | omega) (by first | assumption | omega) (by first | assumption | omega) (on + sn) (by first | assumption | omega)) (g_cwP 1 X.1.2.2.2.2 q1101 q2222 q1103 q76 q1104 ((hKE s X.2.2.2.1).2.2.2.2.2.2.2.2 _ (List.mem_of_getElem? (i := 0) rfl)) rfl rfl (by decide +kernel) ⟨Nat.le_of_ble_eq_true rfl, Nat.le_of_ble_eq_true rfl⟩) (g_preV hE X.2 hw 0 rfl rfl) rfl rfl hl.1 rfl (lv_room (Nat.le_of_ble_eq_true rfl)) dJ7_append_2_21 ⟨Nat.le_of_ble_eq_true rfl, Nat.le_of_ble_eq_true rfl⟩) hw.2.2 (fun q _ h => h) (fun q h => h) (fun u t H locs ht hvm h_4 hB hz9 hk9 hS => ?_)
  obtain ⟨cb_5, cc_6, cf_7⟩ := u
  have hw : gW D A ((o, .inr (16, [.ref cb_5, .int 0, .int ml, .int (nI on)])) :: (cb_5, .inl (dA 2, cc_6, .inl cf_7)) :: R) s H locs := g_aft ht hB hS
  have h_4 : (on + sn) ≤ cc_6 ∧ cc_6 ≤ 262 ∧ gAsc cf_7 cc_6 ∧ ∀ k, k < oc → cf_7 k = of k := h_4
  obtain ⟨hE1, hE2, hE3, hE4⟩ := h_4
  try dsimp only at hE1 hE2 hE3 hE4
  refine lv_aload_n hx hb dJ7_append_2_24 rfl (lv_at hl 1 rfl) ?_
  refine lv_aload_n hx hb dJ7_append_2_25 rfl (lv_at hl 1 rfl) ?_
  refine g_get X cfJ8 hw 0 3 rfl rfl q367 rfl rfl dJ7_append_2_26 ?_
  refine lv_aload_n hx hb dJ7_append_2_29 rfl (lv_at hl 2 rfl) ?_
  refine va_callv (va_runU (As := [.int (nI on), .ref sa]) (rest := []) X.1 (m_J7_putStringAt l D dA A E hE R kA (by first | assumption | omega) sa sb sn sf (hs.mono (fun q h => h)) o cb_5 cc_6 on ml cf_7 (by first | assumption | omega) (by first | assumption | omega)) (g_cwP 2 X.1.2.2.2.2 q1318 q2229 q1320 q76 q1321 ((hKE s X.2.2.2.1).2.2.2.2.2.2.2.2 _ (List.mem_of_getElem? (i := 2) rfl)) rfl rfl (by decide +kernel) ⟨Nat.le_of_ble_eq_true rfl, Nat.le_of_ble_eq_true rfl⟩) (g_preV hE X.2 hw 0 rfl rfl) rfl rfl hl.1 rfl (lv_room (Nat.le_of_ble_eq_true rfl)) dJ7_append_2_30 ⟨Nat.le_of_ble_eq_true rfl, Nat.le_of_ble_eq_true rfl⟩) hw.2.2 (fun q _ h => h) (fun q h => h) (fun u t H locs ht hvm h_8 hB hz9 hk9 hS => ?_)
  have hw : gW D A ((o, .inr (16, [.ref cb_5, .int 0, .int ml, .int (nI on)])) :: (cb_5, .inl (dA 2, cc_6, .inl (va_cpy sf cf_7 0 on sn))) :: R) s H locs := g_aft ht hB hS
  refine lv_aload_n hx hb dJ7_append_2_33 rfl (lv_at hl 1 rfl) ?_
  refine lv_dup hx hb dJ7_append_2_34 rfl ?_
  refine g_get X cfJ8 hw 0 3 rfl rfl q367 rfl rfl dJ7_append_2_35 ?_
  refine lv_iload_n hx hb dJ7_append_2_38 rfl (lv_at hl 0 rfl) ?_
  refine lv_iadd hx hb dJ7_append_2_39 ?_
  refine g_addN (a := on) (b := sn) ?_
  refine g_put (ws' := (o, .inr (16, [.ref cb_5, .int 0, .int ml, .int (nI (on + sn))])) :: (cb_5, .inl (dA 2, cc_6, .inl (va_cpy sf cf_7 0 on sn))) :: R) X cfJ8 hw 0 3 rfl rfl q367 rfl rfl rfl rfl rfl rfl dJ7_append_2_40 (fun H locs hw => ?_)
  refine lv_aload_n hx hb dJ7_append_2_43 rfl (lv_at hl 1 rfl) ?_
  exact g_aretK (ad := fun u => o) (cb_5, cc_6, va_cpy sf cf_7 0 on sn) X hw hr (Or.inl ⟨_, rfl⟩) hlocks (by exact ⟨by dsimp only; omega, by dsimp only; omega, asc_cpy (fun i hi => by rw [Nat.zero_add]; exact hs.2.1 i hi) hE3, fun k hk => (pk_cpy_out (Or.inl hk)).trans (hE4 k (by omega)), fun k hk => (pk_cpy_in (by omega) (by omega)).trans (by rw [Nat.zero_add, Nat.add_sub_cancel_left])⟩) (rfl) rfl dJ7_append_2_44

set_option maxHeartbeats 4000000 in
theorem m_J8_append_2 (l : Launch) (D : va_G) (dA : Nat → ClassId) (A : Nat → Prop) (E : State → Prop) (hE : gSt A E) (R : va_W) (kA : Nat → Nat) (hKE : gKE A E kA) (sa sb sn : Nat) (sf : gG) (hs : gTxt dA E R sa sb sn sf) (o ob oc on : Nat) (ml : Int32) (of : gG) (hon : on ≤ oc) (hoc : oc ≤ 262) (hof : gAsc of oc) (hn : on + sn ≤ 130) : Met l yJ8_append_2 (ws_ yJ8_append_2 cJ8_append_2 2 (Option.some (FieldType.object "java/lang/StringBuilder"))) ({ frames := 5, cells := 1, slots := 262, locals := 107 }) (va_Pc [.ref o, .ref sa] (gB D dA A E ((o, .inr (16, [.ref ob, .int 0, .int ml, .int (nI on)])) :: (ob, .inl (dA 2, oc, .inl of)) :: R))) (va_Qr (fun (u : Nat × Nat × gG) => on + sn ≤ u.2.1 ∧ u.2.1 ≤ 262 ∧ gAsc u.2.2 u.2.1 ∧ (∀ k, k < on → u.2.2 k = of k) ∧ ∀ k, k < sn → u.2.2 (on + k) = sf k) (fun u a t => a = o ∧ gE D A ((o, .inr (16, [.ref u.1, .int 0, .int ml, .int (nI (on + sn))])) :: (u.1, .inl (dA 2, u.2.1, .inl u.2.2)) :: R) t) A) (1) (262) A := by
  refine g_start rfl rfl ?_
  intro p e s m args below meth c ls X hr hlocks hin hw hl
  have hx := X.1.1
  have hb := X.1.2.1
  have hl : lv_has ls 2 [(0, .ref o), (1, .ref sa)] := hl
  refine lv_aload_n hx hb dJ8_append_2_0 rfl (lv_at hl 0 rfl) ?_
  refine lv_aload_n hx hb dJ8_append_2_1 rfl (lv_at hl 1 rfl) ?_
  refine va_callr (va_runSU (g_cat X.2.1 16 rfl) (As := [.ref sa]) (rest := []) X.1 (m_J7_append_2 l D dA A E hE R kA (by first | assumption | omega) sa sb sn sf (hs.mono (fun q h => h)) o ob oc on ml of (by first | assumption | omega) (by first | assumption | omega) (by first | assumption | omega) (by first | assumption | omega)) (va_cwSU 1 X.1.2.2.2.2 (lw_app (lw_in5 q1298 q2226 q376 q1299 q76) (lw_meth q1300)) rfl rfl rfl (by decide +kernel) ⟨Nat.le_of_ble_eq_true rfl, Nat.le_of_ble_eq_true rfl⟩) (g_preV hE X.2 hw 0 rfl rfl) rfl rfl hl.1 rfl (lv_room (Nat.le_of_ble_eq_true rfl)) dJ8_append_2_2 ⟨Nat.le_of_ble_eq_true rfl, Nat.le_of_ble_eq_true rfl⟩) hw.2.2 (fun q _ h => h) (fun q h => h) (fun u q_2 t H locs ht hvm h_1 hB hz9 hk9 hS => ?_)
  obtain ⟨cb_3, cc_4, cf_5⟩ := u
  obtain ⟨er_q_2, hB⟩ := hB
  obtain rfl := er_q_2.symm
  have hw : gW D A ((o, .inr (16, [.ref cb_3, .int 0, .int ml, .int (nI (on + sn))])) :: (cb_3, .inl (dA 2, cc_4, .inl cf_5)) :: R) s H locs := g_aft ht hB hS
  have h_1 : on + sn ≤ cc_4 ∧ cc_4 ≤ 262 ∧ gAsc cf_5 cc_4 ∧ (∀ k, k < on → cf_5 k = of k) ∧ ∀ k, k < sn → cf_5 (on + k) = sf k := h_1
  refine lv_pop hx hb dJ8_append_2_5 rfl ?_
  refine lv_aload_n hx hb dJ8_append_2_6 rfl (lv_at hl 0 rfl) ?_
  exact g_aretK (ad := fun u => o) (cb_3, cc_4, cf_5) X hw hr (Or.inl ⟨_, rfl⟩) hlocks (by exact h_1) (rfl) rfl dJ8_append_2_7
