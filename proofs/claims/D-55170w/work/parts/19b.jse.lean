set_option maxHeartbeats 4000000 in
theorem m_J6_dec (l : Launch) (D : va_G) (dA : Nat → ClassId) (A : Nat → Prop) (E : State → Prop) (hE : gSt A E) (R : va_W) (i n : Nat) (h1 : i < n) (h2 : n ≤ 1000) : Met l yJ6_dec (ws_ yJ6_dec cJ6_dec 2 (Option.some FieldType.int)) ({ frames := 0, cells := 0, slots := 0, locals := 0 }) (va_Pc [.int (nI i), .int (nI n)] (gB D dA A E (R))) (va_Qi (fun (r : Int32) (_ : Unit) => r = nI (decN i n)) (fun _ => gE D A (R)) A) (0) (0) A := by
  refine g_start rfl rfl ?_
  intro p e s m args below meth c ls X hr hlocks hin hw hl
  have hx := X.1.1
  have hb := X.1.2.1
  have hl : lv_has ls 2 [(0, .int (nI i)), (1, .int (nI n))] := hl
  refine lv_iinc (v := (nI i) + (-1)) (lv' := [(0, .int ((nI i) + (-1))), (1, .int (nI n))]) hx hb dJ6_dec_0 hl (k := 0) rfl rfl (by decide) rfl (fun ls hl => ?_)
  refine lv_iload_n hx hb dJ6_dec_3 rfl (lv_at hl 0 rfl) ?_
  refine lv_if_ge (tgt := 11) hx hb dJ6_dec_4 (by decide) (fun c_1 => ?_) (fun c_1 => ?_)
  · skip
    have c_1 := Int32.not_lt.mpr c_1
    refine lv_iload_n hx hb dJ6_dec_11 rfl (lv_at hl 0 rfl) ?_
    exact g_iret (v := (nI i) + (-1)) () X hw hr hlocks  (by exact dec_t (Int32.not_lt.mp c_1)) rfl dJ6_dec_12
  · skip
    have c_1 := Int32.not_le.mp c_1
    refine lv_iload_n hx hb dJ6_dec_7 rfl (lv_at hl 1 rfl) ?_
    refine lv_iconst (v := 1) hx hb dJ6_dec_8 (by decide) ?_
    refine lv_isub hx hb dJ6_dec_9 ?_
    refine lv_istore_n (lv' := [(0, .int ((nI n) - 1)), (1, .int (nI n))]) hx hb dJ6_dec_10 rfl hl (by decide) rfl (fun ls hl => ?_)
    refine lv_iload_n hx hb dJ6_dec_11 rfl (lv_at hl 0 rfl) ?_
    exact g_iret (v := (nI n) - 1) () X hw hr hlocks  (by exact dec_f c_1 (by omega) (by omega)) rfl dJ6_dec_12

set_option maxHeartbeats 4000000 in
theorem m_J6_pollLast (l : Launch) (D : va_G) (dA : Nat → ClassId) (A : Nat → Prop) (E : State → Prop) (hE : gSt A E) (R : va_W) (dq dr dh dt : Nat) (df : Nat → Option Nat) (hdh : dh < 17) (hdt : dt < 17) (x : Nat) (hx2 : df (decN dt 17) = some x) : Met l yJ6_pollLast (ws_ yJ6_pollLast cJ6_pollLast 4 (Option.some (FieldType.object "java/lang/Object"))) ({ frames := 1, cells := 0, slots := 0, locals := 21 }) (va_Pc [.ref dq] (gB D dA A E ((dq, .inr (15, [.ref dr, .int (nI dh), .int (nI dt)])) :: (dr, .inl (dA 3, 17, .inr (.inr (.inr (.inr df))))) :: R))) (va_Qr (fun (_ : Unit) => True) (fun _ a t => a = x ∧ gE D A ((dq, .inr (15, [.ref dr, .int (nI dh), .int (nI (decN dt 17))])) :: (dr, .inl (dA 3, 17, .inr (.inr (.inr (.inr (va_up df (decN dt 17) none)))))) :: R) t) A) (0) (0) A := by
  refine g_start rfl rfl ?_
  intro p e s m args below meth c ls X hr hlocks hin hw hl
  have hx := X.1.1
  have hb := X.1.2.1
  have hl : lv_has ls 4 [(0, .ref dq)] := hl
  have hdj : decN dt 17 < 17 := by unfold decN; split <;> omega
  refine lv_aload_n hx hb dJ6_pollLast_0 rfl (lv_at hl 0 rfl) ?_
  refine g_get X cfJ6 hw 0 0 rfl rfl q333 rfl rfl dJ6_pollLast_1 ?_
  refine lv_dup hx hb dJ6_pollLast_4 rfl ?_
  refine lv_astore_n (lv' := [(1, .ref dr), (0, .ref dq)]) hx hb dJ6_pollLast_5 rfl hl (by decide) rfl (fun ls hl => ?_)
  refine lv_aload_n hx hb dJ6_pollLast_6 rfl (lv_at hl 1 rfl) ?_
  refine g_get X cfJ6 hw 0 2 rfl rfl q335 rfl rfl dJ6_pollLast_7 ?_
  refine lv_aload_n hx hb dJ6_pollLast_10 rfl (lv_at hl 0 rfl) ?_
  refine g_alen X hw 1 3 rfl rfl dJ6_pollLast_11 ?_
  refine va_calli (va_runS (As := [.int (nI dt), .int 17]) (rest := [.ref dr]) X.1 (m_J6_dec l D dA A E hE ((dq, .inr (15, [.ref dr, .int (nI dh), .int (nI dt)])) :: (dr, .inl (dA 3, 17, .inr (.inr (.inr (.inr df))))) :: R) dt 17 (by first | assumption | omega) (by first | assumption | omega)) (va_cwS 2 X.1.2.2.2.2 (lw_S q1810 q1811 q75 q1812) rfl rfl rfl (by decide +kernel) ⟨Nat.le_of_ble_eq_true rfl, Nat.le_of_ble_eq_true rfl⟩) (g_preS hE X.2 hw) rfl rfl hl.1 rfl (lv_room (Nat.le_of_ble_eq_true rfl)) dJ6_pollLast_12 ⟨Nat.le_of_ble_eq_true rfl, Nat.le_of_ble_eq_true rfl⟩) hw.2.2 (fun q _ h => h) (fun q h => h) (fun r_2 u t H locs ht hvm h_1 hB hz9 hk9 hS => ?_)
  have hw : gW D A ((dq, .inr (15, [.ref dr, .int (nI dh), .int (nI dt)])) :: (dr, .inl (dA 3, 17, .inr (.inr (.inr (.inr df))))) :: R) s H locs := g_aft ht hB hS
  obtain rfl : r_2 = nI (decN dt 17) := h_1
  refine lv_dup hx hb dJ6_pollLast_15 rfl ?_
  refine lv_istore_n (lv' := [(2, .int (nI (decN dt 17))), (1, .ref dr), (0, .ref dq)]) hx hb dJ6_pollLast_16 rfl hl (by decide) rfl (fun ls hl => ?_)
  have hw : gW D A ((dr, .inl (dA 3, 17, .inr (.inr (.inr (.inr df))))) :: (dq, .inr (15, [.ref dr, .int (nI dh), .int (nI dt)])) :: R) s _ _ := g_perm (X := [(dq, .inr (15, [.ref dr, .int (nI dh), .int (nI dt)])), (dr, .inl (dA 3, 17, .inr (.inr (.inr (.inr df)))))]) (cx := [(dr, .inl (dA 3, 17, .inr (.inr (.inr (.inr df))))), (dq, .inr (15, [.ref dr, .int (nI dh), .int (nI dt)]))]) (pl := R) hw [1, 0] rfl rfl rfl rfl
  refine va_callr (va_runS (As := [.ref dr, .int (nI (decN dt 17))]) (rest := []) X.1 (m_J6_elementAt l D dA A E hE ((dq, .inr (15, [.ref dr, .int (nI dh), .int (nI dt)])) :: R) dr (decN dt 17) df x (by first | assumption | omega) hx2) (va_cwS 2 X.1.2.2.2.2 (lw_S q765 q766 q75 q767) rfl rfl rfl (by decide +kernel) ⟨Nat.le_of_ble_eq_true rfl, Nat.le_of_ble_eq_true rfl⟩) (g_preS hE X.2 hw) rfl rfl hl.1 rfl (lv_room (Nat.le_of_ble_eq_true rfl)) dJ6_pollLast_17 ⟨Nat.le_of_ble_eq_true rfl, Nat.le_of_ble_eq_true rfl⟩) hw.2.2 (fun q _ h => h) (fun q h => h) (fun u q_4 t H locs ht hvm h_3 hB hz9 hk9 hS => ?_)
  obtain ⟨er_q_4, hB⟩ := hB
  obtain rfl := er_q_4.symm
  have hw : gW D A ((dr, .inl (dA 3, 17, .inr (.inr (.inr (.inr df))))) :: (dq, .inr (15, [.ref dr, .int (nI dh), .int (nI dt)])) :: R) s H locs := g_aft ht hB hS
  refine lv_astore_n (lv' := [(3, .ref x), (2, .int (nI (decN dt 17))), (1, .ref dr), (0, .ref dq)]) hx hb dJ6_pollLast_20 rfl hl (by decide) rfl (fun ls hl => ?_)
  refine lv_aload_n hx hb dJ6_pollLast_21 rfl (lv_at hl 0 rfl) ?_
  refine lv_ifnull hx hb dJ6_pollLast_22 ?_
  refine lv_aload_n hx hb dJ6_pollLast_25 rfl (lv_at hl 2 rfl) ?_
  refine lv_aload_n hx hb dJ6_pollLast_26 rfl (lv_at hl 3 rfl) ?_
  refine lv_iload_n hx hb dJ6_pollLast_27 rfl (lv_at hl 1 rfl) ?_
  refine lv_dup_x1 hx hb dJ6_pollLast_28 rfl rfl ?_
  refine g_put (ws' := (dr, .inl (dA 3, 17, .inr (.inr (.inr (.inr df))))) :: (dq, .inr (15, [.ref dr, .int (nI dh), .int (nI (decN dt 17))])) :: R) X cfJ6 hw 1 2 rfl rfl q335 rfl rfl rfl rfl rfl rfl dJ6_pollLast_29 (fun H locs hw => ?_)
  refine lv_null hx hb dJ6_pollLast_32 ?_
  refine g_aastN (ws' := (dr, .inl (dA 3, 17, .inr (.inr (.inr (.inr (va_up df (decN dt 17) none)))))) :: (dq, .inr (15, [.ref dr, .int (nI dh), .int (nI (decN dt 17))])) :: R) X hw 0 rfl (i := (decN dt 17)) (by omega) (by first | decide | omega) rfl dJ6_pollLast_33 (fun H locs hw => ?_)
  refine lv_aload_n hx hb dJ6_pollLast_34 rfl (lv_at hl 0 rfl) ?_
  have hw : gW D A ((dq, .inr (15, [.ref dr, .int (nI dh), .int (nI (decN dt 17))])) :: (dr, .inl (dA 3, 17, .inr (.inr (.inr (.inr (va_up df (decN dt 17) none)))))) :: R) s _ _ := g_perm (X := [(dr, .inl (dA 3, 17, .inr (.inr (.inr (.inr (va_up df (decN dt 17) none)))))), (dq, .inr (15, [.ref dr, .int (nI dh), .int (nI (decN dt 17))]))]) (cx := [(dq, .inr (15, [.ref dr, .int (nI dh), .int (nI (decN dt 17))])), (dr, .inl (dA 3, 17, .inr (.inr (.inr (.inr (va_up df (decN dt 17) none))))))]) (pl := R) hw [1, 0] rfl rfl rfl rfl
  exact g_aretK (ad := fun _ => x) () X hw hr (Or.inl ⟨_, rfl⟩) hlocks trivial (rfl) rfl dJ6_pollLast_35

set_option maxHeartbeats 4000000 in
theorem m_J6_removeLast (l : Launch) (D : va_G) (dA : Nat → ClassId) (A : Nat → Prop) (E : State → Prop) (hE : gSt A E) (R : va_W) (dq dr dh dt : Nat) (df : Nat → Option Nat) (hdh : dh < 17) (hdt : dt < 17) (x : Nat) (hx2 : df (decN dt 17) = some x) : Met l yJ6_removeLast (ws_ yJ6_removeLast cJ6_removeLast 2 (Option.some (FieldType.object "java/lang/Object"))) ({ frames := 2, cells := 0, slots := 0, locals := 44 }) (va_Pc [.ref dq] (gB D dA A E ((dq, .inr (15, [.ref dr, .int (nI dh), .int (nI dt)])) :: (dr, .inl (dA 3, 17, .inr (.inr (.inr (.inr df))))) :: R))) (va_Qr (fun (_ : Unit) => True) (fun _ a t => a = x ∧ gE D A ((dq, .inr (15, [.ref dr, .int (nI dh), .int (nI (decN dt 17))])) :: (dr, .inl (dA 3, 17, .inr (.inr (.inr (.inr (va_up df (decN dt 17) none)))))) :: R) t) A) (0) (0) A := by
  refine g_start rfl rfl ?_
  intro p e s m args below meth c ls X hr hlocks hin hw hl
  have hx := X.1.1
  have hb := X.1.2.1
  have hl : lv_has ls 2 [(0, .ref dq)] := hl
  have hdj : decN dt 17 < 17 := by unfold decN; split <;> omega
  refine lv_aload_n hx hb dJ6_removeLast_0 rfl (lv_at hl 0 rfl) ?_
  refine va_callr (va_runV (As := []) (rest := []) X.1 (m_J6_pollLast l D dA A E hE R dq dr dh dt df (by first | assumption | omega) (by first | assumption | omega) x hx2) (cwV 0 X.1.2.2.2.2 (lw_V q1806 q1807 q1808 q75 q1809) rfl rfl rfl (by decide +kernel) ⟨Nat.le_of_ble_eq_true rfl, Nat.le_of_ble_eq_true rfl⟩) (g_preV hE X.2 hw 0 rfl rfl) rfl rfl hl.1 rfl (lv_room (Nat.le_of_ble_eq_true rfl)) dJ6_removeLast_1 ⟨Nat.le_of_ble_eq_true rfl, Nat.le_of_ble_eq_true rfl⟩) hw.2.2 (fun q _ h => h) (fun q h => h) (fun u q_2 t H locs ht hvm h_1 hB hz9 hk9 hS => ?_)
  obtain ⟨er_q_2, hB⟩ := hB
  obtain rfl := er_q_2.symm
  have hw : gW D A ((dq, .inr (15, [.ref dr, .int (nI dh), .int (nI (decN dt 17))])) :: (dr, .inl (dA 3, 17, .inr (.inr (.inr (.inr (va_up df (decN dt 17) none)))))) :: R) s H locs := g_aft ht hB hS
  refine lv_astore_n (lv' := [(1, .ref x), (0, .ref dq)]) hx hb dJ6_removeLast_4 rfl hl (by decide) rfl (fun ls hl => ?_)
  refine lv_aload_n hx hb dJ6_removeLast_5 rfl (lv_at hl 0 rfl) ?_
  refine lv_ifnonnull (tgt := 17) hx hb dJ6_removeLast_6 (by decide) ?_
  refine lv_aload_n hx hb dJ6_removeLast_17 rfl (lv_at hl 0 rfl) ?_
  exact g_aretK (ad := fun _ => x) () X hw hr (Or.inl ⟨_, rfl⟩) hlocks trivial (rfl) rfl dJ6_removeLast_18

set_option maxHeartbeats 4000000 in
theorem m_J6_circularClear (l : Launch) (D : va_G) (dA : Nat → ClassId) (A : Nat → Prop) (E : State → Prop) (hE : gSt A E) (R : va_W) (dr dh dt : Nat) (df : Nat → Option Nat) (hdh : dh < 17) (hdt : dt < 17) (hz2 : ∀ k, k < 17 → ¬ segN dh dt k → df k = none)  : Met l yJ6_circularClear (ws_ yJ6_circularClear cJ6_circularClear 4 (Option.none : Option FieldType)) ({ frames := 0, cells := 0, slots := 0, locals := 0 }) (va_Pc [.ref dr, .int (nI dh), .int (nI dt)] (gB D dA A E ((dr, .inl (dA 3, 17, .inr (.inr (.inr (.inr df))))) :: R))) (va_Qv (fun (u : Nat → Option Nat) => ∀ k, k < 17 → u k = none) (fun u => gE D A ((dr, .inl (dA 3, 17, .inr (.inr (.inr (.inr u))))) :: R)) A) (0) (0) A := by
  refine g_start rfl rfl ?_
  intro p e s m args below meth c ls X hr hlocks hin hw hl
  have hx := X.1.1
  have hb := X.1.2.1
  have hl : lv_has ls 4 [(0, .ref dr), (1, .int (nI dh)), (2, .int (nI dt))] := hl
  refine lv_iload_n hx hb dJ6_circularClear_0 rfl (lv_at hl 1 rfl) ?_
  refine lv_iload_n hx hb dJ6_circularClear_1 rfl (lv_at hl 2 rfl) ?_
  refine lv_icmp_gt (tgt := 9) hx hb dJ6_circularClear_2 (by decide) (fun c_1 => ?_) (fun c_1 => ?_)
  · skip
    have c_1 : dt < dh := (nI_ltI (a := dt) (b := dh) (by omega) (by omega)).mp c_1
    refine lv_aload_n hx hb dJ6_circularClear_9 rfl (lv_at hl 0 rfl) ?_
    refine g_alen X hw 0 3 rfl rfl dJ6_circularClear_10 ?_
    refine lv_istore_n (lv' := [(3, .int 17), (0, .ref dr), (1, .int (nI dh)), (2, .int (nI dt))]) hx hb dJ6_circularClear_11 rfl hl (by decide) rfl (fun ls hl => ?_)
    have loop_2 : ∀ (fuel : Nat) (i b ph : Nat) (f : Nat → Option Nat), ∀ (hb17 : b ≤ 17), ∀ (hi17 : i ≤ 17), ∀ (hph : ph = 0 ∧ b = dt ∨ ph = 1 ∧ b = 17), ∀ (hcc : ccI f i b ph dt), (b - i + 100 * ph) < fuel → ∀ (H : Heap) (locs : List Loc) (hw : gW D A ((dr, .inl (dA 3, 17, .inr (.inr (.inr (.inr f))))) :: R) s H locs) (ls : Array Slot) (hl : lv_has ls 4 [(3, .int (nI b)), (0, .ref dr), (1, .int (nI i)), (2, .int (nI dt))]), W p l e ({ frames := 0, cells := 0, slots := 0, locals := 0 }) s m args below meth c H locs (0) (0) (MQ below (va_Qv (fun (u : Nat → Option Nat) => ∀ k, k < 17 → u k = none) (fun u => gE D A ((dr, .inl (dA 3, 17, .inr (.inr (.inr (.inr u))))) :: R)) A) args s (0) (0) A) (F0 m 12 ls []) := by
      intro fuel
      induction fuel with
      | zero => intro i b ph f hb17 hi17 hph hcc hf; exact absurd hf (Nat.not_lt_zero _)
      | succ fuel ih_loop_2 =>
        intro i b ph f hb17 hi17 hph hcc hfuel_loop_2 H locs hw ls hl
        refine lv_iload_n hx hb dJ6_circularClear_12 rfl (lv_at hl 2 rfl) ?_
        refine lv_iload_n hx hb dJ6_circularClear_13 rfl (lv_at hl 0 rfl) ?_
        refine lv_icmp_ge (tgt := 27) hx hb dJ6_circularClear_14 (by decide) (fun c_3 => ?_) (fun c_3 => ?_)
        · skip
          have c_3 := Int32.not_lt.mpr c_3
          have c_3 : ¬ (i < b) := fun q => c_3 ((nI_ltI (a := i) (b := b) (by omega) (by omega)).mpr q)
          refine lv_iload_n hx hb dJ6_circularClear_27 rfl (lv_at hl 0 rfl) ?_
          refine lv_iload_n hx hb dJ6_circularClear_28 rfl (lv_at hl 3 rfl) ?_
          refine lv_icmp_ne (tgt := 35) hx hb dJ6_circularClear_29 (by decide) (fun c_4 => ?_) (fun c_4 => ?_)
          · skip
            have c_4 : ¬ (b = dt) := fun q => c_4 ((nI_eq (a := b) (b := dt) (by omega) (by omega)).mpr q)
            refine lv_iconst (v := 0) hx hb dJ6_circularClear_35 (by decide) ?_
            refine lv_istore_n (lv' := [(1, .int 0), (3, .int (nI b)), (0, .ref dr), (2, .int (nI dt))]) hx hb dJ6_circularClear_36 rfl hl (by decide) rfl (fun ls hl => ?_)
            refine lv_iload_n hx hb dJ6_circularClear_37 rfl (lv_at hl 3 rfl) ?_
            refine lv_istore_n (lv' := [(3, .int (nI dt)), (1, .int 0), (0, .ref dr), (2, .int (nI dt))]) hx hb dJ6_circularClear_38 rfl hl (by decide) rfl (fun ls hl => ?_)
            refine lv_goto (tgt := 12) hx hb dJ6_circularClear_39 (by decide) ?_
            exact ih_loop_2 0 dt 0 f (by omega) (by omega) (by omega) (cc_out hcc (by omega)) (by omega) _ _ hw _ (lv_sub hl [0, 2, 1, 3] rfl)
          · skip
            have c_4 : b = dt := (nI_eq (a := b) (b := dt) (by omega) (by omega)).mp c_4
            refine lv_goto (tgt := 42) hx hb dJ6_circularClear_32 (by decide) ?_
            exact g_vret f X hw hr hlocks (by exact cc_end hcc (by omega) (by omega)) rfl dJ6_circularClear_42
        · skip
          have c_3 := Int32.not_le.mp c_3
          have c_3 : i < b := (nI_ltI (a := i) (b := b) (by omega) (by omega)).mp c_3
          refine lv_aload_n hx hb dJ6_circularClear_17 rfl (lv_at hl 1 rfl) ?_
          refine lv_iload_n hx hb dJ6_circularClear_18 rfl (lv_at hl 2 rfl) ?_
          refine lv_null hx hb dJ6_circularClear_19 ?_
          refine g_aastN (ws' := (dr, .inl (dA 3, 17, .inr (.inr (.inr (.inr (va_up f i none)))))) :: R) X hw 0 rfl (i := i) (by omega) (by first | decide | omega) rfl dJ6_circularClear_20 (fun H locs hw => ?_)
          refine lv_iinc (v := nI (i + 1)) (lv' := [(1, .int (nI (i + 1))), (3, .int (nI b)), (0, .ref dr), (2, .int (nI dt))]) hx hb dJ6_circularClear_21 hl (k := 2) rfl (nI_add i 1) (by decide) rfl (fun ls hl => ?_)
          refine lv_goto (tgt := 12) hx hb dJ6_circularClear_24 (by decide) ?_
          exact ih_loop_2 (i + 1) b ph (va_up f i none) (by omega) (by omega) (by omega) (cc_in hcc) (by omega) _ _ hw _ (lv_sub hl [1, 2, 0, 3] rfl)
    exact loop_2 ((17 - dh + 100 * 1) + 1) dh 17 1 df (by omega) (by first | assumption | omega) (by omega) (cc_1 hz2 (by omega)) (Nat.lt_succ_self _) _ _ hw _ (lv_sub hl [0, 1, 2, 3] rfl)
  · skip
    have c_1 : ¬ (dt < dh) := fun q => c_1 ((nI_ltI (a := dt) (b := dh) (by omega) (by omega)).mpr q)
    refine lv_iload_n hx hb dJ6_circularClear_5 rfl (lv_at hl 2 rfl) ?_
    refine lv_goto (tgt := 11) hx hb dJ6_circularClear_6 (by decide) ?_
    refine lv_istore_n (lv' := [(3, .int (nI dt)), (0, .ref dr), (1, .int (nI dh)), (2, .int (nI dt))]) hx hb dJ6_circularClear_11 rfl hl (by decide) rfl (fun ls hl => ?_)
    have loop_5 : ∀ (fuel : Nat) (i b ph : Nat) (f : Nat → Option Nat), ∀ (hb17 : b ≤ 17), ∀ (hi17 : i ≤ 17), ∀ (hph : ph = 0 ∧ b = dt ∨ ph = 1 ∧ b = 17), ∀ (hcc : ccI f i b ph dt), (b - i + 100 * ph) < fuel → ∀ (H : Heap) (locs : List Loc) (hw : gW D A ((dr, .inl (dA 3, 17, .inr (.inr (.inr (.inr f))))) :: R) s H locs) (ls : Array Slot) (hl : lv_has ls 4 [(3, .int (nI b)), (0, .ref dr), (1, .int (nI i)), (2, .int (nI dt))]), W p l e ({ frames := 0, cells := 0, slots := 0, locals := 0 }) s m args below meth c H locs (0) (0) (MQ below (va_Qv (fun (u : Nat → Option Nat) => ∀ k, k < 17 → u k = none) (fun u => gE D A ((dr, .inl (dA 3, 17, .inr (.inr (.inr (.inr u))))) :: R)) A) args s (0) (0) A) (F0 m 12 ls []) := by
      intro fuel
      induction fuel with
      | zero => intro i b ph f hb17 hi17 hph hcc hf; exact absurd hf (Nat.not_lt_zero _)
      | succ fuel ih_loop_5 =>
        intro i b ph f hb17 hi17 hph hcc hfuel_loop_5 H locs hw ls hl
        refine lv_iload_n hx hb dJ6_circularClear_12 rfl (lv_at hl 2 rfl) ?_
        refine lv_iload_n hx hb dJ6_circularClear_13 rfl (lv_at hl 0 rfl) ?_
        refine lv_icmp_ge (tgt := 27) hx hb dJ6_circularClear_14 (by decide) (fun c_6 => ?_) (fun c_6 => ?_)
        · skip
          have c_6 := Int32.not_lt.mpr c_6
          have c_6 : ¬ (i < b) := fun q => c_6 ((nI_ltI (a := i) (b := b) (by omega) (by omega)).mpr q)
          refine lv_iload_n hx hb dJ6_circularClear_27 rfl (lv_at hl 0 rfl) ?_
          refine lv_iload_n hx hb dJ6_circularClear_28 rfl (lv_at hl 3 rfl) ?_
          refine lv_icmp_ne (tgt := 35) hx hb dJ6_circularClear_29 (by decide) (fun c_7 => ?_) (fun c_7 => ?_)
          · skip
            have c_7 : ¬ (b = dt) := fun q => c_7 ((nI_eq (a := b) (b := dt) (by omega) (by omega)).mpr q)
            refine lv_iconst (v := 0) hx hb dJ6_circularClear_35 (by decide) ?_
            refine lv_istore_n (lv' := [(1, .int 0), (3, .int (nI b)), (0, .ref dr), (2, .int (nI dt))]) hx hb dJ6_circularClear_36 rfl hl (by decide) rfl (fun ls hl => ?_)
            refine lv_iload_n hx hb dJ6_circularClear_37 rfl (lv_at hl 3 rfl) ?_
            refine lv_istore_n (lv' := [(3, .int (nI dt)), (1, .int 0), (0, .ref dr), (2, .int (nI dt))]) hx hb dJ6_circularClear_38 rfl hl (by decide) rfl (fun ls hl => ?_)
            refine lv_goto (tgt := 12) hx hb dJ6_circularClear_39 (by decide) ?_
            exact ih_loop_5 0 dt 0 f (by omega) (by omega) (by omega) (cc_out hcc (by omega)) (by omega) _ _ hw _ (lv_sub hl [0, 2, 1, 3] rfl)
          · skip
            have c_7 : b = dt := (nI_eq (a := b) (b := dt) (by omega) (by omega)).mp c_7
            refine lv_goto (tgt := 42) hx hb dJ6_circularClear_32 (by decide) ?_
            exact g_vret f X hw hr hlocks (by exact cc_end hcc (by omega) (by omega)) rfl dJ6_circularClear_42
        · skip
          have c_6 := Int32.not_le.mp c_6
          have c_6 : i < b := (nI_ltI (a := i) (b := b) (by omega) (by omega)).mp c_6
          refine lv_aload_n hx hb dJ6_circularClear_17 rfl (lv_at hl 1 rfl) ?_
          refine lv_iload_n hx hb dJ6_circularClear_18 rfl (lv_at hl 2 rfl) ?_
          refine lv_null hx hb dJ6_circularClear_19 ?_
          refine g_aastN (ws' := (dr, .inl (dA 3, 17, .inr (.inr (.inr (.inr (va_up f i none)))))) :: R) X hw 0 rfl (i := i) (by omega) (by first | decide | omega) rfl dJ6_circularClear_20 (fun H locs hw => ?_)
          refine lv_iinc (v := nI (i + 1)) (lv' := [(1, .int (nI (i + 1))), (3, .int (nI b)), (0, .ref dr), (2, .int (nI dt))]) hx hb dJ6_circularClear_21 hl (k := 2) rfl (nI_add i 1) (by decide) rfl (fun ls hl => ?_)
          refine lv_goto (tgt := 12) hx hb dJ6_circularClear_24 (by decide) ?_
          exact ih_loop_5 (i + 1) b ph (va_up f i none) (by omega) (by omega) (by omega) (cc_in hcc) (by omega) _ _ hw _ (lv_sub hl [1, 2, 0, 3] rfl)
    exact loop_5 ((dt - dh + 100 * 0) + 1) dh dt 0 df (by omega) (by first | assumption | omega) (by omega) (cc_0 hz2 (by omega)) (Nat.lt_succ_self _) _ _ hw _ (lv_sub hl [0, 1, 2, 3] rfl)

set_option maxHeartbeats 4000000 in
theorem m_J6_clear (l : Launch) (D : va_G) (dA : Nat → ClassId) (A : Nat → Prop) (E : State → Prop) (hE : gSt A E) (R : va_W) (dq dr dh dt : Nat) (df : Nat → Option Nat) (hdh : dh < 17) (hdt : dt < 17) (hz2 : ∀ k, k < 17 → ¬ segN dh dt k → df k = none)  : Met l yJ6_clear (ws_ yJ6_clear cJ6_clear 1 (Option.none : Option FieldType)) ({ frames := 1, cells := 0, slots := 0, locals := 23 }) (va_Pc [.ref dq] (gB D dA A E ((dq, .inr (15, [.ref dr, .int (nI dh), .int (nI dt)])) :: (dr, .inl (dA 3, 17, .inr (.inr (.inr (.inr df))))) :: R))) (va_Qv (fun (u : Nat → Option Nat) => ∀ k, k < 17 → u k = none) (fun u => gE D A ((dq, .inr (15, [.ref dr, .int 0, .int 0])) :: (dr, .inl (dA 3, 17, .inr (.inr (.inr (.inr u))))) :: R)) A) (0) (0) A := by
  refine g_start rfl rfl ?_
  intro p e s m args below meth c ls X hr hlocks hin hw hl
  have hx := X.1.1
  have hb := X.1.2.1
  have hl : lv_has ls 1 [(0, .ref dq)] := hl
  refine lv_aload_n hx hb dJ6_clear_0 rfl (lv_at hl 0 rfl) ?_
  refine g_get X cfJ6 hw 0 0 rfl rfl q333 rfl rfl dJ6_clear_1 ?_
  refine lv_aload_n hx hb dJ6_clear_4 rfl (lv_at hl 0 rfl) ?_
  refine g_get X cfJ6 hw 0 1 rfl rfl q334 rfl rfl dJ6_clear_5 ?_
  refine lv_aload_n hx hb dJ6_clear_8 rfl (lv_at hl 0 rfl) ?_
  refine g_get X cfJ6 hw 0 2 rfl rfl q335 rfl rfl dJ6_clear_9 ?_
  have hw : gW D A ((dr, .inl (dA 3, 17, .inr (.inr (.inr (.inr df))))) :: (dq, .inr (15, [.ref dr, .int (nI dh), .int (nI dt)])) :: R) s _ _ := g_perm (X := [(dq, .inr (15, [.ref dr, .int (nI dh), .int (nI dt)])), (dr, .inl (dA 3, 17, .inr (.inr (.inr (.inr df)))))]) (cx := [(dr, .inl (dA 3, 17, .inr (.inr (.inr (.inr df))))), (dq, .inr (15, [.ref dr, .int (nI dh), .int (nI dt)]))]) (pl := R) hw [1, 0] rfl rfl rfl rfl
  refine va_callv (va_runS (As := [.ref dr, .int (nI dh), .int (nI dt)]) (rest := []) X.1 (m_J6_circularClear l D dA A E hE ((dq, .inr (15, [.ref dr, .int (nI dh), .int (nI dt)])) :: R) dr dh dt df (by first | assumption | omega) (by first | assumption | omega) (by first | assumption | omega)) (va_cwS 3 X.1.2.2.2.2 (lw_S q1825 q1826 q75 q1827) rfl rfl rfl (by decide +kernel) ⟨Nat.le_of_ble_eq_true rfl, Nat.le_of_ble_eq_true rfl⟩) (g_preS hE X.2 hw) rfl rfl hl.1 rfl (lv_room (Nat.le_of_ble_eq_true rfl)) dJ6_clear_12 ⟨Nat.le_of_ble_eq_true rfl, Nat.le_of_ble_eq_true rfl⟩) hw.2.2 (fun q _ h => h) (fun q h => h) (fun u t H locs ht hvm h_1 hB hz9 hk9 hS => ?_)
  obtain ⟨u_2, rfl⟩ : ∃ z, z = u := ⟨_, rfl⟩
  have hw : gW D A ((dr, .inl (dA 3, 17, .inr (.inr (.inr (.inr u_2))))) :: (dq, .inr (15, [.ref dr, .int (nI dh), .int (nI dt)])) :: R) s H locs := g_aft ht hB hS
  have h_1 : ∀ k, k < 17 → u_2 k = none := h_1
  refine lv_aload_n hx hb dJ6_clear_15 rfl (lv_at hl 0 rfl) ?_
  refine lv_aload_n hx hb dJ6_clear_16 rfl (lv_at hl 0 rfl) ?_
  refine lv_iconst (v := 0) hx hb dJ6_clear_17 (by decide) ?_
  refine lv_dup_x1 hx hb dJ6_clear_18 rfl rfl ?_
  refine g_put (ws' := (dr, .inl (dA 3, 17, .inr (.inr (.inr (.inr u_2))))) :: (dq, .inr (15, [.ref dr, .int (nI dh), .int 0])) :: R) X cfJ6 hw 1 2 rfl rfl q335 rfl rfl rfl rfl rfl rfl dJ6_clear_19 (fun H locs hw => ?_)
  refine g_put (ws' := (dr, .inl (dA 3, 17, .inr (.inr (.inr (.inr u_2))))) :: (dq, .inr (15, [.ref dr, .int 0, .int 0])) :: R) X cfJ6 hw 1 1 rfl rfl q334 rfl rfl rfl rfl rfl rfl dJ6_clear_22 (fun H locs hw => ?_)
  have hw : gW D A ((dq, .inr (15, [.ref dr, .int 0, .int 0])) :: (dr, .inl (dA 3, 17, .inr (.inr (.inr (.inr u_2))))) :: R) s _ _ := g_perm (X := [(dr, .inl (dA 3, 17, .inr (.inr (.inr (.inr u_2))))), (dq, .inr (15, [.ref dr, .int 0, .int 0]))]) (cx := [(dq, .inr (15, [.ref dr, .int 0, .int 0])), (dr, .inl (dA 3, 17, .inr (.inr (.inr (.inr u_2)))))]) (pl := R) hw [1, 0] rfl rfl rfl rfl
  exact g_vret u_2 X hw hr hlocks (by exact h_1) rfl dJ6_clear_25

set_option maxHeartbeats 4000000 in
theorem m_J3_signedHashCode (l : Launch) (D : va_G) (dA : Nat → ClassId) (A : Nat → Prop) (E : State → Prop) (hE : gSt A E) (R : va_W) (sb sn : Nat) (sf : gG) (hf : gAsc sf sn) (h1 : sn ≤ 60) (h2 : 2 ≤ sn)  : Met l yJ3_signedHashCode (ws_ yJ3_signedHashCode cJ3_signedHashCode 6 (Option.some FieldType.int)) ({ frames := 0, cells := 0, slots := 0, locals := 0 }) (va_Pc [.int 0, .ref sb, .int 0, .int (nI sn)] (gB D dA A E ((sb, .inl (dA 2, sn, .inl sf)) :: R))) (va_Qi (fun (r : Int32) (_ : Unit) => r = txH sf sn) (fun _ => gE D A ((sb, .inl (dA 2, sn, .inl sf)) :: R)) A) (0) (0) A := by
  refine g_start rfl rfl ?_
  intro p e s m args below meth c ls X hr hlocks hin hw hl
  have hx := X.1.1
  have hb := X.1.2.1
  have hl : lv_has ls 6 [(0, .int 0), (1, .ref sb), (2, .int 0), (3, .int (nI sn))] := hl
  refine lv_iload_n hx hb dJ3_signedHashCode_0 rfl (lv_at hl 2 rfl) ?_
  refine lv_iload_n hx hb dJ3_signedHashCode_1 rfl (lv_at hl 3 rfl) ?_
  refine lv_iadd hx hb dJ3_signedHashCode_2 ?_
  refine g_top (y := nI sn) (Int32.zero_add _) ?_
  refine lv_istore (lv' := [(4, .int (nI sn)), (0, .int 0), (1, .ref sb), (2, .int 0), (3, .int (nI sn))]) hx hb dJ3_signedHashCode_3 hl (by decide) rfl (fun ls hl => ?_)
  refine lv_iload_n hx hb dJ3_signedHashCode_5 rfl (lv_at hl 3 rfl) ?_
  refine lv_istore (lv' := [(5, .int 0), (4, .int (nI sn)), (0, .int 0), (1, .ref sb), (2, .int 0), (3, .int (nI sn))]) hx hb dJ3_signedHashCode_6 hl (by decide) rfl (fun ls hl => ?_)
  have loop_1 : ∀ (fuel : Nat) (i : Nat), ∀ (hi : i ≤ sn), (sn - i) < fuel → ∀ (H : Heap) (locs : List Loc) (hw : gW D A ((sb, .inl (dA 2, sn, .inl sf)) :: R) s H locs) (ls : Array Slot) (hl : lv_has ls 6 [(5, .int (nI i)), (4, .int (nI sn)), (0, .int (txH sf i)), (1, .ref sb), (2, .int 0), (3, .int (nI sn))]), W p l e ({ frames := 0, cells := 0, slots := 0, locals := 0 }) s m args below meth c H locs (0) (0) (MQ below (va_Qi (fun (r : Int32) (_ : Unit) => r = txH sf sn) (fun _ => gE D A ((sb, .inl (dA 2, sn, .inl sf)) :: R)) A) args s (0) (0) A) (F0 m 8 ls []) := by
    intro fuel
    induction fuel with
    | zero => intro i hi hf; exact absurd hf (Nat.not_lt_zero _)
    | succ fuel ih_loop_1 =>
      intro i hi hfuel_loop_1 H locs hw ls hl
      refine lv_iload hx hb dJ3_signedHashCode_8 (lv_at hl 0 rfl) ?_
      refine lv_iload hx hb dJ3_signedHashCode_10 (lv_at hl 1 rfl) ?_
      refine lv_icmp_ge (tgt := 35) hx hb dJ3_signedHashCode_12 (by decide) (fun c_2 => ?_) (fun c_2 => ?_)
      · skip
        have c_2 := Int32.not_lt.mpr c_2
        have c_2 : ¬ (i < sn) := fun q => c_2 ((nI_ltI (a := i) (b := sn) (by omega) (by omega)).mpr q)
        refine lv_iload_n hx hb dJ3_signedHashCode_35 rfl (lv_at hl 2 rfl) ?_
        exact g_iret (v := txH sf i) () X hw hr hlocks  (by exact congrArg (txH sf) (by omega)) rfl dJ3_signedHashCode_36
      · skip
        have c_2 := Int32.not_le.mp c_2
        have c_2 : i < sn := (nI_ltI (a := i) (b := sn) (by omega) (by omega)).mp c_2
        refine lv_bipush (v := 31) hx hb dJ3_signedHashCode_15 (by decide) ?_
        refine lv_iload_n hx hb dJ3_signedHashCode_17 rfl (lv_at hl 2 rfl) ?_
        refine lv_imul hx hb dJ3_signedHashCode_18 ?_
        refine lv_aload_n hx hb dJ3_signedHashCode_19 rfl (lv_at hl 3 rfl) ?_
        refine lv_iload hx hb dJ3_signedHashCode_20 (lv_at hl 0 rfl) ?_
        refine g_bald X hw 0 rfl (i := i) (by omega) (by first | decide | omega) dJ3_signedHashCode_22 ?_
        refine lv_sipush (v := 255) hx hb dJ3_signedHashCode_23 (by decide) ?_
        refine lv_iand hx hb dJ3_signedHashCode_26 ?_
        refine lv_iadd hx hb dJ3_signedHashCode_27 ?_
        refine g_top (y := txH sf (i + 1)) (by rw [asc_and hf (by omega), txH]) ?_
        refine lv_istore_n (lv' := [(0, .int (txH sf (i + 1))), (5, .int (nI i)), (4, .int (nI sn)), (1, .ref sb), (2, .int 0), (3, .int (nI sn))]) hx hb dJ3_signedHashCode_28 rfl hl (by decide) rfl (fun ls hl => ?_)
        refine lv_iinc (v := nI (i + 1)) (lv' := [(5, .int (nI (i + 1))), (0, .int (txH sf (i + 1))), (4, .int (nI sn)), (1, .ref sb), (2, .int 0), (3, .int (nI sn))]) hx hb dJ3_signedHashCode_29 hl (k := 1) rfl (nI_add i 1) (by decide) rfl (fun ls hl => ?_)
        refine lv_goto (tgt := 8) hx hb dJ3_signedHashCode_32 (by decide) ?_
        exact ih_loop_1 (i + 1) (by first | assumption | omega) (by omega) _ _ hw _ (lv_sub hl [0, 2, 1, 3, 4, 5] rfl)
  have hl : lv_has ls 6 [(5, .int 0), (4, .int (nI sn)), (0, .int 0), (1, .ref sb), (2, .int 0), (3, .int (nI sn))] := (lv_sub hl [0, 1, 2, 3, 4, 5] rfl)
  have hl : lv_has ls 6 [(5, .int 0), (4, .int (nI sn)), (0, .int (txH sf 0)), (1, .ref sb), (2, .int 0), (3, .int (nI sn))] := by exact hl
  exact loop_1 ((sn - 0) + 1) 0 (by first | assumption | omega) (Nat.lt_succ_self _) _ _ hw _ (hl)

set_option maxHeartbeats 4000000 in
theorem m_J3_vectorizedHashCode (l : Launch) (D : va_G) (dA : Nat → ClassId) (A : Nat → Prop) (E : State → Prop) (hE : gSt A E) (R : va_W) (sb sn : Nat) (sf : gG) (hf : gAsc sf sn) (h1 : sn ≤ 60) (h2 : 2 ≤ sn)  : Met l yJ3_vectorizedHashCode (ws_ yJ3_vectorizedHashCode cJ3_vectorizedHashCode 5 (Option.some FieldType.int)) ({ frames := 1, cells := 0, slots := 0, locals := 25 }) (va_Pc [.ref sb, .int 0, .int (nI sn), .int 0, .int 4] (gB D dA A E ((sb, .inl (dA 2, sn, .inl sf)) :: R))) (va_Qi (fun (r : Int32) (_ : Unit) => r = txH sf sn) (fun _ => gE D A ((sb, .inl (dA 2, sn, .inl sf)) :: R)) A) (0) (0) A := by
  refine g_start rfl rfl ?_
  intro p e s m args below meth c ls X hr hlocks hin hw hl
  have hx := X.1.1
  have hb := X.1.2.1
  have hl : lv_has ls 5 [(0, .ref sb), (1, .int 0), (2, .int (nI sn)), (3, .int 0), (4, .int 4)] := hl
  refine lv_iload hx hb dJ3_vectorizedHashCode_0 (lv_at hl 4 rfl) ?_
  refine lv_tableIn (tgt := 44) hx hb dJ3_vectorizedHashCode_2 (by decide) (by decide) rfl (by decide) ?_
  refine lv_iload_n hx hb dJ3_vectorizedHashCode_44 rfl (lv_at hl 3 rfl) ?_
  refine lv_aload_n hx hb dJ3_vectorizedHashCode_45 rfl (lv_at hl 0 rfl) ?_
  refine g_castB X hw q1563 0 rfl dJ3_vectorizedHashCode_46 ?_
  refine lv_iload_n hx hb dJ3_vectorizedHashCode_49 rfl (lv_at hl 1 rfl) ?_
  refine lv_iload_n hx hb dJ3_vectorizedHashCode_50 rfl (lv_at hl 2 rfl) ?_
  refine va_calli (va_runS (As := [.int 0, .ref sb, .int 0, .int (nI sn)]) (rest := []) X.1 (m_J3_signedHashCode l D dA A E hE R sb sn sf (by first | assumption | omega) (by first | assumption | omega) (by first | assumption | omega)) (va_cwS 4 X.1.2.2.2.2 (lw_S q1564 q1565 q71 q1566) rfl rfl rfl (by decide +kernel) ⟨Nat.le_of_ble_eq_true rfl, Nat.le_of_ble_eq_true rfl⟩) (g_preS hE X.2 hw) rfl rfl hl.1 rfl (lv_room (Nat.le_of_ble_eq_true rfl)) dJ3_vectorizedHashCode_51 ⟨Nat.le_of_ble_eq_true rfl, Nat.le_of_ble_eq_true rfl⟩) hw.2.2 (fun q _ h => h) (fun q h => h) (fun r_2 u t H locs ht hvm h_1 hB hz9 hk9 hS => ?_)
  have hw : gW D A ((sb, .inl (dA 2, sn, .inl sf)) :: R) s H locs := g_aft ht hB hS
  obtain rfl : r_2 = txH sf sn := h_1
  refine lv_goto (tgt := 157) hx hb dJ3_vectorizedHashCode_54 (by decide) ?_
  exact g_iret (v := txH sf sn) () X hw hr hlocks  rfl rfl dJ3_vectorizedHashCode_157

set_option maxHeartbeats 4000000 in
theorem m_J17_hashCode (l : Launch) (D : va_G) (dA : Nat → ClassId) (A : Nat → Prop) (E : State → Prop) (hE : gSt A E) (R : va_W) (sb sn : Nat) (sf : gG) (hf : gAsc sf sn) (h1 : sn ≤ 60) (h2 : 2 ≤ sn)  : Met l yJ17_hashCode (ws_ yJ17_hashCode cJ17_hashCode 1 (Option.some FieldType.int)) ({ frames := 2, cells := 0, slots := 0, locals := 49 }) (va_Pc [.ref sb] (gB D dA A E ((sb, .inl (dA 2, sn, .inl sf)) :: R))) (va_Qi (fun (r : Int32) (_ : Unit) => r = txH sf sn) (fun _ => gE D A ((sb, .inl (dA 2, sn, .inl sf)) :: R)) A) (0) (0) A := by
  refine g_start rfl rfl ?_
  intro p e s m args below meth c ls X hr hlocks hin hw hl
  have hx := X.1.1
  have hb := X.1.2.1
  have hl : lv_has ls 1 [(0, .ref sb)] := hl
  refine lv_aload_n hx hb dJ17_hashCode_0 rfl (lv_at hl 0 rfl) ?_
  refine g_alen X hw 0 2 rfl rfl dJ17_hashCode_1 ?_
  refine lv_lookup (off := 40) (tgt := 42) hx hb dJ17_hashCode_2 (by decide) ((lv_osw (k := 0) (fun q => by have := (nI_eq (a := sn) (b := 0) (by omega) (by omega)).mp q; omega) rfl).trans ((lv_osw (k := 1) (fun q => by have := (nI_eq (a := sn) (b := 1) (by omega) (by omega)).mp q; omega) rfl).trans (rfl))) (by decide) ?_
  refine lv_aload_n hx hb dJ17_hashCode_42 rfl (lv_at hl 0 rfl) ?_
  refine lv_iconst (v := 0) hx hb dJ17_hashCode_43 (by decide) ?_
  refine lv_aload_n hx hb dJ17_hashCode_44 rfl (lv_at hl 0 rfl) ?_
  refine g_alen X hw 0 2 rfl rfl dJ17_hashCode_45 ?_
  refine lv_iconst (v := 0) hx hb dJ17_hashCode_46 (by decide) ?_
  refine lv_iconst (v := 4) hx hb dJ17_hashCode_47 (by decide) ?_
  refine va_calli (va_runS (As := [.ref sb, .int 0, .int (nI sn), .int 0, .int 4]) (rest := []) X.1 (m_J3_vectorizedHashCode l D dA A E hE R sb sn sf (by first | assumption | omega) (by first | assumption | omega) (by first | assumption | omega)) (va_cwS 5 X.1.2.2.2.2 (lw_S q1560 q1561 q71 q1562) rfl rfl rfl (by decide +kernel) ⟨Nat.le_of_ble_eq_true rfl, Nat.le_of_ble_eq_true rfl⟩) (g_preS hE X.2 hw) rfl rfl hl.1 rfl (lv_room (Nat.le_of_ble_eq_true rfl)) dJ17_hashCode_48 ⟨Nat.le_of_ble_eq_true rfl, Nat.le_of_ble_eq_true rfl⟩) hw.2.2 (fun q _ h => h) (fun q h => h) (fun r_2 u t H locs ht hvm h_1 hB hz9 hk9 hS => ?_)
  have hw : gW D A ((sb, .inl (dA 2, sn, .inl sf)) :: R) s H locs := g_aft ht hB hS
  obtain rfl : r_2 = txH sf sn := h_1
  exact g_iret (v := txH sf sn) () X hw hr hlocks  rfl rfl dJ17_hashCode_51

set_option maxHeartbeats 4000000 in
theorem m_J9_hashCode (l : Launch) (D : va_G) (dA : Nat → ClassId) (A : Nat → Prop) (E : State → Prop) (hE : gSt A E) (R : va_W) (kA : Nat → Nat) (hKE : gKE A E kA) (sa : Nat) (h : Int32) (sb sn : Nat) (sf : gG) (hf : gAsc sf sn) (h1 : sn ≤ 60) (h2 : 2 ≤ sn) (hh : h = 0 ∨ h = txH sf sn) (hnz : ¬ txH sf sn = 0) : Met l yJ9_hashCode (ws_ yJ9_hashCode cJ9_hashCode 2 (Option.some FieldType.int)) ({ frames := 3, cells := 0, slots := 0, locals := 69 }) (va_Pc [.ref sa] (gB D dA A E ((sa, .inr (17, [.ref sb, .int 0, .int h, .int 0])) :: (sb, .inl (dA 2, sn, .inl sf)) :: R))) (va_Qi (fun (r : Int32) (_ : Unit) => r = txH sf sn) (fun _ => gE D A ((sa, .inr (17, [.ref sb, .int 0, .int (txH sf sn), .int 0])) :: (sb, .inl (dA 2, sn, .inl sf)) :: R)) A) (0) (0) A := by
  refine g_start rfl rfl ?_
  intro p e s m args below meth c ls X hr hlocks hin hw hl
  have hx := X.1.1
  have hb := X.1.2.1
  have hl : lv_has ls 2 [(0, .ref sa)] := hl
  refine lv_aload_n hx hb dJ9_hashCode_0 rfl (lv_at hl 0 rfl) ?_
  refine g_get X cfJ9 hw 0 2 rfl rfl q1375 rfl rfl dJ9_hashCode_1 ?_
  refine lv_istore_n (lv' := [(1, .int h), (0, .ref sa)]) hx hb dJ9_hashCode_4 rfl hl (by decide) rfl (fun ls hl => ?_)
  refine lv_iload_n hx hb dJ9_hashCode_5 rfl (lv_at hl 0 rfl) ?_
  refine lv_if_ne (tgt := 58) hx hb dJ9_hashCode_6 (by decide) (fun c_1 => ?_) (fun c_1 => ?_)
  · skip
    refine lv_iload_n hx hb dJ9_hashCode_58 rfl (lv_at hl 0 rfl) ?_
    have hq9 : h = txH sf sn := hh.resolve_left c_1
    exact g_iret (v := h) () X hw hr hlocks  (by exact hq9) (by rw [← hq9]) dJ9_hashCode_59
  · skip
    refine lv_aload_n hx hb dJ9_hashCode_9 rfl (lv_at hl 1 rfl) ?_
    refine g_get X cfJ9 hw 0 3 rfl rfl q1376 rfl rfl dJ9_hashCode_10 ?_
    refine lv_if_ne (tgt := 58) hx hb dJ9_hashCode_13 (by decide) (fun c_2 => absurd (by decide) c_2) (fun c_2 => ?_)
    refine lv_aload_n hx hb dJ9_hashCode_16 rfl (lv_at hl 1 rfl) ?_
    refine va_calli (va_runV (As := []) (rest := []) X.1 (m_J9_isLatin1 l D dA A E hE ((sa, .inr (17, [.ref sb, .int 0, .int h, .int 0])) :: (sb, .inl (dA 2, sn, .inl sf)) :: R) kA (by first | assumption | omega) sa sb sn sf (gTxt.of 0 1 (by first | assumption | omega) (by assumption) rfl rfl)) (cwV 0 X.1.2.2.2.2 (lw_V q1267 q1268 q1269 q78 q1270) rfl rfl rfl (by decide +kernel) ⟨Nat.le_of_ble_eq_true rfl, Nat.le_of_ble_eq_true rfl⟩) (g_preV hE X.2 hw 0 rfl rfl) rfl rfl hl.1 rfl (lv_room (Nat.le_of_ble_eq_true rfl)) dJ9_hashCode_17 ⟨Nat.le_of_ble_eq_true rfl, Nat.le_of_ble_eq_true rfl⟩) hw.2.2 (fun q _ h => h) (fun q h => h) (fun r_4 u t H locs ht hvm h_3 hB hz9 hk9 hS => ?_)
    have hw : gW D A ((sa, .inr (17, [.ref sb, .int 0, .int h, .int 0])) :: (sb, .inl (dA 2, sn, .inl sf)) :: R) s H locs := g_aft ht hB hS
    obtain rfl : r_4 = 1 := h_3
    refine lv_if_eq (tgt := 33) hx hb dJ9_hashCode_20 (by decide) (fun c_5 => absurd c_5 (by decide)) (fun c_5 => ?_)
    refine lv_aload_n hx hb dJ9_hashCode_23 rfl (lv_at hl 1 rfl) ?_
    refine g_get X cfJ9 hw 0 0 rfl rfl q1373 rfl rfl dJ9_hashCode_24 ?_
    have hw : gW D A ((sb, .inl (dA 2, sn, .inl sf)) :: (sa, .inr (17, [.ref sb, .int 0, .int h, .int 0])) :: R) s _ _ := g_perm (X := [(sa, .inr (17, [.ref sb, .int 0, .int h, .int 0])), (sb, .inl (dA 2, sn, .inl sf))]) (cx := [(sb, .inl (dA 2, sn, .inl sf)), (sa, .inr (17, [.ref sb, .int 0, .int h, .int 0]))]) (pl := R) hw [1, 0] rfl rfl rfl rfl
    refine va_calli (va_runS (As := [.ref sb]) (rest := []) X.1 (m_J17_hashCode l D dA A E hE ((sa, .inr (17, [.ref sb, .int 0, .int h, .int 0])) :: R) sb sn sf (by first | assumption | omega) (by first | assumption | omega) (by first | assumption | omega)) (va_cwS 1 X.1.2.2.2.2 (lw_S q1557 q1558 q94 q1559) rfl rfl rfl (by decide +kernel) ⟨Nat.le_of_ble_eq_true rfl, Nat.le_of_ble_eq_true rfl⟩) (g_preS hE X.2 hw) rfl rfl hl.1 rfl (lv_room (Nat.le_of_ble_eq_true rfl)) dJ9_hashCode_27 ⟨Nat.le_of_ble_eq_true rfl, Nat.le_of_ble_eq_true rfl⟩) hw.2.2 (fun q _ h => h) (fun q h => h) (fun r_7 u t H locs ht hvm h_6 hB hz9 hk9 hS => ?_)
    have hw : gW D A ((sb, .inl (dA 2, sn, .inl sf)) :: (sa, .inr (17, [.ref sb, .int 0, .int h, .int 0])) :: R) s H locs := g_aft ht hB hS
    obtain rfl : r_7 = txH sf sn := h_6
    refine lv_goto (tgt := 40) hx hb dJ9_hashCode_30 (by decide) ?_
    refine lv_istore_n (lv' := [(1, .int (txH sf sn)), (0, .ref sa)]) hx hb dJ9_hashCode_40 rfl hl (by decide) rfl (fun ls hl => ?_)
    refine lv_iload_n hx hb dJ9_hashCode_41 rfl (lv_at hl 0 rfl) ?_
    refine lv_if_ne (tgt := 53) hx hb dJ9_hashCode_42 (by decide) (fun c_8 => ?_) (fun c_8 => absurd c_8 (hnz))
    refine lv_aload_n hx hb dJ9_hashCode_53 rfl (lv_at hl 1 rfl) ?_
    refine lv_iload_n hx hb dJ9_hashCode_54 rfl (lv_at hl 0 rfl) ?_
    refine g_put (ws' := (sb, .inl (dA 2, sn, .inl sf)) :: (sa, .inr (17, [.ref sb, .int 0, .int (txH sf sn), .int 0])) :: R) X cfJ9 hw 1 2 rfl rfl q1375 rfl rfl rfl rfl rfl rfl dJ9_hashCode_55 (fun H locs hw => ?_)
    refine lv_iload_n hx hb dJ9_hashCode_58 rfl (lv_at hl 0 rfl) ?_
    have hw : gW D A ((sa, .inr (17, [.ref sb, .int 0, .int (txH sf sn), .int 0])) :: (sb, .inl (dA 2, sn, .inl sf)) :: R) s _ _ := g_perm (X := [(sb, .inl (dA 2, sn, .inl sf)), (sa, .inr (17, [.ref sb, .int 0, .int (txH sf sn), .int 0]))]) (cx := [(sa, .inr (17, [.ref sb, .int 0, .int (txH sf sn), .int 0])), (sb, .inl (dA 2, sn, .inl sf))]) (pl := R) hw [1, 0] rfl rfl rfl rfl
    exact g_iret (v := txH sf sn) () X hw hr hlocks  rfl rfl dJ9_hashCode_59

set_option maxHeartbeats 4000000 in
theorem m_J13_init_2R (l : Launch) (D : va_G) (dA : Nat → ClassId) (A : Nat → Prop) (E : State → Prop) (hE : gSt A E) (R : va_W) (kA : Nat → Nat) (hKE : gKE A E kA) (o : Nat) : Met l yJ13_init_2 (ws_ yJ13_init_2 cJ13_init_2 5 (Option.none : Option FieldType)) ({ frames := 1, cells := 0, slots := 0, locals := 12 }) (va_Pc [.ref o, .null, .null, .int 0, .int 0] (gB D dA A E ((o, .inr (9, [.null, .null, .null, .null, .null, .int 0, .int 0, .int 0])) :: R))) (va_Qv (fun (_ : Unit) => True) (fun _ => gE D A ((o, .inr (9, [.null, .null, .null, .null, .null, .int 0, .int 0, .int 0])) :: R)) A) (0) (0) A := by
  refine g_start rfl rfl ?_
  intro p e s m args below meth c ls X hr hlocks hin hw hl
  have hx := X.1.1
  have hb := X.1.2.1
  have hl : lv_has ls 5 [(0, .ref o), (1, .null), (2, .null), (3, .int 0), (4, .int 0)] := hl
  refine lv_aload_n hx hb dJ13_init_2_0 rfl (lv_at hl 0 rfl) ?_
  refine W.objInit hx hb X.1.2.2.2.1 (X.1.2.2.2.2 _ q530) (X.1.2.2.2.2 _ q109) (X.1.2.2.2.2 _ q110) rfl (by rw [X.1.2.2.1]; exact hl.1) rfl dJ13_init_2_1 (Nat.le_of_ble_eq_true rfl) (Nat.le_of_ble_eq_true rfl) ?_
  refine W.eq (g2 := F0 m 4 ls []) rfl ?_
  refine lv_aload_n hx hb dJ13_init_2_4 rfl (lv_at hl 0 rfl) ?_
  refine lv_aload_n hx hb dJ13_init_2_5 rfl (lv_at hl 0 rfl) ?_
  refine g_put (ws' := (o, .inr (9, [.ref o, .null, .null, .null, .null, .int 0, .int 0, .int 0])) :: R) X cfX9 hw 0 0 rfl rfl q558 rfl rfl rfl rfl rfl rfl dJ13_init_2_6 (fun H locs hw => ?_)
  refine lv_aload_n hx hb dJ13_init_2_9 rfl (lv_at hl 0 rfl) ?_
  rcases (hKE s X.2.2.2.1).2.2.2.2.2.2.1.1 with hZ_1 | ⟨tz_2, hZ_1⟩
  · skip
    refine g_gets X hw hZ_1 q531 rfl dJ13_init_2_10 ?_
    refine g_put (ws' := (o, .inr (9, [.ref o, .null, .null, .null, .null, .int 0, .int 0, .int 0])) :: R) X cfX9 hw 0 1 rfl rfl q559 rfl rfl rfl rfl rfl rfl dJ13_init_2_13 (fun H locs hw => ?_)
    refine lv_aload_n hx hb dJ13_init_2_16 rfl (lv_at hl 0 rfl) ?_
    rcases (hKE s X.2.2.2.1).2.2.2.2.2.2.2.1 with hZ_3 | ⟨tz_4, hZ_3⟩
    · skip
      refine g_gets X hw hZ_3 q533 rfl dJ13_init_2_17 ?_
      refine g_put (ws' := (o, .inr (9, [.ref o, .null, .null, .null, .null, .int 0, .int 0, .int 0])) :: R) X cfX9 hw 0 2 rfl rfl q560 rfl rfl rfl rfl rfl rfl dJ13_init_2_20 (fun H locs hw => ?_)
      refine lv_iload hx hb dJ13_init_2_23 (lv_at hl 4 rfl) ?_
      refine lv_if_eq (tgt := 36) hx hb dJ13_init_2_25 (by decide) (fun c_5 => ?_) (fun c_5 => absurd (by decide) c_5)
      refine lv_aload_n hx hb dJ13_init_2_36 rfl (lv_at hl 0 rfl) ?_
      refine lv_null hx hb dJ13_init_2_37 ?_
      refine g_put (ws' := (o, .inr (9, [.ref o, .null, .null, .null, .null, .int 0, .int 0, .int 0])) :: R) X cfX9 hw 0 1 rfl rfl q559 rfl rfl rfl rfl rfl rfl dJ13_init_2_38 (fun H locs hw => ?_)
      refine lv_aload_n hx hb dJ13_init_2_41 rfl (lv_at hl 0 rfl) ?_
      refine lv_aload_nN hx hb dJ13_init_2_42 rfl (lv_at hl 1 rfl) ?_
      refine g_put (ws' := (o, .inr (9, [.ref o, .null, .null, .null, .null, .int 0, .int 0, .int 0])) :: R) X cfX9 hw 0 3 rfl rfl q557 rfl rfl rfl rfl rfl rfl dJ13_init_2_43 (fun H locs hw => ?_)
      refine lv_aload_n hx hb dJ13_init_2_46 rfl (lv_at hl 0 rfl) ?_
      refine lv_aload_nN hx hb dJ13_init_2_47 rfl (lv_at hl 2 rfl) ?_
      refine g_put (ws' := (o, .inr (9, [.null, .null, .null, .null, .null, .int 0, .int 0, .int 0])) :: R) X cfX9 hw 0 0 rfl rfl q558 rfl rfl rfl rfl rfl rfl dJ13_init_2_48 (fun H locs hw => ?_)
      refine lv_iload_n hx hb dJ13_init_2_51 rfl (lv_at hl 3 rfl) ?_
      refine lv_if_ne (tgt := 60) hx hb dJ13_init_2_52 (by decide) (fun c_6 => absurd (by decide) c_6) (fun c_6 => ?_)
      refine lv_aload_n hx hb dJ13_init_2_55 rfl (lv_at hl 0 rfl) ?_
      refine lv_null hx hb dJ13_init_2_56 ?_
      refine g_put (ws' := (o, .inr (9, [.null, .null, .null, .null, .null, .int 0, .int 0, .int 0])) :: R) X cfX9 hw 0 2 rfl rfl q560 rfl rfl rfl rfl rfl rfl dJ13_init_2_57 (fun H locs hw => ?_)
      exact g_vret () X hw hr hlocks trivial rfl dJ13_init_2_60
    · skip
      refine g_gets X hw hZ_3 q533 rfl dJ13_init_2_17 ?_
      refine g_put (ws' := (o, .inr (9, [.ref o, .null, .ref tz_4, .null, .null, .int 0, .int 0, .int 0])) :: R) X cfX9 hw 0 2 rfl rfl q560 rfl rfl rfl rfl rfl rfl dJ13_init_2_20 (fun H locs hw => ?_)
      refine lv_iload hx hb dJ13_init_2_23 (lv_at hl 4 rfl) ?_
      refine lv_if_eq (tgt := 36) hx hb dJ13_init_2_25 (by decide) (fun c_7 => ?_) (fun c_7 => absurd (by decide) c_7)
      refine lv_aload_n hx hb dJ13_init_2_36 rfl (lv_at hl 0 rfl) ?_
      refine lv_null hx hb dJ13_init_2_37 ?_
      refine g_put (ws' := (o, .inr (9, [.ref o, .null, .ref tz_4, .null, .null, .int 0, .int 0, .int 0])) :: R) X cfX9 hw 0 1 rfl rfl q559 rfl rfl rfl rfl rfl rfl dJ13_init_2_38 (fun H locs hw => ?_)
      refine lv_aload_n hx hb dJ13_init_2_41 rfl (lv_at hl 0 rfl) ?_
      refine lv_aload_nN hx hb dJ13_init_2_42 rfl (lv_at hl 1 rfl) ?_
      refine g_put (ws' := (o, .inr (9, [.ref o, .null, .ref tz_4, .null, .null, .int 0, .int 0, .int 0])) :: R) X cfX9 hw 0 3 rfl rfl q557 rfl rfl rfl rfl rfl rfl dJ13_init_2_43 (fun H locs hw => ?_)
      refine lv_aload_n hx hb dJ13_init_2_46 rfl (lv_at hl 0 rfl) ?_
      refine lv_aload_nN hx hb dJ13_init_2_47 rfl (lv_at hl 2 rfl) ?_
      refine g_put (ws' := (o, .inr (9, [.null, .null, .ref tz_4, .null, .null, .int 0, .int 0, .int 0])) :: R) X cfX9 hw 0 0 rfl rfl q558 rfl rfl rfl rfl rfl rfl dJ13_init_2_48 (fun H locs hw => ?_)
      refine lv_iload_n hx hb dJ13_init_2_51 rfl (lv_at hl 3 rfl) ?_
      refine lv_if_ne (tgt := 60) hx hb dJ13_init_2_52 (by decide) (fun c_8 => absurd (by decide) c_8) (fun c_8 => ?_)
      refine lv_aload_n hx hb dJ13_init_2_55 rfl (lv_at hl 0 rfl) ?_
      refine lv_null hx hb dJ13_init_2_56 ?_
      refine g_put (ws' := (o, .inr (9, [.null, .null, .null, .null, .null, .int 0, .int 0, .int 0])) :: R) X cfX9 hw 0 2 rfl rfl q560 rfl rfl rfl rfl rfl rfl dJ13_init_2_57 (fun H locs hw => ?_)
      exact g_vret () X hw hr hlocks trivial rfl dJ13_init_2_60
  · skip
    refine g_gets X hw hZ_1 q531 rfl dJ13_init_2_10 ?_
    refine g_put (ws' := (o, .inr (9, [.ref o, .ref tz_2, .null, .null, .null, .int 0, .int 0, .int 0])) :: R) X cfX9 hw 0 1 rfl rfl q559 rfl rfl rfl rfl rfl rfl dJ13_init_2_13 (fun H locs hw => ?_)
    refine lv_aload_n hx hb dJ13_init_2_16 rfl (lv_at hl 0 rfl) ?_
    rcases (hKE s X.2.2.2.1).2.2.2.2.2.2.2.1 with hZ_9 | ⟨tz_10, hZ_9⟩
    · skip
      refine g_gets X hw hZ_9 q533 rfl dJ13_init_2_17 ?_
      refine g_put (ws' := (o, .inr (9, [.ref o, .ref tz_2, .null, .null, .null, .int 0, .int 0, .int 0])) :: R) X cfX9 hw 0 2 rfl rfl q560 rfl rfl rfl rfl rfl rfl dJ13_init_2_20 (fun H locs hw => ?_)
      refine lv_iload hx hb dJ13_init_2_23 (lv_at hl 4 rfl) ?_
      refine lv_if_eq (tgt := 36) hx hb dJ13_init_2_25 (by decide) (fun c_11 => ?_) (fun c_11 => absurd (by decide) c_11)
      refine lv_aload_n hx hb dJ13_init_2_36 rfl (lv_at hl 0 rfl) ?_
      refine lv_null hx hb dJ13_init_2_37 ?_
      refine g_put (ws' := (o, .inr (9, [.ref o, .null, .null, .null, .null, .int 0, .int 0, .int 0])) :: R) X cfX9 hw 0 1 rfl rfl q559 rfl rfl rfl rfl rfl rfl dJ13_init_2_38 (fun H locs hw => ?_)
      refine lv_aload_n hx hb dJ13_init_2_41 rfl (lv_at hl 0 rfl) ?_
      refine lv_aload_nN hx hb dJ13_init_2_42 rfl (lv_at hl 1 rfl) ?_
      refine g_put (ws' := (o, .inr (9, [.ref o, .null, .null, .null, .null, .int 0, .int 0, .int 0])) :: R) X cfX9 hw 0 3 rfl rfl q557 rfl rfl rfl rfl rfl rfl dJ13_init_2_43 (fun H locs hw => ?_)
      refine lv_aload_n hx hb dJ13_init_2_46 rfl (lv_at hl 0 rfl) ?_
      refine lv_aload_nN hx hb dJ13_init_2_47 rfl (lv_at hl 2 rfl) ?_
      refine g_put (ws' := (o, .inr (9, [.null, .null, .null, .null, .null, .int 0, .int 0, .int 0])) :: R) X cfX9 hw 0 0 rfl rfl q558 rfl rfl rfl rfl rfl rfl dJ13_init_2_48 (fun H locs hw => ?_)
      refine lv_iload_n hx hb dJ13_init_2_51 rfl (lv_at hl 3 rfl) ?_
      refine lv_if_ne (tgt := 60) hx hb dJ13_init_2_52 (by decide) (fun c_12 => absurd (by decide) c_12) (fun c_12 => ?_)
      refine lv_aload_n hx hb dJ13_init_2_55 rfl (lv_at hl 0 rfl) ?_
      refine lv_null hx hb dJ13_init_2_56 ?_
      refine g_put (ws' := (o, .inr (9, [.null, .null, .null, .null, .null, .int 0, .int 0, .int 0])) :: R) X cfX9 hw 0 2 rfl rfl q560 rfl rfl rfl rfl rfl rfl dJ13_init_2_57 (fun H locs hw => ?_)
      exact g_vret () X hw hr hlocks trivial rfl dJ13_init_2_60
    · skip
      refine g_gets X hw hZ_9 q533 rfl dJ13_init_2_17 ?_
      refine g_put (ws' := (o, .inr (9, [.ref o, .ref tz_2, .ref tz_10, .null, .null, .int 0, .int 0, .int 0])) :: R) X cfX9 hw 0 2 rfl rfl q560 rfl rfl rfl rfl rfl rfl dJ13_init_2_20 (fun H locs hw => ?_)
      refine lv_iload hx hb dJ13_init_2_23 (lv_at hl 4 rfl) ?_
      refine lv_if_eq (tgt := 36) hx hb dJ13_init_2_25 (by decide) (fun c_13 => ?_) (fun c_13 => absurd (by decide) c_13)
      refine lv_aload_n hx hb dJ13_init_2_36 rfl (lv_at hl 0 rfl) ?_
      refine lv_null hx hb dJ13_init_2_37 ?_
      refine g_put (ws' := (o, .inr (9, [.ref o, .null, .ref tz_10, .null, .null, .int 0, .int 0, .int 0])) :: R) X cfX9 hw 0 1 rfl rfl q559 rfl rfl rfl rfl rfl rfl dJ13_init_2_38 (fun H locs hw => ?_)
      refine lv_aload_n hx hb dJ13_init_2_41 rfl (lv_at hl 0 rfl) ?_
      refine lv_aload_nN hx hb dJ13_init_2_42 rfl (lv_at hl 1 rfl) ?_
      refine g_put (ws' := (o, .inr (9, [.ref o, .null, .ref tz_10, .null, .null, .int 0, .int 0, .int 0])) :: R) X cfX9 hw 0 3 rfl rfl q557 rfl rfl rfl rfl rfl rfl dJ13_init_2_43 (fun H locs hw => ?_)
      refine lv_aload_n hx hb dJ13_init_2_46 rfl (lv_at hl 0 rfl) ?_
      refine lv_aload_nN hx hb dJ13_init_2_47 rfl (lv_at hl 2 rfl) ?_
      refine g_put (ws' := (o, .inr (9, [.null, .null, .ref tz_10, .null, .null, .int 0, .int 0, .int 0])) :: R) X cfX9 hw 0 0 rfl rfl q558 rfl rfl rfl rfl rfl rfl dJ13_init_2_48 (fun H locs hw => ?_)
      refine lv_iload_n hx hb dJ13_init_2_51 rfl (lv_at hl 3 rfl) ?_
      refine lv_if_ne (tgt := 60) hx hb dJ13_init_2_52 (by decide) (fun c_14 => absurd (by decide) c_14) (fun c_14 => ?_)
      refine lv_aload_n hx hb dJ13_init_2_55 rfl (lv_at hl 0 rfl) ?_
      refine lv_null hx hb dJ13_init_2_56 ?_
      refine g_put (ws' := (o, .inr (9, [.null, .null, .null, .null, .null, .int 0, .int 0, .int 0])) :: R) X cfX9 hw 0 2 rfl rfl q560 rfl rfl rfl rfl rfl rfl dJ13_init_2_57 (fun H locs hw => ?_)
      exact g_vret () X hw hr hlocks trivial rfl dJ13_init_2_60

set_option maxHeartbeats 4000000 in
theorem m_J14_init_2R (l : Launch) (D : va_G) (dA : Nat → ClassId) (A : Nat → Prop) (E : State → Prop) (hE : gSt A E) (R : va_W) (kA : Nat → Nat) (hKE : gKE A E kA) (o : Nat) : Met l yJ14_init_2 (ws_ yJ14_init_2 cJ14_init_2 5 (Option.none : Option FieldType)) ({ frames := 2, cells := 0, slots := 0, locals := 36 }) (va_Pc [.ref o, .null, .null, .int 0, .int 0] (gB D dA A E ((o, .inr (9, [.null, .null, .null, .null, .null, .int 0, .int 0, .int 0])) :: R))) (va_Qv (fun (_ : Unit) => True) (fun _ => gE D A ((o, .inr (9, [.null, .null, .null, .null, .null, .int 0, .int 0, .int 0])) :: R)) A) (0) (0) A := by
  refine g_start rfl rfl ?_
  intro p e s m args below meth c ls X hr hlocks hin hw hl
  have hx := X.1.1
  have hb := X.1.2.1
  have hl : lv_has ls 5 [(0, .ref o), (1, .null), (2, .null), (3, .int 0), (4, .int 0)] := hl
  refine lv_aload_n hx hb dJ14_init_2_0 rfl (lv_at hl 0 rfl) ?_
  refine lv_aload_nN hx hb dJ14_init_2_1 rfl (lv_at hl 1 rfl) ?_
  refine lv_aload_nN hx hb dJ14_init_2_2 rfl (lv_at hl 2 rfl) ?_
  refine lv_iload_n hx hb dJ14_init_2_3 rfl (lv_at hl 3 rfl) ?_
  refine lv_iload hx hb dJ14_init_2_4 (lv_at hl 4 rfl) ?_
  refine va_callv (va_runI (As := [.null, .null, .int 0, .int 0]) (rest := []) X.1 (m_J13_init_2R l D dA A E hE R kA (by first | assumption | omega) o) (cwI 4 X.1.2.2.2.2 (lw_meth q715) rfl rfl rfl (X.1.2.2.2.2 _ q84) (X.1.2.2.2.2 _ q713) (X.1.2.2.2.2 _ q714) rfl (by decide +kernel) ⟨Nat.le_of_ble_eq_true rfl, Nat.le_of_ble_eq_true rfl⟩) (g_preS hE X.2 hw) rfl rfl hl.1 rfl (lv_room (Nat.le_of_ble_eq_true rfl)) dJ14_init_2_6 ⟨Nat.le_of_ble_eq_true rfl, Nat.le_of_ble_eq_true rfl⟩) hw.2.2 (fun q _ h => h) (fun q h => h) (fun u t H locs ht hvm h_1 hB hz9 hk9 hS => ?_)
  have hw : gW D A ((o, .inr (9, [.null, .null, .null, .null, .null, .int 0, .int 0, .int 0])) :: R) s H locs := g_aft ht hB hS
  exact g_vret () X hw hr hlocks trivial rfl dJ14_init_2_9

set_option maxHeartbeats 4000000 in
theorem m_J13_init_2W (l : Launch) (D : va_G) (dA : Nat → ClassId) (A : Nat → Prop) (E : State → Prop) (hE : gSt A E) (R : va_W) (kA : Nat → Nat) (hKE : gKE A E kA) (o : Nat) : Met l yJ13_init_2 (ws_ yJ13_init_2 cJ13_init_2 5 (Option.none : Option FieldType)) ({ frames := 1, cells := 0, slots := 0, locals := 12 }) (va_Pc [.ref o, .null, .null, .int 0, .int 0] (gB D dA A E ((o, .inr (13, [.null, .null, .null, .null, .null, .int 0, .int 0])) :: R))) (va_Qv (fun (_ : Unit) => True) (fun _ => gE D A ((o, .inr (13, [.null, .null, .null, .null, .null, .int 0, .int 0])) :: R)) A) (0) (0) A := by
  refine g_start rfl rfl ?_
  intro p e s m args below meth c ls X hr hlocks hin hw hl
  have hx := X.1.1
  have hb := X.1.2.1
  have hl : lv_has ls 5 [(0, .ref o), (1, .null), (2, .null), (3, .int 0), (4, .int 0)] := hl
  refine lv_aload_n hx hb dJ13_init_2_0 rfl (lv_at hl 0 rfl) ?_
  refine W.objInit hx hb X.1.2.2.2.1 (X.1.2.2.2.2 _ q530) (X.1.2.2.2.2 _ q109) (X.1.2.2.2.2 _ q110) rfl (by rw [X.1.2.2.1]; exact hl.1) rfl dJ13_init_2_1 (Nat.le_of_ble_eq_true rfl) (Nat.le_of_ble_eq_true rfl) ?_
  refine W.eq (g2 := F0 m 4 ls []) rfl ?_
  refine lv_aload_n hx hb dJ13_init_2_4 rfl (lv_at hl 0 rfl) ?_
  refine lv_aload_n hx hb dJ13_init_2_5 rfl (lv_at hl 0 rfl) ?_
  refine g_put (ws' := (o, .inr (13, [.ref o, .null, .null, .null, .null, .int 0, .int 0])) :: R) X cfX14 hw 0 0 rfl rfl q558 rfl rfl rfl rfl rfl rfl dJ13_init_2_6 (fun H locs hw => ?_)
  refine lv_aload_n hx hb dJ13_init_2_9 rfl (lv_at hl 0 rfl) ?_
  rcases (hKE s X.2.2.2.1).2.2.2.2.2.2.1.1 with hZ_1 | ⟨tz_2, hZ_1⟩
  · skip
    refine g_gets X hw hZ_1 q531 rfl dJ13_init_2_10 ?_
    refine g_put (ws' := (o, .inr (13, [.ref o, .null, .null, .null, .null, .int 0, .int 0])) :: R) X cfX14 hw 0 1 rfl rfl q559 rfl rfl rfl rfl rfl rfl dJ13_init_2_13 (fun H locs hw => ?_)
    refine lv_aload_n hx hb dJ13_init_2_16 rfl (lv_at hl 0 rfl) ?_
    rcases (hKE s X.2.2.2.1).2.2.2.2.2.2.2.1 with hZ_3 | ⟨tz_4, hZ_3⟩
    · skip
      refine g_gets X hw hZ_3 q533 rfl dJ13_init_2_17 ?_
      refine g_put (ws' := (o, .inr (13, [.ref o, .null, .null, .null, .null, .int 0, .int 0])) :: R) X cfX14 hw 0 2 rfl rfl q560 rfl rfl rfl rfl rfl rfl dJ13_init_2_20 (fun H locs hw => ?_)
      refine lv_iload hx hb dJ13_init_2_23 (lv_at hl 4 rfl) ?_
      refine lv_if_eq (tgt := 36) hx hb dJ13_init_2_25 (by decide) (fun c_5 => ?_) (fun c_5 => absurd (by decide) c_5)
      refine lv_aload_n hx hb dJ13_init_2_36 rfl (lv_at hl 0 rfl) ?_
      refine lv_null hx hb dJ13_init_2_37 ?_
      refine g_put (ws' := (o, .inr (13, [.ref o, .null, .null, .null, .null, .int 0, .int 0])) :: R) X cfX14 hw 0 1 rfl rfl q559 rfl rfl rfl rfl rfl rfl dJ13_init_2_38 (fun H locs hw => ?_)
      refine lv_aload_n hx hb dJ13_init_2_41 rfl (lv_at hl 0 rfl) ?_
      refine lv_aload_nN hx hb dJ13_init_2_42 rfl (lv_at hl 1 rfl) ?_
      refine g_put (ws' := (o, .inr (13, [.ref o, .null, .null, .null, .null, .int 0, .int 0])) :: R) X cfX14 hw 0 3 rfl rfl q557 rfl rfl rfl rfl rfl rfl dJ13_init_2_43 (fun H locs hw => ?_)
      refine lv_aload_n hx hb dJ13_init_2_46 rfl (lv_at hl 0 rfl) ?_
      refine lv_aload_nN hx hb dJ13_init_2_47 rfl (lv_at hl 2 rfl) ?_
      refine g_put (ws' := (o, .inr (13, [.null, .null, .null, .null, .null, .int 0, .int 0])) :: R) X cfX14 hw 0 0 rfl rfl q558 rfl rfl rfl rfl rfl rfl dJ13_init_2_48 (fun H locs hw => ?_)
      refine lv_iload_n hx hb dJ13_init_2_51 rfl (lv_at hl 3 rfl) ?_
      refine lv_if_ne (tgt := 60) hx hb dJ13_init_2_52 (by decide) (fun c_6 => absurd (by decide) c_6) (fun c_6 => ?_)
      refine lv_aload_n hx hb dJ13_init_2_55 rfl (lv_at hl 0 rfl) ?_
      refine lv_null hx hb dJ13_init_2_56 ?_
      refine g_put (ws' := (o, .inr (13, [.null, .null, .null, .null, .null, .int 0, .int 0])) :: R) X cfX14 hw 0 2 rfl rfl q560 rfl rfl rfl rfl rfl rfl dJ13_init_2_57 (fun H locs hw => ?_)
      exact g_vret () X hw hr hlocks trivial rfl dJ13_init_2_60
    · skip
      refine g_gets X hw hZ_3 q533 rfl dJ13_init_2_17 ?_
      refine g_put (ws' := (o, .inr (13, [.ref o, .null, .ref tz_4, .null, .null, .int 0, .int 0])) :: R) X cfX14 hw 0 2 rfl rfl q560 rfl rfl rfl rfl rfl rfl dJ13_init_2_20 (fun H locs hw => ?_)
      refine lv_iload hx hb dJ13_init_2_23 (lv_at hl 4 rfl) ?_
      refine lv_if_eq (tgt := 36) hx hb dJ13_init_2_25 (by decide) (fun c_7 => ?_) (fun c_7 => absurd (by decide) c_7)
      refine lv_aload_n hx hb dJ13_init_2_36 rfl (lv_at hl 0 rfl) ?_
      refine lv_null hx hb dJ13_init_2_37 ?_
      refine g_put (ws' := (o, .inr (13, [.ref o, .null, .ref tz_4, .null, .null, .int 0, .int 0])) :: R) X cfX14 hw 0 1 rfl rfl q559 rfl rfl rfl rfl rfl rfl dJ13_init_2_38 (fun H locs hw => ?_)
      refine lv_aload_n hx hb dJ13_init_2_41 rfl (lv_at hl 0 rfl) ?_
      refine lv_aload_nN hx hb dJ13_init_2_42 rfl (lv_at hl 1 rfl) ?_
      refine g_put (ws' := (o, .inr (13, [.ref o, .null, .ref tz_4, .null, .null, .int 0, .int 0])) :: R) X cfX14 hw 0 3 rfl rfl q557 rfl rfl rfl rfl rfl rfl dJ13_init_2_43 (fun H locs hw => ?_)
      refine lv_aload_n hx hb dJ13_init_2_46 rfl (lv_at hl 0 rfl) ?_
      refine lv_aload_nN hx hb dJ13_init_2_47 rfl (lv_at hl 2 rfl) ?_
      refine g_put (ws' := (o, .inr (13, [.null, .null, .ref tz_4, .null, .null, .int 0, .int 0])) :: R) X cfX14 hw 0 0 rfl rfl q558 rfl rfl rfl rfl rfl rfl dJ13_init_2_48 (fun H locs hw => ?_)
      refine lv_iload_n hx hb dJ13_init_2_51 rfl (lv_at hl 3 rfl) ?_
      refine lv_if_ne (tgt := 60) hx hb dJ13_init_2_52 (by decide) (fun c_8 => absurd (by decide) c_8) (fun c_8 => ?_)
      refine lv_aload_n hx hb dJ13_init_2_55 rfl (lv_at hl 0 rfl) ?_
      refine lv_null hx hb dJ13_init_2_56 ?_
      refine g_put (ws' := (o, .inr (13, [.null, .null, .null, .null, .null, .int 0, .int 0])) :: R) X cfX14 hw 0 2 rfl rfl q560 rfl rfl rfl rfl rfl rfl dJ13_init_2_57 (fun H locs hw => ?_)
      exact g_vret () X hw hr hlocks trivial rfl dJ13_init_2_60
  · skip
    refine g_gets X hw hZ_1 q531 rfl dJ13_init_2_10 ?_
    refine g_put (ws' := (o, .inr (13, [.ref o, .ref tz_2, .null, .null, .null, .int 0, .int 0])) :: R) X cfX14 hw 0 1 rfl rfl q559 rfl rfl rfl rfl rfl rfl dJ13_init_2_13 (fun H locs hw => ?_)
    refine lv_aload_n hx hb dJ13_init_2_16 rfl (lv_at hl 0 rfl) ?_
    rcases (hKE s X.2.2.2.1).2.2.2.2.2.2.2.1 with hZ_9 | ⟨tz_10, hZ_9⟩
    · skip
      refine g_gets X hw hZ_9 q533 rfl dJ13_init_2_17 ?_
      refine g_put (ws' := (o, .inr (13, [.ref o, .ref tz_2, .null, .null, .null, .int 0, .int 0])) :: R) X cfX14 hw 0 2 rfl rfl q560 rfl rfl rfl rfl rfl rfl dJ13_init_2_20 (fun H locs hw => ?_)
      refine lv_iload hx hb dJ13_init_2_23 (lv_at hl 4 rfl) ?_
      refine lv_if_eq (tgt := 36) hx hb dJ13_init_2_25 (by decide) (fun c_11 => ?_) (fun c_11 => absurd (by decide) c_11)
      refine lv_aload_n hx hb dJ13_init_2_36 rfl (lv_at hl 0 rfl) ?_
      refine lv_null hx hb dJ13_init_2_37 ?_
      refine g_put (ws' := (o, .inr (13, [.ref o, .null, .null, .null, .null, .int 0, .int 0])) :: R) X cfX14 hw 0 1 rfl rfl q559 rfl rfl rfl rfl rfl rfl dJ13_init_2_38 (fun H locs hw => ?_)
      refine lv_aload_n hx hb dJ13_init_2_41 rfl (lv_at hl 0 rfl) ?_
      refine lv_aload_nN hx hb dJ13_init_2_42 rfl (lv_at hl 1 rfl) ?_
      refine g_put (ws' := (o, .inr (13, [.ref o, .null, .null, .null, .null, .int 0, .int 0])) :: R) X cfX14 hw 0 3 rfl rfl q557 rfl rfl rfl rfl rfl rfl dJ13_init_2_43 (fun H locs hw => ?_)
      refine lv_aload_n hx hb dJ13_init_2_46 rfl (lv_at hl 0 rfl) ?_
      refine lv_aload_nN hx hb dJ13_init_2_47 rfl (lv_at hl 2 rfl) ?_
      refine g_put (ws' := (o, .inr (13, [.null, .null, .null, .null, .null, .int 0, .int 0])) :: R) X cfX14 hw 0 0 rfl rfl q558 rfl rfl rfl rfl rfl rfl dJ13_init_2_48 (fun H locs hw => ?_)
      refine lv_iload_n hx hb dJ13_init_2_51 rfl (lv_at hl 3 rfl) ?_
      refine lv_if_ne (tgt := 60) hx hb dJ13_init_2_52 (by decide) (fun c_12 => absurd (by decide) c_12) (fun c_12 => ?_)
      refine lv_aload_n hx hb dJ13_init_2_55 rfl (lv_at hl 0 rfl) ?_
      refine lv_null hx hb dJ13_init_2_56 ?_
      refine g_put (ws' := (o, .inr (13, [.null, .null, .null, .null, .null, .int 0, .int 0])) :: R) X cfX14 hw 0 2 rfl rfl q560 rfl rfl rfl rfl rfl rfl dJ13_init_2_57 (fun H locs hw => ?_)
      exact g_vret () X hw hr hlocks trivial rfl dJ13_init_2_60
    · skip
      refine g_gets X hw hZ_9 q533 rfl dJ13_init_2_17 ?_
      refine g_put (ws' := (o, .inr (13, [.ref o, .ref tz_2, .ref tz_10, .null, .null, .int 0, .int 0])) :: R) X cfX14 hw 0 2 rfl rfl q560 rfl rfl rfl rfl rfl rfl dJ13_init_2_20 (fun H locs hw => ?_)
      refine lv_iload hx hb dJ13_init_2_23 (lv_at hl 4 rfl) ?_
      refine lv_if_eq (tgt := 36) hx hb dJ13_init_2_25 (by decide) (fun c_13 => ?_) (fun c_13 => absurd (by decide) c_13)
      refine lv_aload_n hx hb dJ13_init_2_36 rfl (lv_at hl 0 rfl) ?_
      refine lv_null hx hb dJ13_init_2_37 ?_
      refine g_put (ws' := (o, .inr (13, [.ref o, .null, .ref tz_10, .null, .null, .int 0, .int 0])) :: R) X cfX14 hw 0 1 rfl rfl q559 rfl rfl rfl rfl rfl rfl dJ13_init_2_38 (fun H locs hw => ?_)
      refine lv_aload_n hx hb dJ13_init_2_41 rfl (lv_at hl 0 rfl) ?_
      refine lv_aload_nN hx hb dJ13_init_2_42 rfl (lv_at hl 1 rfl) ?_
      refine g_put (ws' := (o, .inr (13, [.ref o, .null, .ref tz_10, .null, .null, .int 0, .int 0])) :: R) X cfX14 hw 0 3 rfl rfl q557 rfl rfl rfl rfl rfl rfl dJ13_init_2_43 (fun H locs hw => ?_)
      refine lv_aload_n hx hb dJ13_init_2_46 rfl (lv_at hl 0 rfl) ?_
      refine lv_aload_nN hx hb dJ13_init_2_47 rfl (lv_at hl 2 rfl) ?_
      refine g_put (ws' := (o, .inr (13, [.null, .null, .ref tz_10, .null, .null, .int 0, .int 0])) :: R) X cfX14 hw 0 0 rfl rfl q558 rfl rfl rfl rfl rfl rfl dJ13_init_2_48 (fun H locs hw => ?_)
      refine lv_iload_n hx hb dJ13_init_2_51 rfl (lv_at hl 3 rfl) ?_
      refine lv_if_ne (tgt := 60) hx hb dJ13_init_2_52 (by decide) (fun c_14 => absurd (by decide) c_14) (fun c_14 => ?_)
      refine lv_aload_n hx hb dJ13_init_2_55 rfl (lv_at hl 0 rfl) ?_
      refine lv_null hx hb dJ13_init_2_56 ?_
      refine g_put (ws' := (o, .inr (13, [.null, .null, .null, .null, .null, .int 0, .int 0])) :: R) X cfX14 hw 0 2 rfl rfl q560 rfl rfl rfl rfl rfl rfl dJ13_init_2_57 (fun H locs hw => ?_)
      exact g_vret () X hw hr hlocks trivial rfl dJ13_init_2_60

set_option maxHeartbeats 4000000 in
theorem m_J14_init_2W (l : Launch) (D : va_G) (dA : Nat → ClassId) (A : Nat → Prop) (E : State → Prop) (hE : gSt A E) (R : va_W) (kA : Nat → Nat) (hKE : gKE A E kA) (o : Nat) : Met l yJ14_init_2 (ws_ yJ14_init_2 cJ14_init_2 5 (Option.none : Option FieldType)) ({ frames := 2, cells := 0, slots := 0, locals := 36 }) (va_Pc [.ref o, .null, .null, .int 0, .int 0] (gB D dA A E ((o, .inr (13, [.null, .null, .null, .null, .null, .int 0, .int 0])) :: R))) (va_Qv (fun (_ : Unit) => True) (fun _ => gE D A ((o, .inr (13, [.null, .null, .null, .null, .null, .int 0, .int 0])) :: R)) A) (0) (0) A := by
  refine g_start rfl rfl ?_
  intro p e s m args below meth c ls X hr hlocks hin hw hl
  have hx := X.1.1
  have hb := X.1.2.1
  have hl : lv_has ls 5 [(0, .ref o), (1, .null), (2, .null), (3, .int 0), (4, .int 0)] := hl
  refine lv_aload_n hx hb dJ14_init_2_0 rfl (lv_at hl 0 rfl) ?_
  refine lv_aload_nN hx hb dJ14_init_2_1 rfl (lv_at hl 1 rfl) ?_
  refine lv_aload_nN hx hb dJ14_init_2_2 rfl (lv_at hl 2 rfl) ?_
  refine lv_iload_n hx hb dJ14_init_2_3 rfl (lv_at hl 3 rfl) ?_
  refine lv_iload hx hb dJ14_init_2_4 (lv_at hl 4 rfl) ?_
  refine va_callv (va_runI (As := [.null, .null, .int 0, .int 0]) (rest := []) X.1 (m_J13_init_2W l D dA A E hE R kA (by first | assumption | omega) o) (cwI 4 X.1.2.2.2.2 (lw_meth q715) rfl rfl rfl (X.1.2.2.2.2 _ q84) (X.1.2.2.2.2 _ q713) (X.1.2.2.2.2 _ q714) rfl (by decide +kernel) ⟨Nat.le_of_ble_eq_true rfl, Nat.le_of_ble_eq_true rfl⟩) (g_preS hE X.2 hw) rfl rfl hl.1 rfl (lv_room (Nat.le_of_ble_eq_true rfl)) dJ14_init_2_6 ⟨Nat.le_of_ble_eq_true rfl, Nat.le_of_ble_eq_true rfl⟩) hw.2.2 (fun q _ h => h) (fun q h => h) (fun u t H locs ht hvm h_1 hB hz9 hk9 hS => ?_)
  have hw : gW D A ((o, .inr (13, [.null, .null, .null, .null, .null, .int 0, .int 0])) :: R) s H locs := g_aft ht hB hS
  exact g_vret () X hw hr hlocks trivial rfl dJ14_init_2_9

set_option maxHeartbeats 4000000 in
theorem m_X9_init (l : Launch) (D : va_G) (dA : Nat → ClassId) (A : Nat → Prop) (E : State → Prop) (hE : gSt A E) (R : va_W) (kA : Nat → Nat) (hKE : gKE A E kA) (o : Nat) (xr xd : Int32) : Met l yX9_init (ws_ yX9_init cX9_init 3 (Option.none : Option FieldType)) ({ frames := 3, cells := 0, slots := 0, locals := 60 }) (va_Pc [.ref o, .int xr, .int xd] (gB D dA A E ((o, .inr (9, [.null, .null, .null, .null, .null, .int 0, .int 0, .int 0])) :: R))) (va_Qv (fun (_ : Unit) => True) (fun _ => gE D A ((o, .inr (9, [.null, .null, .null, .null, .null, .int 0, .int xr, .int xd])) :: R)) A) (0) (0) A := by
  refine g_start rfl rfl ?_
  intro p e s m args below meth c ls X hr hlocks hin hw hl
  have hx := X.1.1
  have hb := X.1.2.1
  have hl : lv_has ls 3 [(0, .ref o), (1, .int xr), (2, .int xd)] := hl
  refine lv_aload_n hx hb dX9_init_0 rfl (lv_at hl 0 rfl) ?_
  refine lv_null hx hb dX9_init_1 ?_
  refine lv_null hx hb dX9_init_2 ?_
  refine lv_iconst (v := 0) hx hb dX9_init_3 (by decide) ?_
  refine lv_iconst (v := 0) hx hb dX9_init_4 (by decide) ?_
  refine va_callv (va_runI (As := [.null, .null, .int 0, .int 0]) (rest := []) X.1 (m_J14_init_2R l D dA A E hE R kA (by first | assumption | omega) o) (cwI 4 X.1.2.2.2.2 (lw_meth q712) rfl rfl rfl (X.1.2.2.2.2 _ q85) (X.1.2.2.2.2 _ q710) (X.1.2.2.2.2 _ q711) rfl (by decide +kernel) ⟨Nat.le_of_ble_eq_true rfl, Nat.le_of_ble_eq_true rfl⟩) (g_preS hE X.2 hw) rfl rfl hl.1 rfl (lv_room (Nat.le_of_ble_eq_true rfl)) dX9_init_5 ⟨Nat.le_of_ble_eq_true rfl, Nat.le_of_ble_eq_true rfl⟩) hw.2.2 (fun q _ h => h) (fun q h => h) (fun u t H locs ht hvm h_1 hB hz9 hk9 hS => ?_)
  have hw : gW D A ((o, .inr (9, [.null, .null, .null, .null, .null, .int 0, .int 0, .int 0])) :: R) s H locs := g_aft ht hB hS
  refine lv_aload_n hx hb dX9_init_8 rfl (lv_at hl 0 rfl) ?_
  refine lv_iload_n hx hb dX9_init_9 rfl (lv_at hl 1 rfl) ?_
  refine g_putF (ws' := (o, .inr (9, [.null, .null, .null, .null, .null, .int 0, .int xr, .int 0])) :: R) X (hin rfl) cfX9 hw 0 6 rfl rfl q716 rfl rfl rfl rfl rfl rfl rfl dX9_init_10 (fun H locs hw => ?_)
  refine lv_aload_n hx hb dX9_init_13 rfl (lv_at hl 0 rfl) ?_
  refine lv_iload_n hx hb dX9_init_14 rfl (lv_at hl 2 rfl) ?_
  refine g_putF (ws' := (o, .inr (9, [.null, .null, .null, .null, .null, .int 0, .int xr, .int xd])) :: R) X (hin rfl) cfX9 hw 0 7 rfl rfl q718 rfl rfl rfl rfl rfl rfl rfl dX9_init_15 (fun H locs hw => ?_)
  exact g_vret () X hw hr hlocks trivial rfl dX9_init_18

set_option maxHeartbeats 4000000 in
theorem m_X14_init (l : Launch) (D : va_G) (dA : Nat → ClassId) (A : Nat → Prop) (E : State → Prop) (hE : gSt A E) (R : va_W) (kA : Nat → Nat) (hKE : gKE A E kA) (o : Nat) (xa : Int32) : Met l yX14_init (ws_ yX14_init cX14_init 2 (Option.none : Option FieldType)) ({ frames := 3, cells := 0, slots := 0, locals := 60 }) (va_Pc [.ref o, .int xa] (gB D dA A E ((o, .inr (13, [.null, .null, .null, .null, .null, .int 0, .int 0])) :: R))) (va_Qv (fun (_ : Unit) => True) (fun _ => gE D A ((o, .inr (13, [.null, .null, .null, .null, .null, .int 0, .int xa])) :: R)) A) (0) (0) A := by
  refine g_start rfl rfl ?_
  intro p e s m args below meth c ls X hr hlocks hin hw hl
  have hx := X.1.1
  have hb := X.1.2.1
  have hl : lv_has ls 2 [(0, .ref o), (1, .int xa)] := hl
  refine lv_aload_n hx hb dX14_init_0 rfl (lv_at hl 0 rfl) ?_
  refine lv_null hx hb dX14_init_1 ?_
  refine lv_null hx hb dX14_init_2 ?_
  refine lv_iconst (v := 0) hx hb dX14_init_3 (by decide) ?_
  refine lv_iconst (v := 0) hx hb dX14_init_4 (by decide) ?_
  refine va_callv (va_runI (As := [.null, .null, .int 0, .int 0]) (rest := []) X.1 (m_J14_init_2W l D dA A E hE R kA (by first | assumption | omega) o) (cwI 4 X.1.2.2.2.2 (lw_meth q712) rfl rfl rfl (X.1.2.2.2.2 _ q85) (X.1.2.2.2.2 _ q1520) (X.1.2.2.2.2 _ q711) rfl (by decide +kernel) ⟨Nat.le_of_ble_eq_true rfl, Nat.le_of_ble_eq_true rfl⟩) (g_preS hE X.2 hw) rfl rfl hl.1 rfl (lv_room (Nat.le_of_ble_eq_true rfl)) dX14_init_5 ⟨Nat.le_of_ble_eq_true rfl, Nat.le_of_ble_eq_true rfl⟩) hw.2.2 (fun q _ h => h) (fun q h => h) (fun u t H locs ht hvm h_1 hB hz9 hk9 hS => ?_)
  have hw : gW D A ((o, .inr (13, [.null, .null, .null, .null, .null, .int 0, .int 0])) :: R) s H locs := g_aft ht hB hS
  refine lv_aload_n hx hb dX14_init_8 rfl (lv_at hl 0 rfl) ?_
  refine lv_iload_n hx hb dX14_init_9 rfl (lv_at hl 1 rfl) ?_
  refine g_putF (ws' := (o, .inr (13, [.null, .null, .null, .null, .null, .int 0, .int xa])) :: R) X (hin rfl) cfX14 hw 0 6 rfl rfl q1521 rfl rfl rfl rfl rfl rfl rfl dX14_init_10 (fun H locs hw => ?_)
  exact g_vret () X hw hr hlocks trivial rfl dX14_init_13
