set_option maxHeartbeats 4000000 in
theorem m_X8_weight (l : Launch) (D : va_G) (dA : Nat → ClassId) (A : Nat → Prop) (E : State → Prop) (hE : gSt A E) (R : va_W) (hDW : ∀ U, E U → dwU U) (ky ka : Nat) (kn kc ku : Int32) (kf : gG)  : Met l yX8_weight (ws_ yX8_weight cX8_weight 1 (Option.some FieldType.int)) ({ frames := 2, cells := 0, slots := 0, locals := 43 }) (va_Pc [.ref ky] (gB D dA A E ((ky, .inr (8, [.int kn, .int kc, .ref ka, .int ku])) :: (ka, .inl (dA 0, 10, .inl kf)) :: R))) (va_Qi (fun (r : Int32) (_ : Unit) => r = 120 - sumP kf 10 / 10) (fun _ => gE D A ((ky, .inr (8, [.int kn, .int kc, .ref ka, .int ku])) :: (ka, .inl (dA 0, 10, .inl kf)) :: R)) A) (0) (0) A := by
  refine g_start rfl rfl ?_
  intro p e s m args below meth c ls X hr hlocks hin hw hl
  have hx := X.1.1
  have hb := X.1.2.1
  have hl : lv_has ls 1 [(0, .ref ky)] := hl
  refine lv_bipush (v := 120) hx hb dX8_weight_0 (by decide) ?_
  refine lv_aload_n hx hb dX8_weight_2 rfl (lv_at hl 0 rfl) ?_
  refine va_calli (g_runUD (own := RX8) (As := []) (rest := [.int 120]) X.1 (m_X10_sum l D dA A E hE R ky ka kn kc ku kf) ⟨⟨rfl, rfl, Nat.le_of_ble_eq_true rfl, Nat.le_of_ble_eq_true rfl⟩, q943, q92, q941, (hDW s X.2.2.2.1).1, (hDW s X.2.2.2.1).2.2.1, va_Nw.use rfl (X.2.2.1.nw q939 rfl), (by decide), (hDW s X.2.2.2.1).2.2.2.1, (by decide +kernel)⟩ (g_preV hE X.2 hw 0 rfl rfl) rfl rfl hl.1 rfl (lv_room (Nat.le_of_ble_eq_true rfl)) dX8_weight_3 ⟨Nat.le_of_ble_eq_true rfl, Nat.le_of_ble_eq_true rfl⟩) hw.2.2 (fun q _ h => h) (fun q h => h) (fun r_2 u t H locs ht hvm h_1 hB hz9 hk9 hS => ?_)
  replace hw : gW D A ((ky, .inr (8, [.int kn, .int kc, .ref ka, .int ku])) :: (ka, .inl (dA 0, 10, .inl kf)) :: R) s H locs := g_aft ht hB hS
  clear hS hk9 hz9 hB hvm ht
  clear t
  obtain rfl : r_2 = sumP kf 10 := h_1
  refine lv_bipush (v := 10) hx hb dX8_weight_6 (by decide) ?_
  refine lv_idiv hx hb dX8_weight_8 (by decide) ?_
  refine lv_isub hx hb dX8_weight_9 ?_
  exact g_iret (v := 120 - ((sumP kf 10) / 10)) () X hw hr hlocks  rfl rfl dX8_weight_10

set_option maxHeartbeats 4000000 in
theorem m_X8_wrongAgain (l : Launch) (D : va_G) (dA : Nat → ClassId) (A : Nat → Prop) (E : State → Prop) (hE : gSt A E) (R : va_W) (ky ka : Nat) (kn kc ku : Int32) (kf : gG) (co ca : Nat) (le ho cn : Int32) (df : gG)  : Met l yX8_wrongAgain (ws_ yX8_wrongAgain cX8_wrongAgain 4 (Option.some FieldType.int)) ({ frames := 2, cells := 1, slots := 3, locals := 43 }) (va_Pc [.ref ky, .ref co] (gB D dA A E ((ky, .inr (8, [.int kn, .int kc, .ref ka, .int ku])) :: (ka, .inl (dA 0, 10, .inl kf)) :: (co, .inr (6, [.int le, .ref ca, .int ho, .int cn])) :: (ca, .inl (dA 0, 10, .inl df)) :: R))) (va_Qi (fun (r : Int32) (_ : Unit) => r = greatL kf df 10 - smallL kf df 10) (fun _ => gE D A ((ky, .inr (8, [.int kn, .int kc, .ref ka, .int ku])) :: (ka, .inl (dA 0, 10, .inl kf)) :: (co, .inr (6, [.int le, .ref ca, .int ho, .int cn])) :: (ca, .inl (dA 0, 10, .inl df)) :: R)) A) (1) (3) A := by
  refine g_start rfl rfl ?_
  intro p e s m args below meth c ls X hr hlocks hin hw hl
  have hx := X.1.1
  have hb := X.1.2.1
  have hl : lv_has ls 4 [(0, .ref ky), (1, .ref co)] := hl
  refine g_new (fs := [.int 0, .int 0, .null]) X cfX11 hw q969 q970 q93 (fun j hj => by rcases (show j = 0 ∨ j = 1 ∨ j = 2 by omega) with rfl | rfl | rfl <;> rfl) (Nat.le_of_ble_eq_true rfl) (Nat.le_of_ble_eq_true rfl) dX8_wrongAgain_0 (fun q_1 H hw9 => ?_)
  replace hw := hw9
  clear hw9
  refine lv_dup hx hb dX8_wrongAgain_3 rfl ?_
  refine lv_aload_n hx hb dX8_wrongAgain_4 rfl (lv_at hl 0 rfl) ?_
  refine va_callv (va_runI (As := [.ref ky]) (rest := [.ref q_1]) X.1 (m_X11_init l D dA A E hE ((ky, .inr (8, [.int kn, .int kc, .ref ka, .int ku])) :: (ka, .inl (dA 0, 10, .inl kf)) :: (co, .inr (6, [.int le, .ref ca, .int ho, .int cn])) :: (ca, .inl (dA 0, 10, .inl df)) :: R) q_1 ky) (cwI 1 X.1.2.2.2.2 (lw_meth q973) rfl rfl rfl (X.1.2.2.2.2 _ q93) (X.1.2.2.2.2 _ q971) (X.1.2.2.2.2 _ q972) rfl (by decide +kernel) ⟨Nat.le_of_ble_eq_true rfl, Nat.le_of_ble_eq_true rfl⟩) (g_preS hE X.2 hw) rfl rfl hl.1 rfl (lv_room (Nat.le_of_ble_eq_true rfl)) dX8_wrongAgain_5 ⟨Nat.le_of_ble_eq_true rfl, Nat.le_of_ble_eq_true rfl⟩) hw.2.2 (fun q _ h => h) (fun q h => h) (fun u t H locs ht hvm h_2 hB hz9 hk9 hS => ?_)
  replace hw : gW D A ((q_1, .inr (10, [.int 0, .int 0, .ref ky])) :: (ky, .inr (8, [.int kn, .int kc, .ref ka, .int ku])) :: (ka, .inl (dA 0, 10, .inl kf)) :: (co, .inr (6, [.int le, .ref ca, .int ho, .int cn])) :: (ca, .inl (dA 0, 10, .inl df)) :: R) s H locs := g_aft ht hB hS
  clear hS hk9 hz9 hB hvm ht
  clear t
  refine lv_astore_n (lv' := [(2, .ref q_1), (0, .ref ky), (1, .ref co)]) hx hb dX8_wrongAgain_8 rfl hl (by decide) rfl (fun ls hl9 => ?_)
  replace hl := hl9
  clear hl9
  refine lv_iconst (v := 0) hx hb dX8_wrongAgain_9 (by decide) ?_
  refine lv_istore_n (lv' := [(3, .int 0), (2, .ref q_1), (0, .ref ky), (1, .ref co)]) hx hb dX8_wrongAgain_10 rfl hl (by decide) rfl (fun ls hl9 => ?_)
  replace hl := hl9
  clear hl9
  have loop_3 : ∀ (fuel : Nat) (i : Nat), ∀ (hi : i ≤ 10), (10 - i) < fuel → ∀ (H : Heap) (locs : List Loc) (hw : gW D A ((q_1, .inr (10, [.int (greatL kf df i), .int (smallL kf df i), .ref ky])) :: (ky, .inr (8, [.int kn, .int kc, .ref ka, .int ku])) :: (ka, .inl (dA 0, 10, .inl kf)) :: (co, .inr (6, [.int le, .ref ca, .int ho, .int cn])) :: (ca, .inl (dA 0, 10, .inl df)) :: R) s H locs) (ls : Array Slot) (hl : lv_has ls 4 [(3, .int (nI i)), (2, .ref q_1), (0, .ref ky), (1, .ref co)]), W p l e ({ frames := 2, cells := 1, slots := 3, locals := 43 }) s m args below meth c H locs (1) (3) (MQ below (va_Qi (fun (r : Int32) (_ : Unit) => r = greatL kf df 10 - smallL kf df 10) (fun _ => gE D A ((ky, .inr (8, [.int kn, .int kc, .ref ka, .int ku])) :: (ka, .inl (dA 0, 10, .inl kf)) :: (co, .inr (6, [.int le, .ref ca, .int ho, .int cn])) :: (ca, .inl (dA 0, 10, .inl df)) :: R)) A) args s (1) (3) A) (F0 m 11 ls []) := by
    clear hw hl
    intro fuel
    induction fuel with
    | zero => intro i hi hf; exact absurd hf (Nat.not_lt_zero _)
    | succ fuel ih_loop_3 =>
      intro i hi hfuel_loop_3 H locs hw ls hl
      refine lv_iload_n hx hb dX8_wrongAgain_11 rfl (lv_at hl 0 rfl) ?_
      refine lv_bipush (v := 10) hx hb dX8_wrongAgain_12 (by decide) ?_
      refine lv_icmp_ge (tgt := 41) hx hb dX8_wrongAgain_14 (by decide) (fun c_4 => ?_) (fun c_4 => ?_)
      · skip
        have c_4 := Int32.not_lt.mpr c_4
        have c_4 : ¬ (i < 10) := fun q => c_4 ((nI_ltI (a := i) (b := 10) (by omega) (by omega)).mpr q)
        refine lv_aload_n hx hb dX8_wrongAgain_41 rfl (lv_at hl 1 rfl) ?_
        refine g_getN X cfX11 hw 0 0 rfl rfl q976 rfl rfl dX8_wrongAgain_42 ?_
        refine lv_aload_n hx hb dX8_wrongAgain_45 rfl (lv_at hl 1 rfl) ?_
        refine g_getN X cfX11 hw 0 1 rfl rfl q978 rfl rfl dX8_wrongAgain_46 ?_
        refine lv_isub hx hb dX8_wrongAgain_49 ?_
        obtain rfl : i = 10 := by omega
        replace hw : gW D A ((ky, .inr (8, [.int kn, .int kc, .ref ka, .int ku])) :: (ka, .inl (dA 0, 10, .inl kf)) :: (co, .inr (6, [.int le, .ref ca, .int ho, .int cn])) :: (ca, .inl (dA 0, 10, .inl df)) :: R) s _ _ := g_perm (X := [(q_1, .inr (10, [.int (greatL kf df 10), .int (smallL kf df 10), .ref ky])), (ky, .inr (8, [.int kn, .int kc, .ref ka, .int ku])), (ka, .inl (dA 0, 10, .inl kf)), (co, .inr (6, [.int le, .ref ca, .int ho, .int cn])), (ca, .inl (dA 0, 10, .inl df))]) (cx := [(ky, .inr (8, [.int kn, .int kc, .ref ka, .int ku])), (ka, .inl (dA 0, 10, .inl kf)), (co, .inr (6, [.int le, .ref ca, .int ho, .int cn])), (ca, .inl (dA 0, 10, .inl df))]) (pl := R) hw [1, 2, 3, 4] rfl rfl rfl rfl
        exact g_iret (v := (greatL kf df 10) - (smallL kf df 10)) () X hw hr hlocks  rfl rfl dX8_wrongAgain_50
      · skip
        have c_4 := Int32.not_le.mp c_4
        have c_4 : i < 10 := (nI_ltI (a := i) (b := 10) (by omega) (by omega)).mp c_4
        refine lv_aload_n hx hb dX8_wrongAgain_17 rfl (lv_at hl 2 rfl) ?_
        refine lv_iload_n hx hb dX8_wrongAgain_18 rfl (lv_at hl 0 rfl) ?_
        replace hw : gW D A ((ky, .inr (8, [.int kn, .int kc, .ref ka, .int ku])) :: (ka, .inl (dA 0, 10, .inl kf)) :: (q_1, .inr (10, [.int (greatL kf df i), .int (smallL kf df i), .ref ky])) :: (co, .inr (6, [.int le, .ref ca, .int ho, .int cn])) :: (ca, .inl (dA 0, 10, .inl df)) :: R) s _ _ := g_perm (X := [(q_1, .inr (10, [.int (greatL kf df i), .int (smallL kf df i), .ref ky])), (ky, .inr (8, [.int kn, .int kc, .ref ka, .int ku])), (ka, .inl (dA 0, 10, .inl kf)), (co, .inr (6, [.int le, .ref ca, .int ho, .int cn])), (ca, .inl (dA 0, 10, .inl df))]) (cx := [(ky, .inr (8, [.int kn, .int kc, .ref ka, .int ku])), (ka, .inl (dA 0, 10, .inl kf)), (q_1, .inr (10, [.int (greatL kf df i), .int (smallL kf df i), .ref ky])), (co, .inr (6, [.int le, .ref ca, .int ho, .int cn])), (ca, .inl (dA 0, 10, .inl df))]) (pl := R) hw [1, 2, 0, 3, 4] rfl rfl rfl rfl
        refine va_calli (va_runV (As := [.int (nI i)]) (rest := []) X.1 (m_X8_isCut l D dA A E hE ((q_1, .inr (10, [.int (greatL kf df i), .int (smallL kf df i), .ref ky])) :: (co, .inr (6, [.int le, .ref ca, .int ho, .int cn])) :: (ca, .inl (dA 0, 10, .inl df)) :: R) ky ka kn kc ku kf i (by first | assumption | omega | decide)) (cwV 1 X.1.2.2.2.2 (lw_V q924 q860 q861 q90 q862) rfl rfl rfl (by decide +kernel) ⟨Nat.le_of_ble_eq_true rfl, Nat.le_of_ble_eq_true rfl⟩) (g_preV hE X.2 hw 0 rfl rfl) rfl rfl hl.1 rfl (lv_room (Nat.le_of_ble_eq_true rfl)) dX8_wrongAgain_19 ⟨Nat.le_of_ble_eq_true rfl, Nat.le_of_ble_eq_true rfl⟩) hw.2.2 (fun q _ h => h) (fun q h => h) (fun r_6 u t H locs ht hvm h_5 hB hz9 hk9 hS => ?_)
        replace hw : gW D A ((ky, .inr (8, [.int kn, .int kc, .ref ka, .int ku])) :: (ka, .inl (dA 0, 10, .inl kf)) :: (q_1, .inr (10, [.int (greatL kf df i), .int (smallL kf df i), .ref ky])) :: (co, .inr (6, [.int le, .ref ca, .int ho, .int cn])) :: (ca, .inl (dA 0, 10, .inl df)) :: R) s H locs := g_aft ht hB hS
        clear hS hk9 hz9 hB hvm ht
        clear t
        obtain rfl : r_6 = bZ (!decide (kf i = -1)) := h_5
        refine lv_if_eq (tgt := 35) hx hb dX8_wrongAgain_22 (by decide) (fun c_7 => ?_) (fun c_7 => ?_)
        · skip
          have c_7 := bZ_0.mp c_7
          have c_7 := bnd_f c_7
          refine lv_iinc (v := nI (i + 1)) (lv' := [(3, .int (nI (i + 1))), (2, .ref q_1), (0, .ref ky), (1, .ref co)]) hx hb dX8_wrongAgain_35 hl (k := 0) rfl (nI_add i 1) (by decide) rfl (fun ls hl9 => ?_)
          replace hl := hl9
          clear hl9
          refine lv_goto (tgt := 11) hx hb dX8_wrongAgain_38 (by decide) ?_
          replace hw : gW D A ((q_1, .inr (10, [.int (greatL kf df i), .int (smallL kf df i), .ref ky])) :: (ky, .inr (8, [.int kn, .int kc, .ref ka, .int ku])) :: (ka, .inl (dA 0, 10, .inl kf)) :: (co, .inr (6, [.int le, .ref ca, .int ho, .int cn])) :: (ca, .inl (dA 0, 10, .inl df)) :: R) s _ _ := g_perm (X := [(ky, .inr (8, [.int kn, .int kc, .ref ka, .int ku])), (ka, .inl (dA 0, 10, .inl kf)), (q_1, .inr (10, [.int (greatL kf df i), .int (smallL kf df i), .ref ky])), (co, .inr (6, [.int le, .ref ca, .int ho, .int cn])), (ca, .inl (dA 0, 10, .inl df))]) (cx := [(q_1, .inr (10, [.int (greatL kf df i), .int (smallL kf df i), .ref ky])), (ky, .inr (8, [.int kn, .int kc, .ref ka, .int ku])), (ka, .inl (dA 0, 10, .inl kf)), (co, .inr (6, [.int le, .ref ca, .int ho, .int cn])), (ca, .inl (dA 0, 10, .inl df))]) (pl := R) hw [2, 0, 1, 3, 4] rfl rfl rfl rfl
          replace hw : gW D A ((q_1, .inr (10, [.int (greatL kf df (i + 1)), .int (smallL kf df (i + 1)), .ref ky])) :: (ky, .inr (8, [.int kn, .int kc, .ref ka, .int ku])) :: (ka, .inl (dA 0, 10, .inl kf)) :: (co, .inr (6, [.int le, .ref ca, .int ho, .int cn])) :: (ca, .inl (dA 0, 10, .inl df)) :: R) s _ _ := g_ws hw (by simp only [greatL, smallL, c_4, c_7, if_true, if_false])
          exact ih_loop_3 (i + 1) (by first | assumption | omega) (by omega) _ _ hw _ (lv_sub hl [0, 1, 2, 3] rfl)
        · skip
          have c_7 := bZ_1 c_7
          have c_7 := bnd_t c_7
          refine lv_aload_n hx hb dX8_wrongAgain_25 rfl (lv_at hl 1 rfl) ?_
          refine lv_aload_n hx hb dX8_wrongAgain_26 rfl (lv_at hl 2 rfl) ?_
          refine lv_aload_n hx hb dX8_wrongAgain_27 rfl (lv_at hl 3 rfl) ?_
          refine lv_iload_n hx hb dX8_wrongAgain_28 rfl (lv_at hl 0 rfl) ?_
          replace hw : gW D A ((ky, .inr (8, [.int kn, .int kc, .ref ka, .int ku])) :: (ka, .inl (dA 0, 10, .inl kf)) :: (co, .inr (6, [.int le, .ref ca, .int ho, .int cn])) :: (ca, .inl (dA 0, 10, .inl df)) :: (q_1, .inr (10, [.int (greatL kf df i), .int (smallL kf df i), .ref ky])) :: R) s _ _ := g_perm (X := [(ky, .inr (8, [.int kn, .int kc, .ref ka, .int ku])), (ka, .inl (dA 0, 10, .inl kf)), (q_1, .inr (10, [.int (greatL kf df i), .int (smallL kf df i), .ref ky])), (co, .inr (6, [.int le, .ref ca, .int ho, .int cn])), (ca, .inl (dA 0, 10, .inl df))]) (cx := [(ky, .inr (8, [.int kn, .int kc, .ref ka, .int ku])), (ka, .inl (dA 0, 10, .inl kf)), (co, .inr (6, [.int le, .ref ca, .int ho, .int cn])), (ca, .inl (dA 0, 10, .inl df)), (q_1, .inr (10, [.int (greatL kf df i), .int (smallL kf df i), .ref ky]))]) (pl := R) hw [0, 1, 3, 4, 2] rfl rfl rfl rfl
          refine va_calli (va_runS (As := [.ref ky, .ref co, .int (nI i)]) (rest := [.ref q_1]) X.1 (m_X10_difference l D dA A E hE ((q_1, .inr (10, [.int (greatL kf df i), .int (smallL kf df i), .ref ky])) :: R) ky ka kn kc ku kf co ca le ho cn df i (by first | assumption | omega | decide)) (va_cwS 3 X.1.2.2.2.2 (lw_S q930 q931 q92 q932) rfl rfl rfl (by decide +kernel) ⟨Nat.le_of_ble_eq_true rfl, Nat.le_of_ble_eq_true rfl⟩) (g_preS hE X.2 hw) rfl rfl hl.1 rfl (lv_room (Nat.le_of_ble_eq_true rfl)) dX8_wrongAgain_29 ⟨Nat.le_of_ble_eq_true rfl, Nat.le_of_ble_eq_true rfl⟩) hw.2.2 (fun q _ h => h) (fun q h => h) (fun r_9 u t H locs ht hvm h_8 hB hz9 hk9 hS => ?_)
          replace hw : gW D A ((ky, .inr (8, [.int kn, .int kc, .ref ka, .int ku])) :: (ka, .inl (dA 0, 10, .inl kf)) :: (co, .inr (6, [.int le, .ref ca, .int ho, .int cn])) :: (ca, .inl (dA 0, 10, .inl df)) :: (q_1, .inr (10, [.int (greatL kf df i), .int (smallL kf df i), .ref ky])) :: R) s H locs := g_aft ht hB hS
          clear hS hk9 hz9 hB hvm ht
          clear t
          obtain rfl : r_9 = kf i - df i := h_8
          replace hw : gW D A ((q_1, .inr (10, [.int (greatL kf df i), .int (smallL kf df i), .ref ky])) :: (ky, .inr (8, [.int kn, .int kc, .ref ka, .int ku])) :: (ka, .inl (dA 0, 10, .inl kf)) :: (co, .inr (6, [.int le, .ref ca, .int ho, .int cn])) :: (ca, .inl (dA 0, 10, .inl df)) :: R) s _ _ := g_perm (X := [(ky, .inr (8, [.int kn, .int kc, .ref ka, .int ku])), (ka, .inl (dA 0, 10, .inl kf)), (co, .inr (6, [.int le, .ref ca, .int ho, .int cn])), (ca, .inl (dA 0, 10, .inl df)), (q_1, .inr (10, [.int (greatL kf df i), .int (smallL kf df i), .ref ky]))]) (cx := [(q_1, .inr (10, [.int (greatL kf df i), .int (smallL kf df i), .ref ky])), (ky, .inr (8, [.int kn, .int kc, .ref ka, .int ku])), (ka, .inl (dA 0, 10, .inl kf)), (co, .inr (6, [.int le, .ref ca, .int ho, .int cn])), (ca, .inl (dA 0, 10, .inl df))]) (pl := R) hw [4, 0, 1, 2, 3] rfl rfl rfl rfl
          refine va_callv (va_runV (As := [.int (kf i - df i)]) (rest := []) X.1 (m_X11_takes l D dA A E hE ((ky, .inr (8, [.int kn, .int kc, .ref ka, .int ku])) :: (ka, .inl (dA 0, 10, .inl kf)) :: (co, .inr (6, [.int le, .ref ca, .int ho, .int cn])) :: (ca, .inl (dA 0, 10, .inl df)) :: R) q_1 ky (greatL kf df i) (smallL kf df i) (kf i - df i)) (cwV 1 X.1.2.2.2.2 (lw_V q987 q988 q989 q93 q990) rfl rfl rfl (by decide +kernel) ⟨Nat.le_of_ble_eq_true rfl, Nat.le_of_ble_eq_true rfl⟩) (g_preV hE X.2 hw 0 rfl rfl) rfl rfl hl.1 rfl (lv_room (Nat.le_of_ble_eq_true rfl)) dX8_wrongAgain_32 ⟨Nat.le_of_ble_eq_true rfl, Nat.le_of_ble_eq_true rfl⟩) hw.2.2 (fun q _ h => h) (fun q h => h) (fun u t H locs ht hvm h_10 hB hz9 hk9 hS => ?_)
          replace hw : gW D A ((q_1, .inr (10, [.int ((greatL kf df i) + (if 0 < (kf i - df i) then (kf i - df i) else 0)), .int ((smallL kf df i) + (if (kf i - df i) < 0 then (kf i - df i) else 0)), .ref ky])) :: (ky, .inr (8, [.int kn, .int kc, .ref ka, .int ku])) :: (ka, .inl (dA 0, 10, .inl kf)) :: (co, .inr (6, [.int le, .ref ca, .int ho, .int cn])) :: (ca, .inl (dA 0, 10, .inl df)) :: R) s H locs := g_aft ht hB hS
          clear hS hk9 hz9 hB hvm ht
          clear t
          refine lv_iinc (v := nI (i + 1)) (lv' := [(3, .int (nI (i + 1))), (2, .ref q_1), (0, .ref ky), (1, .ref co)]) hx hb dX8_wrongAgain_35 hl (k := 0) rfl (nI_add i 1) (by decide) rfl (fun ls hl9 => ?_)
          replace hl := hl9
          clear hl9
          refine lv_goto (tgt := 11) hx hb dX8_wrongAgain_38 (by decide) ?_
          replace hw : gW D A ((q_1, .inr (10, [.int (greatL kf df (i + 1)), .int (smallL kf df (i + 1)), .ref ky])) :: (ky, .inr (8, [.int kn, .int kc, .ref ka, .int ku])) :: (ka, .inl (dA 0, 10, .inl kf)) :: (co, .inr (6, [.int le, .ref ca, .int ho, .int cn])) :: (ca, .inl (dA 0, 10, .inl df)) :: R) s _ _ := g_ws hw (by simp only [greatL, smallL, c_4, c_7, if_true, if_false])
          exact ih_loop_3 (i + 1) (by first | assumption | omega) (by omega) _ _ hw _ (lv_sub hl [0, 1, 2, 3] rfl)
  replace hw : gW D A ((q_1, .inr (10, [.int (greatL kf df 0), .int (smallL kf df 0), .ref ky])) :: (ky, .inr (8, [.int kn, .int kc, .ref ka, .int ku])) :: (ka, .inl (dA 0, 10, .inl kf)) :: (co, .inr (6, [.int le, .ref ca, .int ho, .int cn])) :: (ca, .inl (dA 0, 10, .inl df)) :: R) s _ _ := g_ws hw (by rfl)
  exact loop_3 ((10 - 0) + 1) 0 (by first | assumption | omega) (Nat.lt_succ_self _) _ _ hw _ (lv_sub hl [0, 1, 2, 3] rfl)

set_option maxHeartbeats 4000000 in
theorem m_X3_text (l : Launch) (D : va_G) (dA : Nat → ClassId) (A : Nat → Prop) (E : State → Prop) (hE : gSt A E) (R : va_W) (kA : Nat → Nat) (hKE : gKE A E kA) (lo j d : Nat) (hd : d < 10) (lq lw lh lc lr ld : Int32)  : Met l yX3_text (ws_ yX3_text cX3_text 1 (Option.some (FieldType.object "java/lang/String"))) ({ frames := 6, cells := 8, slots := 900, locals := 151 }) (va_Pc [.ref lo] (gB D dA A E ((lo, .inr (3, [.int (nI j), .int (nI d), .int lq, .int lw, .int lh, .int lc, .int lr, .int ld])) :: R))) (va_Qr (fun (u : Nat × gG) => gAsc u.2 2 ∧ ∀ k, k < 2 → u.2 k = (fun k => if k = 0 then stC lq else nI (48 + d)) k) (fun u a => gE D A ((a, .inr (17, [.ref u.1, .int 0, .int 0, .int 0])) :: (u.1, .inl (dA 2, 2, .inl u.2)) :: (lo, .inr (3, [.int (nI j), .int (nI d), .int lq, .int lw, .int lh, .int lc, .int lr, .int ld])) :: R)) A) (8) (900) A := by
  refine g_start rfl rfl ?_
  intro p e s m args below meth c ls X hr hlocks hin hw hl
  have hx := X.1.1
  have hb := X.1.2.1
  have hl : lv_has ls 1 [(0, .ref lo)] := hl
  have hof0 : gAsc (fun _ => (0 : Int32)) 16 := asc_0
  have hg10 := gLen_10
  have hg11 := gLen_11
  have hg12 := gLen_12
  refine g_new (fs := [.null, .int 0, .int 0, .int 0]) X cfJ8 hw q1736 q346 q77 (fun j hj => by rcases (show j = 0 ∨ j = 1 ∨ j = 2 ∨ j = 3 by omega) with rfl | rfl | rfl | rfl <;> rfl) (Nat.le_of_ble_eq_true rfl) (Nat.le_of_ble_eq_true rfl) dX3_text_0 (fun q_1 H hw9 => ?_)
  replace hw := hw9
  clear hw9
  refine lv_dup hx hb dX3_text_3 rfl ?_
  refine va_callv (va_runI (As := []) (rest := [.ref q_1]) X.1 (m_J8_init l D dA A E hE ((lo, .inr (3, [.int (nI j), .int (nI d), .int lq, .int lw, .int lh, .int lc, .int lr, .int ld])) :: R) kA (by first | assumption | omega | decide) q_1) (cwI 0 X.1.2.2.2.2 (lw_meth q349) rfl rfl rfl (X.1.2.2.2.2 _ q77) (X.1.2.2.2.2 _ q1737) (X.1.2.2.2.2 _ q348) rfl (by decide +kernel) ⟨Nat.le_of_ble_eq_true rfl, Nat.le_of_ble_eq_true rfl⟩) (g_preS hE X.2 hw) rfl rfl hl.1 rfl (lv_room (Nat.le_of_ble_eq_true rfl)) dX3_text_4 ⟨Nat.le_of_ble_eq_true rfl, Nat.le_of_ble_eq_true rfl⟩) hw.2.2 (fun q _ h => h) (fun q h => h) (fun u t H locs ht hvm h_2 hB hz9 hk9 hS => ?_)
  obtain ⟨u_3, rfl⟩ : ∃ z, z = u := ⟨_, rfl⟩
  replace hw : gW D A ((q_1, .inr (16, [.ref u_3, .int 0, .int 0, .int 0])) :: (u_3, .inl (dA 2, 16, .inl (fun _ => 0))) :: (lo, .inr (3, [.int (nI j), .int (nI d), .int lq, .int lw, .int lh, .int lc, .int lr, .int ld])) :: R) s H locs := g_aft ht hB hS
  clear hS hk9 hz9 hB hvm ht
  clear t
  replace hw : gW D A ((q_1, .inr (16, [.ref u_3, .int 0, .int 0, .int 0])) :: (u_3, .inl (dA 2, 16, .inl (fun _ => 0))) :: (lo, .inr (3, [.int (nI j), .int (nI d), .int lq, .int lw, .int lh, .int lc, .int lr, .int ld])) :: R) s _ _ := hw
  refine lv_aload_n hx hb dX3_text_7 rfl (lv_at hl 0 rfl) ?_
  refine g_get X cfX3 hw 2 2 rfl rfl q171 rfl rfl dX3_text_8 ?_
  refine lv_if_ne (tgt := 19) hx hb dX3_text_11 (by decide) (fun c_4 => ?_) (fun c_4 => ?_)
  · skip
    refine lv_aload_n hx hb dX3_text_19 rfl (lv_at hl 0 rfl) ?_
    refine g_get X cfX3 hw 2 2 rfl rfl q171 rfl rfl dX3_text_20 ?_
    refine lv_iconst (v := 1) hx hb dX3_text_23 (by decide) ?_
    refine lv_icmp_ne (tgt := 32) hx hb dX3_text_24 (by decide) (fun c_5 => ?_) (fun c_5 => ?_)
    · skip
      refine g_ldcS X hKE 22 rfl rfl dX3_text_32 ?_
      refine va_callr (va_runV (As := [.ref (kA 12)]) (rest := []) X.1 (m_J8_append_2 l D dA A E hE ((lo, .inr (3, [.int (nI j), .int (nI d), .int lq, .int lw, .int lh, .int lc, .int lr, .int ld])) :: R) kA (by first | assumption | omega | decide) (kA 12) (kA (16 + 12)) (gLen 12) (gByt 12) (gTxt.k hKE (i := 12) (by first | decide | omega)) q_1 u_3 16 0 0 (fun _ => 0) (by first | assumption | omega | decide) (by first | assumption | omega | decide) (by first | assumption | omega | decide) (by first | assumption | omega | decide)) (cwV 1 X.1.2.2.2.2 (lw_V q1741 q1295 q1296 q77 q1297) rfl rfl rfl (by decide +kernel) ⟨Nat.le_of_ble_eq_true rfl, Nat.le_of_ble_eq_true rfl⟩) (g_preV hE X.2 hw 0 rfl rfl) rfl rfl hl.1 rfl (lv_room (Nat.le_of_ble_eq_true rfl)) dX3_text_34 ⟨Nat.le_of_ble_eq_true rfl, Nat.le_of_ble_eq_true rfl⟩) hw.2.2 (fun q _ h => h) (fun q h => h) (fun u q_7 t H locs ht hvm h_6 hB hz9 hk9 hS => ?_)
      obtain ⟨cb_8, cc_9, cf_10⟩ := u
      obtain ⟨er_q_7, hB⟩ := hB
      obtain rfl := er_q_7.symm
      replace hw : gW D A ((q_1, .inr (16, [.ref cb_8, .int 0, .int 0, .int (nI (0 + (gLen 12)))])) :: (cb_8, .inl (dA 2, cc_9, .inl cf_10)) :: (lo, .inr (3, [.int (nI j), .int (nI d), .int lq, .int lw, .int lh, .int lc, .int lr, .int ld])) :: R) s H locs := g_aft ht hB hS
      clear hS hk9 hz9 hB hvm ht
      clear t
      have h_6 : 0 + (gLen 12) ≤ cc_9 ∧ cc_9 ≤ 262 ∧ gAsc cf_10 cc_9 ∧ (∀ k, k < 0 → cf_10 k = (fun _ => 0) k) ∧ ∀ k, k < (gLen 12) → cf_10 (0 + k) = (gByt 12) k := h_6
      obtain ⟨ta_11, tb_12, tc_13, td_14, te_15⟩ := h_6
      have hP_17 : ∀ k, k < 1 → (gByt 12) k = (fun k => if k = 0 then stC lq else nI (48 + d)) k := by
        intro k hk
        obtain rfl : k = 0 := by omega
        show gByt 12 0 = stC lq
        rw [show stC lq = 99 from by simp [stC, c_4, c_5]]; rfl
      have hT_16 : ∀ k, k < 1 → cf_10 k = (fun k => if k = 0 then stC lq else nI (48 + d)) k := by
        intro k hk
        have h9 := te_15 k hk
        rw [Nat.zero_add] at h9
        exact h9.trans (hP_17 k hk)
      replace hw : gW D A ((q_1, .inr (16, [.ref cb_8, .int 0, .int 0, .int 1])) :: (cb_8, .inl (dA 2, cc_9, .inl cf_10)) :: (lo, .inr (3, [.int (nI j), .int (nI d), .int lq, .int lw, .int lh, .int lc, .int lr, .int ld])) :: R) s _ _ := hw
      refine lv_aload_n hx hb dX3_text_37 rfl (lv_at hl 0 rfl) ?_
      refine g_get X cfX3 hw 2 1 rfl rfl q169 rfl rfl dX3_text_38 ?_
      refine va_callr (va_runV (As := [.int (nI d)]) (rest := []) X.1 (m_J8_append_4 l D dA A E hE ((lo, .inr (3, [.int (nI j), .int (nI d), .int lq, .int lw, .int lh, .int lc, .int lr, .int ld])) :: R) kA (by first | assumption | omega | decide) q_1 cb_8 cc_9 1 0 cf_10 (by first | assumption | omega | decide) (by first | assumption | omega | decide) (by first | assumption | omega | decide) d (by first | assumption | omega | decide) (by first | assumption | omega | decide)) (cwV 1 X.1.2.2.2.2 (lw_V q1742 q1689 q1690 q77 q1691) rfl rfl rfl (by decide +kernel) ⟨Nat.le_of_ble_eq_true rfl, Nat.le_of_ble_eq_true rfl⟩) (g_preV hE X.2 hw 0 rfl rfl) rfl rfl hl.1 rfl (lv_room (Nat.le_of_ble_eq_true rfl)) dX3_text_41 ⟨Nat.le_of_ble_eq_true rfl, Nat.le_of_ble_eq_true rfl⟩) hw.2.2 (fun q _ h => h) (fun q h => h) (fun u q_19 t H locs ht hvm h_18 hB hz9 hk9 hS => ?_)
      obtain ⟨cb_20, cc_21, cf_22⟩ := u
      obtain ⟨er_q_19, hB⟩ := hB
      obtain rfl := er_q_19.symm
      replace hw : gW D A ((q_1, .inr (16, [.ref cb_20, .int 0, .int 0, .int (nI (1 + 1))])) :: (cb_20, .inl (dA 2, cc_21, .inl cf_22)) :: (lo, .inr (3, [.int (nI j), .int (nI d), .int lq, .int lw, .int lh, .int lc, .int lr, .int ld])) :: R) s H locs := g_aft ht hB hS
      clear hS hk9 hz9 hB hvm ht
      clear t
      have h_18 : 1 + 1 ≤ cc_21 ∧ cc_21 ≤ 262 ∧ gAsc cf_22 cc_21 ∧ (∀ k, k < 1 → cf_22 k = cf_10 k) ∧ cf_22 1 = nI (48 + d) := h_18
      obtain ⟨ta_23, tb_24, tc_25, td_26, te_27⟩ := h_18
      have hT_28 : ∀ k, k < 2 → cf_22 k = (fun k => if k = 0 then stC lq else nI (48 + d)) k := tx_one hT_16 td_26 (te_27.trans (rfl)) rfl
      replace hw : gW D A ((q_1, .inr (16, [.ref cb_20, .int 0, .int 0, .int 2])) :: (cb_20, .inl (dA 2, cc_21, .inl cf_22)) :: (lo, .inr (3, [.int (nI j), .int (nI d), .int lq, .int lw, .int lh, .int lc, .int lr, .int ld])) :: R) s _ _ := hw
      refine va_callr (va_runV (As := []) (rest := []) X.1 (m_J8_toString l D dA A E hE ((lo, .inr (3, [.int (nI j), .int (nI d), .int lq, .int lw, .int lh, .int lc, .int lr, .int ld])) :: R) kA (by first | assumption | omega | decide) q_1 cb_20 cc_21 2 0 cf_22 (by first | assumption | omega | decide) (by first | assumption | omega | decide) (by first | assumption | omega | decide)) (cwV 0 X.1.2.2.2.2 (lw_V q1743 q1335 q1336 q77 q1337) rfl rfl rfl (by decide +kernel) ⟨Nat.le_of_ble_eq_true rfl, Nat.le_of_ble_eq_true rfl⟩) (g_preV hE X.2 hw 0 rfl rfl) rfl rfl hl.1 rfl (lv_room (Nat.le_of_ble_eq_true rfl)) dX3_text_44 ⟨Nat.le_of_ble_eq_true rfl, Nat.le_of_ble_eq_true rfl⟩) hw.2.2 (fun q _ h => h) (fun q h => h) (fun u q_30 t H locs ht hvm h_29 hB hz9 hk9 hS => ?_)
      obtain ⟨sb_31, sf_32⟩ := u
      replace hw : gW D A ((q_30, .inr (17, [.ref sb_31, .int 0, .int 0, .int 0])) :: (sb_31, .inl (dA 2, 2, .inl sf_32)) :: (q_1, .inr (16, [.ref cb_20, .int 0, .int 0, .int 2])) :: (cb_20, .inl (dA 2, cc_21, .inl cf_22)) :: (lo, .inr (3, [.int (nI j), .int (nI d), .int lq, .int lw, .int lh, .int lc, .int lr, .int ld])) :: R) s H locs := g_aft ht hB hS
      clear hS hk9 hz9 hB hvm ht
      clear t
      have h_29 : gAsc sf_32 2 ∧ ∀ k, k < 2 → sf_32 k = cf_22 k := h_29
      refine W.widen (k := 8) (n := 900) (by first | exact Nat.le_of_ble_eq_true rfl | omega) (by first | exact Nat.le_of_ble_eq_true rfl | omega) ?_
      replace hw : gW D A ((q_30, .inr (17, [.ref sb_31, .int 0, .int 0, .int 0])) :: (sb_31, .inl (dA 2, 2, .inl sf_32)) :: (lo, .inr (3, [.int (nI j), .int (nI d), .int lq, .int lw, .int lh, .int lc, .int lr, .int ld])) :: R) s _ _ := g_perm (X := [(q_30, .inr (17, [.ref sb_31, .int 0, .int 0, .int 0])), (sb_31, .inl (dA 2, 2, .inl sf_32)), (q_1, .inr (16, [.ref cb_20, .int 0, .int 0, .int 2])), (cb_20, .inl (dA 2, cc_21, .inl cf_22)), (lo, .inr (3, [.int (nI j), .int (nI d), .int lq, .int lw, .int lh, .int lc, .int lr, .int ld]))]) (cx := [(q_30, .inr (17, [.ref sb_31, .int 0, .int 0, .int 0])), (sb_31, .inl (dA 2, 2, .inl sf_32)), (lo, .inr (3, [.int (nI j), .int (nI d), .int lq, .int lw, .int lh, .int lc, .int lr, .int ld]))]) (pl := R) hw [0, 1, 4] rfl rfl rfl rfl
      exact g_aret (sb_31, sf_32) X hw hr (Or.inl ⟨_, rfl⟩) hlocks (by exact ⟨h_29.1, fun k hk => (h_29.2 k hk).trans (hT_28 k hk)⟩) rfl dX3_text_47
    · skip
      refine g_ldcS X hKE 21 rfl rfl dX3_text_27 ?_
      refine lv_goto (tgt := 34) hx hb dX3_text_29 (by decide) ?_
      refine va_callr (va_runV (As := [.ref (kA 11)]) (rest := []) X.1 (m_J8_append_2 l D dA A E hE ((lo, .inr (3, [.int (nI j), .int (nI d), .int lq, .int lw, .int lh, .int lc, .int lr, .int ld])) :: R) kA (by first | assumption | omega | decide) (kA 11) (kA (16 + 11)) (gLen 11) (gByt 11) (gTxt.k hKE (i := 11) (by first | decide | omega)) q_1 u_3 16 0 0 (fun _ => 0) (by first | assumption | omega | decide) (by first | assumption | omega | decide) (by first | assumption | omega | decide) (by first | assumption | omega | decide)) (cwV 1 X.1.2.2.2.2 (lw_V q1741 q1295 q1296 q77 q1297) rfl rfl rfl (by decide +kernel) ⟨Nat.le_of_ble_eq_true rfl, Nat.le_of_ble_eq_true rfl⟩) (g_preV hE X.2 hw 0 rfl rfl) rfl rfl hl.1 rfl (lv_room (Nat.le_of_ble_eq_true rfl)) dX3_text_34 ⟨Nat.le_of_ble_eq_true rfl, Nat.le_of_ble_eq_true rfl⟩) hw.2.2 (fun q _ h => h) (fun q h => h) (fun u q_34 t H locs ht hvm h_33 hB hz9 hk9 hS => ?_)
      obtain ⟨cb_35, cc_36, cf_37⟩ := u
      obtain ⟨er_q_34, hB⟩ := hB
      obtain rfl := er_q_34.symm
      replace hw : gW D A ((q_1, .inr (16, [.ref cb_35, .int 0, .int 0, .int (nI (0 + (gLen 11)))])) :: (cb_35, .inl (dA 2, cc_36, .inl cf_37)) :: (lo, .inr (3, [.int (nI j), .int (nI d), .int lq, .int lw, .int lh, .int lc, .int lr, .int ld])) :: R) s H locs := g_aft ht hB hS
      clear hS hk9 hz9 hB hvm ht
      clear t
      have h_33 : 0 + (gLen 11) ≤ cc_36 ∧ cc_36 ≤ 262 ∧ gAsc cf_37 cc_36 ∧ (∀ k, k < 0 → cf_37 k = (fun _ => 0) k) ∧ ∀ k, k < (gLen 11) → cf_37 (0 + k) = (gByt 11) k := h_33
      obtain ⟨ta_38, tb_39, tc_40, td_41, te_42⟩ := h_33
      have hP_44 : ∀ k, k < 1 → (gByt 11) k = (fun k => if k = 0 then stC lq else nI (48 + d)) k := by
        intro k hk
        obtain rfl : k = 0 := by omega
        show gByt 11 0 = stC lq
        rw [show stC lq = 46 from by simp [stC, c_4, c_5]]; rfl
      have hT_43 : ∀ k, k < 1 → cf_37 k = (fun k => if k = 0 then stC lq else nI (48 + d)) k := by
        intro k hk
        have h9 := te_42 k hk
        rw [Nat.zero_add] at h9
        exact h9.trans (hP_44 k hk)
      replace hw : gW D A ((q_1, .inr (16, [.ref cb_35, .int 0, .int 0, .int 1])) :: (cb_35, .inl (dA 2, cc_36, .inl cf_37)) :: (lo, .inr (3, [.int (nI j), .int (nI d), .int lq, .int lw, .int lh, .int lc, .int lr, .int ld])) :: R) s _ _ := hw
      refine lv_aload_n hx hb dX3_text_37 rfl (lv_at hl 0 rfl) ?_
      refine g_get X cfX3 hw 2 1 rfl rfl q169 rfl rfl dX3_text_38 ?_
      refine va_callr (va_runV (As := [.int (nI d)]) (rest := []) X.1 (m_J8_append_4 l D dA A E hE ((lo, .inr (3, [.int (nI j), .int (nI d), .int lq, .int lw, .int lh, .int lc, .int lr, .int ld])) :: R) kA (by first | assumption | omega | decide) q_1 cb_35 cc_36 1 0 cf_37 (by first | assumption | omega | decide) (by first | assumption | omega | decide) (by first | assumption | omega | decide) d (by first | assumption | omega | decide) (by first | assumption | omega | decide)) (cwV 1 X.1.2.2.2.2 (lw_V q1742 q1689 q1690 q77 q1691) rfl rfl rfl (by decide +kernel) ⟨Nat.le_of_ble_eq_true rfl, Nat.le_of_ble_eq_true rfl⟩) (g_preV hE X.2 hw 0 rfl rfl) rfl rfl hl.1 rfl (lv_room (Nat.le_of_ble_eq_true rfl)) dX3_text_41 ⟨Nat.le_of_ble_eq_true rfl, Nat.le_of_ble_eq_true rfl⟩) hw.2.2 (fun q _ h => h) (fun q h => h) (fun u q_46 t H locs ht hvm h_45 hB hz9 hk9 hS => ?_)
      obtain ⟨cb_47, cc_48, cf_49⟩ := u
      obtain ⟨er_q_46, hB⟩ := hB
      obtain rfl := er_q_46.symm
      replace hw : gW D A ((q_1, .inr (16, [.ref cb_47, .int 0, .int 0, .int (nI (1 + 1))])) :: (cb_47, .inl (dA 2, cc_48, .inl cf_49)) :: (lo, .inr (3, [.int (nI j), .int (nI d), .int lq, .int lw, .int lh, .int lc, .int lr, .int ld])) :: R) s H locs := g_aft ht hB hS
      clear hS hk9 hz9 hB hvm ht
      clear t
      have h_45 : 1 + 1 ≤ cc_48 ∧ cc_48 ≤ 262 ∧ gAsc cf_49 cc_48 ∧ (∀ k, k < 1 → cf_49 k = cf_37 k) ∧ cf_49 1 = nI (48 + d) := h_45
      obtain ⟨ta_50, tb_51, tc_52, td_53, te_54⟩ := h_45
      have hT_55 : ∀ k, k < 2 → cf_49 k = (fun k => if k = 0 then stC lq else nI (48 + d)) k := tx_one hT_43 td_53 (te_54.trans (rfl)) rfl
      replace hw : gW D A ((q_1, .inr (16, [.ref cb_47, .int 0, .int 0, .int 2])) :: (cb_47, .inl (dA 2, cc_48, .inl cf_49)) :: (lo, .inr (3, [.int (nI j), .int (nI d), .int lq, .int lw, .int lh, .int lc, .int lr, .int ld])) :: R) s _ _ := hw
      refine va_callr (va_runV (As := []) (rest := []) X.1 (m_J8_toString l D dA A E hE ((lo, .inr (3, [.int (nI j), .int (nI d), .int lq, .int lw, .int lh, .int lc, .int lr, .int ld])) :: R) kA (by first | assumption | omega | decide) q_1 cb_47 cc_48 2 0 cf_49 (by first | assumption | omega | decide) (by first | assumption | omega | decide) (by first | assumption | omega | decide)) (cwV 0 X.1.2.2.2.2 (lw_V q1743 q1335 q1336 q77 q1337) rfl rfl rfl (by decide +kernel) ⟨Nat.le_of_ble_eq_true rfl, Nat.le_of_ble_eq_true rfl⟩) (g_preV hE X.2 hw 0 rfl rfl) rfl rfl hl.1 rfl (lv_room (Nat.le_of_ble_eq_true rfl)) dX3_text_44 ⟨Nat.le_of_ble_eq_true rfl, Nat.le_of_ble_eq_true rfl⟩) hw.2.2 (fun q _ h => h) (fun q h => h) (fun u q_57 t H locs ht hvm h_56 hB hz9 hk9 hS => ?_)
      obtain ⟨sb_58, sf_59⟩ := u
      replace hw : gW D A ((q_57, .inr (17, [.ref sb_58, .int 0, .int 0, .int 0])) :: (sb_58, .inl (dA 2, 2, .inl sf_59)) :: (q_1, .inr (16, [.ref cb_47, .int 0, .int 0, .int 2])) :: (cb_47, .inl (dA 2, cc_48, .inl cf_49)) :: (lo, .inr (3, [.int (nI j), .int (nI d), .int lq, .int lw, .int lh, .int lc, .int lr, .int ld])) :: R) s H locs := g_aft ht hB hS
      clear hS hk9 hz9 hB hvm ht
      clear t
      have h_56 : gAsc sf_59 2 ∧ ∀ k, k < 2 → sf_59 k = cf_49 k := h_56
      refine W.widen (k := 8) (n := 900) (by first | exact Nat.le_of_ble_eq_true rfl | omega) (by first | exact Nat.le_of_ble_eq_true rfl | omega) ?_
      replace hw : gW D A ((q_57, .inr (17, [.ref sb_58, .int 0, .int 0, .int 0])) :: (sb_58, .inl (dA 2, 2, .inl sf_59)) :: (lo, .inr (3, [.int (nI j), .int (nI d), .int lq, .int lw, .int lh, .int lc, .int lr, .int ld])) :: R) s _ _ := g_perm (X := [(q_57, .inr (17, [.ref sb_58, .int 0, .int 0, .int 0])), (sb_58, .inl (dA 2, 2, .inl sf_59)), (q_1, .inr (16, [.ref cb_47, .int 0, .int 0, .int 2])), (cb_47, .inl (dA 2, cc_48, .inl cf_49)), (lo, .inr (3, [.int (nI j), .int (nI d), .int lq, .int lw, .int lh, .int lc, .int lr, .int ld]))]) (cx := [(q_57, .inr (17, [.ref sb_58, .int 0, .int 0, .int 0])), (sb_58, .inl (dA 2, 2, .inl sf_59)), (lo, .inr (3, [.int (nI j), .int (nI d), .int lq, .int lw, .int lh, .int lc, .int lr, .int ld]))]) (pl := R) hw [0, 1, 4] rfl rfl rfl rfl
      exact g_aret (sb_58, sf_59) X hw hr (Or.inl ⟨_, rfl⟩) hlocks (by exact ⟨h_56.1, fun k hk => (h_56.2 k hk).trans (hT_55 k hk)⟩) rfl dX3_text_47
  · skip
    refine g_ldcS X hKE 20 rfl rfl dX3_text_14 ?_
    refine lv_goto (tgt := 34) hx hb dX3_text_16 (by decide) ?_
    refine va_callr (va_runV (As := [.ref (kA 10)]) (rest := []) X.1 (m_J8_append_2 l D dA A E hE ((lo, .inr (3, [.int (nI j), .int (nI d), .int lq, .int lw, .int lh, .int lc, .int lr, .int ld])) :: R) kA (by first | assumption | omega | decide) (kA 10) (kA (16 + 10)) (gLen 10) (gByt 10) (gTxt.k hKE (i := 10) (by first | decide | omega)) q_1 u_3 16 0 0 (fun _ => 0) (by first | assumption | omega | decide) (by first | assumption | omega | decide) (by first | assumption | omega | decide) (by first | assumption | omega | decide)) (cwV 1 X.1.2.2.2.2 (lw_V q1741 q1295 q1296 q77 q1297) rfl rfl rfl (by decide +kernel) ⟨Nat.le_of_ble_eq_true rfl, Nat.le_of_ble_eq_true rfl⟩) (g_preV hE X.2 hw 0 rfl rfl) rfl rfl hl.1 rfl (lv_room (Nat.le_of_ble_eq_true rfl)) dX3_text_34 ⟨Nat.le_of_ble_eq_true rfl, Nat.le_of_ble_eq_true rfl⟩) hw.2.2 (fun q _ h => h) (fun q h => h) (fun u q_61 t H locs ht hvm h_60 hB hz9 hk9 hS => ?_)
    obtain ⟨cb_62, cc_63, cf_64⟩ := u
    obtain ⟨er_q_61, hB⟩ := hB
    obtain rfl := er_q_61.symm
    replace hw : gW D A ((q_1, .inr (16, [.ref cb_62, .int 0, .int 0, .int (nI (0 + (gLen 10)))])) :: (cb_62, .inl (dA 2, cc_63, .inl cf_64)) :: (lo, .inr (3, [.int (nI j), .int (nI d), .int lq, .int lw, .int lh, .int lc, .int lr, .int ld])) :: R) s H locs := g_aft ht hB hS
    clear hS hk9 hz9 hB hvm ht
    clear t
    have h_60 : 0 + (gLen 10) ≤ cc_63 ∧ cc_63 ≤ 262 ∧ gAsc cf_64 cc_63 ∧ (∀ k, k < 0 → cf_64 k = (fun _ => 0) k) ∧ ∀ k, k < (gLen 10) → cf_64 (0 + k) = (gByt 10) k := h_60
    obtain ⟨ta_65, tb_66, tc_67, td_68, te_69⟩ := h_60
    have hP_71 : ∀ k, k < 1 → (gByt 10) k = (fun k => if k = 0 then stC lq else nI (48 + d)) k := by
      intro k hk
      obtain rfl : k = 0 := by omega
      show gByt 10 0 = stC lq
      rw [show stC lq = 111 from by simp [stC, c_4]]; rfl
    have hT_70 : ∀ k, k < 1 → cf_64 k = (fun k => if k = 0 then stC lq else nI (48 + d)) k := by
      intro k hk
      have h9 := te_69 k hk
      rw [Nat.zero_add] at h9
      exact h9.trans (hP_71 k hk)
    replace hw : gW D A ((q_1, .inr (16, [.ref cb_62, .int 0, .int 0, .int 1])) :: (cb_62, .inl (dA 2, cc_63, .inl cf_64)) :: (lo, .inr (3, [.int (nI j), .int (nI d), .int lq, .int lw, .int lh, .int lc, .int lr, .int ld])) :: R) s _ _ := hw
    refine lv_aload_n hx hb dX3_text_37 rfl (lv_at hl 0 rfl) ?_
    refine g_get X cfX3 hw 2 1 rfl rfl q169 rfl rfl dX3_text_38 ?_
    refine va_callr (va_runV (As := [.int (nI d)]) (rest := []) X.1 (m_J8_append_4 l D dA A E hE ((lo, .inr (3, [.int (nI j), .int (nI d), .int lq, .int lw, .int lh, .int lc, .int lr, .int ld])) :: R) kA (by first | assumption | omega | decide) q_1 cb_62 cc_63 1 0 cf_64 (by first | assumption | omega | decide) (by first | assumption | omega | decide) (by first | assumption | omega | decide) d (by first | assumption | omega | decide) (by first | assumption | omega | decide)) (cwV 1 X.1.2.2.2.2 (lw_V q1742 q1689 q1690 q77 q1691) rfl rfl rfl (by decide +kernel) ⟨Nat.le_of_ble_eq_true rfl, Nat.le_of_ble_eq_true rfl⟩) (g_preV hE X.2 hw 0 rfl rfl) rfl rfl hl.1 rfl (lv_room (Nat.le_of_ble_eq_true rfl)) dX3_text_41 ⟨Nat.le_of_ble_eq_true rfl, Nat.le_of_ble_eq_true rfl⟩) hw.2.2 (fun q _ h => h) (fun q h => h) (fun u q_73 t H locs ht hvm h_72 hB hz9 hk9 hS => ?_)
    obtain ⟨cb_74, cc_75, cf_76⟩ := u
    obtain ⟨er_q_73, hB⟩ := hB
    obtain rfl := er_q_73.symm
    replace hw : gW D A ((q_1, .inr (16, [.ref cb_74, .int 0, .int 0, .int (nI (1 + 1))])) :: (cb_74, .inl (dA 2, cc_75, .inl cf_76)) :: (lo, .inr (3, [.int (nI j), .int (nI d), .int lq, .int lw, .int lh, .int lc, .int lr, .int ld])) :: R) s H locs := g_aft ht hB hS
    clear hS hk9 hz9 hB hvm ht
    clear t
    have h_72 : 1 + 1 ≤ cc_75 ∧ cc_75 ≤ 262 ∧ gAsc cf_76 cc_75 ∧ (∀ k, k < 1 → cf_76 k = cf_64 k) ∧ cf_76 1 = nI (48 + d) := h_72
    obtain ⟨ta_77, tb_78, tc_79, td_80, te_81⟩ := h_72
    have hT_82 : ∀ k, k < 2 → cf_76 k = (fun k => if k = 0 then stC lq else nI (48 + d)) k := tx_one hT_70 td_80 (te_81.trans (rfl)) rfl
    replace hw : gW D A ((q_1, .inr (16, [.ref cb_74, .int 0, .int 0, .int 2])) :: (cb_74, .inl (dA 2, cc_75, .inl cf_76)) :: (lo, .inr (3, [.int (nI j), .int (nI d), .int lq, .int lw, .int lh, .int lc, .int lr, .int ld])) :: R) s _ _ := hw
    refine va_callr (va_runV (As := []) (rest := []) X.1 (m_J8_toString l D dA A E hE ((lo, .inr (3, [.int (nI j), .int (nI d), .int lq, .int lw, .int lh, .int lc, .int lr, .int ld])) :: R) kA (by first | assumption | omega | decide) q_1 cb_74 cc_75 2 0 cf_76 (by first | assumption | omega | decide) (by first | assumption | omega | decide) (by first | assumption | omega | decide)) (cwV 0 X.1.2.2.2.2 (lw_V q1743 q1335 q1336 q77 q1337) rfl rfl rfl (by decide +kernel) ⟨Nat.le_of_ble_eq_true rfl, Nat.le_of_ble_eq_true rfl⟩) (g_preV hE X.2 hw 0 rfl rfl) rfl rfl hl.1 rfl (lv_room (Nat.le_of_ble_eq_true rfl)) dX3_text_44 ⟨Nat.le_of_ble_eq_true rfl, Nat.le_of_ble_eq_true rfl⟩) hw.2.2 (fun q _ h => h) (fun q h => h) (fun u q_84 t H locs ht hvm h_83 hB hz9 hk9 hS => ?_)
    obtain ⟨sb_85, sf_86⟩ := u
    replace hw : gW D A ((q_84, .inr (17, [.ref sb_85, .int 0, .int 0, .int 0])) :: (sb_85, .inl (dA 2, 2, .inl sf_86)) :: (q_1, .inr (16, [.ref cb_74, .int 0, .int 0, .int 2])) :: (cb_74, .inl (dA 2, cc_75, .inl cf_76)) :: (lo, .inr (3, [.int (nI j), .int (nI d), .int lq, .int lw, .int lh, .int lc, .int lr, .int ld])) :: R) s H locs := g_aft ht hB hS
    clear hS hk9 hz9 hB hvm ht
    clear t
    have h_83 : gAsc sf_86 2 ∧ ∀ k, k < 2 → sf_86 k = cf_76 k := h_83
    refine W.widen (k := 8) (n := 900) (by first | exact Nat.le_of_ble_eq_true rfl | omega) (by first | exact Nat.le_of_ble_eq_true rfl | omega) ?_
    replace hw : gW D A ((q_84, .inr (17, [.ref sb_85, .int 0, .int 0, .int 0])) :: (sb_85, .inl (dA 2, 2, .inl sf_86)) :: (lo, .inr (3, [.int (nI j), .int (nI d), .int lq, .int lw, .int lh, .int lc, .int lr, .int ld])) :: R) s _ _ := g_perm (X := [(q_84, .inr (17, [.ref sb_85, .int 0, .int 0, .int 0])), (sb_85, .inl (dA 2, 2, .inl sf_86)), (q_1, .inr (16, [.ref cb_74, .int 0, .int 0, .int 2])), (cb_74, .inl (dA 2, cc_75, .inl cf_76)), (lo, .inr (3, [.int (nI j), .int (nI d), .int lq, .int lw, .int lh, .int lc, .int lr, .int ld]))]) (cx := [(q_84, .inr (17, [.ref sb_85, .int 0, .int 0, .int 0])), (sb_85, .inl (dA 2, 2, .inl sf_86)), (lo, .inr (3, [.int (nI j), .int (nI d), .int lq, .int lw, .int lh, .int lc, .int lr, .int ld]))]) (pl := R) hw [0, 1, 4] rfl rfl rfl rfl
    exact g_aret (sb_85, sf_86) X hw hr (Or.inl ⟨_, rfl⟩) hlocks (by exact ⟨h_83.1, fun k hk => (h_83.2 k hk).trans (hT_82 k hk)⟩) rfl dX3_text_47

set_option maxHeartbeats 4000000 in
theorem m_X8_text (l : Launch) (D : va_G) (dA : Nat → ClassId) (A : Nat → Prop) (E : State → Prop) (hE : gSt A E) (R : va_W) (kA : Nat → Nat) (hKE : gKE A E kA) (ky ka c0 c1 : Nat) (h0 : c0 < 10) (h1 : c1 < 10) (ku : Int32) (kf : gG) (co ca : Nat) (le ho cn : Int32) (df : gG)  : Met l yX8_text (ws_ yX8_text cX8_text 5 (Option.some (FieldType.object "java/lang/String"))) ({ frames := 9, cells := 24, slots := 6000, locals := 194 }) (va_Pc [.ref ky, .ref co] (gB D dA A E ((ky, .inr (8, [.int (nI c0), .int (nI c1), .ref ka, .int ku])) :: (ka, .inl (dA 0, 10, .inl kf)) :: (co, .inr (6, [.int le, .ref ca, .int ho, .int cn])) :: (ca, .inl (dA 0, 10, .inl df)) :: R))) (va_Qr (fun (u : Nat × Nat × gG) => u.2.1 = (if ku = 0 then 20 else 21) ∧ gAsc u.2.2 u.2.1 ∧ ∀ k, k < u.2.1 → u.2.2 k = cpT c0 c1 kf df k) (fun u a => gE D A ((a, .inr (17, [.ref u.1, .int 0, .int 0, .int 0])) :: (u.1, .inl (dA 2, u.2.1, .inl u.2.2)) :: (ky, .inr (8, [.int (nI c0), .int (nI c1), .ref ka, .int ku])) :: (ka, .inl (dA 0, 10, .inl kf)) :: (co, .inr (6, [.int le, .ref ca, .int ho, .int cn])) :: (ca, .inl (dA 0, 10, .inl df)) :: R)) A) (24) (6000) A := by
  refine g_start rfl rfl ?_
  intro p e s m args below meth c ls X hr hlocks hin hw hl
  have hx := X.1.1
  have hb := X.1.2.1
  have hl : lv_has ls 5 [(0, .ref ky), (1, .ref co)] := hl
  have hg13 := gLen_13
  have hg14 := gLen_14
  have hg15 := gLen_15
  have hg0 := gLen_0
  refine g_new (fs := [.null, .int 0, .int 0, .int 0]) X cfJ8 hw q1675 q346 q77 (fun j hj => by rcases (show j = 0 ∨ j = 1 ∨ j = 2 ∨ j = 3 by omega) with rfl | rfl | rfl | rfl <;> rfl) (Nat.le_of_ble_eq_true rfl) (Nat.le_of_ble_eq_true rfl) dX8_text_0 (fun q_1 H hw9 => ?_)
  replace hw := hw9
  clear hw9
  refine lv_dup hx hb dX8_text_3 rfl ?_
  refine g_ldcS X hKE 36 rfl rfl dX8_text_4 ?_
  refine va_callv (va_runI (As := [.ref (kA 13)]) (rest := [.ref q_1]) X.1 (m_J8_init_2 l D dA A E hE ((ky, .inr (8, [.int (nI c0), .int (nI c1), .ref ka, .int ku])) :: (ka, .inl (dA 0, 10, .inl kf)) :: (co, .inr (6, [.int le, .ref ca, .int ho, .int cn])) :: (ca, .inl (dA 0, 10, .inl df)) :: R) kA (by first | assumption | omega | decide) (kA 13) (kA (16 + 13)) (gLen 13) (gByt 13) (gTxt.k hKE (i := 13) (by first | decide | omega)) q_1 (by first | assumption | omega | decide)) (cwI 1 X.1.2.2.2.2 (lw_meth q1679) rfl rfl rfl (X.1.2.2.2.2 _ q77) (X.1.2.2.2.2 _ q1677) (X.1.2.2.2.2 _ q1678) rfl (by decide +kernel) ⟨Nat.le_of_ble_eq_true rfl, Nat.le_of_ble_eq_true rfl⟩) (g_preS hE X.2 hw) rfl rfl hl.1 rfl (lv_room (Nat.le_of_ble_eq_true rfl)) dX8_text_6 ⟨Nat.le_of_ble_eq_true rfl, Nat.le_of_ble_eq_true rfl⟩) hw.2.2 (fun q _ h => h) (fun q h => h) (fun u t H locs ht hvm h_2 hB hz9 hk9 hS => ?_)
  obtain ⟨cb_3, cc_4, cf_5⟩ := u
  replace hw : gW D A ((q_1, .inr (16, [.ref cb_3, .int 0, .int 0, .int (nI (gLen 13))])) :: (cb_3, .inl (dA 2, cc_4, .inl cf_5)) :: (ky, .inr (8, [.int (nI c0), .int (nI c1), .ref ka, .int ku])) :: (ka, .inl (dA 0, 10, .inl kf)) :: (co, .inr (6, [.int le, .ref ca, .int ho, .int cn])) :: (ca, .inl (dA 0, 10, .inl df)) :: R) s H locs := g_aft ht hB hS
  clear hS hk9 hz9 hB hvm ht
  clear t
  have h_2 : (gLen 13) ≤ cc_4 ∧ cc_4 ≤ 262 ∧ gAsc cf_5 cc_4 ∧ ∀ k, k < (gLen 13) → cf_5 k = (gByt 13) k := h_2
  obtain ⟨ta_6, tb_7, tc_8, td_9⟩ := h_2
  have hT_10 : ∀ k, k < 5 → cf_5 k = (cpT c0 c1 kf df) k := fun k hk => (td_9 k hk).trans (cpT_a hk).symm
  replace hw : gW D A ((q_1, .inr (16, [.ref cb_3, .int 0, .int 0, .int 5])) :: (cb_3, .inl (dA 2, cc_4, .inl cf_5)) :: (ky, .inr (8, [.int (nI c0), .int (nI c1), .ref ka, .int ku])) :: (ka, .inl (dA 0, 10, .inl kf)) :: (co, .inr (6, [.int le, .ref ca, .int ho, .int cn])) :: (ca, .inl (dA 0, 10, .inl df)) :: R) s _ _ := hw
  refine lv_aload_n hx hb dX8_text_9 rfl (lv_at hl 0 rfl) ?_
  refine g_get X cfX8 hw 2 0 rfl rfl q666 rfl rfl dX8_text_10 ?_
  refine va_callr (va_runV (As := [.int (nI c0)]) (rest := []) X.1 (m_J8_append_4 l D dA A E hE ((ky, .inr (8, [.int (nI c0), .int (nI c1), .ref ka, .int ku])) :: (ka, .inl (dA 0, 10, .inl kf)) :: (co, .inr (6, [.int le, .ref ca, .int ho, .int cn])) :: (ca, .inl (dA 0, 10, .inl df)) :: R) kA (by first | assumption | omega | decide) q_1 cb_3 cc_4 5 0 cf_5 (by first | assumption | omega | decide) (by first | assumption | omega | decide) (by first | assumption | omega | decide) c0 (by first | assumption | omega | decide) (by first | assumption | omega | decide)) (cwV 1 X.1.2.2.2.2 (lw_V q1688 q1689 q1690 q77 q1691) rfl rfl rfl (by decide +kernel) ⟨Nat.le_of_ble_eq_true rfl, Nat.le_of_ble_eq_true rfl⟩) (g_preV hE X.2 hw 0 rfl rfl) rfl rfl hl.1 rfl (lv_room (Nat.le_of_ble_eq_true rfl)) dX8_text_13 ⟨Nat.le_of_ble_eq_true rfl, Nat.le_of_ble_eq_true rfl⟩) hw.2.2 (fun q _ h => h) (fun q h => h) (fun u q_12 t H locs ht hvm h_11 hB hz9 hk9 hS => ?_)
  obtain ⟨cb_13, cc_14, cf_15⟩ := u
  obtain ⟨er_q_12, hB⟩ := hB
  obtain rfl := er_q_12.symm
  replace hw : gW D A ((q_1, .inr (16, [.ref cb_13, .int 0, .int 0, .int (nI (5 + 1))])) :: (cb_13, .inl (dA 2, cc_14, .inl cf_15)) :: (ky, .inr (8, [.int (nI c0), .int (nI c1), .ref ka, .int ku])) :: (ka, .inl (dA 0, 10, .inl kf)) :: (co, .inr (6, [.int le, .ref ca, .int ho, .int cn])) :: (ca, .inl (dA 0, 10, .inl df)) :: R) s H locs := g_aft ht hB hS
  clear hS hk9 hz9 hB hvm ht
  clear t
  have h_11 : 5 + 1 ≤ cc_14 ∧ cc_14 ≤ 262 ∧ gAsc cf_15 cc_14 ∧ (∀ k, k < 5 → cf_15 k = cf_5 k) ∧ cf_15 5 = nI (48 + c0) := h_11
  obtain ⟨ta_16, tb_17, tc_18, td_19, te_20⟩ := h_11
  have hT_21 : ∀ k, k < 6 → cf_15 k = (cpT c0 c1 kf df) k := tx_one hT_10 td_19 (te_20.trans (rfl)) rfl
  replace hw : gW D A ((q_1, .inr (16, [.ref cb_13, .int 0, .int 0, .int 6])) :: (cb_13, .inl (dA 2, cc_14, .inl cf_15)) :: (ky, .inr (8, [.int (nI c0), .int (nI c1), .ref ka, .int ku])) :: (ka, .inl (dA 0, 10, .inl kf)) :: (co, .inr (6, [.int le, .ref ca, .int ho, .int cn])) :: (ca, .inl (dA 0, 10, .inl df)) :: R) s _ _ := hw
  refine lv_bipush (v := 47) hx hb dX8_text_16 (by decide) ?_
  refine va_callr (va_runV (As := [.int 47]) (rest := []) X.1 (m_J8_append l D dA A E hE ((ky, .inr (8, [.int (nI c0), .int (nI c1), .ref ka, .int ku])) :: (ka, .inl (dA 0, 10, .inl kf)) :: (co, .inr (6, [.int le, .ref ca, .int ho, .int cn])) :: (ca, .inl (dA 0, 10, .inl df)) :: R) kA (by first | assumption | omega | decide) q_1 cb_13 cc_14 6 0 cf_15 (by first | assumption | omega | decide) (by first | assumption | omega | decide) (by first | assumption | omega | decide) 47 (by first | assumption | omega | decide) (by first | assumption | omega | decide)) (cwV 1 X.1.2.2.2.2 (lw_V q1713 q1095 q1096 q77 q1097) rfl rfl rfl (by decide +kernel) ⟨Nat.le_of_ble_eq_true rfl, Nat.le_of_ble_eq_true rfl⟩) (g_preV hE X.2 hw 0 rfl rfl) rfl rfl hl.1 rfl (lv_room (Nat.le_of_ble_eq_true rfl)) dX8_text_18 ⟨Nat.le_of_ble_eq_true rfl, Nat.le_of_ble_eq_true rfl⟩) hw.2.2 (fun q _ h => h) (fun q h => h) (fun u q_23 t H locs ht hvm h_22 hB hz9 hk9 hS => ?_)
  obtain ⟨cb_24, cc_25, cf_26⟩ := u
  obtain ⟨er_q_23, hB⟩ := hB
  obtain rfl := er_q_23.symm
  replace hw : gW D A ((q_1, .inr (16, [.ref cb_24, .int 0, .int 0, .int (nI (6 + 1))])) :: (cb_24, .inl (dA 2, cc_25, .inl cf_26)) :: (ky, .inr (8, [.int (nI c0), .int (nI c1), .ref ka, .int ku])) :: (ka, .inl (dA 0, 10, .inl kf)) :: (co, .inr (6, [.int le, .ref ca, .int ho, .int cn])) :: (ca, .inl (dA 0, 10, .inl df)) :: R) s H locs := g_aft ht hB hS
  clear hS hk9 hz9 hB hvm ht
  clear t
  have h_22 : 6 + 1 ≤ cc_25 ∧ cc_25 ≤ 262 ∧ gAsc cf_26 cc_25 ∧ (∀ k, k < 6 → cf_26 k = cf_15 k) ∧ cf_26 6 = nI 47 := h_22
  obtain ⟨ta_27, tb_28, tc_29, td_30, te_31⟩ := h_22
  have hT_32 : ∀ k, k < 7 → cf_26 k = (cpT c0 c1 kf df) k := tx_one hT_21 td_30 (te_31.trans (rfl)) rfl
  replace hw : gW D A ((q_1, .inr (16, [.ref cb_24, .int 0, .int 0, .int 7])) :: (cb_24, .inl (dA 2, cc_25, .inl cf_26)) :: (ky, .inr (8, [.int (nI c0), .int (nI c1), .ref ka, .int ku])) :: (ka, .inl (dA 0, 10, .inl kf)) :: (co, .inr (6, [.int le, .ref ca, .int ho, .int cn])) :: (ca, .inl (dA 0, 10, .inl df)) :: R) s _ _ := hw
  refine lv_aload_n hx hb dX8_text_21 rfl (lv_at hl 0 rfl) ?_
  refine g_get X cfX8 hw 2 1 rfl rfl q667 rfl rfl dX8_text_22 ?_
  refine va_callr (va_runV (As := [.int (nI c1)]) (rest := []) X.1 (m_J8_append_4 l D dA A E hE ((ky, .inr (8, [.int (nI c0), .int (nI c1), .ref ka, .int ku])) :: (ka, .inl (dA 0, 10, .inl kf)) :: (co, .inr (6, [.int le, .ref ca, .int ho, .int cn])) :: (ca, .inl (dA 0, 10, .inl df)) :: R) kA (by first | assumption | omega | decide) q_1 cb_24 cc_25 7 0 cf_26 (by first | assumption | omega | decide) (by first | assumption | omega | decide) (by first | assumption | omega | decide) c1 (by first | assumption | omega | decide) (by first | assumption | omega | decide)) (cwV 1 X.1.2.2.2.2 (lw_V q1688 q1689 q1690 q77 q1691) rfl rfl rfl (by decide +kernel) ⟨Nat.le_of_ble_eq_true rfl, Nat.le_of_ble_eq_true rfl⟩) (g_preV hE X.2 hw 0 rfl rfl) rfl rfl hl.1 rfl (lv_room (Nat.le_of_ble_eq_true rfl)) dX8_text_25 ⟨Nat.le_of_ble_eq_true rfl, Nat.le_of_ble_eq_true rfl⟩) hw.2.2 (fun q _ h => h) (fun q h => h) (fun u q_34 t H locs ht hvm h_33 hB hz9 hk9 hS => ?_)
  obtain ⟨cb_35, cc_36, cf_37⟩ := u
  obtain ⟨er_q_34, hB⟩ := hB
  obtain rfl := er_q_34.symm
  replace hw : gW D A ((q_1, .inr (16, [.ref cb_35, .int 0, .int 0, .int (nI (7 + 1))])) :: (cb_35, .inl (dA 2, cc_36, .inl cf_37)) :: (ky, .inr (8, [.int (nI c0), .int (nI c1), .ref ka, .int ku])) :: (ka, .inl (dA 0, 10, .inl kf)) :: (co, .inr (6, [.int le, .ref ca, .int ho, .int cn])) :: (ca, .inl (dA 0, 10, .inl df)) :: R) s H locs := g_aft ht hB hS
  clear hS hk9 hz9 hB hvm ht
  clear t
  have h_33 : 7 + 1 ≤ cc_36 ∧ cc_36 ≤ 262 ∧ gAsc cf_37 cc_36 ∧ (∀ k, k < 7 → cf_37 k = cf_26 k) ∧ cf_37 7 = nI (48 + c1) := h_33
  obtain ⟨ta_38, tb_39, tc_40, td_41, te_42⟩ := h_33
  have hT_43 : ∀ k, k < 8 → cf_37 k = (cpT c0 c1 kf df) k := tx_one hT_32 td_41 (te_42.trans (rfl)) rfl
  replace hw : gW D A ((q_1, .inr (16, [.ref cb_35, .int 0, .int 0, .int 8])) :: (cb_35, .inl (dA 2, cc_36, .inl cf_37)) :: (ky, .inr (8, [.int (nI c0), .int (nI c1), .ref ka, .int ku])) :: (ka, .inl (dA 0, 10, .inl kf)) :: (co, .inr (6, [.int le, .ref ca, .int ho, .int cn])) :: (ca, .inl (dA 0, 10, .inl df)) :: R) s _ _ := hw
  refine g_ldcS X hKE 37 rfl rfl dX8_text_28 ?_
  refine va_callr (va_runV (As := [.ref (kA 14)]) (rest := []) X.1 (m_J8_append_2 l D dA A E hE ((ky, .inr (8, [.int (nI c0), .int (nI c1), .ref ka, .int ku])) :: (ka, .inl (dA 0, 10, .inl kf)) :: (co, .inr (6, [.int le, .ref ca, .int ho, .int cn])) :: (ca, .inl (dA 0, 10, .inl df)) :: R) kA (by first | assumption | omega | decide) (kA 14) (kA (16 + 14)) (gLen 14) (gByt 14) (gTxt.k hKE (i := 14) (by first | decide | omega)) q_1 cb_35 cc_36 8 0 cf_37 (by first | assumption | omega | decide) (by first | assumption | omega | decide) (by first | assumption | omega | decide) (by first | assumption | omega | decide)) (cwV 1 X.1.2.2.2.2 (lw_V q1715 q1295 q1296 q77 q1297) rfl rfl rfl (by decide +kernel) ⟨Nat.le_of_ble_eq_true rfl, Nat.le_of_ble_eq_true rfl⟩) (g_preV hE X.2 hw 0 rfl rfl) rfl rfl hl.1 rfl (lv_room (Nat.le_of_ble_eq_true rfl)) dX8_text_30 ⟨Nat.le_of_ble_eq_true rfl, Nat.le_of_ble_eq_true rfl⟩) hw.2.2 (fun q _ h => h) (fun q h => h) (fun u q_45 t H locs ht hvm h_44 hB hz9 hk9 hS => ?_)
  obtain ⟨cb_46, cc_47, cf_48⟩ := u
  obtain ⟨er_q_45, hB⟩ := hB
  obtain rfl := er_q_45.symm
  replace hw : gW D A ((q_1, .inr (16, [.ref cb_46, .int 0, .int 0, .int (nI (8 + (gLen 14)))])) :: (cb_46, .inl (dA 2, cc_47, .inl cf_48)) :: (ky, .inr (8, [.int (nI c0), .int (nI c1), .ref ka, .int ku])) :: (ka, .inl (dA 0, 10, .inl kf)) :: (co, .inr (6, [.int le, .ref ca, .int ho, .int cn])) :: (ca, .inl (dA 0, 10, .inl df)) :: R) s H locs := g_aft ht hB hS
  clear hS hk9 hz9 hB hvm ht
  clear t
  have h_44 : 8 + (gLen 14) ≤ cc_47 ∧ cc_47 ≤ 262 ∧ gAsc cf_48 cc_47 ∧ (∀ k, k < 8 → cf_48 k = cf_37 k) ∧ ∀ k, k < (gLen 14) → cf_48 (8 + k) = (gByt 14) k := h_44
  obtain ⟨ta_49, tb_50, tc_51, td_52, te_53⟩ := h_44
  have hP_55 : ∀ k, k < 2 → (gByt 14) k = (cpT c0 c1 kf df) (8 + k) := by
    intro k hk
    exact (cpT_b hk).symm
  have hT_54 : ∀ k, k < 10 → cf_48 k = (cpT c0 c1 kf df) k := tx_app (n := 8) (q := 2) hT_43 td_52 (fun k hk => (te_53 k hk).trans (hP_55 k hk)) rfl
  replace hw : gW D A ((q_1, .inr (16, [.ref cb_46, .int 0, .int 0, .int 10])) :: (cb_46, .inl (dA 2, cc_47, .inl cf_48)) :: (ky, .inr (8, [.int (nI c0), .int (nI c1), .ref ka, .int ku])) :: (ka, .inl (dA 0, 10, .inl kf)) :: (co, .inr (6, [.int le, .ref ca, .int ho, .int cn])) :: (ca, .inl (dA 0, 10, .inl df)) :: R) s _ _ := hw
  refine lv_astore_n (lv' := [(2, .ref q_1), (0, .ref ky), (1, .ref co)]) hx hb dX8_text_33 rfl hl (by decide) rfl (fun ls hl9 => ?_)
  replace hl := hl9
  clear hl9
  refine lv_iconst (v := 0) hx hb dX8_text_34 (by decide) ?_
  refine lv_istore_n (lv' := [(3, .int 0), (2, .ref q_1), (0, .ref ky), (1, .ref co)]) hx hb dX8_text_35 rfl hl (by decide) rfl (fun ls hl9 => ?_)
  replace hl := hl9
  clear hl9
  have loop_56 : ∀ (fuel : Nat) (i cb cc : Nat) (cf : gG), ∀ (hi : i ≤ 10), ∀ (hcc1 : 10 + i ≤ cc), ∀ (hcc2 : cc ≤ 262), ∀ (hcf : gAsc cf cc), ∀ (hcT : ∀ k, k < 10 + i → cf k = cpT c0 c1 kf df k), (10 - i) < fuel → ∀ (H : Heap) (locs : List Loc) (hw : gW D A ((q_1, .inr (16, [.ref cb, .int 0, .int 0, .int (nI (10 + i))])) :: (cb, .inl (dA 2, cc, .inl cf)) :: (ky, .inr (8, [.int (nI c0), .int (nI c1), .ref ka, .int ku])) :: (ka, .inl (dA 0, 10, .inl kf)) :: (co, .inr (6, [.int le, .ref ca, .int ho, .int cn])) :: (ca, .inl (dA 0, 10, .inl df)) :: R) s H locs) (ls : Array Slot) (hl : lv_has ls 5 [(3, .int (nI i)), (2, .ref q_1), (0, .ref ky), (1, .ref co)]), W p l e ({ frames := 9, cells := 24, slots := 6000, locals := 194 }) s m args below meth c H locs (7 + i) (1452 + 262 * i) (MQ below (va_Qr (fun (u : Nat × Nat × gG) => u.2.1 = (if ku = 0 then 20 else 21) ∧ gAsc u.2.2 u.2.1 ∧ ∀ k, k < u.2.1 → u.2.2 k = cpT c0 c1 kf df k) (fun u a => gE D A ((a, .inr (17, [.ref u.1, .int 0, .int 0, .int 0])) :: (u.1, .inl (dA 2, u.2.1, .inl u.2.2)) :: (ky, .inr (8, [.int (nI c0), .int (nI c1), .ref ka, .int ku])) :: (ka, .inl (dA 0, 10, .inl kf)) :: (co, .inr (6, [.int le, .ref ca, .int ho, .int cn])) :: (ca, .inl (dA 0, 10, .inl df)) :: R)) A) args s (24) (6000) A) (F0 m 36 ls []) := by
    clear hw hl
    intro fuel
    induction fuel with
    | zero => intro i cb cc cf hi hcc1 hcc2 hcf hcT hf; exact absurd hf (Nat.not_lt_zero _)
    | succ fuel ih_loop_56 =>
      intro i cb cc cf hi hcc1 hcc2 hcf hcT hfuel_loop_56 H locs hw ls hl
      refine lv_iload_n hx hb dX8_text_36 rfl (lv_at hl 0 rfl) ?_
      refine lv_bipush (v := 10) hx hb dX8_text_37 (by decide) ?_
      refine lv_icmp_ge (tgt := 96) hx hb dX8_text_39 (by decide) (fun c_57 => ?_) (fun c_57 => ?_)
      · skip
        have c_57 := Int32.not_lt.mpr c_57
        have c_57 : ¬ (i < 10) := fun q => c_57 ((nI_ltI (a := i) (b := 10) (by omega) (by omega)).mpr q)
        obtain rfl : i = 10 := by omega
        replace hw : gW D A ((q_1, .inr (16, [.ref cb, .int 0, .int 0, .int 20])) :: (cb, .inl (dA 2, cc, .inl cf)) :: (ky, .inr (8, [.int (nI c0), .int (nI c1), .ref ka, .int ku])) :: (ka, .inl (dA 0, 10, .inl kf)) :: (co, .inr (6, [.int le, .ref ca, .int ho, .int cn])) :: (ca, .inl (dA 0, 10, .inl df)) :: R) s _ _ := hw
        refine lv_aload_n hx hb dX8_text_96 rfl (lv_at hl 1 rfl) ?_
        refine lv_aload_n hx hb dX8_text_97 rfl (lv_at hl 2 rfl) ?_
        refine g_get X cfX8 hw 2 3 rfl rfl q672 rfl rfl dX8_text_98 ?_
        refine lv_if_eq (tgt := 109) hx hb dX8_text_101 (by decide) (fun c_58 => ?_) (fun c_58 => ?_)
        · skip
          refine g_ldcS X hKE 39 rfl rfl dX8_text_109 ?_
          refine va_callr (va_runV (As := [.ref (kA 0)]) (rest := []) X.1 (m_J8_append_2 l D dA A E hE ((ky, .inr (8, [.int (nI c0), .int (nI c1), .ref ka, .int ku])) :: (ka, .inl (dA 0, 10, .inl kf)) :: (co, .inr (6, [.int le, .ref ca, .int ho, .int cn])) :: (ca, .inl (dA 0, 10, .inl df)) :: R) kA (by first | assumption | omega | decide) (kA 0) (kA (16 + 0)) (gLen 0) (gByt 0) (gTxt.k hKE (i := 0) (by first | decide | omega)) q_1 cb cc 20 0 cf (by first | assumption | omega | decide) (by first | assumption | omega | decide) (by first | assumption | omega | decide) (by first | assumption | omega | decide)) (cwV 1 X.1.2.2.2.2 (lw_V q1715 q1295 q1296 q77 q1297) rfl rfl rfl (by decide +kernel) ⟨Nat.le_of_ble_eq_true rfl, Nat.le_of_ble_eq_true rfl⟩) (g_preV hE X.2 hw 0 rfl rfl) rfl rfl hl.1 rfl (lv_room (Nat.le_of_ble_eq_true rfl)) dX8_text_111 ⟨by dsimp only; omega, by dsimp only; omega⟩) hw.2.2 (fun q _ h => h) (fun q h => h) (fun u q_60 t H locs ht hvm h_59 hB hz9 hk9 hS => ?_)
          obtain ⟨cb_61, cc_62, cf_63⟩ := u
          obtain ⟨er_q_60, hB⟩ := hB
          obtain rfl := er_q_60.symm
          replace hw : gW D A ((q_1, .inr (16, [.ref cb_61, .int 0, .int 0, .int (nI (20 + (gLen 0)))])) :: (cb_61, .inl (dA 2, cc_62, .inl cf_63)) :: (ky, .inr (8, [.int (nI c0), .int (nI c1), .ref ka, .int ku])) :: (ka, .inl (dA 0, 10, .inl kf)) :: (co, .inr (6, [.int le, .ref ca, .int ho, .int cn])) :: (ca, .inl (dA 0, 10, .inl df)) :: R) s H locs := g_aft ht hB hS
          clear hS hk9 hz9 hB hvm ht
          clear t
          have h_59 : 20 + (gLen 0) ≤ cc_62 ∧ cc_62 ≤ 262 ∧ gAsc cf_63 cc_62 ∧ (∀ k, k < 20 → cf_63 k = cf k) ∧ ∀ k, k < (gLen 0) → cf_63 (20 + k) = (gByt 0) k := h_59
          obtain ⟨ta_64, tb_65, tc_66, td_67, te_68⟩ := h_59
          have hP_70 : ∀ k, k < 0 → (gByt 0) k = (cpT c0 c1 kf df) (20 + k) := by
            intro k hk
            exact absurd hk (Nat.not_lt_zero k)
          have hT_69 : ∀ k, k < 20 → cf_63 k = (cpT c0 c1 kf df) k := tx_app (n := 20) (q := 0) hcT td_67 (fun k hk => (te_68 k hk).trans (hP_70 k hk)) rfl
          replace hw : gW D A ((q_1, .inr (16, [.ref cb_61, .int 0, .int 0, .int 20])) :: (cb_61, .inl (dA 2, cc_62, .inl cf_63)) :: (ky, .inr (8, [.int (nI c0), .int (nI c1), .ref ka, .int ku])) :: (ka, .inl (dA 0, 10, .inl kf)) :: (co, .inr (6, [.int le, .ref ca, .int ho, .int cn])) :: (ca, .inl (dA 0, 10, .inl df)) :: R) s _ _ := hw
          refine va_callr (va_runV (As := []) (rest := []) X.1 (m_J8_toString l D dA A E hE ((ky, .inr (8, [.int (nI c0), .int (nI c1), .ref ka, .int ku])) :: (ka, .inl (dA 0, 10, .inl kf)) :: (co, .inr (6, [.int le, .ref ca, .int ho, .int cn])) :: (ca, .inl (dA 0, 10, .inl df)) :: R) kA (by first | assumption | omega | decide) q_1 cb_61 cc_62 20 0 cf_63 (by first | assumption | omega | decide) (by first | assumption | omega | decide) (by first | assumption | omega | decide)) (cwV 0 X.1.2.2.2.2 (lw_V q1718 q1335 q1336 q77 q1337) rfl rfl rfl (by decide +kernel) ⟨Nat.le_of_ble_eq_true rfl, Nat.le_of_ble_eq_true rfl⟩) (g_preV hE X.2 hw 0 rfl rfl) rfl rfl hl.1 rfl (lv_room (Nat.le_of_ble_eq_true rfl)) dX8_text_114 ⟨by dsimp only; omega, by dsimp only; omega⟩) hw.2.2 (fun q _ h => h) (fun q h => h) (fun u q_72 t H locs ht hvm h_71 hB hz9 hk9 hS => ?_)
          obtain ⟨sb_73, sf_74⟩ := u
          replace hw : gW D A ((q_72, .inr (17, [.ref sb_73, .int 0, .int 0, .int 0])) :: (sb_73, .inl (dA 2, 20, .inl sf_74)) :: (q_1, .inr (16, [.ref cb_61, .int 0, .int 0, .int 20])) :: (cb_61, .inl (dA 2, cc_62, .inl cf_63)) :: (ky, .inr (8, [.int (nI c0), .int (nI c1), .ref ka, .int ku])) :: (ka, .inl (dA 0, 10, .inl kf)) :: (co, .inr (6, [.int le, .ref ca, .int ho, .int cn])) :: (ca, .inl (dA 0, 10, .inl df)) :: R) s H locs := g_aft ht hB hS
          clear hS hk9 hz9 hB hvm ht
          clear t
          have h_71 : gAsc sf_74 20 ∧ ∀ k, k < 20 → sf_74 k = cf_63 k := h_71
          refine W.widen (k := 24) (n := 6000) (by first | exact Nat.le_of_ble_eq_true rfl | omega) (by first | exact Nat.le_of_ble_eq_true rfl | omega) ?_
          replace hw : gW D A ((q_72, .inr (17, [.ref sb_73, .int 0, .int 0, .int 0])) :: (sb_73, .inl (dA 2, 20, .inl sf_74)) :: (ky, .inr (8, [.int (nI c0), .int (nI c1), .ref ka, .int ku])) :: (ka, .inl (dA 0, 10, .inl kf)) :: (co, .inr (6, [.int le, .ref ca, .int ho, .int cn])) :: (ca, .inl (dA 0, 10, .inl df)) :: R) s _ _ := g_perm (X := [(q_72, .inr (17, [.ref sb_73, .int 0, .int 0, .int 0])), (sb_73, .inl (dA 2, 20, .inl sf_74)), (q_1, .inr (16, [.ref cb_61, .int 0, .int 0, .int 20])), (cb_61, .inl (dA 2, cc_62, .inl cf_63)), (ky, .inr (8, [.int (nI c0), .int (nI c1), .ref ka, .int ku])), (ka, .inl (dA 0, 10, .inl kf)), (co, .inr (6, [.int le, .ref ca, .int ho, .int cn])), (ca, .inl (dA 0, 10, .inl df))]) (cx := [(q_72, .inr (17, [.ref sb_73, .int 0, .int 0, .int 0])), (sb_73, .inl (dA 2, 20, .inl sf_74)), (ky, .inr (8, [.int (nI c0), .int (nI c1), .ref ka, .int ku])), (ka, .inl (dA 0, 10, .inl kf)), (co, .inr (6, [.int le, .ref ca, .int ho, .int cn])), (ca, .inl (dA 0, 10, .inl df))]) (pl := R) hw [0, 1, 4, 5, 6, 7] rfl rfl rfl rfl
          exact g_aret (sb_73, 20, sf_74) X hw hr (Or.inl ⟨_, rfl⟩) hlocks (by exact ⟨by simp [c_58], h_71.1, fun k hk => (h_71.2 k hk).trans (hT_69 k hk)⟩) rfl dX8_text_117
        · skip
          refine g_ldcS X hKE 38 rfl rfl dX8_text_104 ?_
          refine lv_goto (tgt := 111) hx hb dX8_text_106 (by decide) ?_
          refine va_callr (va_runV (As := [.ref (kA 15)]) (rest := []) X.1 (m_J8_append_2 l D dA A E hE ((ky, .inr (8, [.int (nI c0), .int (nI c1), .ref ka, .int ku])) :: (ka, .inl (dA 0, 10, .inl kf)) :: (co, .inr (6, [.int le, .ref ca, .int ho, .int cn])) :: (ca, .inl (dA 0, 10, .inl df)) :: R) kA (by first | assumption | omega | decide) (kA 15) (kA (16 + 15)) (gLen 15) (gByt 15) (gTxt.k hKE (i := 15) (by first | decide | omega)) q_1 cb cc 20 0 cf (by first | assumption | omega | decide) (by first | assumption | omega | decide) (by first | assumption | omega | decide) (by first | assumption | omega | decide)) (cwV 1 X.1.2.2.2.2 (lw_V q1715 q1295 q1296 q77 q1297) rfl rfl rfl (by decide +kernel) ⟨Nat.le_of_ble_eq_true rfl, Nat.le_of_ble_eq_true rfl⟩) (g_preV hE X.2 hw 0 rfl rfl) rfl rfl hl.1 rfl (lv_room (Nat.le_of_ble_eq_true rfl)) dX8_text_111 ⟨by dsimp only; omega, by dsimp only; omega⟩) hw.2.2 (fun q _ h => h) (fun q h => h) (fun u q_76 t H locs ht hvm h_75 hB hz9 hk9 hS => ?_)
          obtain ⟨cb_77, cc_78, cf_79⟩ := u
          obtain ⟨er_q_76, hB⟩ := hB
          obtain rfl := er_q_76.symm
          replace hw : gW D A ((q_1, .inr (16, [.ref cb_77, .int 0, .int 0, .int (nI (20 + (gLen 15)))])) :: (cb_77, .inl (dA 2, cc_78, .inl cf_79)) :: (ky, .inr (8, [.int (nI c0), .int (nI c1), .ref ka, .int ku])) :: (ka, .inl (dA 0, 10, .inl kf)) :: (co, .inr (6, [.int le, .ref ca, .int ho, .int cn])) :: (ca, .inl (dA 0, 10, .inl df)) :: R) s H locs := g_aft ht hB hS
          clear hS hk9 hz9 hB hvm ht
          clear t
          have h_75 : 20 + (gLen 15) ≤ cc_78 ∧ cc_78 ≤ 262 ∧ gAsc cf_79 cc_78 ∧ (∀ k, k < 20 → cf_79 k = cf k) ∧ ∀ k, k < (gLen 15) → cf_79 (20 + k) = (gByt 15) k := h_75
          obtain ⟨ta_80, tb_81, tc_82, td_83, te_84⟩ := h_75
          have hP_86 : ∀ k, k < 1 → (gByt 15) k = (cpT c0 c1 kf df) (20 + k) := by
            intro k hk
            obtain rfl : k = 0 := by omega
            rfl
          have hT_85 : ∀ k, k < 21 → cf_79 k = (cpT c0 c1 kf df) k := tx_app (n := 20) (q := 1) hcT td_83 (fun k hk => (te_84 k hk).trans (hP_86 k hk)) rfl
          replace hw : gW D A ((q_1, .inr (16, [.ref cb_77, .int 0, .int 0, .int 21])) :: (cb_77, .inl (dA 2, cc_78, .inl cf_79)) :: (ky, .inr (8, [.int (nI c0), .int (nI c1), .ref ka, .int ku])) :: (ka, .inl (dA 0, 10, .inl kf)) :: (co, .inr (6, [.int le, .ref ca, .int ho, .int cn])) :: (ca, .inl (dA 0, 10, .inl df)) :: R) s _ _ := hw
          refine va_callr (va_runV (As := []) (rest := []) X.1 (m_J8_toString l D dA A E hE ((ky, .inr (8, [.int (nI c0), .int (nI c1), .ref ka, .int ku])) :: (ka, .inl (dA 0, 10, .inl kf)) :: (co, .inr (6, [.int le, .ref ca, .int ho, .int cn])) :: (ca, .inl (dA 0, 10, .inl df)) :: R) kA (by first | assumption | omega | decide) q_1 cb_77 cc_78 21 0 cf_79 (by first | assumption | omega | decide) (by first | assumption | omega | decide) (by first | assumption | omega | decide)) (cwV 0 X.1.2.2.2.2 (lw_V q1718 q1335 q1336 q77 q1337) rfl rfl rfl (by decide +kernel) ⟨Nat.le_of_ble_eq_true rfl, Nat.le_of_ble_eq_true rfl⟩) (g_preV hE X.2 hw 0 rfl rfl) rfl rfl hl.1 rfl (lv_room (Nat.le_of_ble_eq_true rfl)) dX8_text_114 ⟨by dsimp only; omega, by dsimp only; omega⟩) hw.2.2 (fun q _ h => h) (fun q h => h) (fun u q_88 t H locs ht hvm h_87 hB hz9 hk9 hS => ?_)
          obtain ⟨sb_89, sf_90⟩ := u
          replace hw : gW D A ((q_88, .inr (17, [.ref sb_89, .int 0, .int 0, .int 0])) :: (sb_89, .inl (dA 2, 21, .inl sf_90)) :: (q_1, .inr (16, [.ref cb_77, .int 0, .int 0, .int 21])) :: (cb_77, .inl (dA 2, cc_78, .inl cf_79)) :: (ky, .inr (8, [.int (nI c0), .int (nI c1), .ref ka, .int ku])) :: (ka, .inl (dA 0, 10, .inl kf)) :: (co, .inr (6, [.int le, .ref ca, .int ho, .int cn])) :: (ca, .inl (dA 0, 10, .inl df)) :: R) s H locs := g_aft ht hB hS
          clear hS hk9 hz9 hB hvm ht
          clear t
          have h_87 : gAsc sf_90 21 ∧ ∀ k, k < 21 → sf_90 k = cf_79 k := h_87
          refine W.widen (k := 24) (n := 6000) (by first | exact Nat.le_of_ble_eq_true rfl | omega) (by first | exact Nat.le_of_ble_eq_true rfl | omega) ?_
          replace hw : gW D A ((q_88, .inr (17, [.ref sb_89, .int 0, .int 0, .int 0])) :: (sb_89, .inl (dA 2, 21, .inl sf_90)) :: (ky, .inr (8, [.int (nI c0), .int (nI c1), .ref ka, .int ku])) :: (ka, .inl (dA 0, 10, .inl kf)) :: (co, .inr (6, [.int le, .ref ca, .int ho, .int cn])) :: (ca, .inl (dA 0, 10, .inl df)) :: R) s _ _ := g_perm (X := [(q_88, .inr (17, [.ref sb_89, .int 0, .int 0, .int 0])), (sb_89, .inl (dA 2, 21, .inl sf_90)), (q_1, .inr (16, [.ref cb_77, .int 0, .int 0, .int 21])), (cb_77, .inl (dA 2, cc_78, .inl cf_79)), (ky, .inr (8, [.int (nI c0), .int (nI c1), .ref ka, .int ku])), (ka, .inl (dA 0, 10, .inl kf)), (co, .inr (6, [.int le, .ref ca, .int ho, .int cn])), (ca, .inl (dA 0, 10, .inl df))]) (cx := [(q_88, .inr (17, [.ref sb_89, .int 0, .int 0, .int 0])), (sb_89, .inl (dA 2, 21, .inl sf_90)), (ky, .inr (8, [.int (nI c0), .int (nI c1), .ref ka, .int ku])), (ka, .inl (dA 0, 10, .inl kf)), (co, .inr (6, [.int le, .ref ca, .int ho, .int cn])), (ca, .inl (dA 0, 10, .inl df))]) (pl := R) hw [0, 1, 4, 5, 6, 7] rfl rfl rfl rfl
          exact g_aret (sb_89, 21, sf_90) X hw hr (Or.inl ⟨_, rfl⟩) hlocks (by exact ⟨by simp [c_58], h_87.1, fun k hk => (h_87.2 k hk).trans (hT_85 k hk)⟩) rfl dX8_text_117
      · skip
        have c_57 := Int32.not_le.mp c_57
        have c_57 : i < 10 := (nI_ltI (a := i) (b := 10) (by omega) (by omega)).mp c_57
        refine lv_aload_n hx hb dX8_text_42 rfl (lv_at hl 2 rfl) ?_
        refine lv_aload_n hx hb dX8_text_43 rfl (lv_at hl 3 rfl) ?_
        refine lv_iload_n hx hb dX8_text_44 rfl (lv_at hl 0 rfl) ?_
        replace hw : gW D A ((ky, .inr (8, [.int (nI c0), .int (nI c1), .ref ka, .int ku])) :: (ka, .inl (dA 0, 10, .inl kf)) :: (co, .inr (6, [.int le, .ref ca, .int ho, .int cn])) :: (ca, .inl (dA 0, 10, .inl df)) :: (q_1, .inr (16, [.ref cb, .int 0, .int 0, .int (nI (10 + i))])) :: (cb, .inl (dA 2, cc, .inl cf)) :: R) s _ _ := g_perm (X := [(q_1, .inr (16, [.ref cb, .int 0, .int 0, .int (nI (10 + i))])), (cb, .inl (dA 2, cc, .inl cf)), (ky, .inr (8, [.int (nI c0), .int (nI c1), .ref ka, .int ku])), (ka, .inl (dA 0, 10, .inl kf)), (co, .inr (6, [.int le, .ref ca, .int ho, .int cn])), (ca, .inl (dA 0, 10, .inl df))]) (cx := [(ky, .inr (8, [.int (nI c0), .int (nI c1), .ref ka, .int ku])), (ka, .inl (dA 0, 10, .inl kf)), (co, .inr (6, [.int le, .ref ca, .int ho, .int cn])), (ca, .inl (dA 0, 10, .inl df)), (q_1, .inr (16, [.ref cb, .int 0, .int 0, .int (nI (10 + i))])), (cb, .inl (dA 2, cc, .inl cf))]) (pl := R) hw [2, 3, 4, 5, 0, 1] rfl rfl rfl rfl
        refine va_calli (va_runS (As := [.ref ky, .ref co, .int (nI i)]) (rest := []) X.1 (m_X10_difference l D dA A E hE ((q_1, .inr (16, [.ref cb, .int 0, .int 0, .int (nI (10 + i))])) :: (cb, .inl (dA 2, cc, .inl cf)) :: R) ky ka (nI c0) (nI c1) ku kf co ca le ho cn df i (by first | assumption | omega | decide)) (va_cwS 3 X.1.2.2.2.2 (lw_S q930 q931 q92 q932) rfl rfl rfl (by decide +kernel) ⟨Nat.le_of_ble_eq_true rfl, Nat.le_of_ble_eq_true rfl⟩) (g_preS hE X.2 hw) rfl rfl hl.1 rfl (lv_room (Nat.le_of_ble_eq_true rfl)) dX8_text_45 ⟨by dsimp only; omega, by dsimp only; omega⟩) hw.2.2 (fun q _ h => h) (fun q h => h) (fun r_92 u t H locs ht hvm h_91 hB hz9 hk9 hS => ?_)
        replace hw : gW D A ((ky, .inr (8, [.int (nI c0), .int (nI c1), .ref ka, .int ku])) :: (ka, .inl (dA 0, 10, .inl kf)) :: (co, .inr (6, [.int le, .ref ca, .int ho, .int cn])) :: (ca, .inl (dA 0, 10, .inl df)) :: (q_1, .inr (16, [.ref cb, .int 0, .int 0, .int (nI (10 + i))])) :: (cb, .inl (dA 2, cc, .inl cf)) :: R) s H locs := g_aft ht hB hS
        clear hS hk9 hz9 hB hvm ht
        clear t
        obtain rfl : r_92 = kf i - df i := h_91
        refine lv_istore (lv' := [(4, .int (kf i - df i)), (3, .int (nI i)), (2, .ref q_1), (0, .ref ky), (1, .ref co)]) hx hb dX8_text_48 hl (by decide) rfl (fun ls hl9 => ?_)
        replace hl := hl9
        clear hl9
        refine lv_aload_n hx hb dX8_text_50 rfl (lv_at hl 2 rfl) ?_
        refine lv_aload_n hx hb dX8_text_51 rfl (lv_at hl 3 rfl) ?_
        refine lv_iload_n hx hb dX8_text_52 rfl (lv_at hl 1 rfl) ?_
        refine va_calli (va_runV (As := [.int (nI i)]) (rest := [.ref q_1]) X.1 (m_X8_isCut l D dA A E hE ((co, .inr (6, [.int le, .ref ca, .int ho, .int cn])) :: (ca, .inl (dA 0, 10, .inl df)) :: (q_1, .inr (16, [.ref cb, .int 0, .int 0, .int (nI (10 + i))])) :: (cb, .inl (dA 2, cc, .inl cf)) :: R) ky ka (nI c0) (nI c1) ku kf i (by first | assumption | omega | decide)) (cwV 1 X.1.2.2.2.2 (lw_V q924 q860 q861 q90 q862) rfl rfl rfl (by decide +kernel) ⟨Nat.le_of_ble_eq_true rfl, Nat.le_of_ble_eq_true rfl⟩) (g_preV hE X.2 hw 0 rfl rfl) rfl rfl hl.1 rfl (lv_room (Nat.le_of_ble_eq_true rfl)) dX8_text_53 ⟨by dsimp only; omega, by dsimp only; omega⟩) hw.2.2 (fun q _ h => h) (fun q h => h) (fun r_94 u t H locs ht hvm h_93 hB hz9 hk9 hS => ?_)
        replace hw : gW D A ((ky, .inr (8, [.int (nI c0), .int (nI c1), .ref ka, .int ku])) :: (ka, .inl (dA 0, 10, .inl kf)) :: (co, .inr (6, [.int le, .ref ca, .int ho, .int cn])) :: (ca, .inl (dA 0, 10, .inl df)) :: (q_1, .inr (16, [.ref cb, .int 0, .int 0, .int (nI (10 + i))])) :: (cb, .inl (dA 2, cc, .inl cf)) :: R) s H locs := g_aft ht hB hS
        clear hS hk9 hz9 hB hvm ht
        clear t
        obtain rfl : r_94 = bZ (!decide (kf i = -1)) := h_93
        refine lv_if_ne (tgt := 64) hx hb dX8_text_56 (by decide) (fun c_95 => ?_) (fun c_95 => ?_)
        · skip
          have c_95 := bZ_1 c_95
          have c_95 := bnd_t c_95
          refine lv_iload hx hb dX8_text_64 (lv_at hl 0 rfl) ?_
          refine lv_if_ne (tgt := 74) hx hb dX8_text_66 (by decide) (fun c_96 => ?_) (fun c_96 => ?_)
          · skip
            refine lv_iload hx hb dX8_text_74 (lv_at hl 0 rfl) ?_
            refine lv_if_le (tgt := 84) hx hb dX8_text_76 (by decide) (fun c_97 => ?_) (fun c_97 => ?_)
            · skip
              have c_97 := Int32.not_lt.mpr c_97
              refine lv_bipush (v := 45) hx hb dX8_text_84 (by decide) ?_
              replace hw : gW D A ((q_1, .inr (16, [.ref cb, .int 0, .int 0, .int (nI (10 + i))])) :: (cb, .inl (dA 2, cc, .inl cf)) :: (ky, .inr (8, [.int (nI c0), .int (nI c1), .ref ka, .int ku])) :: (ka, .inl (dA 0, 10, .inl kf)) :: (co, .inr (6, [.int le, .ref ca, .int ho, .int cn])) :: (ca, .inl (dA 0, 10, .inl df)) :: R) s _ _ := g_perm (X := [(ky, .inr (8, [.int (nI c0), .int (nI c1), .ref ka, .int ku])), (ka, .inl (dA 0, 10, .inl kf)), (co, .inr (6, [.int le, .ref ca, .int ho, .int cn])), (ca, .inl (dA 0, 10, .inl df)), (q_1, .inr (16, [.ref cb, .int 0, .int 0, .int (nI (10 + i))])), (cb, .inl (dA 2, cc, .inl cf))]) (cx := [(q_1, .inr (16, [.ref cb, .int 0, .int 0, .int (nI (10 + i))])), (cb, .inl (dA 2, cc, .inl cf)), (ky, .inr (8, [.int (nI c0), .int (nI c1), .ref ka, .int ku])), (ka, .inl (dA 0, 10, .inl kf)), (co, .inr (6, [.int le, .ref ca, .int ho, .int cn])), (ca, .inl (dA 0, 10, .inl df))]) (pl := R) hw [4, 5, 0, 1, 2, 3] rfl rfl rfl rfl
              refine va_callr (va_runV (As := [.int 45]) (rest := []) X.1 (m_J8_append l D dA A E hE ((ky, .inr (8, [.int (nI c0), .int (nI c1), .ref ka, .int ku])) :: (ka, .inl (dA 0, 10, .inl kf)) :: (co, .inr (6, [.int le, .ref ca, .int ho, .int cn])) :: (ca, .inl (dA 0, 10, .inl df)) :: R) kA (by first | assumption | omega | decide) q_1 cb cc (10 + i) 0 cf (by first | assumption | omega | decide) (by first | assumption | omega | decide) (by first | assumption | omega | decide) 45 (by first | assumption | omega | decide) (by first | assumption | omega | decide)) (cwV 1 X.1.2.2.2.2 (lw_V q1713 q1095 q1096 q77 q1097) rfl rfl rfl (by decide +kernel) ⟨Nat.le_of_ble_eq_true rfl, Nat.le_of_ble_eq_true rfl⟩) (g_preV hE X.2 hw 0 rfl rfl) rfl rfl hl.1 rfl (lv_room (Nat.le_of_ble_eq_true rfl)) dX8_text_86 ⟨by dsimp only; omega, by dsimp only; omega⟩) hw.2.2 (fun q _ h => h) (fun q h => h) (fun u q_99 t H locs ht hvm h_98 hB hz9 hk9 hS => ?_)
              obtain ⟨cb_100, cc_101, cf_102⟩ := u
              obtain ⟨er_q_99, hB⟩ := hB
              obtain rfl := er_q_99.symm
              replace hw : gW D A ((q_1, .inr (16, [.ref cb_100, .int 0, .int 0, .int (nI ((10 + i) + 1))])) :: (cb_100, .inl (dA 2, cc_101, .inl cf_102)) :: (ky, .inr (8, [.int (nI c0), .int (nI c1), .ref ka, .int ku])) :: (ka, .inl (dA 0, 10, .inl kf)) :: (co, .inr (6, [.int le, .ref ca, .int ho, .int cn])) :: (ca, .inl (dA 0, 10, .inl df)) :: R) s H locs := g_aft ht hB hS
              clear hS hk9 hz9 hB hvm ht
              clear t
              have h_98 : (10 + i) + 1 ≤ cc_101 ∧ cc_101 ≤ 262 ∧ gAsc cf_102 cc_101 ∧ (∀ k, k < (10 + i) → cf_102 k = cf k) ∧ cf_102 (10 + i) = nI 45 := h_98
              obtain ⟨ta_103, tb_104, tc_105, td_106, te_107⟩ := h_98
              have hT_108 : ∀ k, k < 10 + i + 1 → cf_102 k = (cpT c0 c1 kf df) k := tx_one hcT td_106 (te_107.trans ((by rw [cpT_m (by omega)]; simp only [cmark, c_95, c_96, c_97, if_true, if_false]; rfl))) rfl
              replace hw : gW D A ((q_1, .inr (16, [.ref cb_100, .int 0, .int 0, .int (nI (10 + i + 1))])) :: (cb_100, .inl (dA 2, cc_101, .inl cf_102)) :: (ky, .inr (8, [.int (nI c0), .int (nI c1), .ref ka, .int ku])) :: (ka, .inl (dA 0, 10, .inl kf)) :: (co, .inr (6, [.int le, .ref ca, .int ho, .int cn])) :: (ca, .inl (dA 0, 10, .inl df)) :: R) s _ _ := hw
              refine lv_pop hx hb dX8_text_89 rfl ?_
              refine lv_iinc (v := nI (i + 1)) (lv' := [(3, .int (nI (i + 1))), (4, .int (kf i - df i)), (2, .ref q_1), (0, .ref ky), (1, .ref co)]) hx hb dX8_text_90 hl (k := 1) rfl (nI_add i 1) (by decide) rfl (fun ls hl9 => ?_)
              replace hl := hl9
              clear hl9
              refine lv_goto (tgt := 36) hx hb dX8_text_93 (by decide) ?_
              replace hw : gW D A ((q_1, .inr (16, [.ref cb_100, .int 0, .int 0, .int (nI (10 + (i + 1)))])) :: (cb_100, .inl (dA 2, cc_101, .inl cf_102)) :: (ky, .inr (8, [.int (nI c0), .int (nI c1), .ref ka, .int ku])) :: (ka, .inl (dA 0, 10, .inl kf)) :: (co, .inr (6, [.int le, .ref ca, .int ho, .int cn])) :: (ca, .inl (dA 0, 10, .inl df)) :: R) s _ _ := g_ws hw (by rfl)
              refine W.widen (k := 7 + (i + 1)) (n := 1452 + 262 * (i + 1)) (by omega) (by omega) ?_
              exact ih_loop_56 (i + 1) cb_100 cc_101 cf_102 (by first | assumption | omega) (by first | assumption | omega) (by first | assumption | omega) (by assumption) (hT_108) (by omega) _ _ hw _ (lv_sub hl [0, 2, 3, 4] rfl)
            · skip
              have c_97 := Int32.not_le.mp c_97
              refine lv_bipush (v := 43) hx hb dX8_text_79 (by decide) ?_
              refine lv_goto (tgt := 86) hx hb dX8_text_81 (by decide) ?_
              replace hw : gW D A ((q_1, .inr (16, [.ref cb, .int 0, .int 0, .int (nI (10 + i))])) :: (cb, .inl (dA 2, cc, .inl cf)) :: (ky, .inr (8, [.int (nI c0), .int (nI c1), .ref ka, .int ku])) :: (ka, .inl (dA 0, 10, .inl kf)) :: (co, .inr (6, [.int le, .ref ca, .int ho, .int cn])) :: (ca, .inl (dA 0, 10, .inl df)) :: R) s _ _ := g_perm (X := [(ky, .inr (8, [.int (nI c0), .int (nI c1), .ref ka, .int ku])), (ka, .inl (dA 0, 10, .inl kf)), (co, .inr (6, [.int le, .ref ca, .int ho, .int cn])), (ca, .inl (dA 0, 10, .inl df)), (q_1, .inr (16, [.ref cb, .int 0, .int 0, .int (nI (10 + i))])), (cb, .inl (dA 2, cc, .inl cf))]) (cx := [(q_1, .inr (16, [.ref cb, .int 0, .int 0, .int (nI (10 + i))])), (cb, .inl (dA 2, cc, .inl cf)), (ky, .inr (8, [.int (nI c0), .int (nI c1), .ref ka, .int ku])), (ka, .inl (dA 0, 10, .inl kf)), (co, .inr (6, [.int le, .ref ca, .int ho, .int cn])), (ca, .inl (dA 0, 10, .inl df))]) (pl := R) hw [4, 5, 0, 1, 2, 3] rfl rfl rfl rfl
              refine va_callr (va_runV (As := [.int 43]) (rest := []) X.1 (m_J8_append l D dA A E hE ((ky, .inr (8, [.int (nI c0), .int (nI c1), .ref ka, .int ku])) :: (ka, .inl (dA 0, 10, .inl kf)) :: (co, .inr (6, [.int le, .ref ca, .int ho, .int cn])) :: (ca, .inl (dA 0, 10, .inl df)) :: R) kA (by first | assumption | omega | decide) q_1 cb cc (10 + i) 0 cf (by first | assumption | omega | decide) (by first | assumption | omega | decide) (by first | assumption | omega | decide) 43 (by first | assumption | omega | decide) (by first | assumption | omega | decide)) (cwV 1 X.1.2.2.2.2 (lw_V q1713 q1095 q1096 q77 q1097) rfl rfl rfl (by decide +kernel) ⟨Nat.le_of_ble_eq_true rfl, Nat.le_of_ble_eq_true rfl⟩) (g_preV hE X.2 hw 0 rfl rfl) rfl rfl hl.1 rfl (lv_room (Nat.le_of_ble_eq_true rfl)) dX8_text_86 ⟨by dsimp only; omega, by dsimp only; omega⟩) hw.2.2 (fun q _ h => h) (fun q h => h) (fun u q_110 t H locs ht hvm h_109 hB hz9 hk9 hS => ?_)
              obtain ⟨cb_111, cc_112, cf_113⟩ := u
              obtain ⟨er_q_110, hB⟩ := hB
              obtain rfl := er_q_110.symm
              replace hw : gW D A ((q_1, .inr (16, [.ref cb_111, .int 0, .int 0, .int (nI ((10 + i) + 1))])) :: (cb_111, .inl (dA 2, cc_112, .inl cf_113)) :: (ky, .inr (8, [.int (nI c0), .int (nI c1), .ref ka, .int ku])) :: (ka, .inl (dA 0, 10, .inl kf)) :: (co, .inr (6, [.int le, .ref ca, .int ho, .int cn])) :: (ca, .inl (dA 0, 10, .inl df)) :: R) s H locs := g_aft ht hB hS
              clear hS hk9 hz9 hB hvm ht
              clear t
              have h_109 : (10 + i) + 1 ≤ cc_112 ∧ cc_112 ≤ 262 ∧ gAsc cf_113 cc_112 ∧ (∀ k, k < (10 + i) → cf_113 k = cf k) ∧ cf_113 (10 + i) = nI 43 := h_109
              obtain ⟨ta_114, tb_115, tc_116, td_117, te_118⟩ := h_109
              have hT_119 : ∀ k, k < 10 + i + 1 → cf_113 k = (cpT c0 c1 kf df) k := tx_one hcT td_117 (te_118.trans ((by rw [cpT_m (by omega)]; simp only [cmark, c_95, c_96, c_97, if_true, if_false]; rfl))) rfl
              replace hw : gW D A ((q_1, .inr (16, [.ref cb_111, .int 0, .int 0, .int (nI (10 + i + 1))])) :: (cb_111, .inl (dA 2, cc_112, .inl cf_113)) :: (ky, .inr (8, [.int (nI c0), .int (nI c1), .ref ka, .int ku])) :: (ka, .inl (dA 0, 10, .inl kf)) :: (co, .inr (6, [.int le, .ref ca, .int ho, .int cn])) :: (ca, .inl (dA 0, 10, .inl df)) :: R) s _ _ := hw
              refine lv_pop hx hb dX8_text_89 rfl ?_
              refine lv_iinc (v := nI (i + 1)) (lv' := [(3, .int (nI (i + 1))), (4, .int (kf i - df i)), (2, .ref q_1), (0, .ref ky), (1, .ref co)]) hx hb dX8_text_90 hl (k := 1) rfl (nI_add i 1) (by decide) rfl (fun ls hl9 => ?_)
              replace hl := hl9
              clear hl9
              refine lv_goto (tgt := 36) hx hb dX8_text_93 (by decide) ?_
              replace hw : gW D A ((q_1, .inr (16, [.ref cb_111, .int 0, .int 0, .int (nI (10 + (i + 1)))])) :: (cb_111, .inl (dA 2, cc_112, .inl cf_113)) :: (ky, .inr (8, [.int (nI c0), .int (nI c1), .ref ka, .int ku])) :: (ka, .inl (dA 0, 10, .inl kf)) :: (co, .inr (6, [.int le, .ref ca, .int ho, .int cn])) :: (ca, .inl (dA 0, 10, .inl df)) :: R) s _ _ := g_ws hw (by rfl)
              refine W.widen (k := 7 + (i + 1)) (n := 1452 + 262 * (i + 1)) (by omega) (by omega) ?_
              exact ih_loop_56 (i + 1) cb_111 cc_112 cf_113 (by first | assumption | omega) (by first | assumption | omega) (by first | assumption | omega) (by assumption) (hT_119) (by omega) _ _ hw _ (lv_sub hl [0, 2, 3, 4] rfl)
          · skip
            refine lv_bipush (v := 61) hx hb dX8_text_69 (by decide) ?_
            refine lv_goto (tgt := 86) hx hb dX8_text_71 (by decide) ?_
            replace hw : gW D A ((q_1, .inr (16, [.ref cb, .int 0, .int 0, .int (nI (10 + i))])) :: (cb, .inl (dA 2, cc, .inl cf)) :: (ky, .inr (8, [.int (nI c0), .int (nI c1), .ref ka, .int ku])) :: (ka, .inl (dA 0, 10, .inl kf)) :: (co, .inr (6, [.int le, .ref ca, .int ho, .int cn])) :: (ca, .inl (dA 0, 10, .inl df)) :: R) s _ _ := g_perm (X := [(ky, .inr (8, [.int (nI c0), .int (nI c1), .ref ka, .int ku])), (ka, .inl (dA 0, 10, .inl kf)), (co, .inr (6, [.int le, .ref ca, .int ho, .int cn])), (ca, .inl (dA 0, 10, .inl df)), (q_1, .inr (16, [.ref cb, .int 0, .int 0, .int (nI (10 + i))])), (cb, .inl (dA 2, cc, .inl cf))]) (cx := [(q_1, .inr (16, [.ref cb, .int 0, .int 0, .int (nI (10 + i))])), (cb, .inl (dA 2, cc, .inl cf)), (ky, .inr (8, [.int (nI c0), .int (nI c1), .ref ka, .int ku])), (ka, .inl (dA 0, 10, .inl kf)), (co, .inr (6, [.int le, .ref ca, .int ho, .int cn])), (ca, .inl (dA 0, 10, .inl df))]) (pl := R) hw [4, 5, 0, 1, 2, 3] rfl rfl rfl rfl
            refine va_callr (va_runV (As := [.int 61]) (rest := []) X.1 (m_J8_append l D dA A E hE ((ky, .inr (8, [.int (nI c0), .int (nI c1), .ref ka, .int ku])) :: (ka, .inl (dA 0, 10, .inl kf)) :: (co, .inr (6, [.int le, .ref ca, .int ho, .int cn])) :: (ca, .inl (dA 0, 10, .inl df)) :: R) kA (by first | assumption | omega | decide) q_1 cb cc (10 + i) 0 cf (by first | assumption | omega | decide) (by first | assumption | omega | decide) (by first | assumption | omega | decide) 61 (by first | assumption | omega | decide) (by first | assumption | omega | decide)) (cwV 1 X.1.2.2.2.2 (lw_V q1713 q1095 q1096 q77 q1097) rfl rfl rfl (by decide +kernel) ⟨Nat.le_of_ble_eq_true rfl, Nat.le_of_ble_eq_true rfl⟩) (g_preV hE X.2 hw 0 rfl rfl) rfl rfl hl.1 rfl (lv_room (Nat.le_of_ble_eq_true rfl)) dX8_text_86 ⟨by dsimp only; omega, by dsimp only; omega⟩) hw.2.2 (fun q _ h => h) (fun q h => h) (fun u q_121 t H locs ht hvm h_120 hB hz9 hk9 hS => ?_)
            obtain ⟨cb_122, cc_123, cf_124⟩ := u
            obtain ⟨er_q_121, hB⟩ := hB
            obtain rfl := er_q_121.symm
            replace hw : gW D A ((q_1, .inr (16, [.ref cb_122, .int 0, .int 0, .int (nI ((10 + i) + 1))])) :: (cb_122, .inl (dA 2, cc_123, .inl cf_124)) :: (ky, .inr (8, [.int (nI c0), .int (nI c1), .ref ka, .int ku])) :: (ka, .inl (dA 0, 10, .inl kf)) :: (co, .inr (6, [.int le, .ref ca, .int ho, .int cn])) :: (ca, .inl (dA 0, 10, .inl df)) :: R) s H locs := g_aft ht hB hS
            clear hS hk9 hz9 hB hvm ht
            clear t
            have h_120 : (10 + i) + 1 ≤ cc_123 ∧ cc_123 ≤ 262 ∧ gAsc cf_124 cc_123 ∧ (∀ k, k < (10 + i) → cf_124 k = cf k) ∧ cf_124 (10 + i) = nI 61 := h_120
            obtain ⟨ta_125, tb_126, tc_127, td_128, te_129⟩ := h_120
            have hT_130 : ∀ k, k < 10 + i + 1 → cf_124 k = (cpT c0 c1 kf df) k := tx_one hcT td_128 (te_129.trans ((by rw [cpT_m (by omega)]; simp only [cmark, c_95, c_96, if_true, if_false]; rfl))) rfl
            replace hw : gW D A ((q_1, .inr (16, [.ref cb_122, .int 0, .int 0, .int (nI (10 + i + 1))])) :: (cb_122, .inl (dA 2, cc_123, .inl cf_124)) :: (ky, .inr (8, [.int (nI c0), .int (nI c1), .ref ka, .int ku])) :: (ka, .inl (dA 0, 10, .inl kf)) :: (co, .inr (6, [.int le, .ref ca, .int ho, .int cn])) :: (ca, .inl (dA 0, 10, .inl df)) :: R) s _ _ := hw
            refine lv_pop hx hb dX8_text_89 rfl ?_
            refine lv_iinc (v := nI (i + 1)) (lv' := [(3, .int (nI (i + 1))), (4, .int (kf i - df i)), (2, .ref q_1), (0, .ref ky), (1, .ref co)]) hx hb dX8_text_90 hl (k := 1) rfl (nI_add i 1) (by decide) rfl (fun ls hl9 => ?_)
            replace hl := hl9
            clear hl9
            refine lv_goto (tgt := 36) hx hb dX8_text_93 (by decide) ?_
            replace hw : gW D A ((q_1, .inr (16, [.ref cb_122, .int 0, .int 0, .int (nI (10 + (i + 1)))])) :: (cb_122, .inl (dA 2, cc_123, .inl cf_124)) :: (ky, .inr (8, [.int (nI c0), .int (nI c1), .ref ka, .int ku])) :: (ka, .inl (dA 0, 10, .inl kf)) :: (co, .inr (6, [.int le, .ref ca, .int ho, .int cn])) :: (ca, .inl (dA 0, 10, .inl df)) :: R) s _ _ := g_ws hw (by rfl)
            refine W.widen (k := 7 + (i + 1)) (n := 1452 + 262 * (i + 1)) (by omega) (by omega) ?_
            exact ih_loop_56 (i + 1) cb_122 cc_123 cf_124 (by first | assumption | omega) (by first | assumption | omega) (by first | assumption | omega) (by assumption) (hT_130) (by omega) _ _ hw _ (lv_sub hl [0, 2, 3, 4] rfl)
        · skip
          have c_95 := bZ_0.mp c_95
          have c_95 := bnd_f c_95
          refine lv_bipush (v := 46) hx hb dX8_text_59 (by decide) ?_
          refine lv_goto (tgt := 86) hx hb dX8_text_61 (by decide) ?_
          replace hw : gW D A ((q_1, .inr (16, [.ref cb, .int 0, .int 0, .int (nI (10 + i))])) :: (cb, .inl (dA 2, cc, .inl cf)) :: (ky, .inr (8, [.int (nI c0), .int (nI c1), .ref ka, .int ku])) :: (ka, .inl (dA 0, 10, .inl kf)) :: (co, .inr (6, [.int le, .ref ca, .int ho, .int cn])) :: (ca, .inl (dA 0, 10, .inl df)) :: R) s _ _ := g_perm (X := [(ky, .inr (8, [.int (nI c0), .int (nI c1), .ref ka, .int ku])), (ka, .inl (dA 0, 10, .inl kf)), (co, .inr (6, [.int le, .ref ca, .int ho, .int cn])), (ca, .inl (dA 0, 10, .inl df)), (q_1, .inr (16, [.ref cb, .int 0, .int 0, .int (nI (10 + i))])), (cb, .inl (dA 2, cc, .inl cf))]) (cx := [(q_1, .inr (16, [.ref cb, .int 0, .int 0, .int (nI (10 + i))])), (cb, .inl (dA 2, cc, .inl cf)), (ky, .inr (8, [.int (nI c0), .int (nI c1), .ref ka, .int ku])), (ka, .inl (dA 0, 10, .inl kf)), (co, .inr (6, [.int le, .ref ca, .int ho, .int cn])), (ca, .inl (dA 0, 10, .inl df))]) (pl := R) hw [4, 5, 0, 1, 2, 3] rfl rfl rfl rfl
          refine va_callr (va_runV (As := [.int 46]) (rest := []) X.1 (m_J8_append l D dA A E hE ((ky, .inr (8, [.int (nI c0), .int (nI c1), .ref ka, .int ku])) :: (ka, .inl (dA 0, 10, .inl kf)) :: (co, .inr (6, [.int le, .ref ca, .int ho, .int cn])) :: (ca, .inl (dA 0, 10, .inl df)) :: R) kA (by first | assumption | omega | decide) q_1 cb cc (10 + i) 0 cf (by first | assumption | omega | decide) (by first | assumption | omega | decide) (by first | assumption | omega | decide) 46 (by first | assumption | omega | decide) (by first | assumption | omega | decide)) (cwV 1 X.1.2.2.2.2 (lw_V q1713 q1095 q1096 q77 q1097) rfl rfl rfl (by decide +kernel) ⟨Nat.le_of_ble_eq_true rfl, Nat.le_of_ble_eq_true rfl⟩) (g_preV hE X.2 hw 0 rfl rfl) rfl rfl hl.1 rfl (lv_room (Nat.le_of_ble_eq_true rfl)) dX8_text_86 ⟨by dsimp only; omega, by dsimp only; omega⟩) hw.2.2 (fun q _ h => h) (fun q h => h) (fun u q_132 t H locs ht hvm h_131 hB hz9 hk9 hS => ?_)
          obtain ⟨cb_133, cc_134, cf_135⟩ := u
          obtain ⟨er_q_132, hB⟩ := hB
          obtain rfl := er_q_132.symm
          replace hw : gW D A ((q_1, .inr (16, [.ref cb_133, .int 0, .int 0, .int (nI ((10 + i) + 1))])) :: (cb_133, .inl (dA 2, cc_134, .inl cf_135)) :: (ky, .inr (8, [.int (nI c0), .int (nI c1), .ref ka, .int ku])) :: (ka, .inl (dA 0, 10, .inl kf)) :: (co, .inr (6, [.int le, .ref ca, .int ho, .int cn])) :: (ca, .inl (dA 0, 10, .inl df)) :: R) s H locs := g_aft ht hB hS
          clear hS hk9 hz9 hB hvm ht
          clear t
          have h_131 : (10 + i) + 1 ≤ cc_134 ∧ cc_134 ≤ 262 ∧ gAsc cf_135 cc_134 ∧ (∀ k, k < (10 + i) → cf_135 k = cf k) ∧ cf_135 (10 + i) = nI 46 := h_131
          obtain ⟨ta_136, tb_137, tc_138, td_139, te_140⟩ := h_131
          have hT_141 : ∀ k, k < 10 + i + 1 → cf_135 k = (cpT c0 c1 kf df) k := tx_one hcT td_139 (te_140.trans ((by rw [cpT_m (by omega)]; simp only [cmark, c_95, if_true, if_false]; rfl))) rfl
          replace hw : gW D A ((q_1, .inr (16, [.ref cb_133, .int 0, .int 0, .int (nI (10 + i + 1))])) :: (cb_133, .inl (dA 2, cc_134, .inl cf_135)) :: (ky, .inr (8, [.int (nI c0), .int (nI c1), .ref ka, .int ku])) :: (ka, .inl (dA 0, 10, .inl kf)) :: (co, .inr (6, [.int le, .ref ca, .int ho, .int cn])) :: (ca, .inl (dA 0, 10, .inl df)) :: R) s _ _ := hw
          refine lv_pop hx hb dX8_text_89 rfl ?_
          refine lv_iinc (v := nI (i + 1)) (lv' := [(3, .int (nI (i + 1))), (4, .int (kf i - df i)), (2, .ref q_1), (0, .ref ky), (1, .ref co)]) hx hb dX8_text_90 hl (k := 1) rfl (nI_add i 1) (by decide) rfl (fun ls hl9 => ?_)
          replace hl := hl9
          clear hl9
          refine lv_goto (tgt := 36) hx hb dX8_text_93 (by decide) ?_
          replace hw : gW D A ((q_1, .inr (16, [.ref cb_133, .int 0, .int 0, .int (nI (10 + (i + 1)))])) :: (cb_133, .inl (dA 2, cc_134, .inl cf_135)) :: (ky, .inr (8, [.int (nI c0), .int (nI c1), .ref ka, .int ku])) :: (ka, .inl (dA 0, 10, .inl kf)) :: (co, .inr (6, [.int le, .ref ca, .int ho, .int cn])) :: (ca, .inl (dA 0, 10, .inl df)) :: R) s _ _ := g_ws hw (by rfl)
          refine W.widen (k := 7 + (i + 1)) (n := 1452 + 262 * (i + 1)) (by omega) (by omega) ?_
          exact ih_loop_56 (i + 1) cb_133 cc_134 cf_135 (by first | assumption | omega) (by first | assumption | omega) (by first | assumption | omega) (by assumption) (hT_141) (by omega) _ _ hw _ (lv_sub hl [0, 2, 3, 4] rfl)
  replace hw : gW D A ((q_1, .inr (16, [.ref cb_46, .int 0, .int 0, .int (nI (10 + 0))])) :: (cb_46, .inl (dA 2, cc_47, .inl cf_48)) :: (ky, .inr (8, [.int (nI c0), .int (nI c1), .ref ka, .int ku])) :: (ka, .inl (dA 0, 10, .inl kf)) :: (co, .inr (6, [.int le, .ref ca, .int ho, .int cn])) :: (ca, .inl (dA 0, 10, .inl df)) :: R) s _ _ := g_ws hw (by rfl)
  refine W.widen (k := 7 + 0) (n := 1452 + 262 * 0) (by omega) (by omega) ?_
  exact loop_56 ((10 - 0) + 1) 0 cb_46 cc_47 cf_48 (by first | assumption | omega) (by first | assumption | omega) (by first | assumption | omega) (by first | assumption | omega) (hT_54) (Nat.lt_succ_self _) _ _ hw _ (lv_sub hl [0, 1, 2, 3] rfl)
