set_option maxHeartbeats 4000000 in
theorem m_X4_tellLedges (l : Launch) (D : va_G) (dA : Nat → ClassId) (A : Nat → Prop) (E : State → Prop) (hE : gSt A E) (R : va_W) (mo ag ab ah asv ai al at_ : Nat) (ch hs ty wy wd pl iw : Int32) (g : gG) (li : Int32) (lf : gG) : Met l yX4_tellLedges (ws_ yX4_tellLedges cX4_tellLedges 2 (Option.some FieldType.int)) ({ frames := 1, cells := 0, slots := 0, locals := 21 }) (va_Pc [.ref mo] (gB D dA A E ((mo, .inr (4, [.ref ag, .ref ab, .ref ah, .int ch, .ref asv, .int hs, .ref ai, .int ty, .int wy, .int wd, .ref al, .int li, .int pl, .int iw, .ref at_])) :: (ag, .inl (dA 0, 310, .inl g)) :: (al, .inl (dA 1, 40, .inl lf)) :: R))) (va_Qi (fun (r : Int32) (_ : Unit) => r = 12) (fun _ => gE D A ((mo, .inr (4, [.ref ag, .ref ab, .ref ah, .int ch, .ref asv, .int hs, .ref ai, .int ty, .int wy, .int wd, .ref al, .int 12, .int pl, .int iw, .ref at_])) :: (ag, .inl (dA 0, 310, .inl g)) :: (al, .inl (dA 1, 40, .inl (tellL g lf 6))) :: R)) A) (0) (0) A := by
  refine g_start rfl rfl ?_
  intro p e s m args below meth c ls X hr hlocks hin hw hl
  have hx := X.1.1
  have hb := X.1.2.1
  have hl : lv_has ls 2 [(0, .ref mo)] := hl
  refine lv_aload_n hx hb dX4_tellLedges_0 rfl (lv_at hl 0 rfl) ?_
  refine lv_iconst (v := 0) hx hb dX4_tellLedges_1 (by decide) ?_
  refine g_put (ws' := (mo, .inr (4, [.ref ag, .ref ab, .ref ah, .int ch, .ref asv, .int hs, .ref ai, .int ty, .int wy, .int wd, .ref al, .int 0, .int pl, .int iw, .ref at_])) :: (ag, .inl (dA 0, 310, .inl g)) :: (al, .inl (dA 1, 40, .inl lf)) :: R) X cfX4 hw 0 11 rfl rfl q1845 rfl rfl rfl rfl rfl rfl dX4_tellLedges_2 (fun H locs hw => ?_)
  refine lv_iconst (v := 0) hx hb dX4_tellLedges_5 (by decide) ?_
  refine lv_istore_n (lv' := [(1, .int 0), (0, .ref mo)]) hx hb dX4_tellLedges_6 rfl hl (by decide) rfl (fun ls hl => ?_)
  have loop_1 : ∀ (fuel : Nat) (i : Nat), ∀ (hi : i ≤ 6), (6 - i) < fuel → ∀ (H : Heap) (locs : List Loc) (hw : gW D A ((mo, .inr (4, [.ref ag, .ref ab, .ref ah, .int ch, .ref asv, .int hs, .ref ai, .int ty, .int wy, .int wd, .ref al, .int (nI (2 * i)), .int pl, .int iw, .ref at_])) :: (ag, .inl (dA 0, 310, .inl g)) :: (al, .inl (dA 1, 40, .inl (tellL g lf i))) :: R) s H locs) (ls : Array Slot) (hl : lv_has ls 2 [(1, .int (nI i)), (0, .ref mo)]), W p l e ({ frames := 1, cells := 0, slots := 0, locals := 21 }) s m args below meth c H locs (0) (0) (MQ below (va_Qi (fun (r : Int32) (_ : Unit) => r = 12) (fun _ => gE D A ((mo, .inr (4, [.ref ag, .ref ab, .ref ah, .int ch, .ref asv, .int hs, .ref ai, .int ty, .int wy, .int wd, .ref al, .int 12, .int pl, .int iw, .ref at_])) :: (ag, .inl (dA 0, 310, .inl g)) :: (al, .inl (dA 1, 40, .inl (tellL g lf 6))) :: R)) A) args s (0) (0) A) (F0 m 7 ls []) := by
    intro fuel
    induction fuel with
    | zero => intro i hi hf; exact absurd hf (Nat.not_lt_zero _)
    | succ fuel ih_loop_1 =>
      intro i hi hfuel_loop_1 H locs hw ls hl
      refine lv_iload_n hx hb dX4_tellLedges_7 rfl (lv_at hl 0 rfl) ?_
      refine lv_bipush (v := 6) hx hb dX4_tellLedges_8 (by decide) ?_
      refine lv_icmp_ge (tgt := 76) hx hb dX4_tellLedges_10 (by decide) (fun c_2 => ?_) (fun c_2 => ?_)
      · skip
        have c_2 := Int32.not_lt.mpr c_2
        have c_2 : ¬ (i < 6) := fun q => c_2 ((nI_ltI (a := i) (b := 6) (by omega) (by omega)).mpr q)
        obtain rfl : i = 6 := by omega
        refine lv_aload_n hx hb dX4_tellLedges_76 rfl (lv_at hl 1 rfl) ?_
        refine g_get X cfX4 hw 0 11 rfl rfl q1845 rfl rfl dX4_tellLedges_77 ?_
        exact g_iret (v := nI (2 * 6)) () X hw hr hlocks  rfl rfl dX4_tellLedges_80
      · skip
        have c_2 := Int32.not_le.mp c_2
        have c_2 : i < 6 := (nI_ltI (a := i) (b := 6) (by omega) (by omega)).mp c_2
        refine lv_aload_n hx hb dX4_tellLedges_13 rfl (lv_at hl 1 rfl) ?_
        refine lv_aload_n hx hb dX4_tellLedges_14 rfl (lv_at hl 1 rfl) ?_
        refine g_get X cfX4 hw 0 0 rfl rfl q1834 rfl rfl dX4_tellLedges_15 ?_
        refine lv_bipush (v := 14) hx hb dX4_tellLedges_18 (by decide) ?_
        refine lv_iload_n hx hb dX4_tellLedges_20 rfl (lv_at hl 0 rfl) ?_
        refine lv_iadd hx hb dX4_tellLedges_21 ?_
        refine g_addN (a := 14) (b := i) ?_
        refine g_iald X hw 1 rfl (i := 14 + i) (by omega) (by first | decide | omega) dX4_tellLedges_22 ?_
        refine lv_if_ne (tgt := 31) hx hb dX4_tellLedges_23 (by decide) (fun c_3 => ?_) (fun c_3 => ?_)
        · skip
          refine lv_aload_n hx hb dX4_tellLedges_31 rfl (lv_at hl 1 rfl) ?_
          refine g_get X cfX4 hw 0 0 rfl rfl q1834 rfl rfl dX4_tellLedges_32 ?_
          refine lv_bipush (v := 14) hx hb dX4_tellLedges_35 (by decide) ?_
          refine lv_iload_n hx hb dX4_tellLedges_37 rfl (lv_at hl 0 rfl) ?_
          refine lv_iadd hx hb dX4_tellLedges_38 ?_
          refine g_addN (a := 14) (b := i) ?_
          refine g_iald X hw 1 rfl (i := 14 + i) (by omega) (by first | decide | omega) dX4_tellLedges_39 ?_
          refine lv_iconst (v := 1) hx hb dX4_tellLedges_40 (by decide) ?_
          refine lv_icmp_ne (tgt := 49) hx hb dX4_tellLedges_41 (by decide) (fun c_4 => ?_) (fun c_4 => ?_)
          · skip
            refine lv_bipush (v := 99) hx hb dX4_tellLedges_49 (by decide) ?_
            have hw : gW D A ((mo, .inr (4, [.ref ag, .ref ab, .ref ah, .int ch, .ref asv, .int hs, .ref ai, .int ty, .int wy, .int wd, .ref al, .int (nI (2 * i)), .int pl, .int iw, .ref at_])) :: (al, .inl (dA 1, 40, .inl (tellL g lf i))) :: (ag, .inl (dA 0, 310, .inl g)) :: R) s _ _ := g_perm (X := [(mo, .inr (4, [.ref ag, .ref ab, .ref ah, .int ch, .ref asv, .int hs, .ref ai, .int ty, .int wy, .int wd, .ref al, .int (nI (2 * i)), .int pl, .int iw, .ref at_])), (ag, .inl (dA 0, 310, .inl g)), (al, .inl (dA 1, 40, .inl (tellL g lf i)))]) (cx := [(mo, .inr (4, [.ref ag, .ref ab, .ref ah, .int ch, .ref asv, .int hs, .ref ai, .int ty, .int wy, .int wd, .ref al, .int (nI (2 * i)), .int pl, .int iw, .ref at_])), (al, .inl (dA 1, 40, .inl (tellL g lf i))), (ag, .inl (dA 0, 310, .inl g))]) (pl := R) hw [0, 2, 1] rfl rfl rfl rfl
            refine va_callv (va_runV (As := [.int 99]) (rest := []) X.1 (m_X4_puts l D dA A E hE ((ag, .inl (dA 0, 310, .inl g)) :: R) mo ag ab ah asv ai al at_ ch hs ty wy wd pl iw (by first | assumption | omega) (tellL g lf i) (2 * i) 99 (by first | assumption | omega)) (cwV 1 X.1.2.2.2.2 (lw_V q2166 q2168 qs61 q80 q2169) rfl rfl rfl (by decide +kernel) ⟨Nat.le_of_ble_eq_true rfl, Nat.le_of_ble_eq_true rfl⟩) (g_preV hE X.2 hw 0 rfl rfl) rfl rfl hl.1 rfl (lv_room (Nat.le_of_ble_eq_true rfl)) dX4_tellLedges_51 ⟨Nat.le_of_ble_eq_true rfl, Nat.le_of_ble_eq_true rfl⟩) hw.2.2 (fun q _ h => h) (fun q h => h) (fun u t H locs ht hvm h_5 hB hz9 hk9 hS => ?_)
            have hw : gW D A ((mo, .inr (4, [.ref ag, .ref ab, .ref ah, .int ch, .ref asv, .int hs, .ref ai, .int ty, .int wy, .int wd, .ref al, .int (nI ((2 * i) + 1)), .int pl, .int iw, .ref at_])) :: (al, .inl (dA 1, 40, .inl (upd (tellL g lf i) (2 * i) (chC 99)))) :: (ag, .inl (dA 0, 310, .inl g)) :: R) s H locs := g_aft ht hB hS
            refine lv_aload_n hx hb dX4_tellLedges_54 rfl (lv_at hl 1 rfl) ?_
            refine lv_bipush (v := 48) hx hb dX4_tellLedges_55 (by decide) ?_
            refine lv_aload_n hx hb dX4_tellLedges_57 rfl (lv_at hl 1 rfl) ?_
            refine g_get X cfX4 hw 0 0 rfl rfl q1834 rfl rfl dX4_tellLedges_58 ?_
            refine lv_bipush (v := 8) hx hb dX4_tellLedges_61 (by decide) ?_
            refine lv_iload_n hx hb dX4_tellLedges_63 rfl (lv_at hl 0 rfl) ?_
            refine lv_iadd hx hb dX4_tellLedges_64 ?_
            refine g_addN (a := 8) (b := i) ?_
            refine g_iald X hw 2 rfl (i := 8 + i) (by omega) (by first | decide | omega) dX4_tellLedges_65 ?_
            refine lv_iadd hx hb dX4_tellLedges_66 ?_
            refine va_callv (va_runV (As := [.int (48 + (g (8 + i)))]) (rest := []) X.1 (m_X4_puts l D dA A E hE ((ag, .inl (dA 0, 310, .inl g)) :: R) mo ag ab ah asv ai al at_ ch hs ty wy wd pl iw (by first | assumption | omega) (upd (tellL g lf i) (2 * i) (chC 99)) ((2 * i) + 1) (48 + (g (8 + i))) (by first | assumption | omega)) (cwV 1 X.1.2.2.2.2 (lw_V q2166 q2168 qs61 q80 q2169) rfl rfl rfl (by decide +kernel) ⟨Nat.le_of_ble_eq_true rfl, Nat.le_of_ble_eq_true rfl⟩) (g_preV hE X.2 hw 0 rfl rfl) rfl rfl hl.1 rfl (lv_room (Nat.le_of_ble_eq_true rfl)) dX4_tellLedges_67 ⟨Nat.le_of_ble_eq_true rfl, Nat.le_of_ble_eq_true rfl⟩) hw.2.2 (fun q _ h => h) (fun q h => h) (fun u t H locs ht hvm h_6 hB hz9 hk9 hS => ?_)
            have hw : gW D A ((mo, .inr (4, [.ref ag, .ref ab, .ref ah, .int ch, .ref asv, .int hs, .ref ai, .int ty, .int wy, .int wd, .ref al, .int (nI (((2 * i) + 1) + 1)), .int pl, .int iw, .ref at_])) :: (al, .inl (dA 1, 40, .inl (upd (upd (tellL g lf i) (2 * i) (chC 99)) ((2 * i) + 1) (chC (48 + (g (8 + i))))))) :: (ag, .inl (dA 0, 310, .inl g)) :: R) s H locs := g_aft ht hB hS
            refine lv_iinc (v := nI (i + 1)) (lv' := [(1, .int (nI (i + 1))), (0, .ref mo)]) hx hb dX4_tellLedges_70 hl (k := 0) rfl (nI_add i 1) (by decide) rfl (fun ls hl => ?_)
            refine lv_goto (tgt := 7) hx hb dX4_tellLedges_73 (by decide) ?_
            have hw : gW D A ((mo, .inr (4, [.ref ag, .ref ab, .ref ah, .int ch, .ref asv, .int hs, .ref ai, .int ty, .int wy, .int wd, .ref al, .int (nI (((2 * i) + 1) + 1)), .int pl, .int iw, .ref at_])) :: (ag, .inl (dA 0, 310, .inl g)) :: (al, .inl (dA 1, 40, .inl (upd (upd (tellL g lf i) (2 * i) (chC 99)) ((2 * i) + 1) (chC (48 + (g (8 + i))))))) :: R) s _ _ := g_perm (X := [(mo, .inr (4, [.ref ag, .ref ab, .ref ah, .int ch, .ref asv, .int hs, .ref ai, .int ty, .int wy, .int wd, .ref al, .int (nI (((2 * i) + 1) + 1)), .int pl, .int iw, .ref at_])), (al, .inl (dA 1, 40, .inl (upd (upd (tellL g lf i) (2 * i) (chC 99)) ((2 * i) + 1) (chC (48 + (g (8 + i))))))), (ag, .inl (dA 0, 310, .inl g))]) (cx := [(mo, .inr (4, [.ref ag, .ref ab, .ref ah, .int ch, .ref asv, .int hs, .ref ai, .int ty, .int wy, .int wd, .ref al, .int (nI (((2 * i) + 1) + 1)), .int pl, .int iw, .ref at_])), (ag, .inl (dA 0, 310, .inl g)), (al, .inl (dA 1, 40, .inl (upd (upd (tellL g lf i) (2 * i) (chC 99)) ((2 * i) + 1) (chC (48 + (g (8 + i)))))))]) (pl := R) hw [0, 2, 1] rfl rfl rfl rfl
            have hw : gW D A ((mo, .inr (4, [.ref ag, .ref ab, .ref ah, .int ch, .ref asv, .int hs, .ref ai, .int ty, .int wy, .int wd, .ref al, .int (nI (2 * (i + 1))), .int pl, .int iw, .ref at_])) :: (ag, .inl (dA 0, 310, .inl g)) :: (al, .inl (dA 1, 40, .inl (tellL g lf (i + 1)))) :: R) s _ _ := g_ws hw (by simp only [tellL, stC, c_2, c_3, c_4, if_true, if_false]; rfl)
            exact ih_loop_1 (i + 1) (by first | assumption | omega) (by omega) _ _ hw _ (lv_sub hl [0, 1] rfl)
          · skip
            refine lv_bipush (v := 46) hx hb dX4_tellLedges_44 (by decide) ?_
            refine lv_goto (tgt := 51) hx hb dX4_tellLedges_46 (by decide) ?_
            have hw : gW D A ((mo, .inr (4, [.ref ag, .ref ab, .ref ah, .int ch, .ref asv, .int hs, .ref ai, .int ty, .int wy, .int wd, .ref al, .int (nI (2 * i)), .int pl, .int iw, .ref at_])) :: (al, .inl (dA 1, 40, .inl (tellL g lf i))) :: (ag, .inl (dA 0, 310, .inl g)) :: R) s _ _ := g_perm (X := [(mo, .inr (4, [.ref ag, .ref ab, .ref ah, .int ch, .ref asv, .int hs, .ref ai, .int ty, .int wy, .int wd, .ref al, .int (nI (2 * i)), .int pl, .int iw, .ref at_])), (ag, .inl (dA 0, 310, .inl g)), (al, .inl (dA 1, 40, .inl (tellL g lf i)))]) (cx := [(mo, .inr (4, [.ref ag, .ref ab, .ref ah, .int ch, .ref asv, .int hs, .ref ai, .int ty, .int wy, .int wd, .ref al, .int (nI (2 * i)), .int pl, .int iw, .ref at_])), (al, .inl (dA 1, 40, .inl (tellL g lf i))), (ag, .inl (dA 0, 310, .inl g))]) (pl := R) hw [0, 2, 1] rfl rfl rfl rfl
            refine va_callv (va_runV (As := [.int 46]) (rest := []) X.1 (m_X4_puts l D dA A E hE ((ag, .inl (dA 0, 310, .inl g)) :: R) mo ag ab ah asv ai al at_ ch hs ty wy wd pl iw (by first | assumption | omega) (tellL g lf i) (2 * i) 46 (by first | assumption | omega)) (cwV 1 X.1.2.2.2.2 (lw_V q2166 q2168 qs61 q80 q2169) rfl rfl rfl (by decide +kernel) ⟨Nat.le_of_ble_eq_true rfl, Nat.le_of_ble_eq_true rfl⟩) (g_preV hE X.2 hw 0 rfl rfl) rfl rfl hl.1 rfl (lv_room (Nat.le_of_ble_eq_true rfl)) dX4_tellLedges_51 ⟨Nat.le_of_ble_eq_true rfl, Nat.le_of_ble_eq_true rfl⟩) hw.2.2 (fun q _ h => h) (fun q h => h) (fun u t H locs ht hvm h_7 hB hz9 hk9 hS => ?_)
            have hw : gW D A ((mo, .inr (4, [.ref ag, .ref ab, .ref ah, .int ch, .ref asv, .int hs, .ref ai, .int ty, .int wy, .int wd, .ref al, .int (nI ((2 * i) + 1)), .int pl, .int iw, .ref at_])) :: (al, .inl (dA 1, 40, .inl (upd (tellL g lf i) (2 * i) (chC 46)))) :: (ag, .inl (dA 0, 310, .inl g)) :: R) s H locs := g_aft ht hB hS
            refine lv_aload_n hx hb dX4_tellLedges_54 rfl (lv_at hl 1 rfl) ?_
            refine lv_bipush (v := 48) hx hb dX4_tellLedges_55 (by decide) ?_
            refine lv_aload_n hx hb dX4_tellLedges_57 rfl (lv_at hl 1 rfl) ?_
            refine g_get X cfX4 hw 0 0 rfl rfl q1834 rfl rfl dX4_tellLedges_58 ?_
            refine lv_bipush (v := 8) hx hb dX4_tellLedges_61 (by decide) ?_
            refine lv_iload_n hx hb dX4_tellLedges_63 rfl (lv_at hl 0 rfl) ?_
            refine lv_iadd hx hb dX4_tellLedges_64 ?_
            refine g_addN (a := 8) (b := i) ?_
            refine g_iald X hw 2 rfl (i := 8 + i) (by omega) (by first | decide | omega) dX4_tellLedges_65 ?_
            refine lv_iadd hx hb dX4_tellLedges_66 ?_
            refine va_callv (va_runV (As := [.int (48 + (g (8 + i)))]) (rest := []) X.1 (m_X4_puts l D dA A E hE ((ag, .inl (dA 0, 310, .inl g)) :: R) mo ag ab ah asv ai al at_ ch hs ty wy wd pl iw (by first | assumption | omega) (upd (tellL g lf i) (2 * i) (chC 46)) ((2 * i) + 1) (48 + (g (8 + i))) (by first | assumption | omega)) (cwV 1 X.1.2.2.2.2 (lw_V q2166 q2168 qs61 q80 q2169) rfl rfl rfl (by decide +kernel) ⟨Nat.le_of_ble_eq_true rfl, Nat.le_of_ble_eq_true rfl⟩) (g_preV hE X.2 hw 0 rfl rfl) rfl rfl hl.1 rfl (lv_room (Nat.le_of_ble_eq_true rfl)) dX4_tellLedges_67 ⟨Nat.le_of_ble_eq_true rfl, Nat.le_of_ble_eq_true rfl⟩) hw.2.2 (fun q _ h => h) (fun q h => h) (fun u t H locs ht hvm h_8 hB hz9 hk9 hS => ?_)
            have hw : gW D A ((mo, .inr (4, [.ref ag, .ref ab, .ref ah, .int ch, .ref asv, .int hs, .ref ai, .int ty, .int wy, .int wd, .ref al, .int (nI (((2 * i) + 1) + 1)), .int pl, .int iw, .ref at_])) :: (al, .inl (dA 1, 40, .inl (upd (upd (tellL g lf i) (2 * i) (chC 46)) ((2 * i) + 1) (chC (48 + (g (8 + i))))))) :: (ag, .inl (dA 0, 310, .inl g)) :: R) s H locs := g_aft ht hB hS
            refine lv_iinc (v := nI (i + 1)) (lv' := [(1, .int (nI (i + 1))), (0, .ref mo)]) hx hb dX4_tellLedges_70 hl (k := 0) rfl (nI_add i 1) (by decide) rfl (fun ls hl => ?_)
            refine lv_goto (tgt := 7) hx hb dX4_tellLedges_73 (by decide) ?_
            have hw : gW D A ((mo, .inr (4, [.ref ag, .ref ab, .ref ah, .int ch, .ref asv, .int hs, .ref ai, .int ty, .int wy, .int wd, .ref al, .int (nI (((2 * i) + 1) + 1)), .int pl, .int iw, .ref at_])) :: (ag, .inl (dA 0, 310, .inl g)) :: (al, .inl (dA 1, 40, .inl (upd (upd (tellL g lf i) (2 * i) (chC 46)) ((2 * i) + 1) (chC (48 + (g (8 + i))))))) :: R) s _ _ := g_perm (X := [(mo, .inr (4, [.ref ag, .ref ab, .ref ah, .int ch, .ref asv, .int hs, .ref ai, .int ty, .int wy, .int wd, .ref al, .int (nI (((2 * i) + 1) + 1)), .int pl, .int iw, .ref at_])), (al, .inl (dA 1, 40, .inl (upd (upd (tellL g lf i) (2 * i) (chC 46)) ((2 * i) + 1) (chC (48 + (g (8 + i))))))), (ag, .inl (dA 0, 310, .inl g))]) (cx := [(mo, .inr (4, [.ref ag, .ref ab, .ref ah, .int ch, .ref asv, .int hs, .ref ai, .int ty, .int wy, .int wd, .ref al, .int (nI (((2 * i) + 1) + 1)), .int pl, .int iw, .ref at_])), (ag, .inl (dA 0, 310, .inl g)), (al, .inl (dA 1, 40, .inl (upd (upd (tellL g lf i) (2 * i) (chC 46)) ((2 * i) + 1) (chC (48 + (g (8 + i)))))))]) (pl := R) hw [0, 2, 1] rfl rfl rfl rfl
            have hw : gW D A ((mo, .inr (4, [.ref ag, .ref ab, .ref ah, .int ch, .ref asv, .int hs, .ref ai, .int ty, .int wy, .int wd, .ref al, .int (nI (2 * (i + 1))), .int pl, .int iw, .ref at_])) :: (ag, .inl (dA 0, 310, .inl g)) :: (al, .inl (dA 1, 40, .inl (tellL g lf (i + 1)))) :: R) s _ _ := g_ws hw (by simp only [tellL, stC, c_2, c_3, c_4, if_true, if_false]; rfl)
            exact ih_loop_1 (i + 1) (by first | assumption | omega) (by omega) _ _ hw _ (lv_sub hl [0, 1] rfl)
        · skip
          refine lv_bipush (v := 111) hx hb dX4_tellLedges_26 (by decide) ?_
          refine lv_goto (tgt := 51) hx hb dX4_tellLedges_28 (by decide) ?_
          have hw : gW D A ((mo, .inr (4, [.ref ag, .ref ab, .ref ah, .int ch, .ref asv, .int hs, .ref ai, .int ty, .int wy, .int wd, .ref al, .int (nI (2 * i)), .int pl, .int iw, .ref at_])) :: (al, .inl (dA 1, 40, .inl (tellL g lf i))) :: (ag, .inl (dA 0, 310, .inl g)) :: R) s _ _ := g_perm (X := [(mo, .inr (4, [.ref ag, .ref ab, .ref ah, .int ch, .ref asv, .int hs, .ref ai, .int ty, .int wy, .int wd, .ref al, .int (nI (2 * i)), .int pl, .int iw, .ref at_])), (ag, .inl (dA 0, 310, .inl g)), (al, .inl (dA 1, 40, .inl (tellL g lf i)))]) (cx := [(mo, .inr (4, [.ref ag, .ref ab, .ref ah, .int ch, .ref asv, .int hs, .ref ai, .int ty, .int wy, .int wd, .ref al, .int (nI (2 * i)), .int pl, .int iw, .ref at_])), (al, .inl (dA 1, 40, .inl (tellL g lf i))), (ag, .inl (dA 0, 310, .inl g))]) (pl := R) hw [0, 2, 1] rfl rfl rfl rfl
          refine va_callv (va_runV (As := [.int 111]) (rest := []) X.1 (m_X4_puts l D dA A E hE ((ag, .inl (dA 0, 310, .inl g)) :: R) mo ag ab ah asv ai al at_ ch hs ty wy wd pl iw (by first | assumption | omega) (tellL g lf i) (2 * i) 111 (by first | assumption | omega)) (cwV 1 X.1.2.2.2.2 (lw_V q2166 q2168 qs61 q80 q2169) rfl rfl rfl (by decide +kernel) ⟨Nat.le_of_ble_eq_true rfl, Nat.le_of_ble_eq_true rfl⟩) (g_preV hE X.2 hw 0 rfl rfl) rfl rfl hl.1 rfl (lv_room (Nat.le_of_ble_eq_true rfl)) dX4_tellLedges_51 ⟨Nat.le_of_ble_eq_true rfl, Nat.le_of_ble_eq_true rfl⟩) hw.2.2 (fun q _ h => h) (fun q h => h) (fun u t H locs ht hvm h_9 hB hz9 hk9 hS => ?_)
          have hw : gW D A ((mo, .inr (4, [.ref ag, .ref ab, .ref ah, .int ch, .ref asv, .int hs, .ref ai, .int ty, .int wy, .int wd, .ref al, .int (nI ((2 * i) + 1)), .int pl, .int iw, .ref at_])) :: (al, .inl (dA 1, 40, .inl (upd (tellL g lf i) (2 * i) (chC 111)))) :: (ag, .inl (dA 0, 310, .inl g)) :: R) s H locs := g_aft ht hB hS
          refine lv_aload_n hx hb dX4_tellLedges_54 rfl (lv_at hl 1 rfl) ?_
          refine lv_bipush (v := 48) hx hb dX4_tellLedges_55 (by decide) ?_
          refine lv_aload_n hx hb dX4_tellLedges_57 rfl (lv_at hl 1 rfl) ?_
          refine g_get X cfX4 hw 0 0 rfl rfl q1834 rfl rfl dX4_tellLedges_58 ?_
          refine lv_bipush (v := 8) hx hb dX4_tellLedges_61 (by decide) ?_
          refine lv_iload_n hx hb dX4_tellLedges_63 rfl (lv_at hl 0 rfl) ?_
          refine lv_iadd hx hb dX4_tellLedges_64 ?_
          refine g_addN (a := 8) (b := i) ?_
          refine g_iald X hw 2 rfl (i := 8 + i) (by omega) (by first | decide | omega) dX4_tellLedges_65 ?_
          refine lv_iadd hx hb dX4_tellLedges_66 ?_
          refine va_callv (va_runV (As := [.int (48 + (g (8 + i)))]) (rest := []) X.1 (m_X4_puts l D dA A E hE ((ag, .inl (dA 0, 310, .inl g)) :: R) mo ag ab ah asv ai al at_ ch hs ty wy wd pl iw (by first | assumption | omega) (upd (tellL g lf i) (2 * i) (chC 111)) ((2 * i) + 1) (48 + (g (8 + i))) (by first | assumption | omega)) (cwV 1 X.1.2.2.2.2 (lw_V q2166 q2168 qs61 q80 q2169) rfl rfl rfl (by decide +kernel) ⟨Nat.le_of_ble_eq_true rfl, Nat.le_of_ble_eq_true rfl⟩) (g_preV hE X.2 hw 0 rfl rfl) rfl rfl hl.1 rfl (lv_room (Nat.le_of_ble_eq_true rfl)) dX4_tellLedges_67 ⟨Nat.le_of_ble_eq_true rfl, Nat.le_of_ble_eq_true rfl⟩) hw.2.2 (fun q _ h => h) (fun q h => h) (fun u t H locs ht hvm h_10 hB hz9 hk9 hS => ?_)
          have hw : gW D A ((mo, .inr (4, [.ref ag, .ref ab, .ref ah, .int ch, .ref asv, .int hs, .ref ai, .int ty, .int wy, .int wd, .ref al, .int (nI (((2 * i) + 1) + 1)), .int pl, .int iw, .ref at_])) :: (al, .inl (dA 1, 40, .inl (upd (upd (tellL g lf i) (2 * i) (chC 111)) ((2 * i) + 1) (chC (48 + (g (8 + i))))))) :: (ag, .inl (dA 0, 310, .inl g)) :: R) s H locs := g_aft ht hB hS
          refine lv_iinc (v := nI (i + 1)) (lv' := [(1, .int (nI (i + 1))), (0, .ref mo)]) hx hb dX4_tellLedges_70 hl (k := 0) rfl (nI_add i 1) (by decide) rfl (fun ls hl => ?_)
          refine lv_goto (tgt := 7) hx hb dX4_tellLedges_73 (by decide) ?_
          have hw : gW D A ((mo, .inr (4, [.ref ag, .ref ab, .ref ah, .int ch, .ref asv, .int hs, .ref ai, .int ty, .int wy, .int wd, .ref al, .int (nI (((2 * i) + 1) + 1)), .int pl, .int iw, .ref at_])) :: (ag, .inl (dA 0, 310, .inl g)) :: (al, .inl (dA 1, 40, .inl (upd (upd (tellL g lf i) (2 * i) (chC 111)) ((2 * i) + 1) (chC (48 + (g (8 + i))))))) :: R) s _ _ := g_perm (X := [(mo, .inr (4, [.ref ag, .ref ab, .ref ah, .int ch, .ref asv, .int hs, .ref ai, .int ty, .int wy, .int wd, .ref al, .int (nI (((2 * i) + 1) + 1)), .int pl, .int iw, .ref at_])), (al, .inl (dA 1, 40, .inl (upd (upd (tellL g lf i) (2 * i) (chC 111)) ((2 * i) + 1) (chC (48 + (g (8 + i))))))), (ag, .inl (dA 0, 310, .inl g))]) (cx := [(mo, .inr (4, [.ref ag, .ref ab, .ref ah, .int ch, .ref asv, .int hs, .ref ai, .int ty, .int wy, .int wd, .ref al, .int (nI (((2 * i) + 1) + 1)), .int pl, .int iw, .ref at_])), (ag, .inl (dA 0, 310, .inl g)), (al, .inl (dA 1, 40, .inl (upd (upd (tellL g lf i) (2 * i) (chC 111)) ((2 * i) + 1) (chC (48 + (g (8 + i)))))))]) (pl := R) hw [0, 2, 1] rfl rfl rfl rfl
          have hw : gW D A ((mo, .inr (4, [.ref ag, .ref ab, .ref ah, .int ch, .ref asv, .int hs, .ref ai, .int ty, .int wy, .int wd, .ref al, .int (nI (2 * (i + 1))), .int pl, .int iw, .ref at_])) :: (ag, .inl (dA 0, 310, .inl g)) :: (al, .inl (dA 1, 40, .inl (tellL g lf (i + 1)))) :: R) s _ _ := g_ws hw (by simp only [tellL, stC, c_2, c_3, if_true, if_false]; rfl)
          exact ih_loop_1 (i + 1) (by first | assumption | omega) (by omega) _ _ hw _ (lv_sub hl [0, 1] rfl)
  have hw : gW D A ((mo, .inr (4, [.ref ag, .ref ab, .ref ah, .int ch, .ref asv, .int hs, .ref ai, .int ty, .int wy, .int wd, .ref al, .int (nI (2 * 0)), .int pl, .int iw, .ref at_])) :: (ag, .inl (dA 0, 310, .inl g)) :: (al, .inl (dA 1, 40, .inl (tellL g lf 0))) :: R) s _ _ := g_ws hw (by rfl)
  exact loop_1 ((6 - 0) + 1) 0 (by first | assumption | omega) (Nat.lt_succ_self _) _ _ hw _ (lv_sub hl [0, 1] rfl)

set_option maxHeartbeats 4000000 in
theorem m_X4_init (l : Launch) (D : va_G) (dA : Nat → ClassId) (A : Nat → Prop) (E : State → Prop) (hE : gSt A E) (R : va_W) (mo : Nat) : Met l yX4_init (ws_ yX4_init cX4_init 2 (Option.none : Option FieldType)) ({ frames := 1, cells := 7, slots := 3820, locals := 12 }) (va_Pc [.ref mo] (gB D dA A E ((mo, .inr (4, [.null, .null, .null, .int 0, .null, .int 0, .null, .int 0, .int 0, .int 0, .null, .int 0, .int 0, .int 0, .null])) :: R))) (va_Qv (fun (u : Nat × Nat × Nat × Nat × Nat × Nat × Nat) => True) (fun u => gE D A ((mo, .inr (4, [.ref u.1, .ref u.2.1, .ref u.2.2.1, .int 0, .ref u.2.2.2.1, .int 0, .ref u.2.2.2.2.1, .int 0, .int 0, .int 0, .ref u.2.2.2.2.2.1, .int 0, .int 0, .int 0, .ref u.2.2.2.2.2.2])) :: (u.1, .inl (dA 0, 310, .inl (initL 6))) :: (u.2.1, .inl (dA 0, 310, .inl (fun _ => 0))) :: (u.2.2.1, .inl (dA 0, 2480, .inl (fun _ => 0))) :: (u.2.2.2.1, .inl (dA 0, 310, .inl (fun _ => 0))) :: (u.2.2.2.2.1, .inl (dA 1, 60, .inl (fun _ => 0))) :: (u.2.2.2.2.2.1, .inl (dA 1, 40, .inl (fun _ => 0))) :: (u.2.2.2.2.2.2, .inl (dA 0, 240, .inl (fun _ => 0))) :: R)) A) (7) (3820) A := by
  refine g_start rfl rfl ?_
  intro p e s m args below meth c ls X hr hlocks hin hw hl
  have hx := X.1.1
  have hb := X.1.2.1
  have hl : lv_has ls 2 [(0, .ref mo)] := hl
  refine lv_aload_n hx hb dX4_init_0 rfl (lv_at hl 0 rfl) ?_
  refine W.objInit hx hb X.1.2.2.2.1 (X.1.2.2.2.2 _ q1833) (X.1.2.2.2.2 _ q109) (X.1.2.2.2.2 _ q110) rfl (by rw [X.1.2.2.1]; exact hl.1) rfl dX4_init_1 (Nat.le_of_ble_eq_true rfl) (Nat.le_of_ble_eq_true rfl) ?_
  refine W.eq (g2 := F0 m 4 ls []) rfl ?_
  refine lv_aload_n hx hb dX4_init_4 rfl (lv_at hl 0 rfl) ?_
  refine lv_sipush (v := 310) hx hb dX4_init_5 (by decide) ?_
  refine g_newi (atype := .int) (ty := .int) (N' := 310) X hw 0 rfl rfl ⟨fun _ h => (by cases h), fun _ => rfl⟩ q623 rfl (by first | decide | omega) (Nat.le_of_ble_eq_true rfl) (Nat.le_of_ble_eq_true rfl) (by first | decide | (simp only [componentBytes]; omega)) dX4_init_8 (fun q_1 H hw => ?_)
  refine g_putF (ws' := (q_1, .inl (dA 0, 310, .inl (fun _ => 0))) :: (mo, .inr (4, [.ref q_1, .null, .null, .int 0, .null, .int 0, .null, .int 0, .int 0, .int 0, .null, .int 0, .int 0, .int 0, .null])) :: R) X (hin rfl) cfX4 hw 1 0 rfl rfl q1834 rfl rfl rfl rfl rfl rfl rfl dX4_init_10 (fun H locs hw => ?_)
  refine lv_aload_n hx hb dX4_init_13 rfl (lv_at hl 0 rfl) ?_
  refine lv_sipush (v := 310) hx hb dX4_init_14 (by decide) ?_
  refine g_newi (atype := .int) (ty := .int) (N' := 310) X hw 0 rfl rfl ⟨fun _ h => (by cases h), fun _ => rfl⟩ q623 rfl (by first | decide | omega) (Nat.le_of_ble_eq_true rfl) (Nat.le_of_ble_eq_true rfl) (by first | decide | (simp only [componentBytes]; omega)) dX4_init_17 (fun q_2 H hw => ?_)
  refine g_putF (ws' := (q_2, .inl (dA 0, 310, .inl (fun _ => 0))) :: (q_1, .inl (dA 0, 310, .inl (fun _ => 0))) :: (mo, .inr (4, [.ref q_1, .ref q_2, .null, .int 0, .null, .int 0, .null, .int 0, .int 0, .int 0, .null, .int 0, .int 0, .int 0, .null])) :: R) X (hin rfl) cfX4 hw 2 1 rfl rfl q1835 rfl rfl rfl rfl rfl rfl rfl dX4_init_19 (fun H locs hw => ?_)
  refine lv_aload_n hx hb dX4_init_22 rfl (lv_at hl 0 rfl) ?_
  refine lv_sipush (v := 2480) hx hb dX4_init_23 (by decide) ?_
  refine g_newi (atype := .int) (ty := .int) (N' := 2480) X hw 0 rfl rfl ⟨fun _ h => (by cases h), fun _ => rfl⟩ q623 rfl (by first | decide | omega) (Nat.le_of_ble_eq_true rfl) (Nat.le_of_ble_eq_true rfl) (by first | decide | (simp only [componentBytes]; omega)) dX4_init_26 (fun q_3 H hw => ?_)
  refine g_putF (ws' := (q_3, .inl (dA 0, 2480, .inl (fun _ => 0))) :: (q_2, .inl (dA 0, 310, .inl (fun _ => 0))) :: (q_1, .inl (dA 0, 310, .inl (fun _ => 0))) :: (mo, .inr (4, [.ref q_1, .ref q_2, .ref q_3, .int 0, .null, .int 0, .null, .int 0, .int 0, .int 0, .null, .int 0, .int 0, .int 0, .null])) :: R) X (hin rfl) cfX4 hw 3 2 rfl rfl q1836 rfl rfl rfl rfl rfl rfl rfl dX4_init_28 (fun H locs hw => ?_)
  refine lv_aload_n hx hb dX4_init_31 rfl (lv_at hl 0 rfl) ?_
  refine lv_sipush (v := 310) hx hb dX4_init_32 (by decide) ?_
  refine g_newi (atype := .int) (ty := .int) (N' := 310) X hw 0 rfl rfl ⟨fun _ h => (by cases h), fun _ => rfl⟩ q623 rfl (by first | decide | omega) (Nat.le_of_ble_eq_true rfl) (Nat.le_of_ble_eq_true rfl) (by first | decide | (simp only [componentBytes]; omega)) dX4_init_35 (fun q_4 H hw => ?_)
  refine g_putF (ws' := (q_4, .inl (dA 0, 310, .inl (fun _ => 0))) :: (q_3, .inl (dA 0, 2480, .inl (fun _ => 0))) :: (q_2, .inl (dA 0, 310, .inl (fun _ => 0))) :: (q_1, .inl (dA 0, 310, .inl (fun _ => 0))) :: (mo, .inr (4, [.ref q_1, .ref q_2, .ref q_3, .int 0, .ref q_4, .int 0, .null, .int 0, .int 0, .int 0, .null, .int 0, .int 0, .int 0, .null])) :: R) X (hin rfl) cfX4 hw 4 4 rfl rfl q1838 rfl rfl rfl rfl rfl rfl rfl dX4_init_37 (fun H locs hw => ?_)
  refine lv_aload_n hx hb dX4_init_40 rfl (lv_at hl 0 rfl) ?_
  refine lv_bipush (v := 60) hx hb dX4_init_41 (by decide) ?_
  refine g_newi (atype := .char) (ty := .char) (N' := 60) X hw 1 rfl rfl ⟨fun _ h => (by cases h), fun _ => rfl⟩ q1880 rfl (by first | decide | omega) (Nat.le_of_ble_eq_true rfl) (Nat.le_of_ble_eq_true rfl) (by first | decide | (simp only [componentBytes]; omega)) dX4_init_43 (fun q_5 H hw => ?_)
  refine g_putF (ws' := (q_5, .inl (dA 1, 60, .inl (fun _ => 0))) :: (q_4, .inl (dA 0, 310, .inl (fun _ => 0))) :: (q_3, .inl (dA 0, 2480, .inl (fun _ => 0))) :: (q_2, .inl (dA 0, 310, .inl (fun _ => 0))) :: (q_1, .inl (dA 0, 310, .inl (fun _ => 0))) :: (mo, .inr (4, [.ref q_1, .ref q_2, .ref q_3, .int 0, .ref q_4, .int 0, .ref q_5, .int 0, .int 0, .int 0, .null, .int 0, .int 0, .int 0, .null])) :: R) X (hin rfl) cfX4 hw 5 6 rfl rfl q1840 rfl rfl rfl rfl rfl rfl rfl dX4_init_45 (fun H locs hw => ?_)
  refine lv_aload_n hx hb dX4_init_48 rfl (lv_at hl 0 rfl) ?_
  refine lv_bipush (v := 40) hx hb dX4_init_49 (by decide) ?_
  refine g_newi (atype := .char) (ty := .char) (N' := 40) X hw 1 rfl rfl ⟨fun _ h => (by cases h), fun _ => rfl⟩ q1880 rfl (by first | decide | omega) (Nat.le_of_ble_eq_true rfl) (Nat.le_of_ble_eq_true rfl) (by first | decide | (simp only [componentBytes]; omega)) dX4_init_51 (fun q_6 H hw => ?_)
  refine g_putF (ws' := (q_6, .inl (dA 1, 40, .inl (fun _ => 0))) :: (q_5, .inl (dA 1, 60, .inl (fun _ => 0))) :: (q_4, .inl (dA 0, 310, .inl (fun _ => 0))) :: (q_3, .inl (dA 0, 2480, .inl (fun _ => 0))) :: (q_2, .inl (dA 0, 310, .inl (fun _ => 0))) :: (q_1, .inl (dA 0, 310, .inl (fun _ => 0))) :: (mo, .inr (4, [.ref q_1, .ref q_2, .ref q_3, .int 0, .ref q_4, .int 0, .ref q_5, .int 0, .int 0, .int 0, .ref q_6, .int 0, .int 0, .int 0, .null])) :: R) X (hin rfl) cfX4 hw 6 10 rfl rfl q1844 rfl rfl rfl rfl rfl rfl rfl dX4_init_53 (fun H locs hw => ?_)
  refine lv_aload_n hx hb dX4_init_56 rfl (lv_at hl 0 rfl) ?_
  refine lv_sipush (v := 240) hx hb dX4_init_57 (by decide) ?_
  refine g_newi (atype := .int) (ty := .int) (N' := 240) X hw 0 rfl rfl ⟨fun _ h => (by cases h), fun _ => rfl⟩ q623 rfl (by first | decide | omega) (Nat.le_of_ble_eq_true rfl) (Nat.le_of_ble_eq_true rfl) (by first | decide | (simp only [componentBytes]; omega)) dX4_init_60 (fun q_7 H hw => ?_)
  refine g_putF (ws' := (q_7, .inl (dA 0, 240, .inl (fun _ => 0))) :: (q_6, .inl (dA 1, 40, .inl (fun _ => 0))) :: (q_5, .inl (dA 1, 60, .inl (fun _ => 0))) :: (q_4, .inl (dA 0, 310, .inl (fun _ => 0))) :: (q_3, .inl (dA 0, 2480, .inl (fun _ => 0))) :: (q_2, .inl (dA 0, 310, .inl (fun _ => 0))) :: (q_1, .inl (dA 0, 310, .inl (fun _ => 0))) :: (mo, .inr (4, [.ref q_1, .ref q_2, .ref q_3, .int 0, .ref q_4, .int 0, .ref q_5, .int 0, .int 0, .int 0, .ref q_6, .int 0, .int 0, .int 0, .ref q_7])) :: R) X (hin rfl) cfX4 hw 7 14 rfl rfl q1848 rfl rfl rfl rfl rfl rfl rfl dX4_init_62 (fun H locs hw => ?_)
  refine lv_aload_n hx hb dX4_init_65 rfl (lv_at hl 0 rfl) ?_
  refine g_get X cfX4 hw 7 0 rfl rfl q1834 rfl rfl dX4_init_66 ?_
  refine lv_iconst (v := 3) hx hb dX4_init_69 (by decide) ?_
  refine lv_bipush (v := 12) hx hb dX4_init_70 (by decide) ?_
  refine g_iast (ws' := (q_7, .inl (dA 0, 240, .inl (fun _ => 0))) :: (q_6, .inl (dA 1, 40, .inl (fun _ => 0))) :: (q_5, .inl (dA 1, 60, .inl (fun _ => 0))) :: (q_4, .inl (dA 0, 310, .inl (fun _ => 0))) :: (q_3, .inl (dA 0, 2480, .inl (fun _ => 0))) :: (q_2, .inl (dA 0, 310, .inl (fun _ => 0))) :: (q_1, .inl (dA 0, 310, .inl (upd (fun _ => 0) 3 12))) :: (mo, .inr (4, [.ref q_1, .ref q_2, .ref q_3, .int 0, .ref q_4, .int 0, .ref q_5, .int 0, .int 0, .int 0, .ref q_6, .int 0, .int 0, .int 0, .ref q_7])) :: R) X hw 6 rfl (i := 3) (by decide) (by decide) rfl dX4_init_72 (fun H locs hw => ?_)
  refine lv_aload_n hx hb dX4_init_73 rfl (lv_at hl 0 rfl) ?_
  refine g_get X cfX4 hw 7 0 rfl rfl q1834 rfl rfl dX4_init_74 ?_
  refine lv_iconst (v := 4) hx hb dX4_init_77 (by decide) ?_
  refine lv_bipush (v := 20) hx hb dX4_init_78 (by decide) ?_
  refine g_iast (ws' := (q_7, .inl (dA 0, 240, .inl (fun _ => 0))) :: (q_6, .inl (dA 1, 40, .inl (fun _ => 0))) :: (q_5, .inl (dA 1, 60, .inl (fun _ => 0))) :: (q_4, .inl (dA 0, 310, .inl (fun _ => 0))) :: (q_3, .inl (dA 0, 2480, .inl (fun _ => 0))) :: (q_2, .inl (dA 0, 310, .inl (fun _ => 0))) :: (q_1, .inl (dA 0, 310, .inl (upd (upd (fun _ => 0) 3 12) 4 20))) :: (mo, .inr (4, [.ref q_1, .ref q_2, .ref q_3, .int 0, .ref q_4, .int 0, .ref q_5, .int 0, .int 0, .int 0, .ref q_6, .int 0, .int 0, .int 0, .ref q_7])) :: R) X hw 6 rfl (i := 4) (by decide) (by decide) rfl dX4_init_80 (fun H locs hw => ?_)
  refine lv_iconst (v := 0) hx hb dX4_init_81 (by decide) ?_
  refine lv_istore_n (lv' := [(1, .int 0), (0, .ref mo)]) hx hb dX4_init_82 rfl hl (by decide) rfl (fun ls hl => ?_)
  have loop_8 : ∀ (fuel : Nat) (i : Nat), ∀ (hi : i ≤ 6), (6 - i) < fuel → ∀ (H : Heap) (locs : List Loc) (hw : gW D A ((q_7, .inl (dA 0, 240, .inl (fun _ => 0))) :: (q_6, .inl (dA 1, 40, .inl (fun _ => 0))) :: (q_5, .inl (dA 1, 60, .inl (fun _ => 0))) :: (q_4, .inl (dA 0, 310, .inl (fun _ => 0))) :: (q_3, .inl (dA 0, 2480, .inl (fun _ => 0))) :: (q_2, .inl (dA 0, 310, .inl (fun _ => 0))) :: (q_1, .inl (dA 0, 310, .inl (initL i))) :: (mo, .inr (4, [.ref q_1, .ref q_2, .ref q_3, .int 0, .ref q_4, .int 0, .ref q_5, .int 0, .int 0, .int 0, .ref q_6, .int 0, .int 0, .int 0, .ref q_7])) :: R) s H locs) (ls : Array Slot) (hl : lv_has ls 2 [(1, .int (nI i)), (0, .ref mo)]), W p l e ({ frames := 1, cells := 7, slots := 3820, locals := 12 }) s m args below meth c H locs (7) (3750) (MQ below (va_Qv (fun (u : Nat × Nat × Nat × Nat × Nat × Nat × Nat) => True) (fun u => gE D A ((mo, .inr (4, [.ref u.1, .ref u.2.1, .ref u.2.2.1, .int 0, .ref u.2.2.2.1, .int 0, .ref u.2.2.2.2.1, .int 0, .int 0, .int 0, .ref u.2.2.2.2.2.1, .int 0, .int 0, .int 0, .ref u.2.2.2.2.2.2])) :: (u.1, .inl (dA 0, 310, .inl (initL 6))) :: (u.2.1, .inl (dA 0, 310, .inl (fun _ => 0))) :: (u.2.2.1, .inl (dA 0, 2480, .inl (fun _ => 0))) :: (u.2.2.2.1, .inl (dA 0, 310, .inl (fun _ => 0))) :: (u.2.2.2.2.1, .inl (dA 1, 60, .inl (fun _ => 0))) :: (u.2.2.2.2.2.1, .inl (dA 1, 40, .inl (fun _ => 0))) :: (u.2.2.2.2.2.2, .inl (dA 0, 240, .inl (fun _ => 0))) :: R)) A) args s (7) (3820) A) (F0 m 83 ls []) := by
    intro fuel
    induction fuel with
    | zero => intro i hi hf; exact absurd hf (Nat.not_lt_zero _)
    | succ fuel ih_loop_8 =>
      intro i hi hfuel_loop_8 H locs hw ls hl
      refine lv_iload_n hx hb dX4_init_83 rfl (lv_at hl 0 rfl) ?_
      refine lv_bipush (v := 6) hx hb dX4_init_84 (by decide) ?_
      refine lv_icmp_ge (tgt := 115) hx hb dX4_init_86 (by decide) (fun c_9 => ?_) (fun c_9 => ?_)
      · skip
        have c_9 := Int32.not_lt.mpr c_9
        have c_9 : ¬ (i < 6) := fun q => c_9 ((nI_ltI (a := i) (b := 6) (by omega) (by omega)).mpr q)
        obtain rfl : i = 6 := by omega
        refine W.widen (k := 7) (n := 3820) (by first | exact Nat.le_of_ble_eq_true rfl | omega) (by first | exact Nat.le_of_ble_eq_true rfl | omega) ?_
        have hw : gW D A ((mo, .inr (4, [.ref q_1, .ref q_2, .ref q_3, .int 0, .ref q_4, .int 0, .ref q_5, .int 0, .int 0, .int 0, .ref q_6, .int 0, .int 0, .int 0, .ref q_7])) :: (q_1, .inl (dA 0, 310, .inl (initL 6))) :: (q_2, .inl (dA 0, 310, .inl (fun _ => 0))) :: (q_3, .inl (dA 0, 2480, .inl (fun _ => 0))) :: (q_4, .inl (dA 0, 310, .inl (fun _ => 0))) :: (q_5, .inl (dA 1, 60, .inl (fun _ => 0))) :: (q_6, .inl (dA 1, 40, .inl (fun _ => 0))) :: (q_7, .inl (dA 0, 240, .inl (fun _ => 0))) :: R) s _ _ := g_perm (X := [(q_7, .inl (dA 0, 240, .inl (fun _ => 0))), (q_6, .inl (dA 1, 40, .inl (fun _ => 0))), (q_5, .inl (dA 1, 60, .inl (fun _ => 0))), (q_4, .inl (dA 0, 310, .inl (fun _ => 0))), (q_3, .inl (dA 0, 2480, .inl (fun _ => 0))), (q_2, .inl (dA 0, 310, .inl (fun _ => 0))), (q_1, .inl (dA 0, 310, .inl (initL 6))), (mo, .inr (4, [.ref q_1, .ref q_2, .ref q_3, .int 0, .ref q_4, .int 0, .ref q_5, .int 0, .int 0, .int 0, .ref q_6, .int 0, .int 0, .int 0, .ref q_7]))]) (cx := [(mo, .inr (4, [.ref q_1, .ref q_2, .ref q_3, .int 0, .ref q_4, .int 0, .ref q_5, .int 0, .int 0, .int 0, .ref q_6, .int 0, .int 0, .int 0, .ref q_7])), (q_1, .inl (dA 0, 310, .inl (initL 6))), (q_2, .inl (dA 0, 310, .inl (fun _ => 0))), (q_3, .inl (dA 0, 2480, .inl (fun _ => 0))), (q_4, .inl (dA 0, 310, .inl (fun _ => 0))), (q_5, .inl (dA 1, 60, .inl (fun _ => 0))), (q_6, .inl (dA 1, 40, .inl (fun _ => 0))), (q_7, .inl (dA 0, 240, .inl (fun _ => 0)))]) (pl := R) hw [7, 6, 5, 4, 3, 2, 1, 0] rfl rfl rfl rfl
        exact g_vret (q_1, q_2, q_3, q_4, q_5, q_6, q_7) X hw hr hlocks trivial rfl dX4_init_115
      · skip
        have c_9 := Int32.not_le.mp c_9
        have c_9 : i < 6 := (nI_ltI (a := i) (b := 6) (by omega) (by omega)).mp c_9
        refine lv_aload_n hx hb dX4_init_89 rfl (lv_at hl 1 rfl) ?_
        refine g_get X cfX4 hw 7 0 rfl rfl q1834 rfl rfl dX4_init_90 ?_
        refine lv_bipush (v := 8) hx hb dX4_init_93 (by decide) ?_
        refine lv_iload_n hx hb dX4_init_95 rfl (lv_at hl 0 rfl) ?_
        refine lv_iadd hx hb dX4_init_96 ?_
        refine g_addN (a := 8) (b := i) ?_
        refine lv_iconst (v := 2) hx hb dX4_init_97 (by decide) ?_
        refine g_iast (ws' := (q_7, .inl (dA 0, 240, .inl (fun _ => 0))) :: (q_6, .inl (dA 1, 40, .inl (fun _ => 0))) :: (q_5, .inl (dA 1, 60, .inl (fun _ => 0))) :: (q_4, .inl (dA 0, 310, .inl (fun _ => 0))) :: (q_3, .inl (dA 0, 2480, .inl (fun _ => 0))) :: (q_2, .inl (dA 0, 310, .inl (fun _ => 0))) :: (q_1, .inl (dA 0, 310, .inl (upd (initL i) (8 + i) 2))) :: (mo, .inr (4, [.ref q_1, .ref q_2, .ref q_3, .int 0, .ref q_4, .int 0, .ref q_5, .int 0, .int 0, .int 0, .ref q_6, .int 0, .int 0, .int 0, .ref q_7])) :: R) X hw 6 rfl (i := 8 + i) (by omega) (by first | decide | omega) rfl dX4_init_98 (fun H locs hw => ?_)
        refine lv_aload_n hx hb dX4_init_99 rfl (lv_at hl 1 rfl) ?_
        refine g_get X cfX4 hw 7 0 rfl rfl q1834 rfl rfl dX4_init_100 ?_
        refine lv_bipush (v := 44) hx hb dX4_init_103 (by decide) ?_
        refine lv_iload_n hx hb dX4_init_105 rfl (lv_at hl 0 rfl) ?_
        refine lv_iadd hx hb dX4_init_106 ?_
        refine g_addN (a := 44) (b := i) ?_
        refine lv_iconst (v := (-1)) hx hb dX4_init_107 (by decide) ?_
        refine g_iast (ws' := (q_7, .inl (dA 0, 240, .inl (fun _ => 0))) :: (q_6, .inl (dA 1, 40, .inl (fun _ => 0))) :: (q_5, .inl (dA 1, 60, .inl (fun _ => 0))) :: (q_4, .inl (dA 0, 310, .inl (fun _ => 0))) :: (q_3, .inl (dA 0, 2480, .inl (fun _ => 0))) :: (q_2, .inl (dA 0, 310, .inl (fun _ => 0))) :: (q_1, .inl (dA 0, 310, .inl (upd (upd (initL i) (8 + i) 2) (44 + i) (-1)))) :: (mo, .inr (4, [.ref q_1, .ref q_2, .ref q_3, .int 0, .ref q_4, .int 0, .ref q_5, .int 0, .int 0, .int 0, .ref q_6, .int 0, .int 0, .int 0, .ref q_7])) :: R) X hw 6 rfl (i := 44 + i) (by omega) (by first | decide | omega) rfl dX4_init_108 (fun H locs hw => ?_)
        refine lv_iinc (v := nI (i + 1)) (lv' := [(1, .int (nI (i + 1))), (0, .ref mo)]) hx hb dX4_init_109 hl (k := 0) rfl (nI_add i 1) (by decide) rfl (fun ls hl => ?_)
        refine lv_goto (tgt := 83) hx hb dX4_init_112 (by decide) ?_
        have hw : gW D A ((q_7, .inl (dA 0, 240, .inl (fun _ => 0))) :: (q_6, .inl (dA 1, 40, .inl (fun _ => 0))) :: (q_5, .inl (dA 1, 60, .inl (fun _ => 0))) :: (q_4, .inl (dA 0, 310, .inl (fun _ => 0))) :: (q_3, .inl (dA 0, 2480, .inl (fun _ => 0))) :: (q_2, .inl (dA 0, 310, .inl (fun _ => 0))) :: (q_1, .inl (dA 0, 310, .inl (initL (i + 1)))) :: (mo, .inr (4, [.ref q_1, .ref q_2, .ref q_3, .int 0, .ref q_4, .int 0, .ref q_5, .int 0, .int 0, .int 0, .ref q_6, .int 0, .int 0, .int 0, .ref q_7])) :: R) s _ _ := g_ws hw (by rfl)
        exact ih_loop_8 (i + 1) (by first | assumption | omega) (by omega) _ _ hw _ (lv_sub hl [0, 1] rfl)
  have hw : gW D A ((q_7, .inl (dA 0, 240, .inl (fun _ => 0))) :: (q_6, .inl (dA 1, 40, .inl (fun _ => 0))) :: (q_5, .inl (dA 1, 60, .inl (fun _ => 0))) :: (q_4, .inl (dA 0, 310, .inl (fun _ => 0))) :: (q_3, .inl (dA 0, 2480, .inl (fun _ => 0))) :: (q_2, .inl (dA 0, 310, .inl (fun _ => 0))) :: (q_1, .inl (dA 0, 310, .inl (initL 0))) :: (mo, .inr (4, [.ref q_1, .ref q_2, .ref q_3, .int 0, .ref q_4, .int 0, .ref q_5, .int 0, .int 0, .int 0, .ref q_6, .int 0, .int 0, .int 0, .ref q_7])) :: R) s _ _ := g_ws hw (by rfl)
  exact loop_8 ((6 - 0) + 1) 0 (by first | assumption | omega) (Nat.lt_succ_self _) _ _ hw _ (lv_sub hl [0, 1] rfl)
