set_option maxHeartbeats 4000000 in
theorem m_X4_putsText (l : Launch) (D : va_G) (dA : Nat → ClassId) (A : Nat → Prop) (E : State → Prop) (hE : gSt A E) (R : va_W) (kA : Nat → Nat) (hKE : gKE A E kA) (sa sb sn : Nat) (sf : gG) (htx : gTxt dA E R sa sb sn sf) (mo ag ab ah asv ai al at_ : Nat) (ch hs ty wy wd pl iw : Int32) (g : gG) (lf : gG) (ln : Nat) (hln : ln + sn ≤ 40) : Met l yX4_putsText (ws_ yX4_putsText cX4_putsText 3 (Option.none : Option FieldType)) ({ frames := 4, cells := 0, slots := 0, locals := 85 }) (va_Pc [.ref mo, .ref sa] (gB D dA A E ((mo, .inr (4, [.ref ag, .ref ab, .ref ah, .int ch, .ref asv, .int hs, .ref ai, .int ty, .int wy, .int wd, .ref al, .int (nI ln), .int pl, .int iw, .ref at_])) :: (al, .inl (dA 1, 40, .inl lf)) :: R))) (va_Qv (fun (_ : Unit) => True) (fun _ => gE D A ((mo, .inr (4, [.ref ag, .ref ab, .ref ah, .int ch, .ref asv, .int hs, .ref ai, .int ty, .int wy, .int wd, .ref al, .int (nI (ln + sn)), .int pl, .int iw, .ref at_])) :: (al, .inl (dA 1, 40, .inl (putL lf ln sf sn))) :: R)) A) (0) (0) A := by
  refine g_start rfl rfl ?_
  intro p e s m args below meth c ls X hr hlocks hin hw hl
  have hx := X.1.1
  have hb := X.1.2.1
  have hl : lv_has ls 3 [(0, .ref mo), (1, .ref sa)] := hl
  have hs1 := htx.1
  refine lv_iconst (v := 0) hx hb dX4_putsText_0 (by decide) ?_
  refine lv_istore_n (lv' := [(2, .int 0), (0, .ref mo), (1, .ref sa)]) hx hb dX4_putsText_1 rfl hl (by decide) rfl (fun ls hl => ?_)
  have loop_1 : ∀ (fuel : Nat) (i : Nat), ∀ (hi : i ≤ sn), (sn - i) < fuel → ∀ (H : Heap) (locs : List Loc) (hw : gW D A ((mo, .inr (4, [.ref ag, .ref ab, .ref ah, .int ch, .ref asv, .int hs, .ref ai, .int ty, .int wy, .int wd, .ref al, .int (nI (ln + i)), .int pl, .int iw, .ref at_])) :: (al, .inl (dA 1, 40, .inl (putL lf ln sf i))) :: R) s H locs) (ls : Array Slot) (hl : lv_has ls 3 [(2, .int (nI i)), (0, .ref mo), (1, .ref sa)]), W p l e ({ frames := 4, cells := 0, slots := 0, locals := 85 }) s m args below meth c H locs (0) (0) (MQ below (va_Qv (fun (_ : Unit) => True) (fun _ => gE D A ((mo, .inr (4, [.ref ag, .ref ab, .ref ah, .int ch, .ref asv, .int hs, .ref ai, .int ty, .int wy, .int wd, .ref al, .int (nI (ln + sn)), .int pl, .int iw, .ref at_])) :: (al, .inl (dA 1, 40, .inl (putL lf ln sf sn))) :: R)) A) args s (0) (0) A) (F0 m 2 ls []) := by
    intro fuel
    induction fuel with
    | zero => intro i hi hf; exact absurd hf (Nat.not_lt_zero _)
    | succ fuel ih_loop_1 =>
      intro i hi hfuel_loop_1 H locs hw ls hl
      refine lv_iload_n hx hb dX4_putsText_2 rfl (lv_at hl 0 rfl) ?_
      refine lv_aload_n hx hb dX4_putsText_3 rfl (lv_at hl 2 rfl) ?_
      refine va_calli (va_runV (As := []) (rest := [.int (nI i)]) X.1 (m_J9_length l D dA A E hE ((mo, .inr (4, [.ref ag, .ref ab, .ref ah, .int ch, .ref asv, .int hs, .ref ai, .int ty, .int wy, .int wd, .ref al, .int (nI (ln + i)), .int pl, .int iw, .ref at_])) :: (al, .inl (dA 1, 40, .inl (putL lf ln sf i))) :: R) kA (by first | assumption | omega) sa sb sn sf (htx.mono (fun q h => List.mem_cons_of_mem _ (List.mem_cons_of_mem _ h)))) (cwV 0 X.1.2.2.2.2 (lw_V q2140 q1247 q2228 q78 q1249) rfl rfl rfl (by decide +kernel) ⟨Nat.le_of_ble_eq_true rfl, Nat.le_of_ble_eq_true rfl⟩) (g_preR hE X.2 hw (gTxt.at hE X hw htx (fun q h => List.mem_cons_of_mem _ (List.mem_cons_of_mem _ h))).1) rfl rfl hl.1 rfl (lv_room (Nat.le_of_ble_eq_true rfl)) dX4_putsText_4 ⟨Nat.le_of_ble_eq_true rfl, Nat.le_of_ble_eq_true rfl⟩) hw.2.2 (fun q _ h => h) (fun q h => h) (fun r_4 u t H locs ht hvm h_3 hB hz9 hk9 hS => ?_)
      have hw : gW D A ((mo, .inr (4, [.ref ag, .ref ab, .ref ah, .int ch, .ref asv, .int hs, .ref ai, .int ty, .int wy, .int wd, .ref al, .int (nI (ln + i)), .int pl, .int iw, .ref at_])) :: (al, .inl (dA 1, 40, .inl (putL lf ln sf i))) :: R) s H locs := g_aft ht hB hS
      obtain rfl : r_4 = nI sn := h_3
      refine lv_icmp_ge (tgt := 25) hx hb dX4_putsText_7 (by decide) (fun c_5 => ?_) (fun c_5 => ?_)
      · skip
        have c_5 := Int32.not_lt.mpr c_5
        have c_5 : ¬ (i < sn) := fun q => c_5 ((nI_ltI (a := i) (b := sn) (by omega) (by omega)).mpr q)
        obtain rfl : sn = i := by omega
        exact g_vret () X hw hr hlocks trivial rfl dX4_putsText_25
      · skip
        have c_5 := Int32.not_le.mp c_5
        have c_5 : i < sn := (nI_ltI (a := i) (b := sn) (by omega) (by omega)).mp c_5
        refine lv_aload_n hx hb dX4_putsText_10 rfl (lv_at hl 1 rfl) ?_
        refine lv_aload_n hx hb dX4_putsText_11 rfl (lv_at hl 2 rfl) ?_
        refine lv_iload_n hx hb dX4_putsText_12 rfl (lv_at hl 0 rfl) ?_
        refine va_calli (va_runV (As := [.int (nI i)]) (rest := [.ref mo]) X.1 (m_J9_charAt l D dA A E hE ((mo, .inr (4, [.ref ag, .ref ab, .ref ah, .int ch, .ref asv, .int hs, .ref ai, .int ty, .int wy, .int wd, .ref al, .int (nI (ln + i)), .int pl, .int iw, .ref at_])) :: (al, .inl (dA 1, 40, .inl (putL lf ln sf i))) :: R) kA (by first | assumption | omega) sa sb sn sf (htx.mono (fun q h => List.mem_cons_of_mem _ (List.mem_cons_of_mem _ h))) i (by first | assumption | omega)) (cwV 1 X.1.2.2.2.2 (lw_V q2135 q1264 q2235 q78 q1266) rfl rfl rfl (by decide +kernel) ⟨Nat.le_of_ble_eq_true rfl, Nat.le_of_ble_eq_true rfl⟩) (g_preR hE X.2 hw (gTxt.at hE X hw htx (fun q h => List.mem_cons_of_mem _ (List.mem_cons_of_mem _ h))).1) rfl rfl hl.1 rfl (lv_room (Nat.le_of_ble_eq_true rfl)) dX4_putsText_13 ⟨Nat.le_of_ble_eq_true rfl, Nat.le_of_ble_eq_true rfl⟩) hw.2.2 (fun q _ h => h) (fun q h => h) (fun r_8 u t H locs ht hvm h_7 hB hz9 hk9 hS => ?_)
        have hw : gW D A ((mo, .inr (4, [.ref ag, .ref ab, .ref ah, .int ch, .ref asv, .int hs, .ref ai, .int ty, .int wy, .int wd, .ref al, .int (nI (ln + i)), .int pl, .int iw, .ref at_])) :: (al, .inl (dA 1, 40, .inl (putL lf ln sf i))) :: R) s H locs := g_aft ht hB hS
        obtain rfl : r_8 = sf i := h_7
        refine va_callv (va_runV (As := [.int (sf i)]) (rest := []) X.1 (m_X4_puts l D dA A E hE R mo ag ab ah asv ai al at_ ch hs ty wy wd pl iw (by first | assumption | omega) (putL lf ln sf i) (ln + i) (sf i) (by first | assumption | omega)) (cwV 1 X.1.2.2.2.2 (lw_V q2166 q2168 qs61 q80 q2169) rfl rfl rfl (by decide +kernel) ⟨Nat.le_of_ble_eq_true rfl, Nat.le_of_ble_eq_true rfl⟩) (g_preV hE X.2 hw 0 rfl rfl) rfl rfl hl.1 rfl (lv_room (Nat.le_of_ble_eq_true rfl)) dX4_putsText_16 ⟨Nat.le_of_ble_eq_true rfl, Nat.le_of_ble_eq_true rfl⟩) hw.2.2 (fun q _ h => h) (fun q h => h) (fun u t H locs ht hvm h_9 hB hz9 hk9 hS => ?_)
        have hw : gW D A ((mo, .inr (4, [.ref ag, .ref ab, .ref ah, .int ch, .ref asv, .int hs, .ref ai, .int ty, .int wy, .int wd, .ref al, .int (nI ((ln + i) + 1)), .int pl, .int iw, .ref at_])) :: (al, .inl (dA 1, 40, .inl (upd (putL lf ln sf i) (ln + i) (chC (sf i))))) :: R) s H locs := g_aft ht hB hS
        refine lv_iinc (v := nI (i + 1)) (lv' := [(2, .int (nI (i + 1))), (0, .ref mo), (1, .ref sa)]) hx hb dX4_putsText_19 hl (k := 0) rfl (nI_add i 1) (by decide) rfl (fun ls hl => ?_)
        refine lv_goto (tgt := 2) hx hb dX4_putsText_22 (by decide) ?_
        have hw : gW D A ((mo, .inr (4, [.ref ag, .ref ab, .ref ah, .int ch, .ref asv, .int hs, .ref ai, .int ty, .int wy, .int wd, .ref al, .int (nI (ln + (i + 1))), .int pl, .int iw, .ref at_])) :: (al, .inl (dA 1, 40, .inl (putL lf ln sf (i + 1)))) :: R) s _ _ := g_ws hw (by rfl)
        exact ih_loop_1 (i + 1) (by first | assumption | omega) (by omega) _ _ hw _ (lv_sub hl [0, 1, 2] rfl)
  have hw : gW D A ((mo, .inr (4, [.ref ag, .ref ab, .ref ah, .int ch, .ref asv, .int hs, .ref ai, .int ty, .int wy, .int wd, .ref al, .int (nI (ln + 0)), .int pl, .int iw, .ref at_])) :: (al, .inl (dA 1, 40, .inl (putL lf ln sf 0))) :: R) s _ _ := g_ws hw (by rfl)
  exact loop_1 ((sn - 0) + 1) 0 (by first | assumption | omega) (Nat.lt_succ_self _) _ _ hw _ (lv_sub hl [0, 1, 2] rfl)

set_option maxHeartbeats 4000000 in
theorem m_X4_word (l : Launch) (D : va_G) (dA : Nat → ClassId) (A : Nat → Prop) (E : State → Prop) (hE : gSt A E) (R : va_W) (kA : Nat → Nat) (hKE : gKE A E kA) (k : Nat) (hk : k ≤ 8) : Met l yX4_word (ws_ yX4_word cX4_word 1 (Option.some (FieldType.object "java/lang/String"))) ({ frames := 0, cells := 0, slots := 0, locals := 0 }) (va_Pc [.int (nI k)] (gB D dA A E (R))) (va_Qr (fun (_ : Unit) => True) (fun _ a t => a = kA (k + 1) ∧ gE D A (R) t) A) (0) (0) A := by
  refine g_start rfl rfl ?_
  intro p e s m args below meth c ls X hr hlocks hin hw hl
  have hx := X.1.1
  have hb := X.1.2.1
  have hl : lv_has ls 1 [(0, .int (nI k))] := hl
  rcases (show k = 0 ∨ k = 1 ∨ k = 2 ∨ k = 3 ∨ k = 4 ∨ k = 5 ∨ k = 6 ∨ k = 7 ∨ k = 8 by omega) with rfl | rfl | rfl | rfl | rfl | rfl | rfl | rfl | rfl
  · skip
    have hl : lv_has ls 1 [(0, .int 0)] := hl
    refine lv_iload_n hx hb dX4_word_0 rfl (lv_at hl 0 rfl) ?_
    refine lv_tableIn (tgt := 48) hx hb dX4_word_1 (by decide) (by decide) rfl (by decide) ?_
    refine g_ldcS X hKE 23 rfl rfl dX4_word_48 ?_
    exact g_aretK (ad := fun _ => kA (0 + 1)) () X hw hr (Or.inl ⟨_, rfl⟩) hlocks trivial (rfl) rfl dX4_word_50
  · skip
    have hl : lv_has ls 1 [(0, .int 1)] := hl
    refine lv_iload_n hx hb dX4_word_0 rfl (lv_at hl 0 rfl) ?_
    refine lv_tableIn (tgt := 51) hx hb dX4_word_1 (by decide) (by decide) rfl (by decide) ?_
    refine g_ldcS X hKE 24 rfl rfl dX4_word_51 ?_
    exact g_aretK (ad := fun _ => kA (1 + 1)) () X hw hr (Or.inl ⟨_, rfl⟩) hlocks trivial (rfl) rfl dX4_word_53
  · skip
    have hl : lv_has ls 1 [(0, .int 2)] := hl
    refine lv_iload_n hx hb dX4_word_0 rfl (lv_at hl 0 rfl) ?_
    refine lv_tableIn (tgt := 54) hx hb dX4_word_1 (by decide) (by decide) rfl (by decide) ?_
    refine g_ldcS X hKE 25 rfl rfl dX4_word_54 ?_
    exact g_aretK (ad := fun _ => kA (2 + 1)) () X hw hr (Or.inl ⟨_, rfl⟩) hlocks trivial (rfl) rfl dX4_word_56
  · skip
    have hl : lv_has ls 1 [(0, .int 3)] := hl
    refine lv_iload_n hx hb dX4_word_0 rfl (lv_at hl 0 rfl) ?_
    refine lv_tableIn (tgt := 57) hx hb dX4_word_1 (by decide) (by decide) rfl (by decide) ?_
    refine g_ldcS X hKE 26 rfl rfl dX4_word_57 ?_
    exact g_aretK (ad := fun _ => kA (3 + 1)) () X hw hr (Or.inl ⟨_, rfl⟩) hlocks trivial (rfl) rfl dX4_word_59
  · skip
    have hl : lv_has ls 1 [(0, .int 4)] := hl
    refine lv_iload_n hx hb dX4_word_0 rfl (lv_at hl 0 rfl) ?_
    refine lv_tableIn (tgt := 60) hx hb dX4_word_1 (by decide) (by decide) rfl (by decide) ?_
    refine g_ldcS X hKE 27 rfl rfl dX4_word_60 ?_
    exact g_aretK (ad := fun _ => kA (4 + 1)) () X hw hr (Or.inl ⟨_, rfl⟩) hlocks trivial (rfl) rfl dX4_word_62
  · skip
    have hl : lv_has ls 1 [(0, .int 5)] := hl
    refine lv_iload_n hx hb dX4_word_0 rfl (lv_at hl 0 rfl) ?_
    refine lv_tableIn (tgt := 63) hx hb dX4_word_1 (by decide) (by decide) rfl (by decide) ?_
    refine g_ldcS X hKE 28 rfl rfl dX4_word_63 ?_
    exact g_aretK (ad := fun _ => kA (5 + 1)) () X hw hr (Or.inl ⟨_, rfl⟩) hlocks trivial (rfl) rfl dX4_word_65
  · skip
    have hl : lv_has ls 1 [(0, .int 6)] := hl
    refine lv_iload_n hx hb dX4_word_0 rfl (lv_at hl 0 rfl) ?_
    refine lv_tableIn (tgt := 66) hx hb dX4_word_1 (by decide) (by decide) rfl (by decide) ?_
    refine g_ldcS X hKE 29 rfl rfl dX4_word_66 ?_
    exact g_aretK (ad := fun _ => kA (6 + 1)) () X hw hr (Or.inl ⟨_, rfl⟩) hlocks trivial (rfl) rfl dX4_word_68
  · skip
    have hl : lv_has ls 1 [(0, .int 7)] := hl
    refine lv_iload_n hx hb dX4_word_0 rfl (lv_at hl 0 rfl) ?_
    refine lv_tableIn (tgt := 69) hx hb dX4_word_1 (by decide) (by decide) rfl (by decide) ?_
    refine g_ldcS X hKE 30 rfl rfl dX4_word_69 ?_
    exact g_aretK (ad := fun _ => kA (7 + 1)) () X hw hr (Or.inl ⟨_, rfl⟩) hlocks trivial (rfl) rfl dX4_word_71
  · skip
    have hl : lv_has ls 1 [(0, .int 8)] := hl
    refine lv_iload_n hx hb dX4_word_0 rfl (lv_at hl 0 rfl) ?_
    refine lv_tableOut (tgt := 72) hx hb dX4_word_1 (by decide) (by decide) ?_
    refine g_ldcS X hKE 31 rfl rfl dX4_word_72 ?_
    exact g_aretK (ad := fun _ => kA (8 + 1)) () X hw hr (Or.inl ⟨_, rfl⟩) hlocks trivial (rfl) rfl dX4_word_74

set_option maxHeartbeats 4000000 in
theorem m_X4_here (l : Launch) (D : va_G) (dA : Nat → ClassId) (A : Nat → Prop) (E : State → Prop) (hE : gSt A E) (R : va_W) (mo ag ab ah asv ai al at_ : Nat) (ch hs wy wd li : Int32) (g : gG) (tf : gG) (tn pl : Nat) (htn : tn ≤ 60) (hpl : pl ≤ tn) (iw : Int32) : Met l yX4_here (ws_ yX4_here cX4_here 1 (Option.some FieldType.int)) ({ frames := 0, cells := 0, slots := 0, locals := 0 }) (va_Pc [.ref mo] (gB D dA A E ((mo, .inr (4, [.ref ag, .ref ab, .ref ah, .int ch, .ref asv, .int hs, .ref ai, .int (nI tn), .int wy, .int wd, .ref al, .int li, .int (nI pl), .int iw, .ref at_])) :: (ai, .inl (dA 1, 60, .inl tf)) :: R))) (va_Qi (fun (r : Int32) (_ : Unit) => r = hereI tf tn pl) (fun _ => gE D A ((mo, .inr (4, [.ref ag, .ref ab, .ref ah, .int ch, .ref asv, .int hs, .ref ai, .int (nI tn), .int wy, .int wd, .ref al, .int li, .int (nI pl), .int iw, .ref at_])) :: (ai, .inl (dA 1, 60, .inl tf)) :: R)) A) (0) (0) A := by
  refine g_start rfl rfl ?_
  intro p e s m args below meth c ls X hr hlocks hin hw hl
  have hx := X.1.1
  have hb := X.1.2.1
  have hl : lv_has ls 1 [(0, .ref mo)] := hl
  refine lv_aload_n hx hb dX4_here_0 rfl (lv_at hl 0 rfl) ?_
  refine g_get X cfX4 hw 0 12 rfl rfl q1846 rfl rfl dX4_here_1 ?_
  refine lv_aload_n hx hb dX4_here_4 rfl (lv_at hl 0 rfl) ?_
  refine g_get X cfX4 hw 0 7 rfl rfl q1841 rfl rfl dX4_here_5 ?_
  refine lv_icmp_ge (tgt := 23) hx hb dX4_here_8 (by decide) (fun c_1 => ?_) (fun c_1 => ?_)
  · skip
    have c_1 := Int32.not_lt.mpr c_1
    have c_1 : ¬ (pl < tn) := fun q => c_1 ((nI_ltI (a := pl) (b := tn) (by omega) (by omega)).mpr q)
    refine lv_iconst (v := (-1)) hx hb dX4_here_23 (by decide) ?_
    exact g_iret (v := (-1)) () X hw hr hlocks  (by exact (here_n (by omega)).symm) rfl dX4_here_24
  · skip
    have c_1 := Int32.not_le.mp c_1
    have c_1 : pl < tn := (nI_ltI (a := pl) (b := tn) (by omega) (by omega)).mp c_1
    refine lv_aload_n hx hb dX4_here_11 rfl (lv_at hl 0 rfl) ?_
    refine g_get X cfX4 hw 0 6 rfl rfl q1840 rfl rfl dX4_here_12 ?_
    refine lv_aload_n hx hb dX4_here_15 rfl (lv_at hl 0 rfl) ?_
    refine g_get X cfX4 hw 0 12 rfl rfl q1846 rfl rfl dX4_here_16 ?_
    refine g_cald X hw 1 rfl (i := pl) (by omega) (by first | decide | omega) dX4_here_19 ?_
    refine lv_goto (tgt := 24) hx hb dX4_here_20 (by decide) ?_
    exact g_iret (v := tf pl) () X hw hr hlocks  (by exact (here_y (by omega)).symm) rfl dX4_here_24

set_option maxHeartbeats 4000000 in
theorem m_X4_needs (l : Launch) (D : va_G) (dA : Nat → ClassId) (A : Nat → Prop) (E : State → Prop) (hE : gSt A E) (R : va_W) (mo ag ab ah asv ai al at_ : Nat) (ch hs wy wd li : Int32) (g : gG) (tf : gG) (tn pl : Nat) (htn : tn ≤ 60) (hpl : pl ≤ tn) (wr : Bool) (v : Int32) (hc : ¬ v = -1) : Met l yX4_needs (ws_ yX4_needs cX4_needs 2 (Option.none : Option FieldType)) ({ frames := 1, cells := 0, slots := 0, locals := 20 }) (va_Pc [.ref mo, .int v] (gB D dA A E ((mo, .inr (4, [.ref ag, .ref ab, .ref ah, .int ch, .ref asv, .int hs, .ref ai, .int (nI tn), .int wy, .int wd, .ref al, .int li, .int (nI pl), .int (bZ wr), .ref at_])) :: (ai, .inl (dA 1, 60, .inl tf)) :: R))) (va_Qv (fun (_ : Unit) => True) (fun _ => gE D A ((mo, .inr (4, [.ref ag, .ref ab, .ref ah, .int ch, .ref asv, .int hs, .ref ai, .int (nI tn), .int wy, .int wd, .ref al, .int li, .int (nI ((needsP tf tn v pl wr).1)), .int (bZ ((needsP tf tn v pl wr).2)), .ref at_])) :: (ai, .inl (dA 1, 60, .inl tf)) :: R)) A) (0) (0) A := by
  refine g_start rfl rfl ?_
  intro p e s m args below meth c ls X hr hlocks hin hw hl
  have hx := X.1.1
  have hb := X.1.2.1
  have hl : lv_has ls 2 [(0, .ref mo), (1, .int v)] := hl
  refine lv_aload_n hx hb dX4_needs_0 rfl (lv_at hl 0 rfl) ?_
  refine lv_aload_n hx hb dX4_needs_1 rfl (lv_at hl 0 rfl) ?_
  refine g_get X cfX4 hw 0 13 rfl rfl q1847 rfl rfl dX4_needs_2 ?_
  refine lv_if_ne (tgt := 16) hx hb dX4_needs_5 (by decide) (fun c_1 => ?_) (fun c_1 => ?_)
  · skip
    have c_1 := bZ_1 c_1
    refine lv_iconst (v := 1) hx hb dX4_needs_16 (by decide) ?_
    refine lv_goto (tgt := 21) hx hb dX4_needs_17 (by decide) ?_
    refine g_put (ws' := (mo, .inr (4, [.ref ag, .ref ab, .ref ah, .int ch, .ref asv, .int hs, .ref ai, .int (nI tn), .int wy, .int wd, .ref al, .int li, .int (nI pl), .int 1, .ref at_])) :: (ai, .inl (dA 1, 60, .inl tf)) :: R) X cfX4 hw 0 13 rfl rfl q1847 rfl rfl rfl rfl rfl rfl dX4_needs_21 (fun H locs hw => ?_)
    refine lv_aload_n hx hb dX4_needs_24 rfl (lv_at hl 0 rfl) ?_
    refine lv_dup hx hb dX4_needs_25 rfl ?_
    refine g_get X cfX4 hw 0 12 rfl rfl q1846 rfl rfl dX4_needs_26 ?_
    refine lv_aload_n hx hb dX4_needs_29 rfl (lv_at hl 0 rfl) ?_
    refine g_get X cfX4 hw 0 13 rfl rfl q1847 rfl rfl dX4_needs_30 ?_
    refine lv_if_eq (tgt := 40) hx hb dX4_needs_33 (by decide) (fun c_2 => absurd c_2 (by decide)) (fun c_2 => ?_)
    refine lv_iconst (v := 0) hx hb dX4_needs_36 (by decide) ?_
    refine lv_goto (tgt := 41) hx hb dX4_needs_37 (by decide) ?_
    refine lv_iadd hx hb dX4_needs_41 ?_
    refine g_addN (a := pl) (b := 0) ?_
    refine g_put (ws' := (mo, .inr (4, [.ref ag, .ref ab, .ref ah, .int ch, .ref asv, .int hs, .ref ai, .int (nI tn), .int wy, .int wd, .ref al, .int li, .int (nI (pl + 0)), .int 1, .ref at_])) :: (ai, .inl (dA 1, 60, .inl tf)) :: R) X cfX4 hw 0 12 rfl rfl q1846 rfl rfl rfl rfl rfl rfl dX4_needs_42 (fun H locs hw => ?_)
    exact g_vret () X hw hr hlocks trivial (by rw [needs_w c_1]; rfl) dX4_needs_45
  · skip
    have c_1 := bZ_0.mp c_1
    refine lv_aload_n hx hb dX4_needs_8 rfl (lv_at hl 0 rfl) ?_
    refine va_calli (va_runV (As := []) (rest := [.ref mo]) X.1 (m_X4_here l D dA A E hE R mo ag ab ah asv ai al at_ ch hs wy wd li (by first | assumption | omega) tf tn pl (by first | assumption | omega) (by first | assumption | omega) (bZ wr)) (cwV 0 X.1.2.2.2.2 (lw_V q2136 q2138 qs55 q80 q2139) rfl rfl rfl (by decide +kernel) ⟨Nat.le_of_ble_eq_true rfl, Nat.le_of_ble_eq_true rfl⟩) (g_preV hE X.2 hw 0 rfl rfl) rfl rfl hl.1 rfl (lv_room (Nat.le_of_ble_eq_true rfl)) dX4_needs_9 ⟨Nat.le_of_ble_eq_true rfl, Nat.le_of_ble_eq_true rfl⟩) hw.2.2 (fun q _ h => h) (fun q h => h) (fun r_4 u t H locs ht hvm h_3 hB hz9 hk9 hS => ?_)
    have hw : gW D A ((mo, .inr (4, [.ref ag, .ref ab, .ref ah, .int ch, .ref asv, .int hs, .ref ai, .int (nI tn), .int wy, .int wd, .ref al, .int li, .int (nI pl), .int (bZ wr), .ref at_])) :: (ai, .inl (dA 1, 60, .inl tf)) :: R) s H locs := g_aft ht hB hS
    obtain rfl : r_4 = hereI tf tn pl := h_3
    refine lv_iload_n hx hb dX4_needs_12 rfl (lv_at hl 1 rfl) ?_
    refine lv_icmp_eq (tgt := 20) hx hb dX4_needs_13 (by decide) (fun c_5 => ?_) (fun c_5 => ?_)
    · skip
      refine lv_iconst (v := 0) hx hb dX4_needs_20 (by decide) ?_
      refine g_put (ws' := (mo, .inr (4, [.ref ag, .ref ab, .ref ah, .int ch, .ref asv, .int hs, .ref ai, .int (nI tn), .int wy, .int wd, .ref al, .int li, .int (nI pl), .int 0, .ref at_])) :: (ai, .inl (dA 1, 60, .inl tf)) :: R) X cfX4 hw 0 13 rfl rfl q1847 rfl rfl rfl rfl rfl rfl dX4_needs_21 (fun H locs hw => ?_)
      refine lv_aload_n hx hb dX4_needs_24 rfl (lv_at hl 0 rfl) ?_
      refine lv_dup hx hb dX4_needs_25 rfl ?_
      refine g_get X cfX4 hw 0 12 rfl rfl q1846 rfl rfl dX4_needs_26 ?_
      refine lv_aload_n hx hb dX4_needs_29 rfl (lv_at hl 0 rfl) ?_
      refine g_get X cfX4 hw 0 13 rfl rfl q1847 rfl rfl dX4_needs_30 ?_
      refine lv_if_eq (tgt := 40) hx hb dX4_needs_33 (by decide) (fun c_6 => ?_) (fun c_6 => absurd (by decide) c_6)
      refine lv_iconst (v := 1) hx hb dX4_needs_40 (by decide) ?_
      refine lv_iadd hx hb dX4_needs_41 ?_
      refine g_addN (a := pl) (b := 1) ?_
      refine g_put (ws' := (mo, .inr (4, [.ref ag, .ref ab, .ref ah, .int ch, .ref asv, .int hs, .ref ai, .int (nI tn), .int wy, .int wd, .ref al, .int li, .int (nI (pl + 1)), .int 0, .ref at_])) :: (ai, .inl (dA 1, 60, .inl tf)) :: R) X cfX4 hw 0 12 rfl rfl q1846 rfl rfl rfl rfl rfl rfl dX4_needs_42 (fun H locs hw => ?_)
      exact g_vret () X hw hr hlocks trivial (by rw [needs_y hc c_1 c_5]; rfl) dX4_needs_45
    · skip
      refine lv_iconst (v := 1) hx hb dX4_needs_16 (by decide) ?_
      refine lv_goto (tgt := 21) hx hb dX4_needs_17 (by decide) ?_
      refine g_put (ws' := (mo, .inr (4, [.ref ag, .ref ab, .ref ah, .int ch, .ref asv, .int hs, .ref ai, .int (nI tn), .int wy, .int wd, .ref al, .int li, .int (nI pl), .int 1, .ref at_])) :: (ai, .inl (dA 1, 60, .inl tf)) :: R) X cfX4 hw 0 13 rfl rfl q1847 rfl rfl rfl rfl rfl rfl dX4_needs_21 (fun H locs hw => ?_)
      refine lv_aload_n hx hb dX4_needs_24 rfl (lv_at hl 0 rfl) ?_
      refine lv_dup hx hb dX4_needs_25 rfl ?_
      refine g_get X cfX4 hw 0 12 rfl rfl q1846 rfl rfl dX4_needs_26 ?_
      refine lv_aload_n hx hb dX4_needs_29 rfl (lv_at hl 0 rfl) ?_
      refine g_get X cfX4 hw 0 13 rfl rfl q1847 rfl rfl dX4_needs_30 ?_
      refine lv_if_eq (tgt := 40) hx hb dX4_needs_33 (by decide) (fun c_7 => absurd c_7 (by decide)) (fun c_7 => ?_)
      refine lv_iconst (v := 0) hx hb dX4_needs_36 (by decide) ?_
      refine lv_goto (tgt := 41) hx hb dX4_needs_37 (by decide) ?_
      refine lv_iadd hx hb dX4_needs_41 ?_
      refine g_addN (a := pl) (b := 0) ?_
      refine g_put (ws' := (mo, .inr (4, [.ref ag, .ref ab, .ref ah, .int ch, .ref asv, .int hs, .ref ai, .int (nI tn), .int wy, .int wd, .ref al, .int li, .int (nI (pl + 0)), .int 1, .ref at_])) :: (ai, .inl (dA 1, 60, .inl tf)) :: R) X cfX4 hw 0 12 rfl rfl q1846 rfl rfl rfl rfl rfl rfl dX4_needs_42 (fun H locs hw => ?_)
      exact g_vret () X hw hr hlocks trivial (by rw [needs_n c_1 c_5]; rfl) dX4_needs_45

set_option maxHeartbeats 4000000 in
theorem m_X4_digit (l : Launch) (D : va_G) (dA : Nat → ClassId) (A : Nat → Prop) (E : State → Prop) (hE : gSt A E) (R : va_W) (mo ag ab ah asv ai al at_ : Nat) (ch hs wy wd li : Int32) (g : gG) (tf : gG) (tn pl : Nat) (htn : tn ≤ 60) (hpl : pl ≤ tn) (wr : Bool)  : Met l yX4_digit (ws_ yX4_digit cX4_digit 2 (Option.some FieldType.int)) ({ frames := 1, cells := 0, slots := 0, locals := 22 }) (va_Pc [.ref mo] (gB D dA A E ((mo, .inr (4, [.ref ag, .ref ab, .ref ah, .int ch, .ref asv, .int hs, .ref ai, .int (nI tn), .int wy, .int wd, .ref al, .int li, .int (nI pl), .int (bZ wr), .ref at_])) :: (ai, .inl (dA 1, 60, .inl tf)) :: R))) (va_Qi (fun (r : Int32) (_ : Unit) => r = (digitP tf tn pl wr).1) (fun _ => gE D A ((mo, .inr (4, [.ref ag, .ref ab, .ref ah, .int ch, .ref asv, .int hs, .ref ai, .int (nI tn), .int wy, .int wd, .ref al, .int li, .int (nI ((digitP tf tn pl wr).2.1)), .int (bZ ((digitP tf tn pl wr).2.2)), .ref at_])) :: (ai, .inl (dA 1, 60, .inl tf)) :: R)) A) (0) (0) A := by
  refine g_start rfl rfl ?_
  intro p e s m args below meth c ls X hr hlocks hin hw hl
  have hx := X.1.1
  have hb := X.1.2.1
  have hl : lv_has ls 2 [(0, .ref mo)] := hl
  refine lv_aload_n hx hb dX4_digit_0 rfl (lv_at hl 0 rfl) ?_
  refine lv_aload_n hx hb dX4_digit_1 rfl (lv_at hl 0 rfl) ?_
  refine g_get X cfX4 hw 0 13 rfl rfl q1847 rfl rfl dX4_digit_2 ?_
  refine lv_if_ne (tgt := 22) hx hb dX4_digit_5 (by decide) (fun c_1 => ?_) (fun c_1 => ?_)
  · skip
    have c_1 := bZ_1 c_1
    refine lv_iconst (v := 1) hx hb dX4_digit_22 (by decide) ?_
    refine lv_goto (tgt := 27) hx hb dX4_digit_23 (by decide) ?_
    refine g_put (ws' := (mo, .inr (4, [.ref ag, .ref ab, .ref ah, .int ch, .ref asv, .int hs, .ref ai, .int (nI tn), .int wy, .int wd, .ref al, .int li, .int (nI pl), .int 1, .ref at_])) :: (ai, .inl (dA 1, 60, .inl tf)) :: R) X cfX4 hw 0 13 rfl rfl q1847 rfl rfl rfl rfl rfl rfl dX4_digit_27 (fun H locs hw => ?_)
    refine lv_aload_n hx hb dX4_digit_30 rfl (lv_at hl 0 rfl) ?_
    refine g_get X cfX4 hw 0 13 rfl rfl q1847 rfl rfl dX4_digit_31 ?_
    refine lv_if_eq (tgt := 41) hx hb dX4_digit_34 (by decide) (fun c_2 => absurd c_2 (by decide)) (fun c_2 => ?_)
    refine lv_iconst (v := 0) hx hb dX4_digit_37 (by decide) ?_
    refine lv_goto (tgt := 48) hx hb dX4_digit_38 (by decide) ?_
    refine lv_istore_n (lv' := [(1, .int 0), (0, .ref mo)]) hx hb dX4_digit_48 rfl hl (by decide) rfl (fun ls hl => ?_)
    refine lv_aload_n hx hb dX4_digit_49 rfl (lv_at hl 1 rfl) ?_
    refine lv_dup hx hb dX4_digit_50 rfl ?_
    refine g_get X cfX4 hw 0 12 rfl rfl q1846 rfl rfl dX4_digit_51 ?_
    refine lv_aload_n hx hb dX4_digit_54 rfl (lv_at hl 1 rfl) ?_
    refine g_get X cfX4 hw 0 13 rfl rfl q1847 rfl rfl dX4_digit_55 ?_
    refine lv_if_eq (tgt := 65) hx hb dX4_digit_58 (by decide) (fun c_3 => absurd c_3 (by decide)) (fun c_3 => ?_)
    refine lv_iconst (v := 0) hx hb dX4_digit_61 (by decide) ?_
    refine lv_goto (tgt := 66) hx hb dX4_digit_62 (by decide) ?_
    refine lv_iadd hx hb dX4_digit_66 ?_
    refine g_addN (a := pl) (b := 0) ?_
    refine g_put (ws' := (mo, .inr (4, [.ref ag, .ref ab, .ref ah, .int ch, .ref asv, .int hs, .ref ai, .int (nI tn), .int wy, .int wd, .ref al, .int li, .int (nI (pl + 0)), .int 1, .ref at_])) :: (ai, .inl (dA 1, 60, .inl tf)) :: R) X cfX4 hw 0 12 rfl rfl q1846 rfl rfl rfl rfl rfl rfl dX4_digit_67 (fun H locs hw => ?_)
    refine lv_iload_n hx hb dX4_digit_70 rfl (lv_at hl 0 rfl) ?_
    exact g_iret (v := 0) () X hw hr hlocks  (by rw [digit_w c_1]) (by rw [digit_w c_1]; rfl) dX4_digit_71
  · skip
    have c_1 := bZ_0.mp c_1
    refine lv_aload_n hx hb dX4_digit_8 rfl (lv_at hl 0 rfl) ?_
    refine va_calli (va_runV (As := []) (rest := [.ref mo]) X.1 (m_X4_here l D dA A E hE R mo ag ab ah asv ai al at_ ch hs wy wd li (by first | assumption | omega) tf tn pl (by first | assumption | omega) (by first | assumption | omega) (bZ wr)) (cwV 0 X.1.2.2.2.2 (lw_V q2136 q2138 qs55 q80 q2139) rfl rfl rfl (by decide +kernel) ⟨Nat.le_of_ble_eq_true rfl, Nat.le_of_ble_eq_true rfl⟩) (g_preV hE X.2 hw 0 rfl rfl) rfl rfl hl.1 rfl (lv_room (Nat.le_of_ble_eq_true rfl)) dX4_digit_9 ⟨Nat.le_of_ble_eq_true rfl, Nat.le_of_ble_eq_true rfl⟩) hw.2.2 (fun q _ h => h) (fun q h => h) (fun r_5 u t H locs ht hvm h_4 hB hz9 hk9 hS => ?_)
    have hw : gW D A ((mo, .inr (4, [.ref ag, .ref ab, .ref ah, .int ch, .ref asv, .int hs, .ref ai, .int (nI tn), .int wy, .int wd, .ref al, .int li, .int (nI pl), .int (bZ wr), .ref at_])) :: (ai, .inl (dA 1, 60, .inl tf)) :: R) s H locs := g_aft ht hB hS
    obtain rfl : r_5 = hereI tf tn pl := h_4
    refine lv_bipush (v := 48) hx hb dX4_digit_12 (by decide) ?_
    refine lv_bipush (v := 57) hx hb dX4_digit_14 (by decide) ?_
    refine va_calli (va_runS (As := [.int (hereI tf tn pl), .int 48, .int 57]) (rest := [.ref mo]) X.1 (m_X4_in l D dA A E hE ((mo, .inr (4, [.ref ag, .ref ab, .ref ah, .int ch, .ref asv, .int hs, .ref ai, .int (nI tn), .int wy, .int wd, .ref al, .int li, .int (nI pl), .int (bZ wr), .ref at_])) :: (ai, .inl (dA 1, 60, .inl tf)) :: R) (hereI tf tn pl) 48 57) (va_cwS 3 X.1.2.2.2.2 (lw_S q1888 q1889 q80 q1890) rfl rfl rfl (by decide +kernel) ⟨Nat.le_of_ble_eq_true rfl, Nat.le_of_ble_eq_true rfl⟩) (g_preS hE X.2 hw) rfl rfl hl.1 rfl (lv_room (Nat.le_of_ble_eq_true rfl)) dX4_digit_16 ⟨Nat.le_of_ble_eq_true rfl, Nat.le_of_ble_eq_true rfl⟩) hw.2.2 (fun q _ h => h) (fun q h => h) (fun r_7 u t H locs ht hvm h_6 hB hz9 hk9 hS => ?_)
    have hw : gW D A ((mo, .inr (4, [.ref ag, .ref ab, .ref ah, .int ch, .ref asv, .int hs, .ref ai, .int (nI tn), .int wy, .int wd, .ref al, .int li, .int (nI pl), .int (bZ wr), .ref at_])) :: (ai, .inl (dA 1, 60, .inl tf)) :: R) s H locs := g_aft ht hB hS
    obtain rfl : r_7 = bZ (inR (hereI tf tn pl) 48 57) := h_6
    refine lv_if_ne (tgt := 26) hx hb dX4_digit_19 (by decide) (fun c_8 => ?_) (fun c_8 => ?_)
    · skip
      have c_8 := bZ_1 c_8
      refine lv_iconst (v := 0) hx hb dX4_digit_26 (by decide) ?_
      refine g_put (ws' := (mo, .inr (4, [.ref ag, .ref ab, .ref ah, .int ch, .ref asv, .int hs, .ref ai, .int (nI tn), .int wy, .int wd, .ref al, .int li, .int (nI pl), .int 0, .ref at_])) :: (ai, .inl (dA 1, 60, .inl tf)) :: R) X cfX4 hw 0 13 rfl rfl q1847 rfl rfl rfl rfl rfl rfl dX4_digit_27 (fun H locs hw => ?_)
      refine lv_aload_n hx hb dX4_digit_30 rfl (lv_at hl 0 rfl) ?_
      refine g_get X cfX4 hw 0 13 rfl rfl q1847 rfl rfl dX4_digit_31 ?_
      refine lv_if_eq (tgt := 41) hx hb dX4_digit_34 (by decide) (fun c_9 => ?_) (fun c_9 => absurd (by decide) c_9)
      refine lv_aload_n hx hb dX4_digit_41 rfl (lv_at hl 0 rfl) ?_
      refine va_calli (va_runV (As := []) (rest := []) X.1 (m_X4_here l D dA A E hE R mo ag ab ah asv ai al at_ ch hs wy wd li (by first | assumption | omega) tf tn pl (by first | assumption | omega) (by first | assumption | omega) 0) (cwV 0 X.1.2.2.2.2 (lw_V q2136 q2138 qs55 q80 q2139) rfl rfl rfl (by decide +kernel) ⟨Nat.le_of_ble_eq_true rfl, Nat.le_of_ble_eq_true rfl⟩) (g_preV hE X.2 hw 0 rfl rfl) rfl rfl hl.1 rfl (lv_room (Nat.le_of_ble_eq_true rfl)) dX4_digit_42 ⟨Nat.le_of_ble_eq_true rfl, Nat.le_of_ble_eq_true rfl⟩) hw.2.2 (fun q _ h => h) (fun q h => h) (fun r_11 u t H locs ht hvm h_10 hB hz9 hk9 hS => ?_)
      have hw : gW D A ((mo, .inr (4, [.ref ag, .ref ab, .ref ah, .int ch, .ref asv, .int hs, .ref ai, .int (nI tn), .int wy, .int wd, .ref al, .int li, .int (nI pl), .int 0, .ref at_])) :: (ai, .inl (dA 1, 60, .inl tf)) :: R) s H locs := g_aft ht hB hS
      obtain rfl : r_11 = hereI tf tn pl := h_10
      refine lv_bipush (v := 48) hx hb dX4_digit_45 (by decide) ?_
      refine lv_isub hx hb dX4_digit_47 ?_
      refine lv_istore_n (lv' := [(1, .int ((hereI tf tn pl) - 48)), (0, .ref mo)]) hx hb dX4_digit_48 rfl hl (by decide) rfl (fun ls hl => ?_)
      refine lv_aload_n hx hb dX4_digit_49 rfl (lv_at hl 1 rfl) ?_
      refine lv_dup hx hb dX4_digit_50 rfl ?_
      refine g_get X cfX4 hw 0 12 rfl rfl q1846 rfl rfl dX4_digit_51 ?_
      refine lv_aload_n hx hb dX4_digit_54 rfl (lv_at hl 1 rfl) ?_
      refine g_get X cfX4 hw 0 13 rfl rfl q1847 rfl rfl dX4_digit_55 ?_
      refine lv_if_eq (tgt := 65) hx hb dX4_digit_58 (by decide) (fun c_12 => ?_) (fun c_12 => absurd (by decide) c_12)
      refine lv_iconst (v := 1) hx hb dX4_digit_65 (by decide) ?_
      refine lv_iadd hx hb dX4_digit_66 ?_
      refine g_addN (a := pl) (b := 1) ?_
      refine g_put (ws' := (mo, .inr (4, [.ref ag, .ref ab, .ref ah, .int ch, .ref asv, .int hs, .ref ai, .int (nI tn), .int wy, .int wd, .ref al, .int li, .int (nI (pl + 1)), .int 0, .ref at_])) :: (ai, .inl (dA 1, 60, .inl tf)) :: R) X cfX4 hw 0 12 rfl rfl q1846 rfl rfl rfl rfl rfl rfl dX4_digit_67 (fun H locs hw => ?_)
      refine lv_iload_n hx hb dX4_digit_70 rfl (lv_at hl 0 rfl) ?_
      exact g_iret (v := (hereI tf tn pl) - 48) () X hw hr hlocks  (by rw [digit_y c_1 c_8]) (by rw [digit_y c_1 c_8]; rfl) dX4_digit_71
    · skip
      have c_8 := bZ_0.mp c_8
      refine lv_iconst (v := 1) hx hb dX4_digit_22 (by decide) ?_
      refine lv_goto (tgt := 27) hx hb dX4_digit_23 (by decide) ?_
      refine g_put (ws' := (mo, .inr (4, [.ref ag, .ref ab, .ref ah, .int ch, .ref asv, .int hs, .ref ai, .int (nI tn), .int wy, .int wd, .ref al, .int li, .int (nI pl), .int 1, .ref at_])) :: (ai, .inl (dA 1, 60, .inl tf)) :: R) X cfX4 hw 0 13 rfl rfl q1847 rfl rfl rfl rfl rfl rfl dX4_digit_27 (fun H locs hw => ?_)
      refine lv_aload_n hx hb dX4_digit_30 rfl (lv_at hl 0 rfl) ?_
      refine g_get X cfX4 hw 0 13 rfl rfl q1847 rfl rfl dX4_digit_31 ?_
      refine lv_if_eq (tgt := 41) hx hb dX4_digit_34 (by decide) (fun c_13 => absurd c_13 (by decide)) (fun c_13 => ?_)
      refine lv_iconst (v := 0) hx hb dX4_digit_37 (by decide) ?_
      refine lv_goto (tgt := 48) hx hb dX4_digit_38 (by decide) ?_
      refine lv_istore_n (lv' := [(1, .int 0), (0, .ref mo)]) hx hb dX4_digit_48 rfl hl (by decide) rfl (fun ls hl => ?_)
      refine lv_aload_n hx hb dX4_digit_49 rfl (lv_at hl 1 rfl) ?_
      refine lv_dup hx hb dX4_digit_50 rfl ?_
      refine g_get X cfX4 hw 0 12 rfl rfl q1846 rfl rfl dX4_digit_51 ?_
      refine lv_aload_n hx hb dX4_digit_54 rfl (lv_at hl 1 rfl) ?_
      refine g_get X cfX4 hw 0 13 rfl rfl q1847 rfl rfl dX4_digit_55 ?_
      refine lv_if_eq (tgt := 65) hx hb dX4_digit_58 (by decide) (fun c_14 => absurd c_14 (by decide)) (fun c_14 => ?_)
      refine lv_iconst (v := 0) hx hb dX4_digit_61 (by decide) ?_
      refine lv_goto (tgt := 66) hx hb dX4_digit_62 (by decide) ?_
      refine lv_iadd hx hb dX4_digit_66 ?_
      refine g_addN (a := pl) (b := 0) ?_
      refine g_put (ws' := (mo, .inr (4, [.ref ag, .ref ab, .ref ah, .int ch, .ref asv, .int hs, .ref ai, .int (nI tn), .int wy, .int wd, .ref al, .int li, .int (nI (pl + 0)), .int 1, .ref at_])) :: (ai, .inl (dA 1, 60, .inl tf)) :: R) X cfX4 hw 0 12 rfl rfl q1846 rfl rfl rfl rfl rfl rfl dX4_digit_67 (fun H locs hw => ?_)
      refine lv_iload_n hx hb dX4_digit_70 rfl (lv_at hl 0 rfl) ?_
      exact g_iret (v := 0) () X hw hr hlocks  (by rw [digit_n c_1 c_8]) (by rw [digit_n c_1 c_8]; rfl) dX4_digit_71

set_option maxHeartbeats 4000000 in
theorem m_X4_number (l : Launch) (D : va_G) (dA : Nat → ClassId) (A : Nat → Prop) (E : State → Prop) (hE : gSt A E) (R : va_W) (mo ag ab ah asv ai al at_ : Nat) (ch hs wy wd li : Int32) (g : gG) (tf : gG) (tn pl : Nat) (htn : tn ≤ 60) (hpl : pl ≤ tn) (wr : Bool)  : Met l yX4_number (ws_ yX4_number cX4_number 2 (Option.some FieldType.int)) ({ frames := 2, cells := 0, slots := 0, locals := 43 }) (va_Pc [.ref mo] (gB D dA A E ((mo, .inr (4, [.ref ag, .ref ab, .ref ah, .int ch, .ref asv, .int hs, .ref ai, .int (nI tn), .int wy, .int wd, .ref al, .int li, .int (nI pl), .int (bZ wr), .ref at_])) :: (ai, .inl (dA 1, 60, .inl tf)) :: R))) (va_Qi (fun (r : Int32) (_ : Unit) => r = (numberP tf tn pl wr).1) (fun _ => gE D A ((mo, .inr (4, [.ref ag, .ref ab, .ref ah, .int ch, .ref asv, .int hs, .ref ai, .int (nI tn), .int wy, .int wd, .ref al, .int li, .int (nI ((numberP tf tn pl wr).2.1)), .int (bZ ((numberP tf tn pl wr).2.2)), .ref at_])) :: (ai, .inl (dA 1, 60, .inl tf)) :: R)) A) (0) (0) A := by
  refine g_start rfl rfl ?_
  intro p e s m args below meth c ls X hr hlocks hin hw hl
  have hx := X.1.1
  have hb := X.1.2.1
  have hl : lv_has ls 2 [(0, .ref mo)] := hl
  have hd1 := digit_le (tf := tf) (wr := wr) hpl
  refine lv_aload_n hx hb dX4_number_0 rfl (lv_at hl 0 rfl) ?_
  refine va_calli (va_runV (As := []) (rest := []) X.1 (m_X4_digit l D dA A E hE R mo ag ab ah asv ai al at_ ch hs wy wd li (by first | assumption | omega) tf tn pl (by first | assumption | omega) (by first | assumption | omega) wr) (cwV 0 X.1.2.2.2.2 (lw_V q2149 q2151 qs58 q80 q2152) rfl rfl rfl (by decide +kernel) ⟨Nat.le_of_ble_eq_true rfl, Nat.le_of_ble_eq_true rfl⟩) (g_preV hE X.2 hw 0 rfl rfl) rfl rfl hl.1 rfl (lv_room (Nat.le_of_ble_eq_true rfl)) dX4_number_1 ⟨Nat.le_of_ble_eq_true rfl, Nat.le_of_ble_eq_true rfl⟩) hw.2.2 (fun q _ h => h) (fun q h => h) (fun r_2 u t H locs ht hvm h_1 hB hz9 hk9 hS => ?_)
  have hw : gW D A ((mo, .inr (4, [.ref ag, .ref ab, .ref ah, .int ch, .ref asv, .int hs, .ref ai, .int (nI tn), .int wy, .int wd, .ref al, .int li, .int (nI ((digitP tf tn pl wr).2.1)), .int (bZ ((digitP tf tn pl wr).2.2)), .ref at_])) :: (ai, .inl (dA 1, 60, .inl tf)) :: R) s H locs := g_aft ht hB hS
  obtain rfl : r_2 = (digitP tf tn pl wr).1 := h_1
  refine lv_istore_n (lv' := [(1, .int ((digitP tf tn pl wr).1)), (0, .ref mo)]) hx hb dX4_number_4 rfl hl (by decide) rfl (fun ls hl => ?_)
  refine lv_aload_n hx hb dX4_number_5 rfl (lv_at hl 1 rfl) ?_
  refine g_get X cfX4 hw 0 13 rfl rfl q1847 rfl rfl dX4_number_6 ?_
  refine lv_if_ne (tgt := 38) hx hb dX4_number_9 (by decide) (fun c_3 => ?_) (fun c_3 => ?_)
  · skip
    have c_3 := bZ_1 c_3
    refine lv_iload_n hx hb dX4_number_38 rfl (lv_at hl 0 rfl) ?_
    have hnum : numberP tf tn pl wr = digitP tf tn pl wr := by simp [numberP, c_3]
    exact g_iret (v := (digitP tf tn pl wr).1) () X hw hr hlocks  (by rw [hnum]) (by rw [hnum]) dX4_number_39
  · skip
    have c_3 := bZ_0.mp c_3
    refine lv_aload_n hx hb dX4_number_12 rfl (lv_at hl 1 rfl) ?_
    refine va_calli (va_runV (As := []) (rest := []) X.1 (m_X4_here l D dA A E hE R mo ag ab ah asv ai al at_ ch hs wy wd li (by first | assumption | omega) tf tn ((digitP tf tn pl wr).2.1) (by first | assumption | omega) (by first | assumption | omega) (bZ ((digitP tf tn pl wr).2.2))) (cwV 0 X.1.2.2.2.2 (lw_V q2136 q2138 qs55 q80 q2139) rfl rfl rfl (by decide +kernel) ⟨Nat.le_of_ble_eq_true rfl, Nat.le_of_ble_eq_true rfl⟩) (g_preV hE X.2 hw 0 rfl rfl) rfl rfl hl.1 rfl (lv_room (Nat.le_of_ble_eq_true rfl)) dX4_number_13 ⟨Nat.le_of_ble_eq_true rfl, Nat.le_of_ble_eq_true rfl⟩) hw.2.2 (fun q _ h => h) (fun q h => h) (fun r_5 u t H locs ht hvm h_4 hB hz9 hk9 hS => ?_)
    have hw : gW D A ((mo, .inr (4, [.ref ag, .ref ab, .ref ah, .int ch, .ref asv, .int hs, .ref ai, .int (nI tn), .int wy, .int wd, .ref al, .int li, .int (nI ((digitP tf tn pl wr).2.1)), .int (bZ ((digitP tf tn pl wr).2.2)), .ref at_])) :: (ai, .inl (dA 1, 60, .inl tf)) :: R) s H locs := g_aft ht hB hS
    obtain rfl : r_5 = hereI tf tn ((digitP tf tn pl wr).2.1) := h_4
    refine lv_bipush (v := 48) hx hb dX4_number_16 (by decide) ?_
    refine lv_bipush (v := 57) hx hb dX4_number_18 (by decide) ?_
    refine va_calli (va_runS (As := [.int (hereI tf tn ((digitP tf tn pl wr).2.1)), .int 48, .int 57]) (rest := []) X.1 (m_X4_in l D dA A E hE ((mo, .inr (4, [.ref ag, .ref ab, .ref ah, .int ch, .ref asv, .int hs, .ref ai, .int (nI tn), .int wy, .int wd, .ref al, .int li, .int (nI ((digitP tf tn pl wr).2.1)), .int (bZ ((digitP tf tn pl wr).2.2)), .ref at_])) :: (ai, .inl (dA 1, 60, .inl tf)) :: R) (hereI tf tn ((digitP tf tn pl wr).2.1)) 48 57) (va_cwS 3 X.1.2.2.2.2 (lw_S q1888 q1889 q80 q1890) rfl rfl rfl (by decide +kernel) ⟨Nat.le_of_ble_eq_true rfl, Nat.le_of_ble_eq_true rfl⟩) (g_preS hE X.2 hw) rfl rfl hl.1 rfl (lv_room (Nat.le_of_ble_eq_true rfl)) dX4_number_20 ⟨Nat.le_of_ble_eq_true rfl, Nat.le_of_ble_eq_true rfl⟩) hw.2.2 (fun q _ h => h) (fun q h => h) (fun r_7 u t H locs ht hvm h_6 hB hz9 hk9 hS => ?_)
    have hw : gW D A ((mo, .inr (4, [.ref ag, .ref ab, .ref ah, .int ch, .ref asv, .int hs, .ref ai, .int (nI tn), .int wy, .int wd, .ref al, .int li, .int (nI ((digitP tf tn pl wr).2.1)), .int (bZ ((digitP tf tn pl wr).2.2)), .ref at_])) :: (ai, .inl (dA 1, 60, .inl tf)) :: R) s H locs := g_aft ht hB hS
    obtain rfl : r_7 = bZ (inR (hereI tf tn ((digitP tf tn pl wr).2.1)) 48 57) := h_6
    refine lv_if_eq (tgt := 38) hx hb dX4_number_23 (by decide) (fun c_8 => ?_) (fun c_8 => ?_)
    · skip
      have c_8 := bZ_0.mp c_8
      refine lv_iload_n hx hb dX4_number_38 rfl (lv_at hl 0 rfl) ?_
      have hnum : numberP tf tn pl wr = digitP tf tn pl wr := by simp [numberP, c_3, c_8]
      exact g_iret (v := (digitP tf tn pl wr).1) () X hw hr hlocks  (by rw [hnum]) (by rw [hnum]) dX4_number_39
    · skip
      have c_8 := bZ_1 c_8
      refine lv_bipush (v := 10) hx hb dX4_number_26 (by decide) ?_
      refine lv_iload_n hx hb dX4_number_28 rfl (lv_at hl 0 rfl) ?_
      refine lv_imul hx hb dX4_number_29 ?_
      refine lv_aload_n hx hb dX4_number_30 rfl (lv_at hl 1 rfl) ?_
      refine va_calli (va_runV (As := []) (rest := [.int (10 * ((digitP tf tn pl wr).1))]) X.1 (m_X4_digit l D dA A E hE R mo ag ab ah asv ai al at_ ch hs wy wd li (by first | assumption | omega) tf tn ((digitP tf tn pl wr).2.1) (by first | assumption | omega) (by first | assumption | omega) ((digitP tf tn pl wr).2.2)) (cwV 0 X.1.2.2.2.2 (lw_V q2149 q2151 qs58 q80 q2152) rfl rfl rfl (by decide +kernel) ⟨Nat.le_of_ble_eq_true rfl, Nat.le_of_ble_eq_true rfl⟩) (g_preV hE X.2 hw 0 rfl rfl) rfl rfl hl.1 rfl (lv_room (Nat.le_of_ble_eq_true rfl)) dX4_number_31 ⟨Nat.le_of_ble_eq_true rfl, Nat.le_of_ble_eq_true rfl⟩) hw.2.2 (fun q _ h => h) (fun q h => h) (fun r_10 u t H locs ht hvm h_9 hB hz9 hk9 hS => ?_)
      have hw : gW D A ((mo, .inr (4, [.ref ag, .ref ab, .ref ah, .int ch, .ref asv, .int hs, .ref ai, .int (nI tn), .int wy, .int wd, .ref al, .int li, .int (nI ((digitP tf tn ((digitP tf tn pl wr).2.1) ((digitP tf tn pl wr).2.2)).2.1)), .int (bZ ((digitP tf tn ((digitP tf tn pl wr).2.1) ((digitP tf tn pl wr).2.2)).2.2)), .ref at_])) :: (ai, .inl (dA 1, 60, .inl tf)) :: R) s H locs := g_aft ht hB hS
      obtain rfl : r_10 = (digitP tf tn ((digitP tf tn pl wr).2.1) ((digitP tf tn pl wr).2.2)).1 := h_9
      refine lv_iadd hx hb dX4_number_34 ?_
      refine lv_goto (tgt := 39) hx hb dX4_number_35 (by decide) ?_
      have hnum : numberP tf tn pl wr = (10 * (digitP tf tn pl wr).1 + (digitP tf tn (digitP tf tn pl wr).2.1 (digitP tf tn pl wr).2.2).1, (digitP tf tn (digitP tf tn pl wr).2.1 (digitP tf tn pl wr).2.2).2) := by simp [numberP, c_3, c_8]
      exact g_iret (v := (10 * ((digitP tf tn pl wr).1)) + ((digitP tf tn ((digitP tf tn pl wr).2.1) ((digitP tf tn pl wr).2.2)).1)) () X hw hr hlocks  (by rw [hnum]) (by rw [hnum]) dX4_number_39

set_option maxHeartbeats 4000000 in
theorem m_X4_isWord (l : Launch) (D : va_G) (dA : Nat → ClassId) (A : Nat → Prop) (E : State → Prop) (hE : gSt A E) (R : va_W) (kA : Nat → Nat) (hKE : gKE A E kA) (mo ag ab ah asv ai al at_ : Nat) (ch hs wy wd li : Int32) (g : gG) (tf : gG) (tn pl : Nat) (htn : tn ≤ 60) (hpl : pl ≤ tn) (iw : Int32) (k : Nat) (hk : k ≤ 8) : Met l yX4_isWord (ws_ yX4_isWord cX4_isWord 3 (Option.some FieldType.boolean)) ({ frames := 4, cells := 0, slots := 0, locals := 85 }) (va_Pc [.ref mo, .int (nI k)] (gB D dA A E ((mo, .inr (4, [.ref ag, .ref ab, .ref ah, .int ch, .ref asv, .int hs, .ref ai, .int (nI tn), .int wy, .int wd, .ref al, .int li, .int (nI pl), .int iw, .ref at_])) :: (ai, .inl (dA 1, 60, .inl tf)) :: R))) (va_Qi (fun (r : Int32) (_ : Unit) => r = bZ (isWordP tf tn pl k)) (fun _ => gE D A ((mo, .inr (4, [.ref ag, .ref ab, .ref ah, .int ch, .ref asv, .int hs, .ref ai, .int (nI tn), .int wy, .int wd, .ref al, .int li, .int (nI pl), .int iw, .ref at_])) :: (ai, .inl (dA 1, 60, .inl tf)) :: R)) A) (0) (0) A := by
  refine g_start rfl rfl ?_
  intro p e s m args below meth c ls X hr hlocks hin hw hl
  have hx := X.1.1
  have hb := X.1.2.1
  have hl : lv_has ls 3 [(0, .ref mo), (1, .int (nI k))] := hl
  have hgl := gLen_w k hk
  refine lv_aload_n hx hb dX4_isWord_0 rfl (lv_at hl 0 rfl) ?_
  refine g_get X cfX4 hw 0 12 rfl rfl q1846 rfl rfl dX4_isWord_1 ?_
  refine lv_iconst (v := 1) hx hb dX4_isWord_4 (by decide) ?_
  refine lv_iadd hx hb dX4_isWord_5 ?_
  refine g_addN (a := pl) (b := 1) ?_
  refine lv_aload_n hx hb dX4_isWord_6 rfl (lv_at hl 0 rfl) ?_
  refine g_get X cfX4 hw 0 7 rfl rfl q1841 rfl rfl dX4_isWord_7 ?_
  refine lv_icmp_ge (tgt := 27) hx hb dX4_isWord_10 (by decide) (fun c_1 => ?_) (fun c_1 => ?_)
  · skip
    have c_1 := Int32.not_lt.mpr c_1
    have c_1 : ¬ (pl + 1 < tn) := fun q => c_1 ((nI_ltI (a := pl + 1) (b := tn) (by omega) (by omega)).mpr q)
    refine lv_iconst (v := (-1)) hx hb dX4_isWord_27 (by decide) ?_
    have hnx : hereI tf tn (pl + 1) = -1 := here_n (by omega)
    refine lv_istore_n (lv' := [(2, .int (-1)), (0, .ref mo), (1, .int (nI k))]) hx hb dX4_isWord_28 rfl hl (by decide) rfl (fun ls hl => ?_)
    refine lv_iload_n hx hb dX4_isWord_29 rfl (lv_at hl 2 rfl) ?_
    refine va_callr (va_runS (As := [.int (nI k)]) (rest := []) X.1 (m_X4_word l D dA A E hE ((mo, .inr (4, [.ref ag, .ref ab, .ref ah, .int ch, .ref asv, .int hs, .ref ai, .int (nI tn), .int wy, .int wd, .ref al, .int li, .int (nI pl), .int iw, .ref at_])) :: (ai, .inl (dA 1, 60, .inl tf)) :: R) kA (by first | assumption | omega) k (by first | assumption | omega)) (va_cwS 1 X.1.2.2.2.2 (lw_S q2123 q2124 q80 q2125) rfl rfl rfl (by decide +kernel) ⟨Nat.le_of_ble_eq_true rfl, Nat.le_of_ble_eq_true rfl⟩) (g_preS hE X.2 hw) rfl rfl hl.1 rfl (lv_room (Nat.le_of_ble_eq_true rfl)) dX4_isWord_30 ⟨Nat.le_of_ble_eq_true rfl, Nat.le_of_ble_eq_true rfl⟩) hw.2.2 (fun q _ h => h) (fun q h => h) (fun u q_3 t H locs ht hvm h_2 hB hz9 hk9 hS => ?_)
    obtain ⟨er_q_3, hB⟩ := hB
    obtain rfl := er_q_3.symm
    have hw : gW D A ((mo, .inr (4, [.ref ag, .ref ab, .ref ah, .int ch, .ref asv, .int hs, .ref ai, .int (nI tn), .int wy, .int wd, .ref al, .int li, .int (nI pl), .int iw, .ref at_])) :: (ai, .inl (dA 1, 60, .inl tf)) :: R) s H locs := g_aft ht hB hS
    refine lv_iconst (v := 0) hx hb dX4_isWord_33 (by decide) ?_
    refine va_calli (va_runV (As := [.int 0]) (rest := []) X.1 (m_J9_charAt l D dA A E hE ((mo, .inr (4, [.ref ag, .ref ab, .ref ah, .int ch, .ref asv, .int hs, .ref ai, .int (nI tn), .int wy, .int wd, .ref al, .int li, .int (nI pl), .int iw, .ref at_])) :: (ai, .inl (dA 1, 60, .inl tf)) :: R) kA (by first | assumption | omega) (kA (k + 1)) (kA (16 + (k + 1))) (gLen (k + 1)) (gByt (k + 1)) (gTxt.k hKE (i := (k + 1)) (by first | decide | omega)) 0 (by first | assumption | omega)) (cwV 1 X.1.2.2.2.2 (lw_V q2135 q1264 q2235 q78 q1266) rfl rfl rfl (by decide +kernel) ⟨Nat.le_of_ble_eq_true rfl, Nat.le_of_ble_eq_true rfl⟩) (g_preR hE X.2 hw (gTxt.at hE X hw (gTxt.k (R := (mo, .inr (4, [.ref ag, .ref ab, .ref ah, .int ch, .ref asv, .int hs, .ref ai, .int (nI tn), .int wy, .int wd, .ref al, .int li, .int (nI pl), .int iw, .ref at_])) :: (ai, .inl (dA 1, 60, .inl tf)) :: R) hKE (i := (k + 1)) (by first | decide | omega)) (fun q h => h)).1) rfl rfl hl.1 rfl (lv_room (Nat.le_of_ble_eq_true rfl)) dX4_isWord_34 ⟨Nat.le_of_ble_eq_true rfl, Nat.le_of_ble_eq_true rfl⟩) hw.2.2 (fun q _ h => h) (fun q h => h) (fun r_6 u t H locs ht hvm h_5 hB hz9 hk9 hS => ?_)
    have hw : gW D A ((mo, .inr (4, [.ref ag, .ref ab, .ref ah, .int ch, .ref asv, .int hs, .ref ai, .int (nI tn), .int wy, .int wd, .ref al, .int li, .int (nI pl), .int iw, .ref at_])) :: (ai, .inl (dA 1, 60, .inl tf)) :: R) s H locs := g_aft ht hB hS
    obtain rfl : r_6 = (gByt (k + 1)) 0 := h_5
    refine lv_aload_n hx hb dX4_isWord_37 rfl (lv_at hl 1 rfl) ?_
    refine va_calli (va_runV (As := []) (rest := [.int ((gByt (k + 1)) 0)]) X.1 (m_X4_here l D dA A E hE R mo ag ab ah asv ai al at_ ch hs wy wd li (by first | assumption | omega) tf tn pl (by first | assumption | omega) (by first | assumption | omega) iw) (cwV 0 X.1.2.2.2.2 (lw_V q2136 q2138 qs55 q80 q2139) rfl rfl rfl (by decide +kernel) ⟨Nat.le_of_ble_eq_true rfl, Nat.le_of_ble_eq_true rfl⟩) (g_preV hE X.2 hw 0 rfl rfl) rfl rfl hl.1 rfl (lv_room (Nat.le_of_ble_eq_true rfl)) dX4_isWord_38 ⟨Nat.le_of_ble_eq_true rfl, Nat.le_of_ble_eq_true rfl⟩) hw.2.2 (fun q _ h => h) (fun q h => h) (fun r_8 u t H locs ht hvm h_7 hB hz9 hk9 hS => ?_)
    have hw : gW D A ((mo, .inr (4, [.ref ag, .ref ab, .ref ah, .int ch, .ref asv, .int hs, .ref ai, .int (nI tn), .int wy, .int wd, .ref al, .int li, .int (nI pl), .int iw, .ref at_])) :: (ai, .inl (dA 1, 60, .inl tf)) :: R) s H locs := g_aft ht hB hS
    obtain rfl : r_8 = hereI tf tn pl := h_7
    refine lv_icmp_ne (tgt := 69) hx hb dX4_isWord_41 (by decide) (fun c_9 => ?_) (fun c_9 => ?_)
    · skip
      refine lv_iconst (v := 0) hx hb dX4_isWord_69 (by decide) ?_
      exact g_zret (v := 0) () X hw hr hlocks rfl (by exact isw_f c_9) rfl dX4_isWord_70
    · skip
      refine lv_iload_n hx hb dX4_isWord_44 rfl (lv_at hl 2 rfl) ?_
      refine lv_if_eq (tgt := 53) hx hb dX4_isWord_45 (by decide) (fun c_10 => ?_) (fun c_10 => ?_)
      · skip
        have c_10 : k = 0 := (nI_eq (a := k) (b := 0) (by omega) (by omega)).mp c_10
        refine lv_iload_n hx hb dX4_isWord_53 rfl (lv_at hl 2 rfl) ?_
        refine va_callr (va_runS (As := [.int (nI k)]) (rest := []) X.1 (m_X4_word l D dA A E hE ((mo, .inr (4, [.ref ag, .ref ab, .ref ah, .int ch, .ref asv, .int hs, .ref ai, .int (nI tn), .int wy, .int wd, .ref al, .int li, .int (nI pl), .int iw, .ref at_])) :: (ai, .inl (dA 1, 60, .inl tf)) :: R) kA (by first | assumption | omega) k (by first | assumption | omega)) (va_cwS 1 X.1.2.2.2.2 (lw_S q2123 q2124 q80 q2125) rfl rfl rfl (by decide +kernel) ⟨Nat.le_of_ble_eq_true rfl, Nat.le_of_ble_eq_true rfl⟩) (g_preS hE X.2 hw) rfl rfl hl.1 rfl (lv_room (Nat.le_of_ble_eq_true rfl)) dX4_isWord_54 ⟨Nat.le_of_ble_eq_true rfl, Nat.le_of_ble_eq_true rfl⟩) hw.2.2 (fun q _ h => h) (fun q h => h) (fun u q_12 t H locs ht hvm h_11 hB hz9 hk9 hS => ?_)
        obtain ⟨er_q_12, hB⟩ := hB
        obtain rfl := er_q_12.symm
        have hw : gW D A ((mo, .inr (4, [.ref ag, .ref ab, .ref ah, .int ch, .ref asv, .int hs, .ref ai, .int (nI tn), .int wy, .int wd, .ref al, .int li, .int (nI pl), .int iw, .ref at_])) :: (ai, .inl (dA 1, 60, .inl tf)) :: R) s H locs := g_aft ht hB hS
        refine lv_iconst (v := 1) hx hb dX4_isWord_57 (by decide) ?_
        refine va_calli (va_runV (As := [.int 1]) (rest := []) X.1 (m_J9_charAt l D dA A E hE ((mo, .inr (4, [.ref ag, .ref ab, .ref ah, .int ch, .ref asv, .int hs, .ref ai, .int (nI tn), .int wy, .int wd, .ref al, .int li, .int (nI pl), .int iw, .ref at_])) :: (ai, .inl (dA 1, 60, .inl tf)) :: R) kA (by first | assumption | omega) (kA (k + 1)) (kA (16 + (k + 1))) (gLen (k + 1)) (gByt (k + 1)) (gTxt.k hKE (i := (k + 1)) (by first | decide | omega)) 1 (by first | assumption | omega)) (cwV 1 X.1.2.2.2.2 (lw_V q2135 q1264 q2235 q78 q1266) rfl rfl rfl (by decide +kernel) ⟨Nat.le_of_ble_eq_true rfl, Nat.le_of_ble_eq_true rfl⟩) (g_preR hE X.2 hw (gTxt.at hE X hw (gTxt.k (R := (mo, .inr (4, [.ref ag, .ref ab, .ref ah, .int ch, .ref asv, .int hs, .ref ai, .int (nI tn), .int wy, .int wd, .ref al, .int li, .int (nI pl), .int iw, .ref at_])) :: (ai, .inl (dA 1, 60, .inl tf)) :: R) hKE (i := (k + 1)) (by first | decide | omega)) (fun q h => h)).1) rfl rfl hl.1 rfl (lv_room (Nat.le_of_ble_eq_true rfl)) dX4_isWord_58 ⟨Nat.le_of_ble_eq_true rfl, Nat.le_of_ble_eq_true rfl⟩) hw.2.2 (fun q _ h => h) (fun q h => h) (fun r_15 u t H locs ht hvm h_14 hB hz9 hk9 hS => ?_)
        have hw : gW D A ((mo, .inr (4, [.ref ag, .ref ab, .ref ah, .int ch, .ref asv, .int hs, .ref ai, .int (nI tn), .int wy, .int wd, .ref al, .int li, .int (nI pl), .int iw, .ref at_])) :: (ai, .inl (dA 1, 60, .inl tf)) :: R) s H locs := g_aft ht hB hS
        obtain rfl : r_15 = (gByt (k + 1)) 1 := h_14
        refine lv_iload_n hx hb dX4_isWord_61 rfl (lv_at hl 0 rfl) ?_
        refine lv_icmp_ne (tgt := 69) hx hb dX4_isWord_62 (by decide) (fun c_16 => ?_) (fun c_16 => ?_)
        · skip
          refine lv_iconst (v := 0) hx hb dX4_isWord_69 (by decide) ?_
          exact g_zret (v := 0) () X hw hr hlocks rfl (by exact isw_n hnx (by omega) c_16) rfl dX4_isWord_70
        · skip
          refine lv_iconst (v := 1) hx hb dX4_isWord_65 (by decide) ?_
          refine lv_goto (tgt := 70) hx hb dX4_isWord_66 (by decide) ?_
          exact g_zret (v := 1) () X hw hr hlocks rfl (by exact isw_c hnx c_9 c_16) rfl dX4_isWord_70
      · skip
        have c_10 : ¬ (k = 0) := fun q => c_10 ((nI_eq (a := k) (b := 0) (by omega) (by omega)).mpr q)
        refine lv_iload_n hx hb dX4_isWord_48 rfl (lv_at hl 2 rfl) ?_
        refine lv_iconst (v := 3) hx hb dX4_isWord_49 (by decide) ?_
        refine lv_icmp_ne (tgt := 65) hx hb dX4_isWord_50 (by decide) (fun c_17 => ?_) (fun c_17 => ?_)
        · skip
          have c_17 : ¬ (k = 3) := fun q => c_17 ((nI_eq (a := k) (b := 3) (by omega) (by omega)).mpr q)
          refine lv_iconst (v := 1) hx hb dX4_isWord_65 (by decide) ?_
          refine lv_goto (tgt := 70) hx hb dX4_isWord_66 (by decide) ?_
          exact g_zret (v := 1) () X hw hr hlocks rfl (by exact isw_t c_9 (by omega) (by omega)) rfl dX4_isWord_70
        · skip
          have c_17 : k = 3 := (nI_eq (a := k) (b := 3) (by omega) (by omega)).mp c_17
          refine lv_iload_n hx hb dX4_isWord_53 rfl (lv_at hl 2 rfl) ?_
          refine va_callr (va_runS (As := [.int (nI k)]) (rest := []) X.1 (m_X4_word l D dA A E hE ((mo, .inr (4, [.ref ag, .ref ab, .ref ah, .int ch, .ref asv, .int hs, .ref ai, .int (nI tn), .int wy, .int wd, .ref al, .int li, .int (nI pl), .int iw, .ref at_])) :: (ai, .inl (dA 1, 60, .inl tf)) :: R) kA (by first | assumption | omega) k (by first | assumption | omega)) (va_cwS 1 X.1.2.2.2.2 (lw_S q2123 q2124 q80 q2125) rfl rfl rfl (by decide +kernel) ⟨Nat.le_of_ble_eq_true rfl, Nat.le_of_ble_eq_true rfl⟩) (g_preS hE X.2 hw) rfl rfl hl.1 rfl (lv_room (Nat.le_of_ble_eq_true rfl)) dX4_isWord_54 ⟨Nat.le_of_ble_eq_true rfl, Nat.le_of_ble_eq_true rfl⟩) hw.2.2 (fun q _ h => h) (fun q h => h) (fun u q_19 t H locs ht hvm h_18 hB hz9 hk9 hS => ?_)
          obtain ⟨er_q_19, hB⟩ := hB
          obtain rfl := er_q_19.symm
          have hw : gW D A ((mo, .inr (4, [.ref ag, .ref ab, .ref ah, .int ch, .ref asv, .int hs, .ref ai, .int (nI tn), .int wy, .int wd, .ref al, .int li, .int (nI pl), .int iw, .ref at_])) :: (ai, .inl (dA 1, 60, .inl tf)) :: R) s H locs := g_aft ht hB hS
          refine lv_iconst (v := 1) hx hb dX4_isWord_57 (by decide) ?_
          refine va_calli (va_runV (As := [.int 1]) (rest := []) X.1 (m_J9_charAt l D dA A E hE ((mo, .inr (4, [.ref ag, .ref ab, .ref ah, .int ch, .ref asv, .int hs, .ref ai, .int (nI tn), .int wy, .int wd, .ref al, .int li, .int (nI pl), .int iw, .ref at_])) :: (ai, .inl (dA 1, 60, .inl tf)) :: R) kA (by first | assumption | omega) (kA (k + 1)) (kA (16 + (k + 1))) (gLen (k + 1)) (gByt (k + 1)) (gTxt.k hKE (i := (k + 1)) (by first | decide | omega)) 1 (by first | assumption | omega)) (cwV 1 X.1.2.2.2.2 (lw_V q2135 q1264 q2235 q78 q1266) rfl rfl rfl (by decide +kernel) ⟨Nat.le_of_ble_eq_true rfl, Nat.le_of_ble_eq_true rfl⟩) (g_preR hE X.2 hw (gTxt.at hE X hw (gTxt.k (R := (mo, .inr (4, [.ref ag, .ref ab, .ref ah, .int ch, .ref asv, .int hs, .ref ai, .int (nI tn), .int wy, .int wd, .ref al, .int li, .int (nI pl), .int iw, .ref at_])) :: (ai, .inl (dA 1, 60, .inl tf)) :: R) hKE (i := (k + 1)) (by first | decide | omega)) (fun q h => h)).1) rfl rfl hl.1 rfl (lv_room (Nat.le_of_ble_eq_true rfl)) dX4_isWord_58 ⟨Nat.le_of_ble_eq_true rfl, Nat.le_of_ble_eq_true rfl⟩) hw.2.2 (fun q _ h => h) (fun q h => h) (fun r_22 u t H locs ht hvm h_21 hB hz9 hk9 hS => ?_)
          have hw : gW D A ((mo, .inr (4, [.ref ag, .ref ab, .ref ah, .int ch, .ref asv, .int hs, .ref ai, .int (nI tn), .int wy, .int wd, .ref al, .int li, .int (nI pl), .int iw, .ref at_])) :: (ai, .inl (dA 1, 60, .inl tf)) :: R) s H locs := g_aft ht hB hS
          obtain rfl : r_22 = (gByt (k + 1)) 1 := h_21
          refine lv_iload_n hx hb dX4_isWord_61 rfl (lv_at hl 0 rfl) ?_
          refine lv_icmp_ne (tgt := 69) hx hb dX4_isWord_62 (by decide) (fun c_23 => ?_) (fun c_23 => ?_)
          · skip
            refine lv_iconst (v := 0) hx hb dX4_isWord_69 (by decide) ?_
            exact g_zret (v := 0) () X hw hr hlocks rfl (by exact isw_n hnx (by omega) c_23) rfl dX4_isWord_70
          · skip
            refine lv_iconst (v := 1) hx hb dX4_isWord_65 (by decide) ?_
            refine lv_goto (tgt := 70) hx hb dX4_isWord_66 (by decide) ?_
            exact g_zret (v := 1) () X hw hr hlocks rfl (by exact isw_c hnx c_9 c_23) rfl dX4_isWord_70
  · skip
    have c_1 := Int32.not_le.mp c_1
    have c_1 : pl + 1 < tn := (nI_ltI (a := pl + 1) (b := tn) (by omega) (by omega)).mp c_1
    refine lv_aload_n hx hb dX4_isWord_13 rfl (lv_at hl 0 rfl) ?_
    refine g_get X cfX4 hw 0 6 rfl rfl q1840 rfl rfl dX4_isWord_14 ?_
    refine lv_aload_n hx hb dX4_isWord_17 rfl (lv_at hl 0 rfl) ?_
    refine g_get X cfX4 hw 0 12 rfl rfl q1846 rfl rfl dX4_isWord_18 ?_
    refine lv_iconst (v := 1) hx hb dX4_isWord_21 (by decide) ?_
    refine lv_iadd hx hb dX4_isWord_22 ?_
    refine g_addN (a := pl) (b := 1) ?_
    refine g_cald X hw 1 rfl (i := pl + 1) (by omega) (by first | decide | omega) dX4_isWord_23 ?_
    refine lv_goto (tgt := 28) hx hb dX4_isWord_24 (by decide) ?_
    have hnx : hereI tf tn (pl + 1) = tf (pl + 1) := here_y (by omega)
    refine lv_istore_n (lv' := [(2, .int (tf (pl + 1))), (0, .ref mo), (1, .int (nI k))]) hx hb dX4_isWord_28 rfl hl (by decide) rfl (fun ls hl => ?_)
    refine lv_iload_n hx hb dX4_isWord_29 rfl (lv_at hl 2 rfl) ?_
    refine va_callr (va_runS (As := [.int (nI k)]) (rest := []) X.1 (m_X4_word l D dA A E hE ((mo, .inr (4, [.ref ag, .ref ab, .ref ah, .int ch, .ref asv, .int hs, .ref ai, .int (nI tn), .int wy, .int wd, .ref al, .int li, .int (nI pl), .int iw, .ref at_])) :: (ai, .inl (dA 1, 60, .inl tf)) :: R) kA (by first | assumption | omega) k (by first | assumption | omega)) (va_cwS 1 X.1.2.2.2.2 (lw_S q2123 q2124 q80 q2125) rfl rfl rfl (by decide +kernel) ⟨Nat.le_of_ble_eq_true rfl, Nat.le_of_ble_eq_true rfl⟩) (g_preS hE X.2 hw) rfl rfl hl.1 rfl (lv_room (Nat.le_of_ble_eq_true rfl)) dX4_isWord_30 ⟨Nat.le_of_ble_eq_true rfl, Nat.le_of_ble_eq_true rfl⟩) hw.2.2 (fun q _ h => h) (fun q h => h) (fun u q_25 t H locs ht hvm h_24 hB hz9 hk9 hS => ?_)
    obtain ⟨er_q_25, hB⟩ := hB
    obtain rfl := er_q_25.symm
    have hw : gW D A ((mo, .inr (4, [.ref ag, .ref ab, .ref ah, .int ch, .ref asv, .int hs, .ref ai, .int (nI tn), .int wy, .int wd, .ref al, .int li, .int (nI pl), .int iw, .ref at_])) :: (ai, .inl (dA 1, 60, .inl tf)) :: R) s H locs := g_aft ht hB hS
    refine lv_iconst (v := 0) hx hb dX4_isWord_33 (by decide) ?_
    refine va_calli (va_runV (As := [.int 0]) (rest := []) X.1 (m_J9_charAt l D dA A E hE ((mo, .inr (4, [.ref ag, .ref ab, .ref ah, .int ch, .ref asv, .int hs, .ref ai, .int (nI tn), .int wy, .int wd, .ref al, .int li, .int (nI pl), .int iw, .ref at_])) :: (ai, .inl (dA 1, 60, .inl tf)) :: R) kA (by first | assumption | omega) (kA (k + 1)) (kA (16 + (k + 1))) (gLen (k + 1)) (gByt (k + 1)) (gTxt.k hKE (i := (k + 1)) (by first | decide | omega)) 0 (by first | assumption | omega)) (cwV 1 X.1.2.2.2.2 (lw_V q2135 q1264 q2235 q78 q1266) rfl rfl rfl (by decide +kernel) ⟨Nat.le_of_ble_eq_true rfl, Nat.le_of_ble_eq_true rfl⟩) (g_preR hE X.2 hw (gTxt.at hE X hw (gTxt.k (R := (mo, .inr (4, [.ref ag, .ref ab, .ref ah, .int ch, .ref asv, .int hs, .ref ai, .int (nI tn), .int wy, .int wd, .ref al, .int li, .int (nI pl), .int iw, .ref at_])) :: (ai, .inl (dA 1, 60, .inl tf)) :: R) hKE (i := (k + 1)) (by first | decide | omega)) (fun q h => h)).1) rfl rfl hl.1 rfl (lv_room (Nat.le_of_ble_eq_true rfl)) dX4_isWord_34 ⟨Nat.le_of_ble_eq_true rfl, Nat.le_of_ble_eq_true rfl⟩) hw.2.2 (fun q _ h => h) (fun q h => h) (fun r_28 u t H locs ht hvm h_27 hB hz9 hk9 hS => ?_)
    have hw : gW D A ((mo, .inr (4, [.ref ag, .ref ab, .ref ah, .int ch, .ref asv, .int hs, .ref ai, .int (nI tn), .int wy, .int wd, .ref al, .int li, .int (nI pl), .int iw, .ref at_])) :: (ai, .inl (dA 1, 60, .inl tf)) :: R) s H locs := g_aft ht hB hS
    obtain rfl : r_28 = (gByt (k + 1)) 0 := h_27
    refine lv_aload_n hx hb dX4_isWord_37 rfl (lv_at hl 1 rfl) ?_
    refine va_calli (va_runV (As := []) (rest := [.int ((gByt (k + 1)) 0)]) X.1 (m_X4_here l D dA A E hE R mo ag ab ah asv ai al at_ ch hs wy wd li (by first | assumption | omega) tf tn pl (by first | assumption | omega) (by first | assumption | omega) iw) (cwV 0 X.1.2.2.2.2 (lw_V q2136 q2138 qs55 q80 q2139) rfl rfl rfl (by decide +kernel) ⟨Nat.le_of_ble_eq_true rfl, Nat.le_of_ble_eq_true rfl⟩) (g_preV hE X.2 hw 0 rfl rfl) rfl rfl hl.1 rfl (lv_room (Nat.le_of_ble_eq_true rfl)) dX4_isWord_38 ⟨Nat.le_of_ble_eq_true rfl, Nat.le_of_ble_eq_true rfl⟩) hw.2.2 (fun q _ h => h) (fun q h => h) (fun r_30 u t H locs ht hvm h_29 hB hz9 hk9 hS => ?_)
    have hw : gW D A ((mo, .inr (4, [.ref ag, .ref ab, .ref ah, .int ch, .ref asv, .int hs, .ref ai, .int (nI tn), .int wy, .int wd, .ref al, .int li, .int (nI pl), .int iw, .ref at_])) :: (ai, .inl (dA 1, 60, .inl tf)) :: R) s H locs := g_aft ht hB hS
    obtain rfl : r_30 = hereI tf tn pl := h_29
    refine lv_icmp_ne (tgt := 69) hx hb dX4_isWord_41 (by decide) (fun c_31 => ?_) (fun c_31 => ?_)
    · skip
      refine lv_iconst (v := 0) hx hb dX4_isWord_69 (by decide) ?_
      exact g_zret (v := 0) () X hw hr hlocks rfl (by exact isw_f c_31) rfl dX4_isWord_70
    · skip
      refine lv_iload_n hx hb dX4_isWord_44 rfl (lv_at hl 2 rfl) ?_
      refine lv_if_eq (tgt := 53) hx hb dX4_isWord_45 (by decide) (fun c_32 => ?_) (fun c_32 => ?_)
      · skip
        have c_32 : k = 0 := (nI_eq (a := k) (b := 0) (by omega) (by omega)).mp c_32
        refine lv_iload_n hx hb dX4_isWord_53 rfl (lv_at hl 2 rfl) ?_
        refine va_callr (va_runS (As := [.int (nI k)]) (rest := []) X.1 (m_X4_word l D dA A E hE ((mo, .inr (4, [.ref ag, .ref ab, .ref ah, .int ch, .ref asv, .int hs, .ref ai, .int (nI tn), .int wy, .int wd, .ref al, .int li, .int (nI pl), .int iw, .ref at_])) :: (ai, .inl (dA 1, 60, .inl tf)) :: R) kA (by first | assumption | omega) k (by first | assumption | omega)) (va_cwS 1 X.1.2.2.2.2 (lw_S q2123 q2124 q80 q2125) rfl rfl rfl (by decide +kernel) ⟨Nat.le_of_ble_eq_true rfl, Nat.le_of_ble_eq_true rfl⟩) (g_preS hE X.2 hw) rfl rfl hl.1 rfl (lv_room (Nat.le_of_ble_eq_true rfl)) dX4_isWord_54 ⟨Nat.le_of_ble_eq_true rfl, Nat.le_of_ble_eq_true rfl⟩) hw.2.2 (fun q _ h => h) (fun q h => h) (fun u q_34 t H locs ht hvm h_33 hB hz9 hk9 hS => ?_)
        obtain ⟨er_q_34, hB⟩ := hB
        obtain rfl := er_q_34.symm
        have hw : gW D A ((mo, .inr (4, [.ref ag, .ref ab, .ref ah, .int ch, .ref asv, .int hs, .ref ai, .int (nI tn), .int wy, .int wd, .ref al, .int li, .int (nI pl), .int iw, .ref at_])) :: (ai, .inl (dA 1, 60, .inl tf)) :: R) s H locs := g_aft ht hB hS
        refine lv_iconst (v := 1) hx hb dX4_isWord_57 (by decide) ?_
        refine va_calli (va_runV (As := [.int 1]) (rest := []) X.1 (m_J9_charAt l D dA A E hE ((mo, .inr (4, [.ref ag, .ref ab, .ref ah, .int ch, .ref asv, .int hs, .ref ai, .int (nI tn), .int wy, .int wd, .ref al, .int li, .int (nI pl), .int iw, .ref at_])) :: (ai, .inl (dA 1, 60, .inl tf)) :: R) kA (by first | assumption | omega) (kA (k + 1)) (kA (16 + (k + 1))) (gLen (k + 1)) (gByt (k + 1)) (gTxt.k hKE (i := (k + 1)) (by first | decide | omega)) 1 (by first | assumption | omega)) (cwV 1 X.1.2.2.2.2 (lw_V q2135 q1264 q2235 q78 q1266) rfl rfl rfl (by decide +kernel) ⟨Nat.le_of_ble_eq_true rfl, Nat.le_of_ble_eq_true rfl⟩) (g_preR hE X.2 hw (gTxt.at hE X hw (gTxt.k (R := (mo, .inr (4, [.ref ag, .ref ab, .ref ah, .int ch, .ref asv, .int hs, .ref ai, .int (nI tn), .int wy, .int wd, .ref al, .int li, .int (nI pl), .int iw, .ref at_])) :: (ai, .inl (dA 1, 60, .inl tf)) :: R) hKE (i := (k + 1)) (by first | decide | omega)) (fun q h => h)).1) rfl rfl hl.1 rfl (lv_room (Nat.le_of_ble_eq_true rfl)) dX4_isWord_58 ⟨Nat.le_of_ble_eq_true rfl, Nat.le_of_ble_eq_true rfl⟩) hw.2.2 (fun q _ h => h) (fun q h => h) (fun r_37 u t H locs ht hvm h_36 hB hz9 hk9 hS => ?_)
        have hw : gW D A ((mo, .inr (4, [.ref ag, .ref ab, .ref ah, .int ch, .ref asv, .int hs, .ref ai, .int (nI tn), .int wy, .int wd, .ref al, .int li, .int (nI pl), .int iw, .ref at_])) :: (ai, .inl (dA 1, 60, .inl tf)) :: R) s H locs := g_aft ht hB hS
        obtain rfl : r_37 = (gByt (k + 1)) 1 := h_36
        refine lv_iload_n hx hb dX4_isWord_61 rfl (lv_at hl 0 rfl) ?_
        refine lv_icmp_ne (tgt := 69) hx hb dX4_isWord_62 (by decide) (fun c_38 => ?_) (fun c_38 => ?_)
        · skip
          refine lv_iconst (v := 0) hx hb dX4_isWord_69 (by decide) ?_
          exact g_zret (v := 0) () X hw hr hlocks rfl (by exact isw_n hnx (by omega) c_38) rfl dX4_isWord_70
        · skip
          refine lv_iconst (v := 1) hx hb dX4_isWord_65 (by decide) ?_
          refine lv_goto (tgt := 70) hx hb dX4_isWord_66 (by decide) ?_
          exact g_zret (v := 1) () X hw hr hlocks rfl (by exact isw_c hnx c_31 c_38) rfl dX4_isWord_70
      · skip
        have c_32 : ¬ (k = 0) := fun q => c_32 ((nI_eq (a := k) (b := 0) (by omega) (by omega)).mpr q)
        refine lv_iload_n hx hb dX4_isWord_48 rfl (lv_at hl 2 rfl) ?_
        refine lv_iconst (v := 3) hx hb dX4_isWord_49 (by decide) ?_
        refine lv_icmp_ne (tgt := 65) hx hb dX4_isWord_50 (by decide) (fun c_39 => ?_) (fun c_39 => ?_)
        · skip
          have c_39 : ¬ (k = 3) := fun q => c_39 ((nI_eq (a := k) (b := 3) (by omega) (by omega)).mpr q)
          refine lv_iconst (v := 1) hx hb dX4_isWord_65 (by decide) ?_
          refine lv_goto (tgt := 70) hx hb dX4_isWord_66 (by decide) ?_
          exact g_zret (v := 1) () X hw hr hlocks rfl (by exact isw_t c_31 (by omega) (by omega)) rfl dX4_isWord_70
        · skip
          have c_39 : k = 3 := (nI_eq (a := k) (b := 3) (by omega) (by omega)).mp c_39
          refine lv_iload_n hx hb dX4_isWord_53 rfl (lv_at hl 2 rfl) ?_
          refine va_callr (va_runS (As := [.int (nI k)]) (rest := []) X.1 (m_X4_word l D dA A E hE ((mo, .inr (4, [.ref ag, .ref ab, .ref ah, .int ch, .ref asv, .int hs, .ref ai, .int (nI tn), .int wy, .int wd, .ref al, .int li, .int (nI pl), .int iw, .ref at_])) :: (ai, .inl (dA 1, 60, .inl tf)) :: R) kA (by first | assumption | omega) k (by first | assumption | omega)) (va_cwS 1 X.1.2.2.2.2 (lw_S q2123 q2124 q80 q2125) rfl rfl rfl (by decide +kernel) ⟨Nat.le_of_ble_eq_true rfl, Nat.le_of_ble_eq_true rfl⟩) (g_preS hE X.2 hw) rfl rfl hl.1 rfl (lv_room (Nat.le_of_ble_eq_true rfl)) dX4_isWord_54 ⟨Nat.le_of_ble_eq_true rfl, Nat.le_of_ble_eq_true rfl⟩) hw.2.2 (fun q _ h => h) (fun q h => h) (fun u q_41 t H locs ht hvm h_40 hB hz9 hk9 hS => ?_)
          obtain ⟨er_q_41, hB⟩ := hB
          obtain rfl := er_q_41.symm
          have hw : gW D A ((mo, .inr (4, [.ref ag, .ref ab, .ref ah, .int ch, .ref asv, .int hs, .ref ai, .int (nI tn), .int wy, .int wd, .ref al, .int li, .int (nI pl), .int iw, .ref at_])) :: (ai, .inl (dA 1, 60, .inl tf)) :: R) s H locs := g_aft ht hB hS
          refine lv_iconst (v := 1) hx hb dX4_isWord_57 (by decide) ?_
          refine va_calli (va_runV (As := [.int 1]) (rest := []) X.1 (m_J9_charAt l D dA A E hE ((mo, .inr (4, [.ref ag, .ref ab, .ref ah, .int ch, .ref asv, .int hs, .ref ai, .int (nI tn), .int wy, .int wd, .ref al, .int li, .int (nI pl), .int iw, .ref at_])) :: (ai, .inl (dA 1, 60, .inl tf)) :: R) kA (by first | assumption | omega) (kA (k + 1)) (kA (16 + (k + 1))) (gLen (k + 1)) (gByt (k + 1)) (gTxt.k hKE (i := (k + 1)) (by first | decide | omega)) 1 (by first | assumption | omega)) (cwV 1 X.1.2.2.2.2 (lw_V q2135 q1264 q2235 q78 q1266) rfl rfl rfl (by decide +kernel) ⟨Nat.le_of_ble_eq_true rfl, Nat.le_of_ble_eq_true rfl⟩) (g_preR hE X.2 hw (gTxt.at hE X hw (gTxt.k (R := (mo, .inr (4, [.ref ag, .ref ab, .ref ah, .int ch, .ref asv, .int hs, .ref ai, .int (nI tn), .int wy, .int wd, .ref al, .int li, .int (nI pl), .int iw, .ref at_])) :: (ai, .inl (dA 1, 60, .inl tf)) :: R) hKE (i := (k + 1)) (by first | decide | omega)) (fun q h => h)).1) rfl rfl hl.1 rfl (lv_room (Nat.le_of_ble_eq_true rfl)) dX4_isWord_58 ⟨Nat.le_of_ble_eq_true rfl, Nat.le_of_ble_eq_true rfl⟩) hw.2.2 (fun q _ h => h) (fun q h => h) (fun r_44 u t H locs ht hvm h_43 hB hz9 hk9 hS => ?_)
          have hw : gW D A ((mo, .inr (4, [.ref ag, .ref ab, .ref ah, .int ch, .ref asv, .int hs, .ref ai, .int (nI tn), .int wy, .int wd, .ref al, .int li, .int (nI pl), .int iw, .ref at_])) :: (ai, .inl (dA 1, 60, .inl tf)) :: R) s H locs := g_aft ht hB hS
          obtain rfl : r_44 = (gByt (k + 1)) 1 := h_43
          refine lv_iload_n hx hb dX4_isWord_61 rfl (lv_at hl 0 rfl) ?_
          refine lv_icmp_ne (tgt := 69) hx hb dX4_isWord_62 (by decide) (fun c_45 => ?_) (fun c_45 => ?_)
          · skip
            refine lv_iconst (v := 0) hx hb dX4_isWord_69 (by decide) ?_
            exact g_zret (v := 0) () X hw hr hlocks rfl (by exact isw_n hnx (by omega) c_45) rfl dX4_isWord_70
          · skip
            refine lv_iconst (v := 1) hx hb dX4_isWord_65 (by decide) ?_
            refine lv_goto (tgt := 70) hx hb dX4_isWord_66 (by decide) ?_
            exact g_zret (v := 1) () X hw hr hlocks rfl (by exact isw_c hnx c_31 c_45) rfl dX4_isWord_70

set_option maxHeartbeats 4000000 in
theorem m_X4_readsWord (l : Launch) (D : va_G) (dA : Nat → ClassId) (A : Nat → Prop) (E : State → Prop) (hE : gSt A E) (R : va_W) (kA : Nat → Nat) (hKE : gKE A E kA) (mo ag ab ah asv ai al at_ : Nat) (ch hs wy wd li : Int32) (g : gG) (tf : gG) (tn pl : Nat) (htn : tn ≤ 60) (hpl : pl ≤ tn) (wr : Bool)  : Met l yX4_readsWord (ws_ yX4_readsWord cX4_readsWord 3 (Option.some FieldType.int)) ({ frames := 5, cells := 0, slots := 0, locals := 107 }) (va_Pc [.ref mo] (gB D dA A E ((mo, .inr (4, [.ref ag, .ref ab, .ref ah, .int ch, .ref asv, .int hs, .ref ai, .int (nI tn), .int wy, .int wd, .ref al, .int li, .int (nI pl), .int (bZ wr), .ref at_])) :: (ai, .inl (dA 1, 60, .inl tf)) :: R))) (va_Qi (fun (r : Int32) (_ : Unit) => r = nI (wordP tf tn pl)) (fun _ => gE D A ((mo, .inr (4, [.ref ag, .ref ab, .ref ah, .int ch, .ref asv, .int hs, .ref ai, .int (nI tn), .int wy, .int wd, .ref al, .int li, .int (nI ((rwP tf tn pl wr).1)), .int (bZ ((rwP tf tn pl wr).2)), .ref at_])) :: (ai, .inl (dA 1, 60, .inl tf)) :: R)) A) (0) (0) A := by
  refine g_start rfl rfl ?_
  intro p e s m args below meth c ls X hr hlocks hin hw hl
  have hx := X.1.1
  have hb := X.1.2.1
  have hl : lv_has ls 3 [(0, .ref mo)] := hl
  refine lv_iconst (v := 0) hx hb dX4_readsWord_0 (by decide) ?_
  refine lv_istore_n (lv' := [(1, .int 0), (0, .ref mo)]) hx hb dX4_readsWord_1 rfl hl (by decide) rfl (fun ls hl => ?_)
  have loop_1 : ∀ (fuel : Nat) (i : Nat), ∀ (hi : i ≤ 8), ∀ (hu : wordP tf tn pl = wordL tf tn pl (8 - i) i), (8 - i) < fuel → ∀ (H : Heap) (locs : List Loc) (hw : gW D A ((mo, .inr (4, [.ref ag, .ref ab, .ref ah, .int ch, .ref asv, .int hs, .ref ai, .int (nI tn), .int wy, .int wd, .ref al, .int li, .int (nI pl), .int (bZ wr), .ref at_])) :: (ai, .inl (dA 1, 60, .inl tf)) :: R) s H locs) (ls : Array Slot) (hl : lv_has ls 3 [(1, .int (nI i)), (0, .ref mo)]), W p l e ({ frames := 5, cells := 0, slots := 0, locals := 107 }) s m args below meth c H locs (0) (0) (MQ below (va_Qi (fun (r : Int32) (_ : Unit) => r = nI (wordP tf tn pl)) (fun _ => gE D A ((mo, .inr (4, [.ref ag, .ref ab, .ref ah, .int ch, .ref asv, .int hs, .ref ai, .int (nI tn), .int wy, .int wd, .ref al, .int li, .int (nI ((rwP tf tn pl wr).1)), .int (bZ ((rwP tf tn pl wr).2)), .ref at_])) :: (ai, .inl (dA 1, 60, .inl tf)) :: R)) A) args s (0) (0) A) (F0 m 2 ls []) := by
    intro fuel
    induction fuel with
    | zero => intro i hi hu hf; exact absurd hf (Nat.not_lt_zero _)
    | succ fuel ih_loop_1 =>
      intro i hi hu hfuel_loop_1 H locs hw ls hl
      refine lv_iload_n hx hb dX4_readsWord_2 rfl (lv_at hl 0 rfl) ?_
      refine lv_bipush (v := 8) hx hb dX4_readsWord_3 (by decide) ?_
      refine lv_icmp_ge (tgt := 22) hx hb dX4_readsWord_5 (by decide) (fun c_2 => ?_) (fun c_2 => ?_)
      · skip
        have c_2 := Int32.not_lt.mpr c_2
        have c_2 : ¬ (i < 8) := fun q => c_2 ((nI_ltI (a := i) (b := 8) (by omega) (by omega)).mpr q)
        have hwp : wordP tf tn pl = i := by rw [hu]; obtain rfl : i = 8 := (by omega); rfl
        refine lv_iconst (v := 0) hx hb dX4_readsWord_22 (by decide) ?_
        refine lv_istore_n (lv' := [(2, .int 0), (1, .int (nI i)), (0, .ref mo)]) hx hb dX4_readsWord_23 rfl hl (by decide) rfl (fun ls hl => ?_)
        have loop_3 : ∀ (fuel : Nat) (b : Nat), ∀ (hb9 : b ≤ gLen (i + 1)), (gLen (i + 1) - b) < fuel → ∀ (H : Heap) (locs : List Loc) (hw : gW D A ((mo, .inr (4, [.ref ag, .ref ab, .ref ah, .int ch, .ref asv, .int hs, .ref ai, .int (nI tn), .int wy, .int wd, .ref al, .int li, .int (nI ((needsL tf tn i pl wr b).1)), .int (bZ ((needsL tf tn i pl wr b).2)), .ref at_])) :: (ai, .inl (dA 1, 60, .inl tf)) :: R) s H locs) (ls : Array Slot) (hl : lv_has ls 3 [(2, .int (nI b)), (1, .int (nI i)), (0, .ref mo)]), W p l e ({ frames := 5, cells := 0, slots := 0, locals := 107 }) s m args below meth c H locs (0) (0) (MQ below (va_Qi (fun (r : Int32) (_ : Unit) => r = nI (wordP tf tn pl)) (fun _ => gE D A ((mo, .inr (4, [.ref ag, .ref ab, .ref ah, .int ch, .ref asv, .int hs, .ref ai, .int (nI tn), .int wy, .int wd, .ref al, .int li, .int (nI ((rwP tf tn pl wr).1)), .int (bZ ((rwP tf tn pl wr).2)), .ref at_])) :: (ai, .inl (dA 1, 60, .inl tf)) :: R)) A) args s (0) (0) A) (F0 m 24 ls []) := by
          intro fuel
          induction fuel with
          | zero => intro b hb9 hf; exact absurd hf (Nat.not_lt_zero _)
          | succ fuel ih_loop_3 =>
            intro b hb9 hfuel_loop_3 H locs hw ls hl
            have hnl := needsL_le (tf := tf) (k := i) (wr := wr) hpl b
            have hgw := gLen_w i (by omega)
            have hgb := gByt_w i (by omega) b
            refine lv_iload_n hx hb dX4_readsWord_24 rfl (lv_at hl 0 rfl) ?_
            refine lv_iload_n hx hb dX4_readsWord_25 rfl (lv_at hl 1 rfl) ?_
            refine va_callr (va_runS (As := [.int (nI i)]) (rest := [.int (nI b)]) X.1 (m_X4_word l D dA A E hE ((mo, .inr (4, [.ref ag, .ref ab, .ref ah, .int ch, .ref asv, .int hs, .ref ai, .int (nI tn), .int wy, .int wd, .ref al, .int li, .int (nI ((needsL tf tn i pl wr b).1)), .int (bZ ((needsL tf tn i pl wr b).2)), .ref at_])) :: (ai, .inl (dA 1, 60, .inl tf)) :: R) kA (by first | assumption | omega) i (by first | assumption | omega)) (va_cwS 1 X.1.2.2.2.2 (lw_S q2123 q2124 q80 q2125) rfl rfl rfl (by decide +kernel) ⟨Nat.le_of_ble_eq_true rfl, Nat.le_of_ble_eq_true rfl⟩) (g_preS hE X.2 hw) rfl rfl hl.1 rfl (lv_room (Nat.le_of_ble_eq_true rfl)) dX4_readsWord_26 ⟨Nat.le_of_ble_eq_true rfl, Nat.le_of_ble_eq_true rfl⟩) hw.2.2 (fun q _ h => h) (fun q h => h) (fun u q_5 t H locs ht hvm h_4 hB hz9 hk9 hS => ?_)
            obtain ⟨er_q_5, hB⟩ := hB
            obtain rfl := er_q_5.symm
            have hw : gW D A ((mo, .inr (4, [.ref ag, .ref ab, .ref ah, .int ch, .ref asv, .int hs, .ref ai, .int (nI tn), .int wy, .int wd, .ref al, .int li, .int (nI ((needsL tf tn i pl wr b).1)), .int (bZ ((needsL tf tn i pl wr b).2)), .ref at_])) :: (ai, .inl (dA 1, 60, .inl tf)) :: R) s H locs := g_aft ht hB hS
            refine va_calli (va_runV (As := []) (rest := [.int (nI b)]) X.1 (m_J9_length l D dA A E hE ((mo, .inr (4, [.ref ag, .ref ab, .ref ah, .int ch, .ref asv, .int hs, .ref ai, .int (nI tn), .int wy, .int wd, .ref al, .int li, .int (nI ((needsL tf tn i pl wr b).1)), .int (bZ ((needsL tf tn i pl wr b).2)), .ref at_])) :: (ai, .inl (dA 1, 60, .inl tf)) :: R) kA (by first | assumption | omega) (kA (i + 1)) (kA (16 + (i + 1))) (gLen (i + 1)) (gByt (i + 1)) (gTxt.k hKE (i := (i + 1)) (by first | decide | omega))) (cwV 0 X.1.2.2.2.2 (lw_V q2140 q1247 q2228 q78 q1249) rfl rfl rfl (by decide +kernel) ⟨Nat.le_of_ble_eq_true rfl, Nat.le_of_ble_eq_true rfl⟩) (g_preR hE X.2 hw (gTxt.at hE X hw (gTxt.k (R := (mo, .inr (4, [.ref ag, .ref ab, .ref ah, .int ch, .ref asv, .int hs, .ref ai, .int (nI tn), .int wy, .int wd, .ref al, .int li, .int (nI ((needsL tf tn i pl wr b).1)), .int (bZ ((needsL tf tn i pl wr b).2)), .ref at_])) :: (ai, .inl (dA 1, 60, .inl tf)) :: R) hKE (i := (i + 1)) (by first | decide | omega)) (fun q h => h)).1) rfl rfl hl.1 rfl (lv_room (Nat.le_of_ble_eq_true rfl)) dX4_readsWord_29 ⟨Nat.le_of_ble_eq_true rfl, Nat.le_of_ble_eq_true rfl⟩) hw.2.2 (fun q _ h => h) (fun q h => h) (fun r_8 u t H locs ht hvm h_7 hB hz9 hk9 hS => ?_)
            have hw : gW D A ((mo, .inr (4, [.ref ag, .ref ab, .ref ah, .int ch, .ref asv, .int hs, .ref ai, .int (nI tn), .int wy, .int wd, .ref al, .int li, .int (nI ((needsL tf tn i pl wr b).1)), .int (bZ ((needsL tf tn i pl wr b).2)), .ref at_])) :: (ai, .inl (dA 1, 60, .inl tf)) :: R) s H locs := g_aft ht hB hS
            obtain rfl : r_8 = nI (gLen (i + 1)) := h_7
            refine lv_icmp_ge (tgt := 53) hx hb dX4_readsWord_32 (by decide) (fun c_9 => ?_) (fun c_9 => ?_)
            · skip
              have c_9 := Int32.not_lt.mpr c_9
              have c_9 : ¬ (b < (gLen (i + 1))) := fun q => c_9 ((nI_ltI (a := b) (b := (gLen (i + 1))) (by omega) (by omega)).mpr q)
              refine lv_iload_n hx hb dX4_readsWord_53 rfl (lv_at hl 1 rfl) ?_
              obtain rfl : b = gLen (i + 1) := by omega
              exact g_iret (v := nI i) () X hw hr hlocks  (by rw [hwp]) (by rw [rwP, hwp]) dX4_readsWord_54
            · skip
              have c_9 := Int32.not_le.mp c_9
              have c_9 : b < (gLen (i + 1)) := (nI_ltI (a := b) (b := (gLen (i + 1))) (by omega) (by omega)).mp c_9
              refine lv_aload_n hx hb dX4_readsWord_35 rfl (lv_at hl 2 rfl) ?_
              refine lv_iload_n hx hb dX4_readsWord_36 rfl (lv_at hl 1 rfl) ?_
              refine va_callr (va_runS (As := [.int (nI i)]) (rest := [.ref mo]) X.1 (m_X4_word l D dA A E hE ((mo, .inr (4, [.ref ag, .ref ab, .ref ah, .int ch, .ref asv, .int hs, .ref ai, .int (nI tn), .int wy, .int wd, .ref al, .int li, .int (nI ((needsL tf tn i pl wr b).1)), .int (bZ ((needsL tf tn i pl wr b).2)), .ref at_])) :: (ai, .inl (dA 1, 60, .inl tf)) :: R) kA (by first | assumption | omega) i (by first | assumption | omega)) (va_cwS 1 X.1.2.2.2.2 (lw_S q2123 q2124 q80 q2125) rfl rfl rfl (by decide +kernel) ⟨Nat.le_of_ble_eq_true rfl, Nat.le_of_ble_eq_true rfl⟩) (g_preS hE X.2 hw) rfl rfl hl.1 rfl (lv_room (Nat.le_of_ble_eq_true rfl)) dX4_readsWord_37 ⟨Nat.le_of_ble_eq_true rfl, Nat.le_of_ble_eq_true rfl⟩) hw.2.2 (fun q _ h => h) (fun q h => h) (fun u q_11 t H locs ht hvm h_10 hB hz9 hk9 hS => ?_)
              obtain ⟨er_q_11, hB⟩ := hB
              obtain rfl := er_q_11.symm
              have hw : gW D A ((mo, .inr (4, [.ref ag, .ref ab, .ref ah, .int ch, .ref asv, .int hs, .ref ai, .int (nI tn), .int wy, .int wd, .ref al, .int li, .int (nI ((needsL tf tn i pl wr b).1)), .int (bZ ((needsL tf tn i pl wr b).2)), .ref at_])) :: (ai, .inl (dA 1, 60, .inl tf)) :: R) s H locs := g_aft ht hB hS
              refine lv_iload_n hx hb dX4_readsWord_40 rfl (lv_at hl 0 rfl) ?_
              refine va_calli (va_runV (As := [.int (nI b)]) (rest := [.ref mo]) X.1 (m_J9_charAt l D dA A E hE ((mo, .inr (4, [.ref ag, .ref ab, .ref ah, .int ch, .ref asv, .int hs, .ref ai, .int (nI tn), .int wy, .int wd, .ref al, .int li, .int (nI ((needsL tf tn i pl wr b).1)), .int (bZ ((needsL tf tn i pl wr b).2)), .ref at_])) :: (ai, .inl (dA 1, 60, .inl tf)) :: R) kA (by first | assumption | omega) (kA (i + 1)) (kA (16 + (i + 1))) (gLen (i + 1)) (gByt (i + 1)) (gTxt.k hKE (i := (i + 1)) (by first | decide | omega)) b (by first | assumption | omega)) (cwV 1 X.1.2.2.2.2 (lw_V q2135 q1264 q2235 q78 q1266) rfl rfl rfl (by decide +kernel) ⟨Nat.le_of_ble_eq_true rfl, Nat.le_of_ble_eq_true rfl⟩) (g_preR hE X.2 hw (gTxt.at hE X hw (gTxt.k (R := (mo, .inr (4, [.ref ag, .ref ab, .ref ah, .int ch, .ref asv, .int hs, .ref ai, .int (nI tn), .int wy, .int wd, .ref al, .int li, .int (nI ((needsL tf tn i pl wr b).1)), .int (bZ ((needsL tf tn i pl wr b).2)), .ref at_])) :: (ai, .inl (dA 1, 60, .inl tf)) :: R) hKE (i := (i + 1)) (by first | decide | omega)) (fun q h => h)).1) rfl rfl hl.1 rfl (lv_room (Nat.le_of_ble_eq_true rfl)) dX4_readsWord_41 ⟨Nat.le_of_ble_eq_true rfl, Nat.le_of_ble_eq_true rfl⟩) hw.2.2 (fun q _ h => h) (fun q h => h) (fun r_14 u t H locs ht hvm h_13 hB hz9 hk9 hS => ?_)
              have hw : gW D A ((mo, .inr (4, [.ref ag, .ref ab, .ref ah, .int ch, .ref asv, .int hs, .ref ai, .int (nI tn), .int wy, .int wd, .ref al, .int li, .int (nI ((needsL tf tn i pl wr b).1)), .int (bZ ((needsL tf tn i pl wr b).2)), .ref at_])) :: (ai, .inl (dA 1, 60, .inl tf)) :: R) s H locs := g_aft ht hB hS
              obtain rfl : r_14 = (gByt (i + 1)) b := h_13
              refine va_callv (va_runV (As := [.int ((gByt (i + 1)) b)]) (rest := []) X.1 (m_X4_needs l D dA A E hE R mo ag ab ah asv ai al at_ ch hs wy wd li (by first | assumption | omega) tf tn ((needsL tf tn i pl wr b).1) (by first | assumption | omega) (by first | assumption | omega) ((needsL tf tn i pl wr b).2) ((gByt (i + 1)) b) (hgb (by omega))) (cwV 1 X.1.2.2.2.2 (lw_V q2141 q2143 qs56 q80 q2144) rfl rfl rfl (by decide +kernel) ⟨Nat.le_of_ble_eq_true rfl, Nat.le_of_ble_eq_true rfl⟩) (g_preV hE X.2 hw 0 rfl rfl) rfl rfl hl.1 rfl (lv_room (Nat.le_of_ble_eq_true rfl)) dX4_readsWord_44 ⟨Nat.le_of_ble_eq_true rfl, Nat.le_of_ble_eq_true rfl⟩) hw.2.2 (fun q _ h => h) (fun q h => h) (fun u t H locs ht hvm h_15 hB hz9 hk9 hS => ?_)
              have hw : gW D A ((mo, .inr (4, [.ref ag, .ref ab, .ref ah, .int ch, .ref asv, .int hs, .ref ai, .int (nI tn), .int wy, .int wd, .ref al, .int li, .int (nI ((needsP tf tn ((gByt (i + 1)) b) ((needsL tf tn i pl wr b).1) ((needsL tf tn i pl wr b).2)).1)), .int (bZ ((needsP tf tn ((gByt (i + 1)) b) ((needsL tf tn i pl wr b).1) ((needsL tf tn i pl wr b).2)).2)), .ref at_])) :: (ai, .inl (dA 1, 60, .inl tf)) :: R) s H locs := g_aft ht hB hS
              refine lv_iinc (v := nI (b + 1)) (lv' := [(2, .int (nI (b + 1))), (1, .int (nI i)), (0, .ref mo)]) hx hb dX4_readsWord_47 hl (k := 0) rfl (nI_add b 1) (by decide) rfl (fun ls hl => ?_)
              refine lv_goto (tgt := 24) hx hb dX4_readsWord_50 (by decide) ?_
              have hw : gW D A ((mo, .inr (4, [.ref ag, .ref ab, .ref ah, .int ch, .ref asv, .int hs, .ref ai, .int (nI tn), .int wy, .int wd, .ref al, .int li, .int (nI ((needsL tf tn i pl wr (b + 1)).1)), .int (bZ ((needsL tf tn i pl wr (b + 1)).2)), .ref at_])) :: (ai, .inl (dA 1, 60, .inl tf)) :: R) s _ _ := g_ws hw (by rfl)
              exact ih_loop_3 (b + 1) (by first | assumption | omega) (by omega) _ _ hw _ (lv_sub hl [0, 1, 2] rfl)
        have hw : gW D A ((mo, .inr (4, [.ref ag, .ref ab, .ref ah, .int ch, .ref asv, .int hs, .ref ai, .int (nI tn), .int wy, .int wd, .ref al, .int li, .int (nI ((needsL tf tn i pl wr 0).1)), .int (bZ ((needsL tf tn i pl wr 0).2)), .ref at_])) :: (ai, .inl (dA 1, 60, .inl tf)) :: R) s _ _ := g_ws hw (by rfl)
        exact loop_3 ((gLen (i + 1) - 0) + 1) 0 (by first | assumption | omega) (Nat.lt_succ_self _) _ _ hw _ (lv_sub hl [0, 1, 2] rfl)
      · skip
        have c_2 := Int32.not_le.mp c_2
        have c_2 : i < 8 := (nI_ltI (a := i) (b := 8) (by omega) (by omega)).mp c_2
        refine lv_aload_n hx hb dX4_readsWord_8 rfl (lv_at hl 1 rfl) ?_
        refine lv_iload_n hx hb dX4_readsWord_9 rfl (lv_at hl 0 rfl) ?_
        refine va_calli (va_runV (As := [.int (nI i)]) (rest := []) X.1 (m_X4_isWord l D dA A E hE R kA (by first | assumption | omega) mo ag ab ah asv ai al at_ ch hs wy wd li (by first | assumption | omega) tf tn pl (by first | assumption | omega) (by first | assumption | omega) (bZ wr) i (by first | assumption | omega)) (cwV 1 X.1.2.2.2.2 (lw_V q2119 q2121 qs54 q80 q2122) rfl rfl rfl (by decide +kernel) ⟨Nat.le_of_ble_eq_true rfl, Nat.le_of_ble_eq_true rfl⟩) (g_preV hE X.2 hw 0 rfl rfl) rfl rfl hl.1 rfl (lv_room (Nat.le_of_ble_eq_true rfl)) dX4_readsWord_10 ⟨Nat.le_of_ble_eq_true rfl, Nat.le_of_ble_eq_true rfl⟩) hw.2.2 (fun q _ h => h) (fun q h => h) (fun r_17 u t H locs ht hvm h_16 hB hz9 hk9 hS => ?_)
        have hw : gW D A ((mo, .inr (4, [.ref ag, .ref ab, .ref ah, .int ch, .ref asv, .int hs, .ref ai, .int (nI tn), .int wy, .int wd, .ref al, .int li, .int (nI pl), .int (bZ wr), .ref at_])) :: (ai, .inl (dA 1, 60, .inl tf)) :: R) s H locs := g_aft ht hB hS
        obtain rfl : r_17 = bZ (isWordP tf tn pl i) := h_16
        refine lv_if_ne (tgt := 22) hx hb dX4_readsWord_13 (by decide) (fun c_18 => ?_) (fun c_18 => ?_)
        · skip
          have c_18 := bZ_1 c_18
          have hwp : wordP tf tn pl = i := by rw [hu]; exact wordL_st (by omega) c_18
          refine lv_iconst (v := 0) hx hb dX4_readsWord_22 (by decide) ?_
          refine lv_istore_n (lv' := [(2, .int 0), (1, .int (nI i)), (0, .ref mo)]) hx hb dX4_readsWord_23 rfl hl (by decide) rfl (fun ls hl => ?_)
          have loop_19 : ∀ (fuel : Nat) (b : Nat), ∀ (hb9 : b ≤ gLen (i + 1)), (gLen (i + 1) - b) < fuel → ∀ (H : Heap) (locs : List Loc) (hw : gW D A ((mo, .inr (4, [.ref ag, .ref ab, .ref ah, .int ch, .ref asv, .int hs, .ref ai, .int (nI tn), .int wy, .int wd, .ref al, .int li, .int (nI ((needsL tf tn i pl wr b).1)), .int (bZ ((needsL tf tn i pl wr b).2)), .ref at_])) :: (ai, .inl (dA 1, 60, .inl tf)) :: R) s H locs) (ls : Array Slot) (hl : lv_has ls 3 [(2, .int (nI b)), (1, .int (nI i)), (0, .ref mo)]), W p l e ({ frames := 5, cells := 0, slots := 0, locals := 107 }) s m args below meth c H locs (0) (0) (MQ below (va_Qi (fun (r : Int32) (_ : Unit) => r = nI (wordP tf tn pl)) (fun _ => gE D A ((mo, .inr (4, [.ref ag, .ref ab, .ref ah, .int ch, .ref asv, .int hs, .ref ai, .int (nI tn), .int wy, .int wd, .ref al, .int li, .int (nI ((rwP tf tn pl wr).1)), .int (bZ ((rwP tf tn pl wr).2)), .ref at_])) :: (ai, .inl (dA 1, 60, .inl tf)) :: R)) A) args s (0) (0) A) (F0 m 24 ls []) := by
            intro fuel
            induction fuel with
            | zero => intro b hb9 hf; exact absurd hf (Nat.not_lt_zero _)
            | succ fuel ih_loop_19 =>
              intro b hb9 hfuel_loop_19 H locs hw ls hl
              have hnl := needsL_le (tf := tf) (k := i) (wr := wr) hpl b
              have hgw := gLen_w i (by omega)
              have hgb := gByt_w i (by omega) b
              refine lv_iload_n hx hb dX4_readsWord_24 rfl (lv_at hl 0 rfl) ?_
              refine lv_iload_n hx hb dX4_readsWord_25 rfl (lv_at hl 1 rfl) ?_
              refine va_callr (va_runS (As := [.int (nI i)]) (rest := [.int (nI b)]) X.1 (m_X4_word l D dA A E hE ((mo, .inr (4, [.ref ag, .ref ab, .ref ah, .int ch, .ref asv, .int hs, .ref ai, .int (nI tn), .int wy, .int wd, .ref al, .int li, .int (nI ((needsL tf tn i pl wr b).1)), .int (bZ ((needsL tf tn i pl wr b).2)), .ref at_])) :: (ai, .inl (dA 1, 60, .inl tf)) :: R) kA (by first | assumption | omega) i (by first | assumption | omega)) (va_cwS 1 X.1.2.2.2.2 (lw_S q2123 q2124 q80 q2125) rfl rfl rfl (by decide +kernel) ⟨Nat.le_of_ble_eq_true rfl, Nat.le_of_ble_eq_true rfl⟩) (g_preS hE X.2 hw) rfl rfl hl.1 rfl (lv_room (Nat.le_of_ble_eq_true rfl)) dX4_readsWord_26 ⟨Nat.le_of_ble_eq_true rfl, Nat.le_of_ble_eq_true rfl⟩) hw.2.2 (fun q _ h => h) (fun q h => h) (fun u q_21 t H locs ht hvm h_20 hB hz9 hk9 hS => ?_)
              obtain ⟨er_q_21, hB⟩ := hB
              obtain rfl := er_q_21.symm
              have hw : gW D A ((mo, .inr (4, [.ref ag, .ref ab, .ref ah, .int ch, .ref asv, .int hs, .ref ai, .int (nI tn), .int wy, .int wd, .ref al, .int li, .int (nI ((needsL tf tn i pl wr b).1)), .int (bZ ((needsL tf tn i pl wr b).2)), .ref at_])) :: (ai, .inl (dA 1, 60, .inl tf)) :: R) s H locs := g_aft ht hB hS
              refine va_calli (va_runV (As := []) (rest := [.int (nI b)]) X.1 (m_J9_length l D dA A E hE ((mo, .inr (4, [.ref ag, .ref ab, .ref ah, .int ch, .ref asv, .int hs, .ref ai, .int (nI tn), .int wy, .int wd, .ref al, .int li, .int (nI ((needsL tf tn i pl wr b).1)), .int (bZ ((needsL tf tn i pl wr b).2)), .ref at_])) :: (ai, .inl (dA 1, 60, .inl tf)) :: R) kA (by first | assumption | omega) (kA (i + 1)) (kA (16 + (i + 1))) (gLen (i + 1)) (gByt (i + 1)) (gTxt.k hKE (i := (i + 1)) (by first | decide | omega))) (cwV 0 X.1.2.2.2.2 (lw_V q2140 q1247 q2228 q78 q1249) rfl rfl rfl (by decide +kernel) ⟨Nat.le_of_ble_eq_true rfl, Nat.le_of_ble_eq_true rfl⟩) (g_preR hE X.2 hw (gTxt.at hE X hw (gTxt.k (R := (mo, .inr (4, [.ref ag, .ref ab, .ref ah, .int ch, .ref asv, .int hs, .ref ai, .int (nI tn), .int wy, .int wd, .ref al, .int li, .int (nI ((needsL tf tn i pl wr b).1)), .int (bZ ((needsL tf tn i pl wr b).2)), .ref at_])) :: (ai, .inl (dA 1, 60, .inl tf)) :: R) hKE (i := (i + 1)) (by first | decide | omega)) (fun q h => h)).1) rfl rfl hl.1 rfl (lv_room (Nat.le_of_ble_eq_true rfl)) dX4_readsWord_29 ⟨Nat.le_of_ble_eq_true rfl, Nat.le_of_ble_eq_true rfl⟩) hw.2.2 (fun q _ h => h) (fun q h => h) (fun r_24 u t H locs ht hvm h_23 hB hz9 hk9 hS => ?_)
              have hw : gW D A ((mo, .inr (4, [.ref ag, .ref ab, .ref ah, .int ch, .ref asv, .int hs, .ref ai, .int (nI tn), .int wy, .int wd, .ref al, .int li, .int (nI ((needsL tf tn i pl wr b).1)), .int (bZ ((needsL tf tn i pl wr b).2)), .ref at_])) :: (ai, .inl (dA 1, 60, .inl tf)) :: R) s H locs := g_aft ht hB hS
              obtain rfl : r_24 = nI (gLen (i + 1)) := h_23
              refine lv_icmp_ge (tgt := 53) hx hb dX4_readsWord_32 (by decide) (fun c_25 => ?_) (fun c_25 => ?_)
              · skip
                have c_25 := Int32.not_lt.mpr c_25
                have c_25 : ¬ (b < (gLen (i + 1))) := fun q => c_25 ((nI_ltI (a := b) (b := (gLen (i + 1))) (by omega) (by omega)).mpr q)
                refine lv_iload_n hx hb dX4_readsWord_53 rfl (lv_at hl 1 rfl) ?_
                obtain rfl : b = gLen (i + 1) := by omega
                exact g_iret (v := nI i) () X hw hr hlocks  (by rw [hwp]) (by rw [rwP, hwp]) dX4_readsWord_54
              · skip
                have c_25 := Int32.not_le.mp c_25
                have c_25 : b < (gLen (i + 1)) := (nI_ltI (a := b) (b := (gLen (i + 1))) (by omega) (by omega)).mp c_25
                refine lv_aload_n hx hb dX4_readsWord_35 rfl (lv_at hl 2 rfl) ?_
                refine lv_iload_n hx hb dX4_readsWord_36 rfl (lv_at hl 1 rfl) ?_
                refine va_callr (va_runS (As := [.int (nI i)]) (rest := [.ref mo]) X.1 (m_X4_word l D dA A E hE ((mo, .inr (4, [.ref ag, .ref ab, .ref ah, .int ch, .ref asv, .int hs, .ref ai, .int (nI tn), .int wy, .int wd, .ref al, .int li, .int (nI ((needsL tf tn i pl wr b).1)), .int (bZ ((needsL tf tn i pl wr b).2)), .ref at_])) :: (ai, .inl (dA 1, 60, .inl tf)) :: R) kA (by first | assumption | omega) i (by first | assumption | omega)) (va_cwS 1 X.1.2.2.2.2 (lw_S q2123 q2124 q80 q2125) rfl rfl rfl (by decide +kernel) ⟨Nat.le_of_ble_eq_true rfl, Nat.le_of_ble_eq_true rfl⟩) (g_preS hE X.2 hw) rfl rfl hl.1 rfl (lv_room (Nat.le_of_ble_eq_true rfl)) dX4_readsWord_37 ⟨Nat.le_of_ble_eq_true rfl, Nat.le_of_ble_eq_true rfl⟩) hw.2.2 (fun q _ h => h) (fun q h => h) (fun u q_27 t H locs ht hvm h_26 hB hz9 hk9 hS => ?_)
                obtain ⟨er_q_27, hB⟩ := hB
                obtain rfl := er_q_27.symm
                have hw : gW D A ((mo, .inr (4, [.ref ag, .ref ab, .ref ah, .int ch, .ref asv, .int hs, .ref ai, .int (nI tn), .int wy, .int wd, .ref al, .int li, .int (nI ((needsL tf tn i pl wr b).1)), .int (bZ ((needsL tf tn i pl wr b).2)), .ref at_])) :: (ai, .inl (dA 1, 60, .inl tf)) :: R) s H locs := g_aft ht hB hS
                refine lv_iload_n hx hb dX4_readsWord_40 rfl (lv_at hl 0 rfl) ?_
                refine va_calli (va_runV (As := [.int (nI b)]) (rest := [.ref mo]) X.1 (m_J9_charAt l D dA A E hE ((mo, .inr (4, [.ref ag, .ref ab, .ref ah, .int ch, .ref asv, .int hs, .ref ai, .int (nI tn), .int wy, .int wd, .ref al, .int li, .int (nI ((needsL tf tn i pl wr b).1)), .int (bZ ((needsL tf tn i pl wr b).2)), .ref at_])) :: (ai, .inl (dA 1, 60, .inl tf)) :: R) kA (by first | assumption | omega) (kA (i + 1)) (kA (16 + (i + 1))) (gLen (i + 1)) (gByt (i + 1)) (gTxt.k hKE (i := (i + 1)) (by first | decide | omega)) b (by first | assumption | omega)) (cwV 1 X.1.2.2.2.2 (lw_V q2135 q1264 q2235 q78 q1266) rfl rfl rfl (by decide +kernel) ⟨Nat.le_of_ble_eq_true rfl, Nat.le_of_ble_eq_true rfl⟩) (g_preR hE X.2 hw (gTxt.at hE X hw (gTxt.k (R := (mo, .inr (4, [.ref ag, .ref ab, .ref ah, .int ch, .ref asv, .int hs, .ref ai, .int (nI tn), .int wy, .int wd, .ref al, .int li, .int (nI ((needsL tf tn i pl wr b).1)), .int (bZ ((needsL tf tn i pl wr b).2)), .ref at_])) :: (ai, .inl (dA 1, 60, .inl tf)) :: R) hKE (i := (i + 1)) (by first | decide | omega)) (fun q h => h)).1) rfl rfl hl.1 rfl (lv_room (Nat.le_of_ble_eq_true rfl)) dX4_readsWord_41 ⟨Nat.le_of_ble_eq_true rfl, Nat.le_of_ble_eq_true rfl⟩) hw.2.2 (fun q _ h => h) (fun q h => h) (fun r_30 u t H locs ht hvm h_29 hB hz9 hk9 hS => ?_)
                have hw : gW D A ((mo, .inr (4, [.ref ag, .ref ab, .ref ah, .int ch, .ref asv, .int hs, .ref ai, .int (nI tn), .int wy, .int wd, .ref al, .int li, .int (nI ((needsL tf tn i pl wr b).1)), .int (bZ ((needsL tf tn i pl wr b).2)), .ref at_])) :: (ai, .inl (dA 1, 60, .inl tf)) :: R) s H locs := g_aft ht hB hS
                obtain rfl : r_30 = (gByt (i + 1)) b := h_29
                refine va_callv (va_runV (As := [.int ((gByt (i + 1)) b)]) (rest := []) X.1 (m_X4_needs l D dA A E hE R mo ag ab ah asv ai al at_ ch hs wy wd li (by first | assumption | omega) tf tn ((needsL tf tn i pl wr b).1) (by first | assumption | omega) (by first | assumption | omega) ((needsL tf tn i pl wr b).2) ((gByt (i + 1)) b) (hgb (by omega))) (cwV 1 X.1.2.2.2.2 (lw_V q2141 q2143 qs56 q80 q2144) rfl rfl rfl (by decide +kernel) ⟨Nat.le_of_ble_eq_true rfl, Nat.le_of_ble_eq_true rfl⟩) (g_preV hE X.2 hw 0 rfl rfl) rfl rfl hl.1 rfl (lv_room (Nat.le_of_ble_eq_true rfl)) dX4_readsWord_44 ⟨Nat.le_of_ble_eq_true rfl, Nat.le_of_ble_eq_true rfl⟩) hw.2.2 (fun q _ h => h) (fun q h => h) (fun u t H locs ht hvm h_31 hB hz9 hk9 hS => ?_)
                have hw : gW D A ((mo, .inr (4, [.ref ag, .ref ab, .ref ah, .int ch, .ref asv, .int hs, .ref ai, .int (nI tn), .int wy, .int wd, .ref al, .int li, .int (nI ((needsP tf tn ((gByt (i + 1)) b) ((needsL tf tn i pl wr b).1) ((needsL tf tn i pl wr b).2)).1)), .int (bZ ((needsP tf tn ((gByt (i + 1)) b) ((needsL tf tn i pl wr b).1) ((needsL tf tn i pl wr b).2)).2)), .ref at_])) :: (ai, .inl (dA 1, 60, .inl tf)) :: R) s H locs := g_aft ht hB hS
                refine lv_iinc (v := nI (b + 1)) (lv' := [(2, .int (nI (b + 1))), (1, .int (nI i)), (0, .ref mo)]) hx hb dX4_readsWord_47 hl (k := 0) rfl (nI_add b 1) (by decide) rfl (fun ls hl => ?_)
                refine lv_goto (tgt := 24) hx hb dX4_readsWord_50 (by decide) ?_
                have hw : gW D A ((mo, .inr (4, [.ref ag, .ref ab, .ref ah, .int ch, .ref asv, .int hs, .ref ai, .int (nI tn), .int wy, .int wd, .ref al, .int li, .int (nI ((needsL tf tn i pl wr (b + 1)).1)), .int (bZ ((needsL tf tn i pl wr (b + 1)).2)), .ref at_])) :: (ai, .inl (dA 1, 60, .inl tf)) :: R) s _ _ := g_ws hw (by rfl)
                exact ih_loop_19 (b + 1) (by first | assumption | omega) (by omega) _ _ hw _ (lv_sub hl [0, 1, 2] rfl)
          have hw : gW D A ((mo, .inr (4, [.ref ag, .ref ab, .ref ah, .int ch, .ref asv, .int hs, .ref ai, .int (nI tn), .int wy, .int wd, .ref al, .int li, .int (nI ((needsL tf tn i pl wr 0).1)), .int (bZ ((needsL tf tn i pl wr 0).2)), .ref at_])) :: (ai, .inl (dA 1, 60, .inl tf)) :: R) s _ _ := g_ws hw (by rfl)
          exact loop_19 ((gLen (i + 1) - 0) + 1) 0 (by first | assumption | omega) (Nat.lt_succ_self _) _ _ hw _ (lv_sub hl [0, 1, 2] rfl)
        · skip
          have c_18 := bZ_0.mp c_18
          refine lv_iinc (v := nI (i + 1)) (lv' := [(1, .int (nI (i + 1))), (0, .ref mo)]) hx hb dX4_readsWord_16 hl (k := 0) rfl (nI_add i 1) (by decide) rfl (fun ls hl => ?_)
          refine lv_goto (tgt := 2) hx hb dX4_readsWord_19 (by decide) ?_
          exact ih_loop_1 (i + 1) (by first | assumption | omega) (by rw [hu]; exact wordL_go (by omega) c_18) (by omega) _ _ hw _ (lv_sub hl [0, 1] rfl)
  exact loop_1 ((8 - 0) + 1) 0 (by first | assumption | omega) (rfl) (Nat.lt_succ_self _) _ _ hw _ (lv_sub hl [0, 1] rfl)

set_option maxHeartbeats 4000000 in
theorem m_X4_readsOrder (l : Launch) (D : va_G) (dA : Nat → ClassId) (A : Nat → Prop) (E : State → Prop) (hE : gSt A E) (R : va_W) (kA : Nat → Nat) (hKE : gKE A E kA) (mo ag ab ah asv ai al at_ : Nat) (ch hs wy wd li : Int32) (g : gG) (tf : gG) (tn pl : Nat) (htn : tn ≤ 60) (hpl : pl ≤ tn) (wr : Bool) (td : gG) (k : Nat) (hk : k + 3 < 240) : Met l yX4_readsOrder (ws_ yX4_readsOrder cX4_readsOrder 3 (Option.none : Option FieldType)) ({ frames := 6, cells := 0, slots := 0, locals := 129 }) (va_Pc [.ref mo, .int (nI k)] (gB D dA A E ((mo, .inr (4, [.ref ag, .ref ab, .ref ah, .int ch, .ref asv, .int hs, .ref ai, .int (nI tn), .int wy, .int wd, .ref al, .int li, .int (nI pl), .int (bZ wr), .ref at_])) :: (ai, .inl (dA 1, 60, .inl tf)) :: (at_, .inl (dA 0, 240, .inl td)) :: R))) (va_Qv (fun (_ : Unit) => True) (fun _ => gE D A ((mo, .inr (4, [.ref ag, .ref ab, .ref ah, .int ch, .ref asv, .int hs, .ref ai, .int (nI tn), .int wy, .int wd, .ref al, .int li, .int (nI ((ordY tf tn pl wr).2.1)), .int (bZ ((ordY tf tn pl wr).2.2)), .ref at_])) :: (ai, .inl (dA 1, 60, .inl tf)) :: (at_, .inl (dA 0, 240, .inl (ordT td k (wordP tf tn pl) (ordV tf tn pl wr).1 (ordX tf tn pl wr).1 (ordY tf tn pl wr).1))) :: R)) A) (0) (0) A := by
  refine g_start rfl rfl ?_
  intro p e s m args below meth c ls X hr hlocks hin hw hl
  have hx := X.1.1
  have hb := X.1.2.1
  have hl : lv_has ls 3 [(0, .ref mo), (1, .int (nI k))] := hl
  have hwl := wordP_le (tf := tf) (tn := tn) (pl := pl)
  refine lv_aload_n hx hb dX4_readsOrder_0 rfl (lv_at hl 0 rfl) ?_
  refine va_calli (va_runV (As := []) (rest := []) X.1 (m_X4_readsWord l D dA A E hE ((at_, .inl (dA 0, 240, .inl td)) :: R) kA (by first | assumption | omega) mo ag ab ah asv ai al at_ ch hs wy wd li (by first | assumption | omega) tf tn pl (by first | assumption | omega) (by first | assumption | omega) wr) (cwV 0 X.1.2.2.2.2 (lw_V q2115 q2117 qs53 q80 q2118) rfl rfl rfl (by decide +kernel) ⟨Nat.le_of_ble_eq_true rfl, Nat.le_of_ble_eq_true rfl⟩) (g_preV hE X.2 hw 0 rfl rfl) rfl rfl hl.1 rfl (lv_room (Nat.le_of_ble_eq_true rfl)) dX4_readsOrder_1 ⟨Nat.le_of_ble_eq_true rfl, Nat.le_of_ble_eq_true rfl⟩) hw.2.2 (fun q _ h => h) (fun q h => h) (fun r_2 u t H locs ht hvm h_1 hB hz9 hk9 hS => ?_)
  have hw : gW D A ((mo, .inr (4, [.ref ag, .ref ab, .ref ah, .int ch, .ref asv, .int hs, .ref ai, .int (nI tn), .int wy, .int wd, .ref al, .int li, .int (nI ((rwP tf tn pl wr).1)), .int (bZ ((rwP tf tn pl wr).2)), .ref at_])) :: (ai, .inl (dA 1, 60, .inl tf)) :: (at_, .inl (dA 0, 240, .inl td)) :: R) s H locs := g_aft ht hB hS
  obtain rfl : r_2 = nI (wordP tf tn pl) := h_1
  refine lv_istore_n (lv' := [(2, .int (nI (wordP tf tn pl))), (0, .ref mo), (1, .int (nI k))]) hx hb dX4_readsOrder_4 rfl hl (by decide) rfl (fun ls hl => ?_)
  refine lv_aload_n hx hb dX4_readsOrder_5 rfl (lv_at hl 1 rfl) ?_
  refine g_get X cfX4 hw 0 14 rfl rfl q1848 rfl rfl dX4_readsOrder_6 ?_
  refine lv_iload_n hx hb dX4_readsOrder_9 rfl (lv_at hl 2 rfl) ?_
  refine lv_iload_n hx hb dX4_readsOrder_10 rfl (lv_at hl 0 rfl) ?_
  refine g_iast (ws' := (mo, .inr (4, [.ref ag, .ref ab, .ref ah, .int ch, .ref asv, .int hs, .ref ai, .int (nI tn), .int wy, .int wd, .ref al, .int li, .int (nI ((rwP tf tn pl wr).1)), .int (bZ ((rwP tf tn pl wr).2)), .ref at_])) :: (ai, .inl (dA 1, 60, .inl tf)) :: (at_, .inl (dA 0, 240, .inl (upd td k (nI (wordP tf tn pl))))) :: R) X hw 2 rfl (i := k) (by omega) (by first | decide | omega) rfl dX4_readsOrder_11 (fun H locs hw => ?_)
  refine lv_aload_n hx hb dX4_readsOrder_12 rfl (lv_at hl 1 rfl) ?_
  refine g_get X cfX4 hw 0 14 rfl rfl q1848 rfl rfl dX4_readsOrder_13 ?_
  refine lv_iload_n hx hb dX4_readsOrder_16 rfl (lv_at hl 2 rfl) ?_
  refine lv_iconst (v := 1) hx hb dX4_readsOrder_17 (by decide) ?_
  refine lv_iadd hx hb dX4_readsOrder_18 ?_
  refine g_addN (a := k) (b := 1) ?_
  refine lv_iload_n hx hb dX4_readsOrder_19 rfl (lv_at hl 0 rfl) ?_
  refine lv_bipush (v := 8) hx hb dX4_readsOrder_20 (by decide) ?_
  refine lv_icmp_ne (tgt := 32) hx hb dX4_readsOrder_22 (by decide) (fun c_3 => ?_) (fun c_3 => ?_)
  · skip
    have c_3 : ¬ ((wordP tf tn pl) = 8) := fun q => c_3 ((nI_eq (a := (wordP tf tn pl)) (b := 8) (by omega) (by omega)).mpr q)
    refine lv_aload_n hx hb dX4_readsOrder_32 rfl (lv_at hl 1 rfl) ?_
    refine va_calli (va_runV (As := []) (rest := [.int (nI (k + 1)), .ref at_]) X.1 (m_X4_digit l D dA A E hE ((at_, .inl (dA 0, 240, .inl (upd td k (nI (wordP tf tn pl))))) :: R) mo ag ab ah asv ai al at_ ch hs wy wd li (by first | assumption | omega) tf tn ((rwP tf tn pl wr).1) (by first | assumption | omega) (by repeat (first | assumption | apply digit_le | apply number_le | apply needs_le | apply rw_le)) ((rwP tf tn pl wr).2)) (cwV 0 X.1.2.2.2.2 (lw_V q2149 q2151 qs58 q80 q2152) rfl rfl rfl (by decide +kernel) ⟨Nat.le_of_ble_eq_true rfl, Nat.le_of_ble_eq_true rfl⟩) (g_preV hE X.2 hw 0 rfl rfl) rfl rfl hl.1 rfl (lv_room (Nat.le_of_ble_eq_true rfl)) dX4_readsOrder_33 ⟨Nat.le_of_ble_eq_true rfl, Nat.le_of_ble_eq_true rfl⟩) hw.2.2 (fun q _ h => h) (fun q h => h) (fun r_5 u t H locs ht hvm h_4 hB hz9 hk9 hS => ?_)
    have hw : gW D A ((mo, .inr (4, [.ref ag, .ref ab, .ref ah, .int ch, .ref asv, .int hs, .ref ai, .int (nI tn), .int wy, .int wd, .ref al, .int li, .int (nI ((digitP tf tn ((rwP tf tn pl wr).1) ((rwP tf tn pl wr).2)).2.1)), .int (bZ ((digitP tf tn ((rwP tf tn pl wr).1) ((rwP tf tn pl wr).2)).2.2)), .ref at_])) :: (ai, .inl (dA 1, 60, .inl tf)) :: (at_, .inl (dA 0, 240, .inl (upd td k (nI (wordP tf tn pl))))) :: R) s H locs := g_aft ht hB hS
    obtain rfl : r_5 = (digitP tf tn ((rwP tf tn pl wr).1) ((rwP tf tn pl wr).2)).1 := h_4
    refine g_iast (ws' := (mo, .inr (4, [.ref ag, .ref ab, .ref ah, .int ch, .ref asv, .int hs, .ref ai, .int (nI tn), .int wy, .int wd, .ref al, .int li, .int (nI ((digitP tf tn ((rwP tf tn pl wr).1) ((rwP tf tn pl wr).2)).2.1)), .int (bZ ((digitP tf tn ((rwP tf tn pl wr).1) ((rwP tf tn pl wr).2)).2.2)), .ref at_])) :: (ai, .inl (dA 1, 60, .inl tf)) :: (at_, .inl (dA 0, 240, .inl (upd (upd td k (nI (wordP tf tn pl))) (k + 1) ((digitP tf tn ((rwP tf tn pl wr).1) ((rwP tf tn pl wr).2)).1)))) :: R) X hw 2 rfl (i := k + 1) (by omega) (by first | decide | omega) rfl dX4_readsOrder_36 (fun H locs hw => ?_)
    refine lv_iload_n hx hb dX4_readsOrder_37 rfl (lv_at hl 0 rfl) ?_
    refine lv_iconst (v := 2) hx hb dX4_readsOrder_38 (by decide) ?_
    refine lv_icmp_ne (tgt := 81) hx hb dX4_readsOrder_39 (by decide) (fun c_6 => ?_) (fun c_6 => ?_)
    · skip
      have c_6 : ¬ ((wordP tf tn pl) = 2) := fun q => c_6 ((nI_eq (a := (wordP tf tn pl)) (b := 2) (by omega) (by omega)).mpr q)
      refine lv_iload_n hx hb dX4_readsOrder_81 rfl (lv_at hl 0 rfl) ?_
      refine lv_bipush (v := 7) hx hb dX4_readsOrder_82 (by decide) ?_
      refine lv_icmp_ne (tgt := 99) hx hb dX4_readsOrder_84 (by decide) (fun c_7 => ?_) (fun c_7 => ?_)
      · skip
        have c_7 : ¬ ((wordP tf tn pl) = 7) := fun q => c_7 ((nI_eq (a := (wordP tf tn pl)) (b := 7) (by omega) (by omega)).mpr q)
        exact g_vret () X hw hr hlocks trivial (by first | (exfalso; omega) | (simp [ordT, ordY, ordX, ordV, valP, behP, c_3, c_6, c_7]; done)) dX4_readsOrder_99
      · skip
        have c_7 : (wordP tf tn pl) = 7 := (nI_eq (a := (wordP tf tn pl)) (b := 7) (by omega) (by omega)).mp c_7
        refine lv_aload_n hx hb dX4_readsOrder_87 rfl (lv_at hl 1 rfl) ?_
        refine g_get X cfX4 hw 0 14 rfl rfl q1848 rfl rfl dX4_readsOrder_88 ?_
        refine lv_iload_n hx hb dX4_readsOrder_91 rfl (lv_at hl 2 rfl) ?_
        refine lv_iconst (v := 2) hx hb dX4_readsOrder_92 (by decide) ?_
        refine lv_iadd hx hb dX4_readsOrder_93 ?_
        refine g_addN (a := k) (b := 2) ?_
        refine lv_aload_n hx hb dX4_readsOrder_94 rfl (lv_at hl 1 rfl) ?_
        refine va_calli (va_runV (As := []) (rest := [.int (nI (k + 2)), .ref at_]) X.1 (m_X4_digit l D dA A E hE ((at_, .inl (dA 0, 240, .inl (upd (upd td k (nI (wordP tf tn pl))) (k + 1) ((digitP tf tn ((rwP tf tn pl wr).1) ((rwP tf tn pl wr).2)).1)))) :: R) mo ag ab ah asv ai al at_ ch hs wy wd li (by first | assumption | omega) tf tn ((digitP tf tn ((rwP tf tn pl wr).1) ((rwP tf tn pl wr).2)).2.1) (by first | assumption | omega) (by repeat (first | assumption | apply digit_le | apply number_le | apply needs_le | apply rw_le)) ((digitP tf tn ((rwP tf tn pl wr).1) ((rwP tf tn pl wr).2)).2.2)) (cwV 0 X.1.2.2.2.2 (lw_V q2149 q2151 qs58 q80 q2152) rfl rfl rfl (by decide +kernel) ⟨Nat.le_of_ble_eq_true rfl, Nat.le_of_ble_eq_true rfl⟩) (g_preV hE X.2 hw 0 rfl rfl) rfl rfl hl.1 rfl (lv_room (Nat.le_of_ble_eq_true rfl)) dX4_readsOrder_95 ⟨Nat.le_of_ble_eq_true rfl, Nat.le_of_ble_eq_true rfl⟩) hw.2.2 (fun q _ h => h) (fun q h => h) (fun r_9 u t H locs ht hvm h_8 hB hz9 hk9 hS => ?_)
        have hw : gW D A ((mo, .inr (4, [.ref ag, .ref ab, .ref ah, .int ch, .ref asv, .int hs, .ref ai, .int (nI tn), .int wy, .int wd, .ref al, .int li, .int (nI ((digitP tf tn ((digitP tf tn ((rwP tf tn pl wr).1) ((rwP tf tn pl wr).2)).2.1) ((digitP tf tn ((rwP tf tn pl wr).1) ((rwP tf tn pl wr).2)).2.2)).2.1)), .int (bZ ((digitP tf tn ((digitP tf tn ((rwP tf tn pl wr).1) ((rwP tf tn pl wr).2)).2.1) ((digitP tf tn ((rwP tf tn pl wr).1) ((rwP tf tn pl wr).2)).2.2)).2.2)), .ref at_])) :: (ai, .inl (dA 1, 60, .inl tf)) :: (at_, .inl (dA 0, 240, .inl (upd (upd td k (nI (wordP tf tn pl))) (k + 1) ((digitP tf tn ((rwP tf tn pl wr).1) ((rwP tf tn pl wr).2)).1)))) :: R) s H locs := g_aft ht hB hS
        obtain rfl : r_9 = (digitP tf tn ((digitP tf tn ((rwP tf tn pl wr).1) ((rwP tf tn pl wr).2)).2.1) ((digitP tf tn ((rwP tf tn pl wr).1) ((rwP tf tn pl wr).2)).2.2)).1 := h_8
        refine g_iast (ws' := (mo, .inr (4, [.ref ag, .ref ab, .ref ah, .int ch, .ref asv, .int hs, .ref ai, .int (nI tn), .int wy, .int wd, .ref al, .int li, .int (nI ((digitP tf tn ((digitP tf tn ((rwP tf tn pl wr).1) ((rwP tf tn pl wr).2)).2.1) ((digitP tf tn ((rwP tf tn pl wr).1) ((rwP tf tn pl wr).2)).2.2)).2.1)), .int (bZ ((digitP tf tn ((digitP tf tn ((rwP tf tn pl wr).1) ((rwP tf tn pl wr).2)).2.1) ((digitP tf tn ((rwP tf tn pl wr).1) ((rwP tf tn pl wr).2)).2.2)).2.2)), .ref at_])) :: (ai, .inl (dA 1, 60, .inl tf)) :: (at_, .inl (dA 0, 240, .inl (upd (upd (upd td k (nI (wordP tf tn pl))) (k + 1) ((digitP tf tn ((rwP tf tn pl wr).1) ((rwP tf tn pl wr).2)).1)) (k + 2) ((digitP tf tn ((digitP tf tn ((rwP tf tn pl wr).1) ((rwP tf tn pl wr).2)).2.1) ((digitP tf tn ((rwP tf tn pl wr).1) ((rwP tf tn pl wr).2)).2.2)).1)))) :: R) X hw 2 rfl (i := k + 2) (by omega) (by first | decide | omega) rfl dX4_readsOrder_98 (fun H locs hw => ?_)
        exact g_vret () X hw hr hlocks trivial (by first | (exfalso; omega) | (simp [ordT, ordY, ordX, ordV, valP, behP, c_3, c_6, c_7]; done)) dX4_readsOrder_99
    · skip
      have c_6 : (wordP tf tn pl) = 2 := (nI_eq (a := (wordP tf tn pl)) (b := 2) (by omega) (by omega)).mp c_6
      refine lv_aload_n hx hb dX4_readsOrder_42 rfl (lv_at hl 1 rfl) ?_
      refine lv_bipush (v := 58) hx hb dX4_readsOrder_43 (by decide) ?_
      refine va_callv (va_runV (As := [.int 58]) (rest := []) X.1 (m_X4_needs l D dA A E hE ((at_, .inl (dA 0, 240, .inl (upd (upd td k (nI (wordP tf tn pl))) (k + 1) ((digitP tf tn ((rwP tf tn pl wr).1) ((rwP tf tn pl wr).2)).1)))) :: R) mo ag ab ah asv ai al at_ ch hs wy wd li (by first | assumption | omega) tf tn ((digitP tf tn ((rwP tf tn pl wr).1) ((rwP tf tn pl wr).2)).2.1) (by first | assumption | omega) (by repeat (first | assumption | apply digit_le | apply number_le | apply needs_le | apply rw_le)) ((digitP tf tn ((rwP tf tn pl wr).1) ((rwP tf tn pl wr).2)).2.2) 58 (by decide)) (cwV 1 X.1.2.2.2.2 (lw_V q2141 q2143 qs56 q80 q2144) rfl rfl rfl (by decide +kernel) ⟨Nat.le_of_ble_eq_true rfl, Nat.le_of_ble_eq_true rfl⟩) (g_preV hE X.2 hw 0 rfl rfl) rfl rfl hl.1 rfl (lv_room (Nat.le_of_ble_eq_true rfl)) dX4_readsOrder_45 ⟨Nat.le_of_ble_eq_true rfl, Nat.le_of_ble_eq_true rfl⟩) hw.2.2 (fun q _ h => h) (fun q h => h) (fun u t H locs ht hvm h_10 hB hz9 hk9 hS => ?_)
      have hw : gW D A ((mo, .inr (4, [.ref ag, .ref ab, .ref ah, .int ch, .ref asv, .int hs, .ref ai, .int (nI tn), .int wy, .int wd, .ref al, .int li, .int (nI ((needsP tf tn 58 ((digitP tf tn ((rwP tf tn pl wr).1) ((rwP tf tn pl wr).2)).2.1) ((digitP tf tn ((rwP tf tn pl wr).1) ((rwP tf tn pl wr).2)).2.2)).1)), .int (bZ ((needsP tf tn 58 ((digitP tf tn ((rwP tf tn pl wr).1) ((rwP tf tn pl wr).2)).2.1) ((digitP tf tn ((rwP tf tn pl wr).1) ((rwP tf tn pl wr).2)).2.2)).2)), .ref at_])) :: (ai, .inl (dA 1, 60, .inl tf)) :: (at_, .inl (dA 0, 240, .inl (upd (upd td k (nI (wordP tf tn pl))) (k + 1) ((digitP tf tn ((rwP tf tn pl wr).1) ((rwP tf tn pl wr).2)).1)))) :: R) s H locs := g_aft ht hB hS
      refine lv_aload_n hx hb dX4_readsOrder_48 rfl (lv_at hl 1 rfl) ?_
      refine g_get X cfX4 hw 0 14 rfl rfl q1848 rfl rfl dX4_readsOrder_49 ?_
      refine lv_iload_n hx hb dX4_readsOrder_52 rfl (lv_at hl 2 rfl) ?_
      refine lv_iconst (v := 2) hx hb dX4_readsOrder_53 (by decide) ?_
      refine lv_iadd hx hb dX4_readsOrder_54 ?_
      refine g_addN (a := k) (b := 2) ?_
      refine lv_aload_n hx hb dX4_readsOrder_55 rfl (lv_at hl 1 rfl) ?_
      refine va_calli (va_runV (As := []) (rest := [.int (nI (k + 2)), .ref at_]) X.1 (m_X4_digit l D dA A E hE ((at_, .inl (dA 0, 240, .inl (upd (upd td k (nI (wordP tf tn pl))) (k + 1) ((digitP tf tn ((rwP tf tn pl wr).1) ((rwP tf tn pl wr).2)).1)))) :: R) mo ag ab ah asv ai al at_ ch hs wy wd li (by first | assumption | omega) tf tn ((needsP tf tn 58 ((digitP tf tn ((rwP tf tn pl wr).1) ((rwP tf tn pl wr).2)).2.1) ((digitP tf tn ((rwP tf tn pl wr).1) ((rwP tf tn pl wr).2)).2.2)).1) (by first | assumption | omega) (by repeat (first | assumption | apply digit_le | apply number_le | apply needs_le | apply rw_le)) ((needsP tf tn 58 ((digitP tf tn ((rwP tf tn pl wr).1) ((rwP tf tn pl wr).2)).2.1) ((digitP tf tn ((rwP tf tn pl wr).1) ((rwP tf tn pl wr).2)).2.2)).2)) (cwV 0 X.1.2.2.2.2 (lw_V q2149 q2151 qs58 q80 q2152) rfl rfl rfl (by decide +kernel) ⟨Nat.le_of_ble_eq_true rfl, Nat.le_of_ble_eq_true rfl⟩) (g_preV hE X.2 hw 0 rfl rfl) rfl rfl hl.1 rfl (lv_room (Nat.le_of_ble_eq_true rfl)) dX4_readsOrder_56 ⟨Nat.le_of_ble_eq_true rfl, Nat.le_of_ble_eq_true rfl⟩) hw.2.2 (fun q _ h => h) (fun q h => h) (fun r_12 u t H locs ht hvm h_11 hB hz9 hk9 hS => ?_)
      have hw : gW D A ((mo, .inr (4, [.ref ag, .ref ab, .ref ah, .int ch, .ref asv, .int hs, .ref ai, .int (nI tn), .int wy, .int wd, .ref al, .int li, .int (nI ((digitP tf tn ((needsP tf tn 58 ((digitP tf tn ((rwP tf tn pl wr).1) ((rwP tf tn pl wr).2)).2.1) ((digitP tf tn ((rwP tf tn pl wr).1) ((rwP tf tn pl wr).2)).2.2)).1) ((needsP tf tn 58 ((digitP tf tn ((rwP tf tn pl wr).1) ((rwP tf tn pl wr).2)).2.1) ((digitP tf tn ((rwP tf tn pl wr).1) ((rwP tf tn pl wr).2)).2.2)).2)).2.1)), .int (bZ ((digitP tf tn ((needsP tf tn 58 ((digitP tf tn ((rwP tf tn pl wr).1) ((rwP tf tn pl wr).2)).2.1) ((digitP tf tn ((rwP tf tn pl wr).1) ((rwP tf tn pl wr).2)).2.2)).1) ((needsP tf tn 58 ((digitP tf tn ((rwP tf tn pl wr).1) ((rwP tf tn pl wr).2)).2.1) ((digitP tf tn ((rwP tf tn pl wr).1) ((rwP tf tn pl wr).2)).2.2)).2)).2.2)), .ref at_])) :: (ai, .inl (dA 1, 60, .inl tf)) :: (at_, .inl (dA 0, 240, .inl (upd (upd td k (nI (wordP tf tn pl))) (k + 1) ((digitP tf tn ((rwP tf tn pl wr).1) ((rwP tf tn pl wr).2)).1)))) :: R) s H locs := g_aft ht hB hS
      obtain rfl : r_12 = (digitP tf tn ((needsP tf tn 58 ((digitP tf tn ((rwP tf tn pl wr).1) ((rwP tf tn pl wr).2)).2.1) ((digitP tf tn ((rwP tf tn pl wr).1) ((rwP tf tn pl wr).2)).2.2)).1) ((needsP tf tn 58 ((digitP tf tn ((rwP tf tn pl wr).1) ((rwP tf tn pl wr).2)).2.1) ((digitP tf tn ((rwP tf tn pl wr).1) ((rwP tf tn pl wr).2)).2.2)).2)).1 := h_11
      refine g_iast (ws' := (mo, .inr (4, [.ref ag, .ref ab, .ref ah, .int ch, .ref asv, .int hs, .ref ai, .int (nI tn), .int wy, .int wd, .ref al, .int li, .int (nI ((digitP tf tn ((needsP tf tn 58 ((digitP tf tn ((rwP tf tn pl wr).1) ((rwP tf tn pl wr).2)).2.1) ((digitP tf tn ((rwP tf tn pl wr).1) ((rwP tf tn pl wr).2)).2.2)).1) ((needsP tf tn 58 ((digitP tf tn ((rwP tf tn pl wr).1) ((rwP tf tn pl wr).2)).2.1) ((digitP tf tn ((rwP tf tn pl wr).1) ((rwP tf tn pl wr).2)).2.2)).2)).2.1)), .int (bZ ((digitP tf tn ((needsP tf tn 58 ((digitP tf tn ((rwP tf tn pl wr).1) ((rwP tf tn pl wr).2)).2.1) ((digitP tf tn ((rwP tf tn pl wr).1) ((rwP tf tn pl wr).2)).2.2)).1) ((needsP tf tn 58 ((digitP tf tn ((rwP tf tn pl wr).1) ((rwP tf tn pl wr).2)).2.1) ((digitP tf tn ((rwP tf tn pl wr).1) ((rwP tf tn pl wr).2)).2.2)).2)).2.2)), .ref at_])) :: (ai, .inl (dA 1, 60, .inl tf)) :: (at_, .inl (dA 0, 240, .inl (upd (upd (upd td k (nI (wordP tf tn pl))) (k + 1) ((digitP tf tn ((rwP tf tn pl wr).1) ((rwP tf tn pl wr).2)).1)) (k + 2) ((digitP tf tn ((needsP tf tn 58 ((digitP tf tn ((rwP tf tn pl wr).1) ((rwP tf tn pl wr).2)).2.1) ((digitP tf tn ((rwP tf tn pl wr).1) ((rwP tf tn pl wr).2)).2.2)).1) ((needsP tf tn 58 ((digitP tf tn ((rwP tf tn pl wr).1) ((rwP tf tn pl wr).2)).2.1) ((digitP tf tn ((rwP tf tn pl wr).1) ((rwP tf tn pl wr).2)).2.2)).2)).1)))) :: R) X hw 2 rfl (i := k + 2) (by omega) (by first | decide | omega) rfl dX4_readsOrder_59 (fun H locs hw => ?_)
      refine lv_aload_n hx hb dX4_readsOrder_60 rfl (lv_at hl 1 rfl) ?_
      refine lv_bipush (v := 46) hx hb dX4_readsOrder_61 (by decide) ?_
      refine va_callv (va_runV (As := [.int 46]) (rest := []) X.1 (m_X4_needs l D dA A E hE ((at_, .inl (dA 0, 240, .inl (upd (upd (upd td k (nI (wordP tf tn pl))) (k + 1) ((digitP tf tn ((rwP tf tn pl wr).1) ((rwP tf tn pl wr).2)).1)) (k + 2) ((digitP tf tn ((needsP tf tn 58 ((digitP tf tn ((rwP tf tn pl wr).1) ((rwP tf tn pl wr).2)).2.1) ((digitP tf tn ((rwP tf tn pl wr).1) ((rwP tf tn pl wr).2)).2.2)).1) ((needsP tf tn 58 ((digitP tf tn ((rwP tf tn pl wr).1) ((rwP tf tn pl wr).2)).2.1) ((digitP tf tn ((rwP tf tn pl wr).1) ((rwP tf tn pl wr).2)).2.2)).2)).1)))) :: R) mo ag ab ah asv ai al at_ ch hs wy wd li (by first | assumption | omega) tf tn ((digitP tf tn ((needsP tf tn 58 ((digitP tf tn ((rwP tf tn pl wr).1) ((rwP tf tn pl wr).2)).2.1) ((digitP tf tn ((rwP tf tn pl wr).1) ((rwP tf tn pl wr).2)).2.2)).1) ((needsP tf tn 58 ((digitP tf tn ((rwP tf tn pl wr).1) ((rwP tf tn pl wr).2)).2.1) ((digitP tf tn ((rwP tf tn pl wr).1) ((rwP tf tn pl wr).2)).2.2)).2)).2.1) (by first | assumption | omega) (by repeat (first | assumption | apply digit_le | apply number_le | apply needs_le | apply rw_le)) ((digitP tf tn ((needsP tf tn 58 ((digitP tf tn ((rwP tf tn pl wr).1) ((rwP tf tn pl wr).2)).2.1) ((digitP tf tn ((rwP tf tn pl wr).1) ((rwP tf tn pl wr).2)).2.2)).1) ((needsP tf tn 58 ((digitP tf tn ((rwP tf tn pl wr).1) ((rwP tf tn pl wr).2)).2.1) ((digitP tf tn ((rwP tf tn pl wr).1) ((rwP tf tn pl wr).2)).2.2)).2)).2.2) 46 (by decide)) (cwV 1 X.1.2.2.2.2 (lw_V q2141 q2143 qs56 q80 q2144) rfl rfl rfl (by decide +kernel) ⟨Nat.le_of_ble_eq_true rfl, Nat.le_of_ble_eq_true rfl⟩) (g_preV hE X.2 hw 0 rfl rfl) rfl rfl hl.1 rfl (lv_room (Nat.le_of_ble_eq_true rfl)) dX4_readsOrder_63 ⟨Nat.le_of_ble_eq_true rfl, Nat.le_of_ble_eq_true rfl⟩) hw.2.2 (fun q _ h => h) (fun q h => h) (fun u t H locs ht hvm h_13 hB hz9 hk9 hS => ?_)
      have hw : gW D A ((mo, .inr (4, [.ref ag, .ref ab, .ref ah, .int ch, .ref asv, .int hs, .ref ai, .int (nI tn), .int wy, .int wd, .ref al, .int li, .int (nI ((needsP tf tn 46 ((digitP tf tn ((needsP tf tn 58 ((digitP tf tn ((rwP tf tn pl wr).1) ((rwP tf tn pl wr).2)).2.1) ((digitP tf tn ((rwP tf tn pl wr).1) ((rwP tf tn pl wr).2)).2.2)).1) ((needsP tf tn 58 ((digitP tf tn ((rwP tf tn pl wr).1) ((rwP tf tn pl wr).2)).2.1) ((digitP tf tn ((rwP tf tn pl wr).1) ((rwP tf tn pl wr).2)).2.2)).2)).2.1) ((digitP tf tn ((needsP tf tn 58 ((digitP tf tn ((rwP tf tn pl wr).1) ((rwP tf tn pl wr).2)).2.1) ((digitP tf tn ((rwP tf tn pl wr).1) ((rwP tf tn pl wr).2)).2.2)).1) ((needsP tf tn 58 ((digitP tf tn ((rwP tf tn pl wr).1) ((rwP tf tn pl wr).2)).2.1) ((digitP tf tn ((rwP tf tn pl wr).1) ((rwP tf tn pl wr).2)).2.2)).2)).2.2)).1)), .int (bZ ((needsP tf tn 46 ((digitP tf tn ((needsP tf tn 58 ((digitP tf tn ((rwP tf tn pl wr).1) ((rwP tf tn pl wr).2)).2.1) ((digitP tf tn ((rwP tf tn pl wr).1) ((rwP tf tn pl wr).2)).2.2)).1) ((needsP tf tn 58 ((digitP tf tn ((rwP tf tn pl wr).1) ((rwP tf tn pl wr).2)).2.1) ((digitP tf tn ((rwP tf tn pl wr).1) ((rwP tf tn pl wr).2)).2.2)).2)).2.1) ((digitP tf tn ((needsP tf tn 58 ((digitP tf tn ((rwP tf tn pl wr).1) ((rwP tf tn pl wr).2)).2.1) ((digitP tf tn ((rwP tf tn pl wr).1) ((rwP tf tn pl wr).2)).2.2)).1) ((needsP tf tn 58 ((digitP tf tn ((rwP tf tn pl wr).1) ((rwP tf tn pl wr).2)).2.1) ((digitP tf tn ((rwP tf tn pl wr).1) ((rwP tf tn pl wr).2)).2.2)).2)).2.2)).2)), .ref at_])) :: (ai, .inl (dA 1, 60, .inl tf)) :: (at_, .inl (dA 0, 240, .inl (upd (upd (upd td k (nI (wordP tf tn pl))) (k + 1) ((digitP tf tn ((rwP tf tn pl wr).1) ((rwP tf tn pl wr).2)).1)) (k + 2) ((digitP tf tn ((needsP tf tn 58 ((digitP tf tn ((rwP tf tn pl wr).1) ((rwP tf tn pl wr).2)).2.1) ((digitP tf tn ((rwP tf tn pl wr).1) ((rwP tf tn pl wr).2)).2.2)).1) ((needsP tf tn 58 ((digitP tf tn ((rwP tf tn pl wr).1) ((rwP tf tn pl wr).2)).2.1) ((digitP tf tn ((rwP tf tn pl wr).1) ((rwP tf tn pl wr).2)).2.2)).2)).1)))) :: R) s H locs := g_aft ht hB hS
      refine lv_aload_n hx hb dX4_readsOrder_66 rfl (lv_at hl 1 rfl) ?_
      refine g_get X cfX4 hw 0 14 rfl rfl q1848 rfl rfl dX4_readsOrder_67 ?_
      refine lv_iload_n hx hb dX4_readsOrder_70 rfl (lv_at hl 2 rfl) ?_
      refine lv_iconst (v := 3) hx hb dX4_readsOrder_71 (by decide) ?_
      refine lv_iadd hx hb dX4_readsOrder_72 ?_
      refine g_addN (a := k) (b := 3) ?_
      refine lv_aload_n hx hb dX4_readsOrder_73 rfl (lv_at hl 1 rfl) ?_
      refine va_calli (va_runV (As := []) (rest := [.int (nI (k + 3)), .ref at_]) X.1 (m_X4_digit l D dA A E hE ((at_, .inl (dA 0, 240, .inl (upd (upd (upd td k (nI (wordP tf tn pl))) (k + 1) ((digitP tf tn ((rwP tf tn pl wr).1) ((rwP tf tn pl wr).2)).1)) (k + 2) ((digitP tf tn ((needsP tf tn 58 ((digitP tf tn ((rwP tf tn pl wr).1) ((rwP tf tn pl wr).2)).2.1) ((digitP tf tn ((rwP tf tn pl wr).1) ((rwP tf tn pl wr).2)).2.2)).1) ((needsP tf tn 58 ((digitP tf tn ((rwP tf tn pl wr).1) ((rwP tf tn pl wr).2)).2.1) ((digitP tf tn ((rwP tf tn pl wr).1) ((rwP tf tn pl wr).2)).2.2)).2)).1)))) :: R) mo ag ab ah asv ai al at_ ch hs wy wd li (by first | assumption | omega) tf tn ((needsP tf tn 46 ((digitP tf tn ((needsP tf tn 58 ((digitP tf tn ((rwP tf tn pl wr).1) ((rwP tf tn pl wr).2)).2.1) ((digitP tf tn ((rwP tf tn pl wr).1) ((rwP tf tn pl wr).2)).2.2)).1) ((needsP tf tn 58 ((digitP tf tn ((rwP tf tn pl wr).1) ((rwP tf tn pl wr).2)).2.1) ((digitP tf tn ((rwP tf tn pl wr).1) ((rwP tf tn pl wr).2)).2.2)).2)).2.1) ((digitP tf tn ((needsP tf tn 58 ((digitP tf tn ((rwP tf tn pl wr).1) ((rwP tf tn pl wr).2)).2.1) ((digitP tf tn ((rwP tf tn pl wr).1) ((rwP tf tn pl wr).2)).2.2)).1) ((needsP tf tn 58 ((digitP tf tn ((rwP tf tn pl wr).1) ((rwP tf tn pl wr).2)).2.1) ((digitP tf tn ((rwP tf tn pl wr).1) ((rwP tf tn pl wr).2)).2.2)).2)).2.2)).1) (by first | assumption | omega) (by repeat (first | assumption | apply digit_le | apply number_le | apply needs_le | apply rw_le)) ((needsP tf tn 46 ((digitP tf tn ((needsP tf tn 58 ((digitP tf tn ((rwP tf tn pl wr).1) ((rwP tf tn pl wr).2)).2.1) ((digitP tf tn ((rwP tf tn pl wr).1) ((rwP tf tn pl wr).2)).2.2)).1) ((needsP tf tn 58 ((digitP tf tn ((rwP tf tn pl wr).1) ((rwP tf tn pl wr).2)).2.1) ((digitP tf tn ((rwP tf tn pl wr).1) ((rwP tf tn pl wr).2)).2.2)).2)).2.1) ((digitP tf tn ((needsP tf tn 58 ((digitP tf tn ((rwP tf tn pl wr).1) ((rwP tf tn pl wr).2)).2.1) ((digitP tf tn ((rwP tf tn pl wr).1) ((rwP tf tn pl wr).2)).2.2)).1) ((needsP tf tn 58 ((digitP tf tn ((rwP tf tn pl wr).1) ((rwP tf tn pl wr).2)).2.1) ((digitP tf tn ((rwP tf tn pl wr).1) ((rwP tf tn pl wr).2)).2.2)).2)).2.2)).2)) (cwV 0 X.1.2.2.2.2 (lw_V q2149 q2151 qs58 q80 q2152) rfl rfl rfl (by decide +kernel) ⟨Nat.le_of_ble_eq_true rfl, Nat.le_of_ble_eq_true rfl⟩) (g_preV hE X.2 hw 0 rfl rfl) rfl rfl hl.1 rfl (lv_room (Nat.le_of_ble_eq_true rfl)) dX4_readsOrder_74 ⟨Nat.le_of_ble_eq_true rfl, Nat.le_of_ble_eq_true rfl⟩) hw.2.2 (fun q _ h => h) (fun q h => h) (fun r_15 u t H locs ht hvm h_14 hB hz9 hk9 hS => ?_)
      have hw : gW D A ((mo, .inr (4, [.ref ag, .ref ab, .ref ah, .int ch, .ref asv, .int hs, .ref ai, .int (nI tn), .int wy, .int wd, .ref al, .int li, .int (nI ((digitP tf tn ((needsP tf tn 46 ((digitP tf tn ((needsP tf tn 58 ((digitP tf tn ((rwP tf tn pl wr).1) ((rwP tf tn pl wr).2)).2.1) ((digitP tf tn ((rwP tf tn pl wr).1) ((rwP tf tn pl wr).2)).2.2)).1) ((needsP tf tn 58 ((digitP tf tn ((rwP tf tn pl wr).1) ((rwP tf tn pl wr).2)).2.1) ((digitP tf tn ((rwP tf tn pl wr).1) ((rwP tf tn pl wr).2)).2.2)).2)).2.1) ((digitP tf tn ((needsP tf tn 58 ((digitP tf tn ((rwP tf tn pl wr).1) ((rwP tf tn pl wr).2)).2.1) ((digitP tf tn ((rwP tf tn pl wr).1) ((rwP tf tn pl wr).2)).2.2)).1) ((needsP tf tn 58 ((digitP tf tn ((rwP tf tn pl wr).1) ((rwP tf tn pl wr).2)).2.1) ((digitP tf tn ((rwP tf tn pl wr).1) ((rwP tf tn pl wr).2)).2.2)).2)).2.2)).1) ((needsP tf tn 46 ((digitP tf tn ((needsP tf tn 58 ((digitP tf tn ((rwP tf tn pl wr).1) ((rwP tf tn pl wr).2)).2.1) ((digitP tf tn ((rwP tf tn pl wr).1) ((rwP tf tn pl wr).2)).2.2)).1) ((needsP tf tn 58 ((digitP tf tn ((rwP tf tn pl wr).1) ((rwP tf tn pl wr).2)).2.1) ((digitP tf tn ((rwP tf tn pl wr).1) ((rwP tf tn pl wr).2)).2.2)).2)).2.1) ((digitP tf tn ((needsP tf tn 58 ((digitP tf tn ((rwP tf tn pl wr).1) ((rwP tf tn pl wr).2)).2.1) ((digitP tf tn ((rwP tf tn pl wr).1) ((rwP tf tn pl wr).2)).2.2)).1) ((needsP tf tn 58 ((digitP tf tn ((rwP tf tn pl wr).1) ((rwP tf tn pl wr).2)).2.1) ((digitP tf tn ((rwP tf tn pl wr).1) ((rwP tf tn pl wr).2)).2.2)).2)).2.2)).2)).2.1)), .int (bZ ((digitP tf tn ((needsP tf tn 46 ((digitP tf tn ((needsP tf tn 58 ((digitP tf tn ((rwP tf tn pl wr).1) ((rwP tf tn pl wr).2)).2.1) ((digitP tf tn ((rwP tf tn pl wr).1) ((rwP tf tn pl wr).2)).2.2)).1) ((needsP tf tn 58 ((digitP tf tn ((rwP tf tn pl wr).1) ((rwP tf tn pl wr).2)).2.1) ((digitP tf tn ((rwP tf tn pl wr).1) ((rwP tf tn pl wr).2)).2.2)).2)).2.1) ((digitP tf tn ((needsP tf tn 58 ((digitP tf tn ((rwP tf tn pl wr).1) ((rwP tf tn pl wr).2)).2.1) ((digitP tf tn ((rwP tf tn pl wr).1) ((rwP tf tn pl wr).2)).2.2)).1) ((needsP tf tn 58 ((digitP tf tn ((rwP tf tn pl wr).1) ((rwP tf tn pl wr).2)).2.1) ((digitP tf tn ((rwP tf tn pl wr).1) ((rwP tf tn pl wr).2)).2.2)).2)).2.2)).1) ((needsP tf tn 46 ((digitP tf tn ((needsP tf tn 58 ((digitP tf tn ((rwP tf tn pl wr).1) ((rwP tf tn pl wr).2)).2.1) ((digitP tf tn ((rwP tf tn pl wr).1) ((rwP tf tn pl wr).2)).2.2)).1) ((needsP tf tn 58 ((digitP tf tn ((rwP tf tn pl wr).1) ((rwP tf tn pl wr).2)).2.1) ((digitP tf tn ((rwP tf tn pl wr).1) ((rwP tf tn pl wr).2)).2.2)).2)).2.1) ((digitP tf tn ((needsP tf tn 58 ((digitP tf tn ((rwP tf tn pl wr).1) ((rwP tf tn pl wr).2)).2.1) ((digitP tf tn ((rwP tf tn pl wr).1) ((rwP tf tn pl wr).2)).2.2)).1) ((needsP tf tn 58 ((digitP tf tn ((rwP tf tn pl wr).1) ((rwP tf tn pl wr).2)).2.1) ((digitP tf tn ((rwP tf tn pl wr).1) ((rwP tf tn pl wr).2)).2.2)).2)).2.2)).2)).2.2)), .ref at_])) :: (ai, .inl (dA 1, 60, .inl tf)) :: (at_, .inl (dA 0, 240, .inl (upd (upd (upd td k (nI (wordP tf tn pl))) (k + 1) ((digitP tf tn ((rwP tf tn pl wr).1) ((rwP tf tn pl wr).2)).1)) (k + 2) ((digitP tf tn ((needsP tf tn 58 ((digitP tf tn ((rwP tf tn pl wr).1) ((rwP tf tn pl wr).2)).2.1) ((digitP tf tn ((rwP tf tn pl wr).1) ((rwP tf tn pl wr).2)).2.2)).1) ((needsP tf tn 58 ((digitP tf tn ((rwP tf tn pl wr).1) ((rwP tf tn pl wr).2)).2.1) ((digitP tf tn ((rwP tf tn pl wr).1) ((rwP tf tn pl wr).2)).2.2)).2)).1)))) :: R) s H locs := g_aft ht hB hS
      obtain rfl : r_15 = (digitP tf tn ((needsP tf tn 46 ((digitP tf tn ((needsP tf tn 58 ((digitP tf tn ((rwP tf tn pl wr).1) ((rwP tf tn pl wr).2)).2.1) ((digitP tf tn ((rwP tf tn pl wr).1) ((rwP tf tn pl wr).2)).2.2)).1) ((needsP tf tn 58 ((digitP tf tn ((rwP tf tn pl wr).1) ((rwP tf tn pl wr).2)).2.1) ((digitP tf tn ((rwP tf tn pl wr).1) ((rwP tf tn pl wr).2)).2.2)).2)).2.1) ((digitP tf tn ((needsP tf tn 58 ((digitP tf tn ((rwP tf tn pl wr).1) ((rwP tf tn pl wr).2)).2.1) ((digitP tf tn ((rwP tf tn pl wr).1) ((rwP tf tn pl wr).2)).2.2)).1) ((needsP tf tn 58 ((digitP tf tn ((rwP tf tn pl wr).1) ((rwP tf tn pl wr).2)).2.1) ((digitP tf tn ((rwP tf tn pl wr).1) ((rwP tf tn pl wr).2)).2.2)).2)).2.2)).1) ((needsP tf tn 46 ((digitP tf tn ((needsP tf tn 58 ((digitP tf tn ((rwP tf tn pl wr).1) ((rwP tf tn pl wr).2)).2.1) ((digitP tf tn ((rwP tf tn pl wr).1) ((rwP tf tn pl wr).2)).2.2)).1) ((needsP tf tn 58 ((digitP tf tn ((rwP tf tn pl wr).1) ((rwP tf tn pl wr).2)).2.1) ((digitP tf tn ((rwP tf tn pl wr).1) ((rwP tf tn pl wr).2)).2.2)).2)).2.1) ((digitP tf tn ((needsP tf tn 58 ((digitP tf tn ((rwP tf tn pl wr).1) ((rwP tf tn pl wr).2)).2.1) ((digitP tf tn ((rwP tf tn pl wr).1) ((rwP tf tn pl wr).2)).2.2)).1) ((needsP tf tn 58 ((digitP tf tn ((rwP tf tn pl wr).1) ((rwP tf tn pl wr).2)).2.1) ((digitP tf tn ((rwP tf tn pl wr).1) ((rwP tf tn pl wr).2)).2.2)).2)).2.2)).2)).1 := h_14
      refine g_iast (ws' := (mo, .inr (4, [.ref ag, .ref ab, .ref ah, .int ch, .ref asv, .int hs, .ref ai, .int (nI tn), .int wy, .int wd, .ref al, .int li, .int (nI ((digitP tf tn ((needsP tf tn 46 ((digitP tf tn ((needsP tf tn 58 ((digitP tf tn ((rwP tf tn pl wr).1) ((rwP tf tn pl wr).2)).2.1) ((digitP tf tn ((rwP tf tn pl wr).1) ((rwP tf tn pl wr).2)).2.2)).1) ((needsP tf tn 58 ((digitP tf tn ((rwP tf tn pl wr).1) ((rwP tf tn pl wr).2)).2.1) ((digitP tf tn ((rwP tf tn pl wr).1) ((rwP tf tn pl wr).2)).2.2)).2)).2.1) ((digitP tf tn ((needsP tf tn 58 ((digitP tf tn ((rwP tf tn pl wr).1) ((rwP tf tn pl wr).2)).2.1) ((digitP tf tn ((rwP tf tn pl wr).1) ((rwP tf tn pl wr).2)).2.2)).1) ((needsP tf tn 58 ((digitP tf tn ((rwP tf tn pl wr).1) ((rwP tf tn pl wr).2)).2.1) ((digitP tf tn ((rwP tf tn pl wr).1) ((rwP tf tn pl wr).2)).2.2)).2)).2.2)).1) ((needsP tf tn 46 ((digitP tf tn ((needsP tf tn 58 ((digitP tf tn ((rwP tf tn pl wr).1) ((rwP tf tn pl wr).2)).2.1) ((digitP tf tn ((rwP tf tn pl wr).1) ((rwP tf tn pl wr).2)).2.2)).1) ((needsP tf tn 58 ((digitP tf tn ((rwP tf tn pl wr).1) ((rwP tf tn pl wr).2)).2.1) ((digitP tf tn ((rwP tf tn pl wr).1) ((rwP tf tn pl wr).2)).2.2)).2)).2.1) ((digitP tf tn ((needsP tf tn 58 ((digitP tf tn ((rwP tf tn pl wr).1) ((rwP tf tn pl wr).2)).2.1) ((digitP tf tn ((rwP tf tn pl wr).1) ((rwP tf tn pl wr).2)).2.2)).1) ((needsP tf tn 58 ((digitP tf tn ((rwP tf tn pl wr).1) ((rwP tf tn pl wr).2)).2.1) ((digitP tf tn ((rwP tf tn pl wr).1) ((rwP tf tn pl wr).2)).2.2)).2)).2.2)).2)).2.1)), .int (bZ ((digitP tf tn ((needsP tf tn 46 ((digitP tf tn ((needsP tf tn 58 ((digitP tf tn ((rwP tf tn pl wr).1) ((rwP tf tn pl wr).2)).2.1) ((digitP tf tn ((rwP tf tn pl wr).1) ((rwP tf tn pl wr).2)).2.2)).1) ((needsP tf tn 58 ((digitP tf tn ((rwP tf tn pl wr).1) ((rwP tf tn pl wr).2)).2.1) ((digitP tf tn ((rwP tf tn pl wr).1) ((rwP tf tn pl wr).2)).2.2)).2)).2.1) ((digitP tf tn ((needsP tf tn 58 ((digitP tf tn ((rwP tf tn pl wr).1) ((rwP tf tn pl wr).2)).2.1) ((digitP tf tn ((rwP tf tn pl wr).1) ((rwP tf tn pl wr).2)).2.2)).1) ((needsP tf tn 58 ((digitP tf tn ((rwP tf tn pl wr).1) ((rwP tf tn pl wr).2)).2.1) ((digitP tf tn ((rwP tf tn pl wr).1) ((rwP tf tn pl wr).2)).2.2)).2)).2.2)).1) ((needsP tf tn 46 ((digitP tf tn ((needsP tf tn 58 ((digitP tf tn ((rwP tf tn pl wr).1) ((rwP tf tn pl wr).2)).2.1) ((digitP tf tn ((rwP tf tn pl wr).1) ((rwP tf tn pl wr).2)).2.2)).1) ((needsP tf tn 58 ((digitP tf tn ((rwP tf tn pl wr).1) ((rwP tf tn pl wr).2)).2.1) ((digitP tf tn ((rwP tf tn pl wr).1) ((rwP tf tn pl wr).2)).2.2)).2)).2.1) ((digitP tf tn ((needsP tf tn 58 ((digitP tf tn ((rwP tf tn pl wr).1) ((rwP tf tn pl wr).2)).2.1) ((digitP tf tn ((rwP tf tn pl wr).1) ((rwP tf tn pl wr).2)).2.2)).1) ((needsP tf tn 58 ((digitP tf tn ((rwP tf tn pl wr).1) ((rwP tf tn pl wr).2)).2.1) ((digitP tf tn ((rwP tf tn pl wr).1) ((rwP tf tn pl wr).2)).2.2)).2)).2.2)).2)).2.2)), .ref at_])) :: (ai, .inl (dA 1, 60, .inl tf)) :: (at_, .inl (dA 0, 240, .inl (upd (upd (upd (upd td k (nI (wordP tf tn pl))) (k + 1) ((digitP tf tn ((rwP tf tn pl wr).1) ((rwP tf tn pl wr).2)).1)) (k + 2) ((digitP tf tn ((needsP tf tn 58 ((digitP tf tn ((rwP tf tn pl wr).1) ((rwP tf tn pl wr).2)).2.1) ((digitP tf tn ((rwP tf tn pl wr).1) ((rwP tf tn pl wr).2)).2.2)).1) ((needsP tf tn 58 ((digitP tf tn ((rwP tf tn pl wr).1) ((rwP tf tn pl wr).2)).2.1) ((digitP tf tn ((rwP tf tn pl wr).1) ((rwP tf tn pl wr).2)).2.2)).2)).1)) (k + 3) ((digitP tf tn ((needsP tf tn 46 ((digitP tf tn ((needsP tf tn 58 ((digitP tf tn ((rwP tf tn pl wr).1) ((rwP tf tn pl wr).2)).2.1) ((digitP tf tn ((rwP tf tn pl wr).1) ((rwP tf tn pl wr).2)).2.2)).1) ((needsP tf tn 58 ((digitP tf tn ((rwP tf tn pl wr).1) ((rwP tf tn pl wr).2)).2.1) ((digitP tf tn ((rwP tf tn pl wr).1) ((rwP tf tn pl wr).2)).2.2)).2)).2.1) ((digitP tf tn ((needsP tf tn 58 ((digitP tf tn ((rwP tf tn pl wr).1) ((rwP tf tn pl wr).2)).2.1) ((digitP tf tn ((rwP tf tn pl wr).1) ((rwP tf tn pl wr).2)).2.2)).1) ((needsP tf tn 58 ((digitP tf tn ((rwP tf tn pl wr).1) ((rwP tf tn pl wr).2)).2.1) ((digitP tf tn ((rwP tf tn pl wr).1) ((rwP tf tn pl wr).2)).2.2)).2)).2.2)).1) ((needsP tf tn 46 ((digitP tf tn ((needsP tf tn 58 ((digitP tf tn ((rwP tf tn pl wr).1) ((rwP tf tn pl wr).2)).2.1) ((digitP tf tn ((rwP tf tn pl wr).1) ((rwP tf tn pl wr).2)).2.2)).1) ((needsP tf tn 58 ((digitP tf tn ((rwP tf tn pl wr).1) ((rwP tf tn pl wr).2)).2.1) ((digitP tf tn ((rwP tf tn pl wr).1) ((rwP tf tn pl wr).2)).2.2)).2)).2.1) ((digitP tf tn ((needsP tf tn 58 ((digitP tf tn ((rwP tf tn pl wr).1) ((rwP tf tn pl wr).2)).2.1) ((digitP tf tn ((rwP tf tn pl wr).1) ((rwP tf tn pl wr).2)).2.2)).1) ((needsP tf tn 58 ((digitP tf tn ((rwP tf tn pl wr).1) ((rwP tf tn pl wr).2)).2.1) ((digitP tf tn ((rwP tf tn pl wr).1) ((rwP tf tn pl wr).2)).2.2)).2)).2.2)).2)).1)))) :: R) X hw 2 rfl (i := k + 3) (by omega) (by first | decide | omega) rfl dX4_readsOrder_77 (fun H locs hw => ?_)
      refine lv_goto (tgt := 99) hx hb dX4_readsOrder_78 (by decide) ?_
      exact g_vret () X hw hr hlocks trivial (by first | (exfalso; omega) | (simp [ordT, ordY, ordX, ordV, valP, behP, c_3, c_6]; done)) dX4_readsOrder_99
  · skip
    have c_3 : (wordP tf tn pl) = 8 := (nI_eq (a := (wordP tf tn pl)) (b := 8) (by omega) (by omega)).mp c_3
    refine lv_aload_n hx hb dX4_readsOrder_25 rfl (lv_at hl 1 rfl) ?_
    refine va_calli (va_runV (As := []) (rest := [.int (nI (k + 1)), .ref at_]) X.1 (m_X4_number l D dA A E hE ((at_, .inl (dA 0, 240, .inl (upd td k (nI (wordP tf tn pl))))) :: R) mo ag ab ah asv ai al at_ ch hs wy wd li (by first | assumption | omega) tf tn ((rwP tf tn pl wr).1) (by first | assumption | omega) (by repeat (first | assumption | apply digit_le | apply number_le | apply needs_le | apply rw_le)) ((rwP tf tn pl wr).2)) (cwV 0 X.1.2.2.2.2 (lw_V q2145 q2147 qs57 q80 q2148) rfl rfl rfl (by decide +kernel) ⟨Nat.le_of_ble_eq_true rfl, Nat.le_of_ble_eq_true rfl⟩) (g_preV hE X.2 hw 0 rfl rfl) rfl rfl hl.1 rfl (lv_room (Nat.le_of_ble_eq_true rfl)) dX4_readsOrder_26 ⟨Nat.le_of_ble_eq_true rfl, Nat.le_of_ble_eq_true rfl⟩) hw.2.2 (fun q _ h => h) (fun q h => h) (fun r_17 u t H locs ht hvm h_16 hB hz9 hk9 hS => ?_)
    have hw : gW D A ((mo, .inr (4, [.ref ag, .ref ab, .ref ah, .int ch, .ref asv, .int hs, .ref ai, .int (nI tn), .int wy, .int wd, .ref al, .int li, .int (nI ((numberP tf tn ((rwP tf tn pl wr).1) ((rwP tf tn pl wr).2)).2.1)), .int (bZ ((numberP tf tn ((rwP tf tn pl wr).1) ((rwP tf tn pl wr).2)).2.2)), .ref at_])) :: (ai, .inl (dA 1, 60, .inl tf)) :: (at_, .inl (dA 0, 240, .inl (upd td k (nI (wordP tf tn pl))))) :: R) s H locs := g_aft ht hB hS
    obtain rfl : r_17 = (numberP tf tn ((rwP tf tn pl wr).1) ((rwP tf tn pl wr).2)).1 := h_16
    refine lv_goto (tgt := 36) hx hb dX4_readsOrder_29 (by decide) ?_
    refine g_iast (ws' := (mo, .inr (4, [.ref ag, .ref ab, .ref ah, .int ch, .ref asv, .int hs, .ref ai, .int (nI tn), .int wy, .int wd, .ref al, .int li, .int (nI ((numberP tf tn ((rwP tf tn pl wr).1) ((rwP tf tn pl wr).2)).2.1)), .int (bZ ((numberP tf tn ((rwP tf tn pl wr).1) ((rwP tf tn pl wr).2)).2.2)), .ref at_])) :: (ai, .inl (dA 1, 60, .inl tf)) :: (at_, .inl (dA 0, 240, .inl (upd (upd td k (nI (wordP tf tn pl))) (k + 1) ((numberP tf tn ((rwP tf tn pl wr).1) ((rwP tf tn pl wr).2)).1)))) :: R) X hw 2 rfl (i := k + 1) (by omega) (by first | decide | omega) rfl dX4_readsOrder_36 (fun H locs hw => ?_)
    refine lv_iload_n hx hb dX4_readsOrder_37 rfl (lv_at hl 0 rfl) ?_
    refine lv_iconst (v := 2) hx hb dX4_readsOrder_38 (by decide) ?_
    refine lv_icmp_ne (tgt := 81) hx hb dX4_readsOrder_39 (by decide) (fun c_18 => ?_) (fun c_18 => ?_)
    · skip
      have c_18 : ¬ ((wordP tf tn pl) = 2) := fun q => c_18 ((nI_eq (a := (wordP tf tn pl)) (b := 2) (by omega) (by omega)).mpr q)
      refine lv_iload_n hx hb dX4_readsOrder_81 rfl (lv_at hl 0 rfl) ?_
      refine lv_bipush (v := 7) hx hb dX4_readsOrder_82 (by decide) ?_
      refine lv_icmp_ne (tgt := 99) hx hb dX4_readsOrder_84 (by decide) (fun c_19 => ?_) (fun c_19 => ?_)
      · skip
        have c_19 : ¬ ((wordP tf tn pl) = 7) := fun q => c_19 ((nI_eq (a := (wordP tf tn pl)) (b := 7) (by omega) (by omega)).mpr q)
        exact g_vret () X hw hr hlocks trivial (by first | (exfalso; omega) | (simp [ordT, ordY, ordX, ordV, valP, behP, c_3, c_18, c_19]; done)) dX4_readsOrder_99
      · skip
        have c_19 : (wordP tf tn pl) = 7 := (nI_eq (a := (wordP tf tn pl)) (b := 7) (by omega) (by omega)).mp c_19
        refine lv_aload_n hx hb dX4_readsOrder_87 rfl (lv_at hl 1 rfl) ?_
        refine g_get X cfX4 hw 0 14 rfl rfl q1848 rfl rfl dX4_readsOrder_88 ?_
        refine lv_iload_n hx hb dX4_readsOrder_91 rfl (lv_at hl 2 rfl) ?_
        refine lv_iconst (v := 2) hx hb dX4_readsOrder_92 (by decide) ?_
        refine lv_iadd hx hb dX4_readsOrder_93 ?_
        refine g_addN (a := k) (b := 2) ?_
        refine lv_aload_n hx hb dX4_readsOrder_94 rfl (lv_at hl 1 rfl) ?_
        refine va_calli (va_runV (As := []) (rest := [.int (nI (k + 2)), .ref at_]) X.1 (m_X4_digit l D dA A E hE ((at_, .inl (dA 0, 240, .inl (upd (upd td k (nI (wordP tf tn pl))) (k + 1) ((numberP tf tn ((rwP tf tn pl wr).1) ((rwP tf tn pl wr).2)).1)))) :: R) mo ag ab ah asv ai al at_ ch hs wy wd li (by first | assumption | omega) tf tn ((numberP tf tn ((rwP tf tn pl wr).1) ((rwP tf tn pl wr).2)).2.1) (by first | assumption | omega) (by repeat (first | assumption | apply digit_le | apply number_le | apply needs_le | apply rw_le)) ((numberP tf tn ((rwP tf tn pl wr).1) ((rwP tf tn pl wr).2)).2.2)) (cwV 0 X.1.2.2.2.2 (lw_V q2149 q2151 qs58 q80 q2152) rfl rfl rfl (by decide +kernel) ⟨Nat.le_of_ble_eq_true rfl, Nat.le_of_ble_eq_true rfl⟩) (g_preV hE X.2 hw 0 rfl rfl) rfl rfl hl.1 rfl (lv_room (Nat.le_of_ble_eq_true rfl)) dX4_readsOrder_95 ⟨Nat.le_of_ble_eq_true rfl, Nat.le_of_ble_eq_true rfl⟩) hw.2.2 (fun q _ h => h) (fun q h => h) (fun r_21 u t H locs ht hvm h_20 hB hz9 hk9 hS => ?_)
        have hw : gW D A ((mo, .inr (4, [.ref ag, .ref ab, .ref ah, .int ch, .ref asv, .int hs, .ref ai, .int (nI tn), .int wy, .int wd, .ref al, .int li, .int (nI ((digitP tf tn ((numberP tf tn ((rwP tf tn pl wr).1) ((rwP tf tn pl wr).2)).2.1) ((numberP tf tn ((rwP tf tn pl wr).1) ((rwP tf tn pl wr).2)).2.2)).2.1)), .int (bZ ((digitP tf tn ((numberP tf tn ((rwP tf tn pl wr).1) ((rwP tf tn pl wr).2)).2.1) ((numberP tf tn ((rwP tf tn pl wr).1) ((rwP tf tn pl wr).2)).2.2)).2.2)), .ref at_])) :: (ai, .inl (dA 1, 60, .inl tf)) :: (at_, .inl (dA 0, 240, .inl (upd (upd td k (nI (wordP tf tn pl))) (k + 1) ((numberP tf tn ((rwP tf tn pl wr).1) ((rwP tf tn pl wr).2)).1)))) :: R) s H locs := g_aft ht hB hS
        obtain rfl : r_21 = (digitP tf tn ((numberP tf tn ((rwP tf tn pl wr).1) ((rwP tf tn pl wr).2)).2.1) ((numberP tf tn ((rwP tf tn pl wr).1) ((rwP tf tn pl wr).2)).2.2)).1 := h_20
        refine g_iast (ws' := (mo, .inr (4, [.ref ag, .ref ab, .ref ah, .int ch, .ref asv, .int hs, .ref ai, .int (nI tn), .int wy, .int wd, .ref al, .int li, .int (nI ((digitP tf tn ((numberP tf tn ((rwP tf tn pl wr).1) ((rwP tf tn pl wr).2)).2.1) ((numberP tf tn ((rwP tf tn pl wr).1) ((rwP tf tn pl wr).2)).2.2)).2.1)), .int (bZ ((digitP tf tn ((numberP tf tn ((rwP tf tn pl wr).1) ((rwP tf tn pl wr).2)).2.1) ((numberP tf tn ((rwP tf tn pl wr).1) ((rwP tf tn pl wr).2)).2.2)).2.2)), .ref at_])) :: (ai, .inl (dA 1, 60, .inl tf)) :: (at_, .inl (dA 0, 240, .inl (upd (upd (upd td k (nI (wordP tf tn pl))) (k + 1) ((numberP tf tn ((rwP tf tn pl wr).1) ((rwP tf tn pl wr).2)).1)) (k + 2) ((digitP tf tn ((numberP tf tn ((rwP tf tn pl wr).1) ((rwP tf tn pl wr).2)).2.1) ((numberP tf tn ((rwP tf tn pl wr).1) ((rwP tf tn pl wr).2)).2.2)).1)))) :: R) X hw 2 rfl (i := k + 2) (by omega) (by first | decide | omega) rfl dX4_readsOrder_98 (fun H locs hw => ?_)
        exact g_vret () X hw hr hlocks trivial (by first | (exfalso; omega) | (simp [ordT, ordY, ordX, ordV, valP, behP, c_3, c_18, c_19]; done)) dX4_readsOrder_99
    · skip
      have c_18 : (wordP tf tn pl) = 2 := (nI_eq (a := (wordP tf tn pl)) (b := 2) (by omega) (by omega)).mp c_18
      refine lv_aload_n hx hb dX4_readsOrder_42 rfl (lv_at hl 1 rfl) ?_
      refine lv_bipush (v := 58) hx hb dX4_readsOrder_43 (by decide) ?_
      refine va_callv (va_runV (As := [.int 58]) (rest := []) X.1 (m_X4_needs l D dA A E hE ((at_, .inl (dA 0, 240, .inl (upd (upd td k (nI (wordP tf tn pl))) (k + 1) ((numberP tf tn ((rwP tf tn pl wr).1) ((rwP tf tn pl wr).2)).1)))) :: R) mo ag ab ah asv ai al at_ ch hs wy wd li (by first | assumption | omega) tf tn ((numberP tf tn ((rwP tf tn pl wr).1) ((rwP tf tn pl wr).2)).2.1) (by first | assumption | omega) (by repeat (first | assumption | apply digit_le | apply number_le | apply needs_le | apply rw_le)) ((numberP tf tn ((rwP tf tn pl wr).1) ((rwP tf tn pl wr).2)).2.2) 58 (by decide)) (cwV 1 X.1.2.2.2.2 (lw_V q2141 q2143 qs56 q80 q2144) rfl rfl rfl (by decide +kernel) ⟨Nat.le_of_ble_eq_true rfl, Nat.le_of_ble_eq_true rfl⟩) (g_preV hE X.2 hw 0 rfl rfl) rfl rfl hl.1 rfl (lv_room (Nat.le_of_ble_eq_true rfl)) dX4_readsOrder_45 ⟨Nat.le_of_ble_eq_true rfl, Nat.le_of_ble_eq_true rfl⟩) hw.2.2 (fun q _ h => h) (fun q h => h) (fun u t H locs ht hvm h_22 hB hz9 hk9 hS => ?_)
      have hw : gW D A ((mo, .inr (4, [.ref ag, .ref ab, .ref ah, .int ch, .ref asv, .int hs, .ref ai, .int (nI tn), .int wy, .int wd, .ref al, .int li, .int (nI ((needsP tf tn 58 ((numberP tf tn ((rwP tf tn pl wr).1) ((rwP tf tn pl wr).2)).2.1) ((numberP tf tn ((rwP tf tn pl wr).1) ((rwP tf tn pl wr).2)).2.2)).1)), .int (bZ ((needsP tf tn 58 ((numberP tf tn ((rwP tf tn pl wr).1) ((rwP tf tn pl wr).2)).2.1) ((numberP tf tn ((rwP tf tn pl wr).1) ((rwP tf tn pl wr).2)).2.2)).2)), .ref at_])) :: (ai, .inl (dA 1, 60, .inl tf)) :: (at_, .inl (dA 0, 240, .inl (upd (upd td k (nI (wordP tf tn pl))) (k + 1) ((numberP tf tn ((rwP tf tn pl wr).1) ((rwP tf tn pl wr).2)).1)))) :: R) s H locs := g_aft ht hB hS
      refine lv_aload_n hx hb dX4_readsOrder_48 rfl (lv_at hl 1 rfl) ?_
      refine g_get X cfX4 hw 0 14 rfl rfl q1848 rfl rfl dX4_readsOrder_49 ?_
      refine lv_iload_n hx hb dX4_readsOrder_52 rfl (lv_at hl 2 rfl) ?_
      refine lv_iconst (v := 2) hx hb dX4_readsOrder_53 (by decide) ?_
      refine lv_iadd hx hb dX4_readsOrder_54 ?_
      refine g_addN (a := k) (b := 2) ?_
      refine lv_aload_n hx hb dX4_readsOrder_55 rfl (lv_at hl 1 rfl) ?_
      refine va_calli (va_runV (As := []) (rest := [.int (nI (k + 2)), .ref at_]) X.1 (m_X4_digit l D dA A E hE ((at_, .inl (dA 0, 240, .inl (upd (upd td k (nI (wordP tf tn pl))) (k + 1) ((numberP tf tn ((rwP tf tn pl wr).1) ((rwP tf tn pl wr).2)).1)))) :: R) mo ag ab ah asv ai al at_ ch hs wy wd li (by first | assumption | omega) tf tn ((needsP tf tn 58 ((numberP tf tn ((rwP tf tn pl wr).1) ((rwP tf tn pl wr).2)).2.1) ((numberP tf tn ((rwP tf tn pl wr).1) ((rwP tf tn pl wr).2)).2.2)).1) (by first | assumption | omega) (by repeat (first | assumption | apply digit_le | apply number_le | apply needs_le | apply rw_le)) ((needsP tf tn 58 ((numberP tf tn ((rwP tf tn pl wr).1) ((rwP tf tn pl wr).2)).2.1) ((numberP tf tn ((rwP tf tn pl wr).1) ((rwP tf tn pl wr).2)).2.2)).2)) (cwV 0 X.1.2.2.2.2 (lw_V q2149 q2151 qs58 q80 q2152) rfl rfl rfl (by decide +kernel) ⟨Nat.le_of_ble_eq_true rfl, Nat.le_of_ble_eq_true rfl⟩) (g_preV hE X.2 hw 0 rfl rfl) rfl rfl hl.1 rfl (lv_room (Nat.le_of_ble_eq_true rfl)) dX4_readsOrder_56 ⟨Nat.le_of_ble_eq_true rfl, Nat.le_of_ble_eq_true rfl⟩) hw.2.2 (fun q _ h => h) (fun q h => h) (fun r_24 u t H locs ht hvm h_23 hB hz9 hk9 hS => ?_)
      have hw : gW D A ((mo, .inr (4, [.ref ag, .ref ab, .ref ah, .int ch, .ref asv, .int hs, .ref ai, .int (nI tn), .int wy, .int wd, .ref al, .int li, .int (nI ((digitP tf tn ((needsP tf tn 58 ((numberP tf tn ((rwP tf tn pl wr).1) ((rwP tf tn pl wr).2)).2.1) ((numberP tf tn ((rwP tf tn pl wr).1) ((rwP tf tn pl wr).2)).2.2)).1) ((needsP tf tn 58 ((numberP tf tn ((rwP tf tn pl wr).1) ((rwP tf tn pl wr).2)).2.1) ((numberP tf tn ((rwP tf tn pl wr).1) ((rwP tf tn pl wr).2)).2.2)).2)).2.1)), .int (bZ ((digitP tf tn ((needsP tf tn 58 ((numberP tf tn ((rwP tf tn pl wr).1) ((rwP tf tn pl wr).2)).2.1) ((numberP tf tn ((rwP tf tn pl wr).1) ((rwP tf tn pl wr).2)).2.2)).1) ((needsP tf tn 58 ((numberP tf tn ((rwP tf tn pl wr).1) ((rwP tf tn pl wr).2)).2.1) ((numberP tf tn ((rwP tf tn pl wr).1) ((rwP tf tn pl wr).2)).2.2)).2)).2.2)), .ref at_])) :: (ai, .inl (dA 1, 60, .inl tf)) :: (at_, .inl (dA 0, 240, .inl (upd (upd td k (nI (wordP tf tn pl))) (k + 1) ((numberP tf tn ((rwP tf tn pl wr).1) ((rwP tf tn pl wr).2)).1)))) :: R) s H locs := g_aft ht hB hS
      obtain rfl : r_24 = (digitP tf tn ((needsP tf tn 58 ((numberP tf tn ((rwP tf tn pl wr).1) ((rwP tf tn pl wr).2)).2.1) ((numberP tf tn ((rwP tf tn pl wr).1) ((rwP tf tn pl wr).2)).2.2)).1) ((needsP tf tn 58 ((numberP tf tn ((rwP tf tn pl wr).1) ((rwP tf tn pl wr).2)).2.1) ((numberP tf tn ((rwP tf tn pl wr).1) ((rwP tf tn pl wr).2)).2.2)).2)).1 := h_23
      refine g_iast (ws' := (mo, .inr (4, [.ref ag, .ref ab, .ref ah, .int ch, .ref asv, .int hs, .ref ai, .int (nI tn), .int wy, .int wd, .ref al, .int li, .int (nI ((digitP tf tn ((needsP tf tn 58 ((numberP tf tn ((rwP tf tn pl wr).1) ((rwP tf tn pl wr).2)).2.1) ((numberP tf tn ((rwP tf tn pl wr).1) ((rwP tf tn pl wr).2)).2.2)).1) ((needsP tf tn 58 ((numberP tf tn ((rwP tf tn pl wr).1) ((rwP tf tn pl wr).2)).2.1) ((numberP tf tn ((rwP tf tn pl wr).1) ((rwP tf tn pl wr).2)).2.2)).2)).2.1)), .int (bZ ((digitP tf tn ((needsP tf tn 58 ((numberP tf tn ((rwP tf tn pl wr).1) ((rwP tf tn pl wr).2)).2.1) ((numberP tf tn ((rwP tf tn pl wr).1) ((rwP tf tn pl wr).2)).2.2)).1) ((needsP tf tn 58 ((numberP tf tn ((rwP tf tn pl wr).1) ((rwP tf tn pl wr).2)).2.1) ((numberP tf tn ((rwP tf tn pl wr).1) ((rwP tf tn pl wr).2)).2.2)).2)).2.2)), .ref at_])) :: (ai, .inl (dA 1, 60, .inl tf)) :: (at_, .inl (dA 0, 240, .inl (upd (upd (upd td k (nI (wordP tf tn pl))) (k + 1) ((numberP tf tn ((rwP tf tn pl wr).1) ((rwP tf tn pl wr).2)).1)) (k + 2) ((digitP tf tn ((needsP tf tn 58 ((numberP tf tn ((rwP tf tn pl wr).1) ((rwP tf tn pl wr).2)).2.1) ((numberP tf tn ((rwP tf tn pl wr).1) ((rwP tf tn pl wr).2)).2.2)).1) ((needsP tf tn 58 ((numberP tf tn ((rwP tf tn pl wr).1) ((rwP tf tn pl wr).2)).2.1) ((numberP tf tn ((rwP tf tn pl wr).1) ((rwP tf tn pl wr).2)).2.2)).2)).1)))) :: R) X hw 2 rfl (i := k + 2) (by omega) (by first | decide | omega) rfl dX4_readsOrder_59 (fun H locs hw => ?_)
      refine lv_aload_n hx hb dX4_readsOrder_60 rfl (lv_at hl 1 rfl) ?_
      refine lv_bipush (v := 46) hx hb dX4_readsOrder_61 (by decide) ?_
      refine va_callv (va_runV (As := [.int 46]) (rest := []) X.1 (m_X4_needs l D dA A E hE ((at_, .inl (dA 0, 240, .inl (upd (upd (upd td k (nI (wordP tf tn pl))) (k + 1) ((numberP tf tn ((rwP tf tn pl wr).1) ((rwP tf tn pl wr).2)).1)) (k + 2) ((digitP tf tn ((needsP tf tn 58 ((numberP tf tn ((rwP tf tn pl wr).1) ((rwP tf tn pl wr).2)).2.1) ((numberP tf tn ((rwP tf tn pl wr).1) ((rwP tf tn pl wr).2)).2.2)).1) ((needsP tf tn 58 ((numberP tf tn ((rwP tf tn pl wr).1) ((rwP tf tn pl wr).2)).2.1) ((numberP tf tn ((rwP tf tn pl wr).1) ((rwP tf tn pl wr).2)).2.2)).2)).1)))) :: R) mo ag ab ah asv ai al at_ ch hs wy wd li (by first | assumption | omega) tf tn ((digitP tf tn ((needsP tf tn 58 ((numberP tf tn ((rwP tf tn pl wr).1) ((rwP tf tn pl wr).2)).2.1) ((numberP tf tn ((rwP tf tn pl wr).1) ((rwP tf tn pl wr).2)).2.2)).1) ((needsP tf tn 58 ((numberP tf tn ((rwP tf tn pl wr).1) ((rwP tf tn pl wr).2)).2.1) ((numberP tf tn ((rwP tf tn pl wr).1) ((rwP tf tn pl wr).2)).2.2)).2)).2.1) (by first | assumption | omega) (by repeat (first | assumption | apply digit_le | apply number_le | apply needs_le | apply rw_le)) ((digitP tf tn ((needsP tf tn 58 ((numberP tf tn ((rwP tf tn pl wr).1) ((rwP tf tn pl wr).2)).2.1) ((numberP tf tn ((rwP tf tn pl wr).1) ((rwP tf tn pl wr).2)).2.2)).1) ((needsP tf tn 58 ((numberP tf tn ((rwP tf tn pl wr).1) ((rwP tf tn pl wr).2)).2.1) ((numberP tf tn ((rwP tf tn pl wr).1) ((rwP tf tn pl wr).2)).2.2)).2)).2.2) 46 (by decide)) (cwV 1 X.1.2.2.2.2 (lw_V q2141 q2143 qs56 q80 q2144) rfl rfl rfl (by decide +kernel) ⟨Nat.le_of_ble_eq_true rfl, Nat.le_of_ble_eq_true rfl⟩) (g_preV hE X.2 hw 0 rfl rfl) rfl rfl hl.1 rfl (lv_room (Nat.le_of_ble_eq_true rfl)) dX4_readsOrder_63 ⟨Nat.le_of_ble_eq_true rfl, Nat.le_of_ble_eq_true rfl⟩) hw.2.2 (fun q _ h => h) (fun q h => h) (fun u t H locs ht hvm h_25 hB hz9 hk9 hS => ?_)
      have hw : gW D A ((mo, .inr (4, [.ref ag, .ref ab, .ref ah, .int ch, .ref asv, .int hs, .ref ai, .int (nI tn), .int wy, .int wd, .ref al, .int li, .int (nI ((needsP tf tn 46 ((digitP tf tn ((needsP tf tn 58 ((numberP tf tn ((rwP tf tn pl wr).1) ((rwP tf tn pl wr).2)).2.1) ((numberP tf tn ((rwP tf tn pl wr).1) ((rwP tf tn pl wr).2)).2.2)).1) ((needsP tf tn 58 ((numberP tf tn ((rwP tf tn pl wr).1) ((rwP tf tn pl wr).2)).2.1) ((numberP tf tn ((rwP tf tn pl wr).1) ((rwP tf tn pl wr).2)).2.2)).2)).2.1) ((digitP tf tn ((needsP tf tn 58 ((numberP tf tn ((rwP tf tn pl wr).1) ((rwP tf tn pl wr).2)).2.1) ((numberP tf tn ((rwP tf tn pl wr).1) ((rwP tf tn pl wr).2)).2.2)).1) ((needsP tf tn 58 ((numberP tf tn ((rwP tf tn pl wr).1) ((rwP tf tn pl wr).2)).2.1) ((numberP tf tn ((rwP tf tn pl wr).1) ((rwP tf tn pl wr).2)).2.2)).2)).2.2)).1)), .int (bZ ((needsP tf tn 46 ((digitP tf tn ((needsP tf tn 58 ((numberP tf tn ((rwP tf tn pl wr).1) ((rwP tf tn pl wr).2)).2.1) ((numberP tf tn ((rwP tf tn pl wr).1) ((rwP tf tn pl wr).2)).2.2)).1) ((needsP tf tn 58 ((numberP tf tn ((rwP tf tn pl wr).1) ((rwP tf tn pl wr).2)).2.1) ((numberP tf tn ((rwP tf tn pl wr).1) ((rwP tf tn pl wr).2)).2.2)).2)).2.1) ((digitP tf tn ((needsP tf tn 58 ((numberP tf tn ((rwP tf tn pl wr).1) ((rwP tf tn pl wr).2)).2.1) ((numberP tf tn ((rwP tf tn pl wr).1) ((rwP tf tn pl wr).2)).2.2)).1) ((needsP tf tn 58 ((numberP tf tn ((rwP tf tn pl wr).1) ((rwP tf tn pl wr).2)).2.1) ((numberP tf tn ((rwP tf tn pl wr).1) ((rwP tf tn pl wr).2)).2.2)).2)).2.2)).2)), .ref at_])) :: (ai, .inl (dA 1, 60, .inl tf)) :: (at_, .inl (dA 0, 240, .inl (upd (upd (upd td k (nI (wordP tf tn pl))) (k + 1) ((numberP tf tn ((rwP tf tn pl wr).1) ((rwP tf tn pl wr).2)).1)) (k + 2) ((digitP tf tn ((needsP tf tn 58 ((numberP tf tn ((rwP tf tn pl wr).1) ((rwP tf tn pl wr).2)).2.1) ((numberP tf tn ((rwP tf tn pl wr).1) ((rwP tf tn pl wr).2)).2.2)).1) ((needsP tf tn 58 ((numberP tf tn ((rwP tf tn pl wr).1) ((rwP tf tn pl wr).2)).2.1) ((numberP tf tn ((rwP tf tn pl wr).1) ((rwP tf tn pl wr).2)).2.2)).2)).1)))) :: R) s H locs := g_aft ht hB hS
      refine lv_aload_n hx hb dX4_readsOrder_66 rfl (lv_at hl 1 rfl) ?_
      refine g_get X cfX4 hw 0 14 rfl rfl q1848 rfl rfl dX4_readsOrder_67 ?_
      refine lv_iload_n hx hb dX4_readsOrder_70 rfl (lv_at hl 2 rfl) ?_
      refine lv_iconst (v := 3) hx hb dX4_readsOrder_71 (by decide) ?_
      refine lv_iadd hx hb dX4_readsOrder_72 ?_
      refine g_addN (a := k) (b := 3) ?_
      refine lv_aload_n hx hb dX4_readsOrder_73 rfl (lv_at hl 1 rfl) ?_
      refine va_calli (va_runV (As := []) (rest := [.int (nI (k + 3)), .ref at_]) X.1 (m_X4_digit l D dA A E hE ((at_, .inl (dA 0, 240, .inl (upd (upd (upd td k (nI (wordP tf tn pl))) (k + 1) ((numberP tf tn ((rwP tf tn pl wr).1) ((rwP tf tn pl wr).2)).1)) (k + 2) ((digitP tf tn ((needsP tf tn 58 ((numberP tf tn ((rwP tf tn pl wr).1) ((rwP tf tn pl wr).2)).2.1) ((numberP tf tn ((rwP tf tn pl wr).1) ((rwP tf tn pl wr).2)).2.2)).1) ((needsP tf tn 58 ((numberP tf tn ((rwP tf tn pl wr).1) ((rwP tf tn pl wr).2)).2.1) ((numberP tf tn ((rwP tf tn pl wr).1) ((rwP tf tn pl wr).2)).2.2)).2)).1)))) :: R) mo ag ab ah asv ai al at_ ch hs wy wd li (by first | assumption | omega) tf tn ((needsP tf tn 46 ((digitP tf tn ((needsP tf tn 58 ((numberP tf tn ((rwP tf tn pl wr).1) ((rwP tf tn pl wr).2)).2.1) ((numberP tf tn ((rwP tf tn pl wr).1) ((rwP tf tn pl wr).2)).2.2)).1) ((needsP tf tn 58 ((numberP tf tn ((rwP tf tn pl wr).1) ((rwP tf tn pl wr).2)).2.1) ((numberP tf tn ((rwP tf tn pl wr).1) ((rwP tf tn pl wr).2)).2.2)).2)).2.1) ((digitP tf tn ((needsP tf tn 58 ((numberP tf tn ((rwP tf tn pl wr).1) ((rwP tf tn pl wr).2)).2.1) ((numberP tf tn ((rwP tf tn pl wr).1) ((rwP tf tn pl wr).2)).2.2)).1) ((needsP tf tn 58 ((numberP tf tn ((rwP tf tn pl wr).1) ((rwP tf tn pl wr).2)).2.1) ((numberP tf tn ((rwP tf tn pl wr).1) ((rwP tf tn pl wr).2)).2.2)).2)).2.2)).1) (by first | assumption | omega) (by repeat (first | assumption | apply digit_le | apply number_le | apply needs_le | apply rw_le)) ((needsP tf tn 46 ((digitP tf tn ((needsP tf tn 58 ((numberP tf tn ((rwP tf tn pl wr).1) ((rwP tf tn pl wr).2)).2.1) ((numberP tf tn ((rwP tf tn pl wr).1) ((rwP tf tn pl wr).2)).2.2)).1) ((needsP tf tn 58 ((numberP tf tn ((rwP tf tn pl wr).1) ((rwP tf tn pl wr).2)).2.1) ((numberP tf tn ((rwP tf tn pl wr).1) ((rwP tf tn pl wr).2)).2.2)).2)).2.1) ((digitP tf tn ((needsP tf tn 58 ((numberP tf tn ((rwP tf tn pl wr).1) ((rwP tf tn pl wr).2)).2.1) ((numberP tf tn ((rwP tf tn pl wr).1) ((rwP tf tn pl wr).2)).2.2)).1) ((needsP tf tn 58 ((numberP tf tn ((rwP tf tn pl wr).1) ((rwP tf tn pl wr).2)).2.1) ((numberP tf tn ((rwP tf tn pl wr).1) ((rwP tf tn pl wr).2)).2.2)).2)).2.2)).2)) (cwV 0 X.1.2.2.2.2 (lw_V q2149 q2151 qs58 q80 q2152) rfl rfl rfl (by decide +kernel) ⟨Nat.le_of_ble_eq_true rfl, Nat.le_of_ble_eq_true rfl⟩) (g_preV hE X.2 hw 0 rfl rfl) rfl rfl hl.1 rfl (lv_room (Nat.le_of_ble_eq_true rfl)) dX4_readsOrder_74 ⟨Nat.le_of_ble_eq_true rfl, Nat.le_of_ble_eq_true rfl⟩) hw.2.2 (fun q _ h => h) (fun q h => h) (fun r_27 u t H locs ht hvm h_26 hB hz9 hk9 hS => ?_)
      have hw : gW D A ((mo, .inr (4, [.ref ag, .ref ab, .ref ah, .int ch, .ref asv, .int hs, .ref ai, .int (nI tn), .int wy, .int wd, .ref al, .int li, .int (nI ((digitP tf tn ((needsP tf tn 46 ((digitP tf tn ((needsP tf tn 58 ((numberP tf tn ((rwP tf tn pl wr).1) ((rwP tf tn pl wr).2)).2.1) ((numberP tf tn ((rwP tf tn pl wr).1) ((rwP tf tn pl wr).2)).2.2)).1) ((needsP tf tn 58 ((numberP tf tn ((rwP tf tn pl wr).1) ((rwP tf tn pl wr).2)).2.1) ((numberP tf tn ((rwP tf tn pl wr).1) ((rwP tf tn pl wr).2)).2.2)).2)).2.1) ((digitP tf tn ((needsP tf tn 58 ((numberP tf tn ((rwP tf tn pl wr).1) ((rwP tf tn pl wr).2)).2.1) ((numberP tf tn ((rwP tf tn pl wr).1) ((rwP tf tn pl wr).2)).2.2)).1) ((needsP tf tn 58 ((numberP tf tn ((rwP tf tn pl wr).1) ((rwP tf tn pl wr).2)).2.1) ((numberP tf tn ((rwP tf tn pl wr).1) ((rwP tf tn pl wr).2)).2.2)).2)).2.2)).1) ((needsP tf tn 46 ((digitP tf tn ((needsP tf tn 58 ((numberP tf tn ((rwP tf tn pl wr).1) ((rwP tf tn pl wr).2)).2.1) ((numberP tf tn ((rwP tf tn pl wr).1) ((rwP tf tn pl wr).2)).2.2)).1) ((needsP tf tn 58 ((numberP tf tn ((rwP tf tn pl wr).1) ((rwP tf tn pl wr).2)).2.1) ((numberP tf tn ((rwP tf tn pl wr).1) ((rwP tf tn pl wr).2)).2.2)).2)).2.1) ((digitP tf tn ((needsP tf tn 58 ((numberP tf tn ((rwP tf tn pl wr).1) ((rwP tf tn pl wr).2)).2.1) ((numberP tf tn ((rwP tf tn pl wr).1) ((rwP tf tn pl wr).2)).2.2)).1) ((needsP tf tn 58 ((numberP tf tn ((rwP tf tn pl wr).1) ((rwP tf tn pl wr).2)).2.1) ((numberP tf tn ((rwP tf tn pl wr).1) ((rwP tf tn pl wr).2)).2.2)).2)).2.2)).2)).2.1)), .int (bZ ((digitP tf tn ((needsP tf tn 46 ((digitP tf tn ((needsP tf tn 58 ((numberP tf tn ((rwP tf tn pl wr).1) ((rwP tf tn pl wr).2)).2.1) ((numberP tf tn ((rwP tf tn pl wr).1) ((rwP tf tn pl wr).2)).2.2)).1) ((needsP tf tn 58 ((numberP tf tn ((rwP tf tn pl wr).1) ((rwP tf tn pl wr).2)).2.1) ((numberP tf tn ((rwP tf tn pl wr).1) ((rwP tf tn pl wr).2)).2.2)).2)).2.1) ((digitP tf tn ((needsP tf tn 58 ((numberP tf tn ((rwP tf tn pl wr).1) ((rwP tf tn pl wr).2)).2.1) ((numberP tf tn ((rwP tf tn pl wr).1) ((rwP tf tn pl wr).2)).2.2)).1) ((needsP tf tn 58 ((numberP tf tn ((rwP tf tn pl wr).1) ((rwP tf tn pl wr).2)).2.1) ((numberP tf tn ((rwP tf tn pl wr).1) ((rwP tf tn pl wr).2)).2.2)).2)).2.2)).1) ((needsP tf tn 46 ((digitP tf tn ((needsP tf tn 58 ((numberP tf tn ((rwP tf tn pl wr).1) ((rwP tf tn pl wr).2)).2.1) ((numberP tf tn ((rwP tf tn pl wr).1) ((rwP tf tn pl wr).2)).2.2)).1) ((needsP tf tn 58 ((numberP tf tn ((rwP tf tn pl wr).1) ((rwP tf tn pl wr).2)).2.1) ((numberP tf tn ((rwP tf tn pl wr).1) ((rwP tf tn pl wr).2)).2.2)).2)).2.1) ((digitP tf tn ((needsP tf tn 58 ((numberP tf tn ((rwP tf tn pl wr).1) ((rwP tf tn pl wr).2)).2.1) ((numberP tf tn ((rwP tf tn pl wr).1) ((rwP tf tn pl wr).2)).2.2)).1) ((needsP tf tn 58 ((numberP tf tn ((rwP tf tn pl wr).1) ((rwP tf tn pl wr).2)).2.1) ((numberP tf tn ((rwP tf tn pl wr).1) ((rwP tf tn pl wr).2)).2.2)).2)).2.2)).2)).2.2)), .ref at_])) :: (ai, .inl (dA 1, 60, .inl tf)) :: (at_, .inl (dA 0, 240, .inl (upd (upd (upd td k (nI (wordP tf tn pl))) (k + 1) ((numberP tf tn ((rwP tf tn pl wr).1) ((rwP tf tn pl wr).2)).1)) (k + 2) ((digitP tf tn ((needsP tf tn 58 ((numberP tf tn ((rwP tf tn pl wr).1) ((rwP tf tn pl wr).2)).2.1) ((numberP tf tn ((rwP tf tn pl wr).1) ((rwP tf tn pl wr).2)).2.2)).1) ((needsP tf tn 58 ((numberP tf tn ((rwP tf tn pl wr).1) ((rwP tf tn pl wr).2)).2.1) ((numberP tf tn ((rwP tf tn pl wr).1) ((rwP tf tn pl wr).2)).2.2)).2)).1)))) :: R) s H locs := g_aft ht hB hS
      obtain rfl : r_27 = (digitP tf tn ((needsP tf tn 46 ((digitP tf tn ((needsP tf tn 58 ((numberP tf tn ((rwP tf tn pl wr).1) ((rwP tf tn pl wr).2)).2.1) ((numberP tf tn ((rwP tf tn pl wr).1) ((rwP tf tn pl wr).2)).2.2)).1) ((needsP tf tn 58 ((numberP tf tn ((rwP tf tn pl wr).1) ((rwP tf tn pl wr).2)).2.1) ((numberP tf tn ((rwP tf tn pl wr).1) ((rwP tf tn pl wr).2)).2.2)).2)).2.1) ((digitP tf tn ((needsP tf tn 58 ((numberP tf tn ((rwP tf tn pl wr).1) ((rwP tf tn pl wr).2)).2.1) ((numberP tf tn ((rwP tf tn pl wr).1) ((rwP tf tn pl wr).2)).2.2)).1) ((needsP tf tn 58 ((numberP tf tn ((rwP tf tn pl wr).1) ((rwP tf tn pl wr).2)).2.1) ((numberP tf tn ((rwP tf tn pl wr).1) ((rwP tf tn pl wr).2)).2.2)).2)).2.2)).1) ((needsP tf tn 46 ((digitP tf tn ((needsP tf tn 58 ((numberP tf tn ((rwP tf tn pl wr).1) ((rwP tf tn pl wr).2)).2.1) ((numberP tf tn ((rwP tf tn pl wr).1) ((rwP tf tn pl wr).2)).2.2)).1) ((needsP tf tn 58 ((numberP tf tn ((rwP tf tn pl wr).1) ((rwP tf tn pl wr).2)).2.1) ((numberP tf tn ((rwP tf tn pl wr).1) ((rwP tf tn pl wr).2)).2.2)).2)).2.1) ((digitP tf tn ((needsP tf tn 58 ((numberP tf tn ((rwP tf tn pl wr).1) ((rwP tf tn pl wr).2)).2.1) ((numberP tf tn ((rwP tf tn pl wr).1) ((rwP tf tn pl wr).2)).2.2)).1) ((needsP tf tn 58 ((numberP tf tn ((rwP tf tn pl wr).1) ((rwP tf tn pl wr).2)).2.1) ((numberP tf tn ((rwP tf tn pl wr).1) ((rwP tf tn pl wr).2)).2.2)).2)).2.2)).2)).1 := h_26
      refine g_iast (ws' := (mo, .inr (4, [.ref ag, .ref ab, .ref ah, .int ch, .ref asv, .int hs, .ref ai, .int (nI tn), .int wy, .int wd, .ref al, .int li, .int (nI ((digitP tf tn ((needsP tf tn 46 ((digitP tf tn ((needsP tf tn 58 ((numberP tf tn ((rwP tf tn pl wr).1) ((rwP tf tn pl wr).2)).2.1) ((numberP tf tn ((rwP tf tn pl wr).1) ((rwP tf tn pl wr).2)).2.2)).1) ((needsP tf tn 58 ((numberP tf tn ((rwP tf tn pl wr).1) ((rwP tf tn pl wr).2)).2.1) ((numberP tf tn ((rwP tf tn pl wr).1) ((rwP tf tn pl wr).2)).2.2)).2)).2.1) ((digitP tf tn ((needsP tf tn 58 ((numberP tf tn ((rwP tf tn pl wr).1) ((rwP tf tn pl wr).2)).2.1) ((numberP tf tn ((rwP tf tn pl wr).1) ((rwP tf tn pl wr).2)).2.2)).1) ((needsP tf tn 58 ((numberP tf tn ((rwP tf tn pl wr).1) ((rwP tf tn pl wr).2)).2.1) ((numberP tf tn ((rwP tf tn pl wr).1) ((rwP tf tn pl wr).2)).2.2)).2)).2.2)).1) ((needsP tf tn 46 ((digitP tf tn ((needsP tf tn 58 ((numberP tf tn ((rwP tf tn pl wr).1) ((rwP tf tn pl wr).2)).2.1) ((numberP tf tn ((rwP tf tn pl wr).1) ((rwP tf tn pl wr).2)).2.2)).1) ((needsP tf tn 58 ((numberP tf tn ((rwP tf tn pl wr).1) ((rwP tf tn pl wr).2)).2.1) ((numberP tf tn ((rwP tf tn pl wr).1) ((rwP tf tn pl wr).2)).2.2)).2)).2.1) ((digitP tf tn ((needsP tf tn 58 ((numberP tf tn ((rwP tf tn pl wr).1) ((rwP tf tn pl wr).2)).2.1) ((numberP tf tn ((rwP tf tn pl wr).1) ((rwP tf tn pl wr).2)).2.2)).1) ((needsP tf tn 58 ((numberP tf tn ((rwP tf tn pl wr).1) ((rwP tf tn pl wr).2)).2.1) ((numberP tf tn ((rwP tf tn pl wr).1) ((rwP tf tn pl wr).2)).2.2)).2)).2.2)).2)).2.1)), .int (bZ ((digitP tf tn ((needsP tf tn 46 ((digitP tf tn ((needsP tf tn 58 ((numberP tf tn ((rwP tf tn pl wr).1) ((rwP tf tn pl wr).2)).2.1) ((numberP tf tn ((rwP tf tn pl wr).1) ((rwP tf tn pl wr).2)).2.2)).1) ((needsP tf tn 58 ((numberP tf tn ((rwP tf tn pl wr).1) ((rwP tf tn pl wr).2)).2.1) ((numberP tf tn ((rwP tf tn pl wr).1) ((rwP tf tn pl wr).2)).2.2)).2)).2.1) ((digitP tf tn ((needsP tf tn 58 ((numberP tf tn ((rwP tf tn pl wr).1) ((rwP tf tn pl wr).2)).2.1) ((numberP tf tn ((rwP tf tn pl wr).1) ((rwP tf tn pl wr).2)).2.2)).1) ((needsP tf tn 58 ((numberP tf tn ((rwP tf tn pl wr).1) ((rwP tf tn pl wr).2)).2.1) ((numberP tf tn ((rwP tf tn pl wr).1) ((rwP tf tn pl wr).2)).2.2)).2)).2.2)).1) ((needsP tf tn 46 ((digitP tf tn ((needsP tf tn 58 ((numberP tf tn ((rwP tf tn pl wr).1) ((rwP tf tn pl wr).2)).2.1) ((numberP tf tn ((rwP tf tn pl wr).1) ((rwP tf tn pl wr).2)).2.2)).1) ((needsP tf tn 58 ((numberP tf tn ((rwP tf tn pl wr).1) ((rwP tf tn pl wr).2)).2.1) ((numberP tf tn ((rwP tf tn pl wr).1) ((rwP tf tn pl wr).2)).2.2)).2)).2.1) ((digitP tf tn ((needsP tf tn 58 ((numberP tf tn ((rwP tf tn pl wr).1) ((rwP tf tn pl wr).2)).2.1) ((numberP tf tn ((rwP tf tn pl wr).1) ((rwP tf tn pl wr).2)).2.2)).1) ((needsP tf tn 58 ((numberP tf tn ((rwP tf tn pl wr).1) ((rwP tf tn pl wr).2)).2.1) ((numberP tf tn ((rwP tf tn pl wr).1) ((rwP tf tn pl wr).2)).2.2)).2)).2.2)).2)).2.2)), .ref at_])) :: (ai, .inl (dA 1, 60, .inl tf)) :: (at_, .inl (dA 0, 240, .inl (upd (upd (upd (upd td k (nI (wordP tf tn pl))) (k + 1) ((numberP tf tn ((rwP tf tn pl wr).1) ((rwP tf tn pl wr).2)).1)) (k + 2) ((digitP tf tn ((needsP tf tn 58 ((numberP tf tn ((rwP tf tn pl wr).1) ((rwP tf tn pl wr).2)).2.1) ((numberP tf tn ((rwP tf tn pl wr).1) ((rwP tf tn pl wr).2)).2.2)).1) ((needsP tf tn 58 ((numberP tf tn ((rwP tf tn pl wr).1) ((rwP tf tn pl wr).2)).2.1) ((numberP tf tn ((rwP tf tn pl wr).1) ((rwP tf tn pl wr).2)).2.2)).2)).1)) (k + 3) ((digitP tf tn ((needsP tf tn 46 ((digitP tf tn ((needsP tf tn 58 ((numberP tf tn ((rwP tf tn pl wr).1) ((rwP tf tn pl wr).2)).2.1) ((numberP tf tn ((rwP tf tn pl wr).1) ((rwP tf tn pl wr).2)).2.2)).1) ((needsP tf tn 58 ((numberP tf tn ((rwP tf tn pl wr).1) ((rwP tf tn pl wr).2)).2.1) ((numberP tf tn ((rwP tf tn pl wr).1) ((rwP tf tn pl wr).2)).2.2)).2)).2.1) ((digitP tf tn ((needsP tf tn 58 ((numberP tf tn ((rwP tf tn pl wr).1) ((rwP tf tn pl wr).2)).2.1) ((numberP tf tn ((rwP tf tn pl wr).1) ((rwP tf tn pl wr).2)).2.2)).1) ((needsP tf tn 58 ((numberP tf tn ((rwP tf tn pl wr).1) ((rwP tf tn pl wr).2)).2.1) ((numberP tf tn ((rwP tf tn pl wr).1) ((rwP tf tn pl wr).2)).2.2)).2)).2.2)).1) ((needsP tf tn 46 ((digitP tf tn ((needsP tf tn 58 ((numberP tf tn ((rwP tf tn pl wr).1) ((rwP tf tn pl wr).2)).2.1) ((numberP tf tn ((rwP tf tn pl wr).1) ((rwP tf tn pl wr).2)).2.2)).1) ((needsP tf tn 58 ((numberP tf tn ((rwP tf tn pl wr).1) ((rwP tf tn pl wr).2)).2.1) ((numberP tf tn ((rwP tf tn pl wr).1) ((rwP tf tn pl wr).2)).2.2)).2)).2.1) ((digitP tf tn ((needsP tf tn 58 ((numberP tf tn ((rwP tf tn pl wr).1) ((rwP tf tn pl wr).2)).2.1) ((numberP tf tn ((rwP tf tn pl wr).1) ((rwP tf tn pl wr).2)).2.2)).1) ((needsP tf tn 58 ((numberP tf tn ((rwP tf tn pl wr).1) ((rwP tf tn pl wr).2)).2.1) ((numberP tf tn ((rwP tf tn pl wr).1) ((rwP tf tn pl wr).2)).2.2)).2)).2.2)).2)).1)))) :: R) X hw 2 rfl (i := k + 3) (by omega) (by first | decide | omega) rfl dX4_readsOrder_77 (fun H locs hw => ?_)
      refine lv_goto (tgt := 99) hx hb dX4_readsOrder_78 (by decide) ?_
      exact g_vret () X hw hr hlocks trivial (by first | (exfalso; omega) | (simp [ordT, ordY, ordX, ordV, valP, behP, c_3, c_18]; done)) dX4_readsOrder_99

set_option maxHeartbeats 4000000 in
theorem m_X4_readsText (l : Launch) (D : va_G) (dA : Nat → ClassId) (A : Nat → Prop) (E : State → Prop) (hE : gSt A E) (R : va_W) (kA : Nat → Nat) (hKE : gKE A E kA) (mo ag ab ah asv ai al at_ : Nat) (ch hs wy wd li pl0 iw0 : Int32) (g : gG) (tf : gG) (tn : Nat) (htn : tn ≤ 60) (td : gG) : Met l yX4_readsText (ws_ yX4_readsText cX4_readsText 3 (Option.some FieldType.int)) ({ frames := 7, cells := 0, slots := 0, locals := 151 }) (va_Pc [.ref mo] (gB D dA A E ((mo, .inr (4, [.ref ag, .ref ab, .ref ah, .int ch, .ref asv, .int hs, .ref ai, .int (nI tn), .int wy, .int wd, .ref al, .int li, .int pl0, .int iw0, .ref at_])) :: (ai, .inl (dA 1, 60, .inl tf)) :: (at_, .inl (dA 0, 240, .inl td)) :: R))) (va_Qi (fun (r : Int32) (_ : Unit) => r = nI (textP tf tn td).1) (fun _ => gE D A ((mo, .inr (4, [.ref ag, .ref ab, .ref ah, .int ch, .ref asv, .int hs, .ref ai, .int 0, .int wy, .int wd, .ref al, .int li, .int (nI ((textP tf tn td).2.2.1)), .int (bZ (textP tf tn td).2.2.2), .ref at_])) :: (ai, .inl (dA 1, 60, .inl tf)) :: (at_, .inl (dA 0, 240, .inl ((textP tf tn td).2.1))) :: R)) A) (0) (0) A := by
  refine g_start rfl rfl ?_
  intro p e s m args below meth c ls X hr hlocks hin hw hl
  have hx := X.1.1
  have hb := X.1.2.1
  have hl : lv_has ls 3 [(0, .ref mo)] := hl
  refine lv_aload_n hx hb dX4_readsText_0 rfl (lv_at hl 0 rfl) ?_
  refine lv_iconst (v := 0) hx hb dX4_readsText_1 (by decide) ?_
  refine g_put (ws' := (mo, .inr (4, [.ref ag, .ref ab, .ref ah, .int ch, .ref asv, .int hs, .ref ai, .int (nI tn), .int wy, .int wd, .ref al, .int li, .int 0, .int iw0, .ref at_])) :: (ai, .inl (dA 1, 60, .inl tf)) :: (at_, .inl (dA 0, 240, .inl td)) :: R) X cfX4 hw 0 12 rfl rfl q1846 rfl rfl rfl rfl rfl rfl dX4_readsText_2 (fun H locs hw => ?_)
  refine lv_aload_n hx hb dX4_readsText_5 rfl (lv_at hl 0 rfl) ?_
  refine lv_iconst (v := 0) hx hb dX4_readsText_6 (by decide) ?_
  refine g_put (ws' := (mo, .inr (4, [.ref ag, .ref ab, .ref ah, .int ch, .ref asv, .int hs, .ref ai, .int (nI tn), .int wy, .int wd, .ref al, .int li, .int 0, .int 0, .ref at_])) :: (ai, .inl (dA 1, 60, .inl tf)) :: (at_, .inl (dA 0, 240, .inl td)) :: R) X cfX4 hw 0 13 rfl rfl q1847 rfl rfl rfl rfl rfl rfl dX4_readsText_7 (fun H locs hw => ?_)
  refine lv_iconst (v := 0) hx hb dX4_readsText_10 (by decide) ?_
  refine lv_istore_n (lv' := [(1, .int 0), (0, .ref mo)]) hx hb dX4_readsText_11 rfl hl (by decide) rfl (fun ls hl => ?_)
  refine lv_iconst (v := 1) hx hb dX4_readsText_12 (by decide) ?_
  refine lv_istore_n (lv' := [(2, .int 1), (1, .int 0), (0, .ref mo)]) hx hb dX4_readsText_13 rfl hl (by decide) rfl (fun ls hl => ?_)
  have loop_1 : ∀ (fuel : Nat) (n : Nat) (td2 : gG) (pl : Nat) (wr mm : Bool), ∀ (hpl : pl ≤ tn), ∀ (hn31 : n ≤ 31), ∀ (hmt : mm = true → textP tf tn td = textL tf tn (61 - n) n td2 pl ∧ wr = false ∧ 2 * n ≤ pl), ∀ (hmf : mm = false → textP tf tn td = (n, td2, pl, wr || decide (pl < tn))), (61 - n) < fuel → ∀ (H : Heap) (locs : List Loc) (hw : gW D A ((mo, .inr (4, [.ref ag, .ref ab, .ref ah, .int ch, .ref asv, .int hs, .ref ai, .int (nI tn), .int wy, .int wd, .ref al, .int li, .int (nI pl), .int (bZ wr), .ref at_])) :: (ai, .inl (dA 1, 60, .inl tf)) :: (at_, .inl (dA 0, 240, .inl td2)) :: R) s H locs) (ls : Array Slot) (hl : lv_has ls 3 [(2, .int (bZ mm)), (1, .int (nI n)), (0, .ref mo)]), W p l e ({ frames := 7, cells := 0, slots := 0, locals := 151 }) s m args below meth c H locs (0) (0) (MQ below (va_Qi (fun (r : Int32) (_ : Unit) => r = nI (textP tf tn td).1) (fun _ => gE D A ((mo, .inr (4, [.ref ag, .ref ab, .ref ah, .int ch, .ref asv, .int hs, .ref ai, .int 0, .int wy, .int wd, .ref al, .int li, .int (nI ((textP tf tn td).2.2.1)), .int (bZ (textP tf tn td).2.2.2), .ref at_])) :: (ai, .inl (dA 1, 60, .inl tf)) :: (at_, .inl (dA 0, 240, .inl ((textP tf tn td).2.1))) :: R)) A) args s (0) (0) A) (F0 m 14 ls []) := by
    intro fuel
    induction fuel with
    | zero => intro n td2 pl wr mm hpl hn31 hmt hmf hf; exact absurd hf (Nat.not_lt_zero _)
    | succ fuel ih_loop_1 =>
      intro n td2 pl wr mm hpl hn31 hmt hmf hfuel_loop_1 H locs hw ls hl
      refine lv_iload_n hx hb dX4_readsText_14 rfl (lv_at hl 0 rfl) ?_
      refine lv_if_eq (tgt := 71) hx hb dX4_readsText_15 (by decide) (fun c_2 => ?_) (fun c_2 => ?_)
      · skip
        have c_2 := bZ_0.mp c_2
        refine lv_aload_n hx hb dX4_readsText_71 rfl (lv_at hl 2 rfl) ?_
        refine lv_aload_n hx hb dX4_readsText_72 rfl (lv_at hl 2 rfl) ?_
        refine g_get X cfX4 hw 0 13 rfl rfl q1847 rfl rfl dX4_readsText_73 ?_
        refine lv_if_ne (tgt := 90) hx hb dX4_readsText_76 (by decide) (fun c_3 => ?_) (fun c_3 => ?_)
        · skip
          have c_3 := bZ_1 c_3
          refine lv_iconst (v := 1) hx hb dX4_readsText_90 (by decide) ?_
          refine lv_goto (tgt := 95) hx hb dX4_readsText_91 (by decide) ?_
          refine g_put (ws' := (mo, .inr (4, [.ref ag, .ref ab, .ref ah, .int ch, .ref asv, .int hs, .ref ai, .int (nI tn), .int wy, .int wd, .ref al, .int li, .int (nI pl), .int 1, .ref at_])) :: (ai, .inl (dA 1, 60, .inl tf)) :: (at_, .inl (dA 0, 240, .inl td2)) :: R) X cfX4 hw 0 13 rfl rfl q1847 rfl rfl rfl rfl rfl rfl dX4_readsText_95 (fun H locs hw => ?_)
          refine lv_aload_n hx hb dX4_readsText_98 rfl (lv_at hl 2 rfl) ?_
          refine lv_iconst (v := 0) hx hb dX4_readsText_99 (by decide) ?_
          refine g_put (ws' := (mo, .inr (4, [.ref ag, .ref ab, .ref ah, .int ch, .ref asv, .int hs, .ref ai, .int 0, .int wy, .int wd, .ref al, .int li, .int (nI pl), .int 1, .ref at_])) :: (ai, .inl (dA 1, 60, .inl tf)) :: (at_, .inl (dA 0, 240, .inl td2)) :: R) X cfX4 hw 0 7 rfl rfl q1841 rfl rfl rfl rfl rfl rfl dX4_readsText_100 (fun H locs hw => ?_)
          refine lv_iload_n hx hb dX4_readsText_103 rfl (lv_at hl 1 rfl) ?_
          have hf9 := hmf c_2
          exact g_iret (v := nI n) () X hw hr hlocks  (by rw [hf9]) (by rw [hf9]; simp [bZ, c_2, c_3]) dX4_readsText_104
        · skip
          have c_3 := bZ_0.mp c_3
          refine lv_aload_n hx hb dX4_readsText_79 rfl (lv_at hl 2 rfl) ?_
          refine g_get X cfX4 hw 0 12 rfl rfl q1846 rfl rfl dX4_readsText_80 ?_
          refine lv_aload_n hx hb dX4_readsText_83 rfl (lv_at hl 2 rfl) ?_
          refine g_get X cfX4 hw 0 7 rfl rfl q1841 rfl rfl dX4_readsText_84 ?_
          refine lv_icmp_ge (tgt := 94) hx hb dX4_readsText_87 (by decide) (fun c_4 => ?_) (fun c_4 => ?_)
          · skip
            have c_4 := Int32.not_lt.mpr c_4
            have c_4 : ¬ (pl < tn) := fun q => c_4 ((nI_ltI (a := pl) (b := tn) (by omega) (by omega)).mpr q)
            refine lv_iconst (v := 0) hx hb dX4_readsText_94 (by decide) ?_
            refine g_put (ws' := (mo, .inr (4, [.ref ag, .ref ab, .ref ah, .int ch, .ref asv, .int hs, .ref ai, .int (nI tn), .int wy, .int wd, .ref al, .int li, .int (nI pl), .int 0, .ref at_])) :: (ai, .inl (dA 1, 60, .inl tf)) :: (at_, .inl (dA 0, 240, .inl td2)) :: R) X cfX4 hw 0 13 rfl rfl q1847 rfl rfl rfl rfl rfl rfl dX4_readsText_95 (fun H locs hw => ?_)
            refine lv_aload_n hx hb dX4_readsText_98 rfl (lv_at hl 2 rfl) ?_
            refine lv_iconst (v := 0) hx hb dX4_readsText_99 (by decide) ?_
            refine g_put (ws' := (mo, .inr (4, [.ref ag, .ref ab, .ref ah, .int ch, .ref asv, .int hs, .ref ai, .int 0, .int wy, .int wd, .ref al, .int li, .int (nI pl), .int 0, .ref at_])) :: (ai, .inl (dA 1, 60, .inl tf)) :: (at_, .inl (dA 0, 240, .inl td2)) :: R) X cfX4 hw 0 7 rfl rfl q1841 rfl rfl rfl rfl rfl rfl dX4_readsText_100 (fun H locs hw => ?_)
            refine lv_iload_n hx hb dX4_readsText_103 rfl (lv_at hl 1 rfl) ?_
            have hf9 := hmf c_2
            exact g_iret (v := nI n) () X hw hr hlocks  (by rw [hf9]) (by rw [hf9]; simp [bZ, c_2, c_3, c_4]) dX4_readsText_104
          · skip
            have c_4 := Int32.not_le.mp c_4
            have c_4 : pl < tn := (nI_ltI (a := pl) (b := tn) (by omega) (by omega)).mp c_4
            refine lv_iconst (v := 1) hx hb dX4_readsText_90 (by decide) ?_
            refine lv_goto (tgt := 95) hx hb dX4_readsText_91 (by decide) ?_
            refine g_put (ws' := (mo, .inr (4, [.ref ag, .ref ab, .ref ah, .int ch, .ref asv, .int hs, .ref ai, .int (nI tn), .int wy, .int wd, .ref al, .int li, .int (nI pl), .int 1, .ref at_])) :: (ai, .inl (dA 1, 60, .inl tf)) :: (at_, .inl (dA 0, 240, .inl td2)) :: R) X cfX4 hw 0 13 rfl rfl q1847 rfl rfl rfl rfl rfl rfl dX4_readsText_95 (fun H locs hw => ?_)
            refine lv_aload_n hx hb dX4_readsText_98 rfl (lv_at hl 2 rfl) ?_
            refine lv_iconst (v := 0) hx hb dX4_readsText_99 (by decide) ?_
            refine g_put (ws' := (mo, .inr (4, [.ref ag, .ref ab, .ref ah, .int ch, .ref asv, .int hs, .ref ai, .int 0, .int wy, .int wd, .ref al, .int li, .int (nI pl), .int 1, .ref at_])) :: (ai, .inl (dA 1, 60, .inl tf)) :: (at_, .inl (dA 0, 240, .inl td2)) :: R) X cfX4 hw 0 7 rfl rfl q1841 rfl rfl rfl rfl rfl rfl dX4_readsText_100 (fun H locs hw => ?_)
            refine lv_iload_n hx hb dX4_readsText_103 rfl (lv_at hl 1 rfl) ?_
            have hf9 := hmf c_2
            exact g_iret (v := nI n) () X hw hr hlocks  (by rw [hf9]) (by rw [hf9]; simp [bZ, c_2, c_3, c_4]) dX4_readsText_104
      · skip
        have c_2 := bZ_1 c_2
        obtain ⟨hu, hwr, h2n⟩ := hmt c_2
        subst hwr
        refine lv_aload_n hx hb dX4_readsText_18 rfl (lv_at hl 2 rfl) ?_
        refine lv_iconst (v := 4) hx hb dX4_readsText_19 (by decide) ?_
        refine lv_iload_n hx hb dX4_readsText_20 rfl (lv_at hl 1 rfl) ?_
        refine lv_imul hx hb dX4_readsText_21 ?_
        refine g_mulN (a := 4) (b := n) ?_
        refine va_callv (va_runV (As := [.int (nI (4 * n))]) (rest := []) X.1 (m_X4_readsOrder l D dA A E hE R kA (by first | assumption | omega) mo ag ab ah asv ai al at_ ch hs wy wd li (by first | assumption | omega) tf tn pl (by first | assumption | omega) hpl false td2 (4 * n) (by first | assumption | omega)) (cwV 1 X.1.2.2.2.2 (lw_V q2111 q2113 qs52 q80 q2114) rfl rfl rfl (by decide +kernel) ⟨Nat.le_of_ble_eq_true rfl, Nat.le_of_ble_eq_true rfl⟩) (g_preV hE X.2 hw 0 rfl rfl) rfl rfl hl.1 rfl (lv_room (Nat.le_of_ble_eq_true rfl)) dX4_readsText_22 ⟨Nat.le_of_ble_eq_true rfl, Nat.le_of_ble_eq_true rfl⟩) hw.2.2 (fun q _ h => h) (fun q h => h) (fun u t H locs ht hvm h_5 hB hz9 hk9 hS => ?_)
        have hw : gW D A ((mo, .inr (4, [.ref ag, .ref ab, .ref ah, .int ch, .ref asv, .int hs, .ref ai, .int (nI tn), .int wy, .int wd, .ref al, .int li, .int (nI ((ordY tf tn pl false).2.1)), .int (bZ ((ordY tf tn pl false).2.2)), .ref at_])) :: (ai, .inl (dA 1, 60, .inl tf)) :: (at_, .inl (dA 0, 240, .inl (ordT td2 (4 * n) (wordP tf tn pl) (ordV tf tn pl false).1 (ordX tf tn pl false).1 (ordY tf tn pl false).1))) :: R) s H locs := g_aft ht hB hS
        refine lv_iinc (v := nI (n + 1)) (lv' := [(1, .int (nI (n + 1))), (2, .int (bZ mm)), (0, .ref mo)]) hx hb dX4_readsText_25 hl (k := 1) rfl (nI_add n 1) (by decide) rfl (fun ls hl => ?_)
        refine lv_aload_n hx hb dX4_readsText_28 rfl (lv_at hl 2 rfl) ?_
        refine g_get X cfX4 hw 0 13 rfl rfl q1847 rfl rfl dX4_readsText_29 ?_
        refine lv_if_ne (tgt := 48) hx hb dX4_readsText_32 (by decide) (fun c_6 => ?_) (fun c_6 => ?_)
        · skip
          have c_6 := bZ_1 c_6
          refine lv_iconst (v := 0) hx hb dX4_readsText_48 (by decide) ?_
          refine lv_istore_n (lv' := [(2, .int 0), (1, .int (nI (n + 1))), (0, .ref mo)]) hx hb dX4_readsText_49 rfl hl (by decide) rfl (fun ls hl => ?_)
          refine lv_aload_n hx hb dX4_readsText_50 rfl (lv_at hl 2 rfl) ?_
          refine lv_dup hx hb dX4_readsText_51 rfl ?_
          refine g_get X cfX4 hw 0 12 rfl rfl q1846 rfl rfl dX4_readsText_52 ?_
          refine lv_iload_n hx hb dX4_readsText_55 rfl (lv_at hl 0 rfl) ?_
          refine lv_if_eq (tgt := 63) hx hb dX4_readsText_56 (by decide) (fun c_7 => ?_) (fun c_7 => absurd (by decide) c_7)
          refine lv_iconst (v := 0) hx hb dX4_readsText_63 (by decide) ?_
          refine lv_iadd hx hb dX4_readsText_64 ?_
          refine g_addN (a := (ordY tf tn pl false).2.1) (b := 0) ?_
          refine g_put (ws' := (mo, .inr (4, [.ref ag, .ref ab, .ref ah, .int ch, .ref asv, .int hs, .ref ai, .int (nI tn), .int wy, .int wd, .ref al, .int li, .int (nI ((ordY tf tn pl false).2.1 + 0)), .int (bZ ((ordY tf tn pl false).2.2)), .ref at_])) :: (ai, .inl (dA 1, 60, .inl tf)) :: (at_, .inl (dA 0, 240, .inl (ordT td2 (4 * n) (wordP tf tn pl) (ordV tf tn pl false).1 (ordX tf tn pl false).1 (ordY tf tn pl false).1))) :: R) X cfX4 hw 0 12 rfl rfl q1846 rfl rfl rfl rfl rfl rfl dX4_readsText_65 (fun H locs hw => ?_)
          refine lv_goto (tgt := 14) hx hb dX4_readsText_68 (by decide) ?_
          have hw : gW D A ((mo, .inr (4, [.ref ag, .ref ab, .ref ah, .int ch, .ref asv, .int hs, .ref ai, .int (nI tn), .int wy, .int wd, .ref al, .int li, .int (nI ((ordY tf tn pl false).2.1)), .int (bZ ((ordY tf tn pl false).2.2)), .ref at_])) :: (ai, .inl (dA 1, 60, .inl tf)) :: (at_, .inl (dA 0, 240, .inl (ordT td2 (4 * n) (wordP tf tn pl) (ordV tf tn pl false).1 (ordX tf tn pl false).1 (ordY tf tn pl false).1))) :: R) s _ _ := g_ws hw (by rfl)
          have hl : lv_has ls 3 [(2, .int 0), (1, .int (nI (n + 1))), (0, .ref mo)] := (lv_sub hl [0, 1, 2] rfl)
          have hl : lv_has ls 3 [(2, .int (bZ false)), (1, .int (nI (n + 1))), (0, .ref mo)] := by exact hl
          exact ih_loop_1 (n + 1) (ordT td2 (4 * n) (wordP tf tn pl) (ordV tf tn pl false).1 (ordX tf tn pl false).1 (ordY tf tn pl false).1) ((ordY tf tn pl false).2.1) ((ordY tf tn pl false).2.2) false (ord_le hpl) (by omega) (fun q => by cases q) (fun _ => hu.trans (textL_st (by omega) (more_w c_6))) (by omega) _ _ hw _ (hl)
        · skip
          have c_6 := bZ_0.mp c_6
          refine lv_aload_n hx hb dX4_readsText_35 rfl (lv_at hl 2 rfl) ?_
          refine va_calli (va_runV (As := []) (rest := []) X.1 (m_X4_here l D dA A E hE ((at_, .inl (dA 0, 240, .inl (ordT td2 (4 * n) (wordP tf tn pl) (ordV tf tn pl false).1 (ordX tf tn pl false).1 (ordY tf tn pl false).1))) :: R) mo ag ab ah asv ai al at_ ch hs wy wd li (by first | assumption | omega) tf tn ((ordY tf tn pl false).2.1) (by first | assumption | omega) (ord_le hpl) (bZ ((ordY tf tn pl false).2.2))) (cwV 0 X.1.2.2.2.2 (lw_V q2136 q2138 qs55 q80 q2139) rfl rfl rfl (by decide +kernel) ⟨Nat.le_of_ble_eq_true rfl, Nat.le_of_ble_eq_true rfl⟩) (g_preV hE X.2 hw 0 rfl rfl) rfl rfl hl.1 rfl (lv_room (Nat.le_of_ble_eq_true rfl)) dX4_readsText_36 ⟨Nat.le_of_ble_eq_true rfl, Nat.le_of_ble_eq_true rfl⟩) hw.2.2 (fun q _ h => h) (fun q h => h) (fun r_9 u t H locs ht hvm h_8 hB hz9 hk9 hS => ?_)
          have hw : gW D A ((mo, .inr (4, [.ref ag, .ref ab, .ref ah, .int ch, .ref asv, .int hs, .ref ai, .int (nI tn), .int wy, .int wd, .ref al, .int li, .int (nI ((ordY tf tn pl false).2.1)), .int (bZ ((ordY tf tn pl false).2.2)), .ref at_])) :: (ai, .inl (dA 1, 60, .inl tf)) :: (at_, .inl (dA 0, 240, .inl (ordT td2 (4 * n) (wordP tf tn pl) (ordV tf tn pl false).1 (ordX tf tn pl false).1 (ordY tf tn pl false).1))) :: R) s H locs := g_aft ht hB hS
          obtain rfl : r_9 = hereI tf tn ((ordY tf tn pl false).2.1) := h_8
          refine lv_bipush (v := 59) hx hb dX4_readsText_39 (by decide) ?_
          refine lv_icmp_ne (tgt := 48) hx hb dX4_readsText_41 (by decide) (fun c_10 => ?_) (fun c_10 => ?_)
          · skip
            refine lv_iconst (v := 0) hx hb dX4_readsText_48 (by decide) ?_
            refine lv_istore_n (lv' := [(2, .int 0), (1, .int (nI (n + 1))), (0, .ref mo)]) hx hb dX4_readsText_49 rfl hl (by decide) rfl (fun ls hl => ?_)
            refine lv_aload_n hx hb dX4_readsText_50 rfl (lv_at hl 2 rfl) ?_
            refine lv_dup hx hb dX4_readsText_51 rfl ?_
            refine g_get X cfX4 hw 0 12 rfl rfl q1846 rfl rfl dX4_readsText_52 ?_
            refine lv_iload_n hx hb dX4_readsText_55 rfl (lv_at hl 0 rfl) ?_
            refine lv_if_eq (tgt := 63) hx hb dX4_readsText_56 (by decide) (fun c_11 => ?_) (fun c_11 => absurd (by decide) c_11)
            refine lv_iconst (v := 0) hx hb dX4_readsText_63 (by decide) ?_
            refine lv_iadd hx hb dX4_readsText_64 ?_
            refine g_addN (a := (ordY tf tn pl false).2.1) (b := 0) ?_
            refine g_put (ws' := (mo, .inr (4, [.ref ag, .ref ab, .ref ah, .int ch, .ref asv, .int hs, .ref ai, .int (nI tn), .int wy, .int wd, .ref al, .int li, .int (nI ((ordY tf tn pl false).2.1 + 0)), .int (bZ ((ordY tf tn pl false).2.2)), .ref at_])) :: (ai, .inl (dA 1, 60, .inl tf)) :: (at_, .inl (dA 0, 240, .inl (ordT td2 (4 * n) (wordP tf tn pl) (ordV tf tn pl false).1 (ordX tf tn pl false).1 (ordY tf tn pl false).1))) :: R) X cfX4 hw 0 12 rfl rfl q1846 rfl rfl rfl rfl rfl rfl dX4_readsText_65 (fun H locs hw => ?_)
            refine lv_goto (tgt := 14) hx hb dX4_readsText_68 (by decide) ?_
            have hw : gW D A ((mo, .inr (4, [.ref ag, .ref ab, .ref ah, .int ch, .ref asv, .int hs, .ref ai, .int (nI tn), .int wy, .int wd, .ref al, .int li, .int (nI ((ordY tf tn pl false).2.1)), .int (bZ ((ordY tf tn pl false).2.2)), .ref at_])) :: (ai, .inl (dA 1, 60, .inl tf)) :: (at_, .inl (dA 0, 240, .inl (ordT td2 (4 * n) (wordP tf tn pl) (ordV tf tn pl false).1 (ordX tf tn pl false).1 (ordY tf tn pl false).1))) :: R) s _ _ := g_ws hw (by rfl)
            have hl : lv_has ls 3 [(2, .int 0), (1, .int (nI (n + 1))), (0, .ref mo)] := (lv_sub hl [0, 1, 2] rfl)
            have hl : lv_has ls 3 [(2, .int (bZ false)), (1, .int (nI (n + 1))), (0, .ref mo)] := by exact hl
            exact ih_loop_1 (n + 1) (ordT td2 (4 * n) (wordP tf tn pl) (ordV tf tn pl false).1 (ordX tf tn pl false).1 (ordY tf tn pl false).1) ((ordY tf tn pl false).2.1) ((ordY tf tn pl false).2.2) false (ord_le hpl) (by omega) (fun q => by cases q) (fun _ => hu.trans (textL_st (by omega) (more_h c_10))) (by omega) _ _ hw _ (hl)
          · skip
            refine lv_iconst (v := 1) hx hb dX4_readsText_44 (by decide) ?_
            refine lv_goto (tgt := 49) hx hb dX4_readsText_45 (by decide) ?_
            refine lv_istore_n (lv' := [(2, .int 1), (1, .int (nI (n + 1))), (0, .ref mo)]) hx hb dX4_readsText_49 rfl hl (by decide) rfl (fun ls hl => ?_)
            refine lv_aload_n hx hb dX4_readsText_50 rfl (lv_at hl 2 rfl) ?_
            refine lv_dup hx hb dX4_readsText_51 rfl ?_
            refine g_get X cfX4 hw 0 12 rfl rfl q1846 rfl rfl dX4_readsText_52 ?_
            refine lv_iload_n hx hb dX4_readsText_55 rfl (lv_at hl 0 rfl) ?_
            refine lv_if_eq (tgt := 63) hx hb dX4_readsText_56 (by decide) (fun c_12 => absurd c_12 (by decide)) (fun c_12 => ?_)
            refine lv_iconst (v := 1) hx hb dX4_readsText_59 (by decide) ?_
            refine lv_goto (tgt := 64) hx hb dX4_readsText_60 (by decide) ?_
            refine lv_iadd hx hb dX4_readsText_64 ?_
            refine g_addN (a := (ordY tf tn pl false).2.1) (b := 1) ?_
            refine g_put (ws' := (mo, .inr (4, [.ref ag, .ref ab, .ref ah, .int ch, .ref asv, .int hs, .ref ai, .int (nI tn), .int wy, .int wd, .ref al, .int li, .int (nI ((ordY tf tn pl false).2.1 + 1)), .int (bZ ((ordY tf tn pl false).2.2)), .ref at_])) :: (ai, .inl (dA 1, 60, .inl tf)) :: (at_, .inl (dA 0, 240, .inl (ordT td2 (4 * n) (wordP tf tn pl) (ordV tf tn pl false).1 (ordX tf tn pl false).1 (ordY tf tn pl false).1))) :: R) X cfX4 hw 0 12 rfl rfl q1846 rfl rfl rfl rfl rfl rfl dX4_readsText_65 (fun H locs hw => ?_)
            refine lv_goto (tgt := 14) hx hb dX4_readsText_68 (by decide) ?_
            have hl : lv_has ls 3 [(2, .int 1), (1, .int (nI (n + 1))), (0, .ref mo)] := (lv_sub hl [0, 1, 2] rfl)
            have hl : lv_has ls 3 [(2, .int (bZ true)), (1, .int (nI (n + 1))), (0, .ref mo)] := by exact hl
            exact ih_loop_1 (n + 1) (ordT td2 (4 * n) (wordP tf tn pl) (ordV tf tn pl false).1 (ordX tf tn pl false).1 (ordY tf tn pl false).1) ((ordY tf tn pl false).2.1 + 1) ((ordY tf tn pl false).2.2) true (by have := here_lt c_10 (by decide); omega) (by have := here_lt c_10 (by decide); have := ord_gt c_6; omega) (fun _ => ⟨hu.trans (textL_go (by omega) (more_t c_6 c_10)), c_6, by have := ord_gt c_6; omega⟩) (fun q => by cases q) (by omega) _ _ hw _ (hl)
  have hw : gW D A ((mo, .inr (4, [.ref ag, .ref ab, .ref ah, .int ch, .ref asv, .int hs, .ref ai, .int (nI tn), .int wy, .int wd, .ref al, .int li, .int 0, .int (bZ false), .ref at_])) :: (ai, .inl (dA 1, 60, .inl tf)) :: (at_, .inl (dA 0, 240, .inl td)) :: R) s _ _ := g_ws hw (by rfl)
  have hl : lv_has ls 3 [(2, .int 1), (1, .int 0), (0, .ref mo)] := (lv_sub hl [0, 1, 2] rfl)
  have hl : lv_has ls 3 [(2, .int (bZ true)), (1, .int 0), (0, .ref mo)] := by exact hl
  exact loop_1 ((61 - 0) + 1) 0 td 0 false true (by omega) (by omega) (fun _ => ⟨rfl, rfl, by omega⟩) (fun q => by cases q) (Nat.lt_succ_self _) _ _ hw _ (hl)

set_option maxHeartbeats 4000000 in
theorem m_X4_does (l : Launch) (D : va_G) (dA : Nat → ClassId) (A : Nat → Prop) (E : State → Prop) (hE : gSt A E) (R : va_W) (mo ag ab ah asv ai al at_ : Nat) (ch hs ty wy wd li pl iw : Int32) (g : gG) (hI : gInv g) (td : gG) (k : Nat) (hk : k + 3 < 240) : Met l yX4_does (ws_ yX4_does cX4_does 3 (Option.some FieldType.int)) ({ frames := 4, cells := 0, slots := 0, locals := 93 }) (va_Pc [.ref mo, .int (nI k)] (gB D dA A E ((mo, .inr (4, [.ref ag, .ref ab, .ref ah, .int ch, .ref asv, .int hs, .ref ai, .int ty, .int wy, .int wd, .ref al, .int li, .int pl, .int iw, .ref at_])) :: (ag, .inl (dA 0, 310, .inl g)) :: (at_, .inl (dA 0, 240, .inl td)) :: R))) (va_Qi (fun (r : Int32) (_ : Unit) => r = gr_v (doP g (td k) (td (k + 1)) (td (k + 2)) (td (k + 3)))) (fun _ => gE D A ((mo, .inr (4, [.ref ag, .ref ab, .ref ah, .int ch, .ref asv, .int hs, .ref ai, .int ty, .int (gr_w wy (doP g (td k) (td (k + 1)) (td (k + 2)) (td (k + 3)))), .int (gr_d wd (doP g (td k) (td (k + 1)) (td (k + 2)) (td (k + 3)))), .ref al, .int li, .int pl, .int iw, .ref at_])) :: (ag, .inl (dA 0, 310, .inl (gr_g g (doP g (td k) (td (k + 1)) (td (k + 2)) (td (k + 3)))))) :: (at_, .inl (dA 0, 240, .inl td)) :: R)) A) (0) (0) A := by
  refine g_start rfl rfl ?_
  intro p e s m args below meth c ls X hr hlocks hin hw hl
  have hx := X.1.1
  have hb := X.1.2.1
  have hl : lv_has ls 3 [(0, .ref mo), (1, .int (nI k))] := hl
  have hI2 := hI.c.2
  have hI4 := hI.m.2
  have hI6 := hI.k.2
  refine lv_aload_n hx hb dX4_does_0 rfl (lv_at hl 0 rfl) ?_
  refine g_get X cfX4 hw 0 14 rfl rfl q1848 rfl rfl dX4_does_1 ?_
  refine lv_iload_n hx hb dX4_does_4 rfl (lv_at hl 1 rfl) ?_
  refine lv_iconst (v := 1) hx hb dX4_does_5 (by decide) ?_
  refine lv_iadd hx hb dX4_does_6 ?_
  refine g_addN (a := k) (b := 1) ?_
  refine g_iald X hw 2 rfl (i := k + 1) (by omega) (by first | decide | omega) dX4_does_7 ?_
  refine lv_istore_n (lv' := [(2, .int (td (k + 1))), (0, .ref mo), (1, .int (nI k))]) hx hb dX4_does_8 rfl hl (by decide) rfl (fun ls hl => ?_)
  refine lv_aload_n hx hb dX4_does_9 rfl (lv_at hl 1 rfl) ?_
  refine g_get X cfX4 hw 0 14 rfl rfl q1848 rfl rfl dX4_does_10 ?_
  refine lv_iload_n hx hb dX4_does_13 rfl (lv_at hl 2 rfl) ?_
  refine g_iald X hw 2 rfl (i := k) (by omega) (by first | decide | omega) dX4_does_14 ?_
  by_cases c_1 : (td k) = 0
  · refine lv_tableIn (tgt := 60) hx hb dX4_does_15 (by rw [c_1]; decide) (by rw [c_1]; decide) (by rw [c_1]; rfl) (by decide) ?_
    refine lv_aload_n hx hb dX4_does_60 rfl (lv_at hl 1 rfl) ?_
    refine lv_iload_n hx hb dX4_does_61 rfl (lv_at hl 0 rfl) ?_
    refine va_calli (va_runV (As := [.int (td (k + 1))]) (rest := []) X.1 (m_X4_casts l D dA A E hE ((at_, .inl (dA 0, 240, .inl td)) :: R) mo ag ab ah asv ai al at_ ch hs ty wy wd li pl iw g (by first | assumption | omega) (td (k + 1))) (cwV 1 X.1.2.2.2.2 (lw_V q1936 q1938 qs30 q80 q1939) rfl rfl rfl (by decide +kernel) ⟨Nat.le_of_ble_eq_true rfl, Nat.le_of_ble_eq_true rfl⟩) (g_preV hE X.2 hw 0 rfl rfl) rfl rfl hl.1 rfl (lv_room (Nat.le_of_ble_eq_true rfl)) dX4_does_62 ⟨Nat.le_of_ble_eq_true rfl, Nat.le_of_ble_eq_true rfl⟩) hw.2.2 (fun q _ h => h) (fun q h => h) (fun r_3 u t H locs ht hvm h_2 hB hz9 hk9 hS => ?_)
    have hw : gW D A ((mo, .inr (4, [.ref ag, .ref ab, .ref ah, .int ch, .ref asv, .int hs, .ref ai, .int ty, .int (gr_w wy (p_castsI g (td (k + 1)))), .int (gr_d wd (p_castsI g (td (k + 1)))), .ref al, .int li, .int pl, .int iw, .ref at_])) :: (ag, .inl (dA 0, 310, .inl (gr_g g (p_castsI g (td (k + 1)))))) :: (at_, .inl (dA 0, 240, .inl td)) :: R) s H locs := g_aft ht hB hS
    obtain rfl : r_3 = gr_v (p_castsI g (td (k + 1))) := h_2
    exact g_iret (v := gr_v (p_castsI g (td (k + 1)))) () X hw hr hlocks  (by simp [doP, c_1]) (by simp [doP, hours_wd, hours_dd, c_1]) dX4_does_65
  by_cases c_4 : (td k) = 1
  · refine lv_tableIn (tgt := 66) hx hb dX4_does_15 (by rw [c_4]; decide) (by rw [c_4]; decide) (by rw [c_4]; rfl) (by decide) ?_
    refine lv_aload_n hx hb dX4_does_66 rfl (lv_at hl 1 rfl) ?_
    refine lv_iload_n hx hb dX4_does_67 rfl (lv_at hl 0 rfl) ?_
    refine va_calli (va_runV (As := [.int (td (k + 1))]) (rest := []) X.1 (m_X4_begins l D dA A E hE ((at_, .inl (dA 0, 240, .inl td)) :: R) mo ag ab ah asv ai al at_ ch hs ty wy wd li pl iw g (by first | assumption | omega) (td (k + 1))) (cwV 1 X.1.2.2.2.2 (lw_V q1960 q1962 qs32 q80 q1963) rfl rfl rfl (by decide +kernel) ⟨Nat.le_of_ble_eq_true rfl, Nat.le_of_ble_eq_true rfl⟩) (g_preV hE X.2 hw 0 rfl rfl) rfl rfl hl.1 rfl (lv_room (Nat.le_of_ble_eq_true rfl)) dX4_does_68 ⟨Nat.le_of_ble_eq_true rfl, Nat.le_of_ble_eq_true rfl⟩) hw.2.2 (fun q _ h => h) (fun q h => h) (fun r_6 u t H locs ht hvm h_5 hB hz9 hk9 hS => ?_)
    have hw : gW D A ((mo, .inr (4, [.ref ag, .ref ab, .ref ah, .int ch, .ref asv, .int hs, .ref ai, .int ty, .int (gr_w wy (p_beginsI g (td (k + 1)))), .int (gr_d wd (p_beginsI g (td (k + 1)))), .ref al, .int li, .int pl, .int iw, .ref at_])) :: (ag, .inl (dA 0, 310, .inl (gr_g g (p_beginsI g (td (k + 1)))))) :: (at_, .inl (dA 0, 240, .inl td)) :: R) s H locs := g_aft ht hB hS
    obtain rfl : r_6 = gr_v (p_beginsI g (td (k + 1))) := h_5
    exact g_iret (v := gr_v (p_beginsI g (td (k + 1)))) () X hw hr hlocks  (by simp [doP, c_1, c_4]) (by simp [doP, hours_wd, hours_dd, c_1, c_4]) dX4_does_71
  by_cases c_7 : (td k) = 2
  · refine lv_tableIn (tgt := 72) hx hb dX4_does_15 (by rw [c_7]; decide) (by rw [c_7]; decide) (by rw [c_7]; rfl) (by decide) ?_
    refine lv_aload_n hx hb dX4_does_72 rfl (lv_at hl 1 rfl) ?_
    refine lv_iload_n hx hb dX4_does_73 rfl (lv_at hl 0 rfl) ?_
    refine lv_aload_n hx hb dX4_does_74 rfl (lv_at hl 1 rfl) ?_
    refine g_get X cfX4 hw 0 14 rfl rfl q1848 rfl rfl dX4_does_75 ?_
    refine lv_iload_n hx hb dX4_does_78 rfl (lv_at hl 2 rfl) ?_
    refine lv_iconst (v := 2) hx hb dX4_does_79 (by decide) ?_
    refine lv_iadd hx hb dX4_does_80 ?_
    refine g_addN (a := k) (b := 2) ?_
    refine g_iald X hw 2 rfl (i := k + 2) (by omega) (by first | decide | omega) dX4_does_81 ?_
    refine lv_aload_n hx hb dX4_does_82 rfl (lv_at hl 1 rfl) ?_
    refine g_get X cfX4 hw 0 14 rfl rfl q1848 rfl rfl dX4_does_83 ?_
    refine lv_iload_n hx hb dX4_does_86 rfl (lv_at hl 2 rfl) ?_
    refine lv_iconst (v := 3) hx hb dX4_does_87 (by decide) ?_
    refine lv_iadd hx hb dX4_does_88 ?_
    refine g_addN (a := k) (b := 3) ?_
    refine g_iald X hw 2 rfl (i := k + 3) (by omega) (by first | decide | omega) dX4_does_89 ?_
    refine va_calli (va_runV (As := [.int (td (k + 1)), .int (td (k + 2)), .int (td (k + 3))]) (rest := []) X.1 (m_X4_cuts l D dA A E hE ((at_, .inl (dA 0, 240, .inl td)) :: R) mo ag ab ah asv ai al at_ ch hs ty wy wd li pl iw g (by first | assumption | omega) (td (k + 1)) (td (k + 2)) (td (k + 3))) (cwV 3 X.1.2.2.2.2 (lw_V q1980 q1982 qs35 q80 q1983) rfl rfl rfl (by decide +kernel) ⟨Nat.le_of_ble_eq_true rfl, Nat.le_of_ble_eq_true rfl⟩) (g_preV hE X.2 hw 0 rfl rfl) rfl rfl hl.1 rfl (lv_room (Nat.le_of_ble_eq_true rfl)) dX4_does_90 ⟨Nat.le_of_ble_eq_true rfl, Nat.le_of_ble_eq_true rfl⟩) hw.2.2 (fun q _ h => h) (fun q h => h) (fun r_9 u t H locs ht hvm h_8 hB hz9 hk9 hS => ?_)
    have hw : gW D A ((mo, .inr (4, [.ref ag, .ref ab, .ref ah, .int ch, .ref asv, .int hs, .ref ai, .int ty, .int (gr_w wy (p_cutsI g (td (k + 1)) (td (k + 2)) (td (k + 3)))), .int (gr_d wd (p_cutsI g (td (k + 1)) (td (k + 2)) (td (k + 3)))), .ref al, .int li, .int pl, .int iw, .ref at_])) :: (ag, .inl (dA 0, 310, .inl (gr_g g (p_cutsI g (td (k + 1)) (td (k + 2)) (td (k + 3)))))) :: (at_, .inl (dA 0, 240, .inl td)) :: R) s H locs := g_aft ht hB hS
    obtain rfl : r_9 = gr_v (p_cutsI g (td (k + 1)) (td (k + 2)) (td (k + 3))) := h_8
    exact g_iret (v := gr_v (p_cutsI g (td (k + 1)) (td (k + 2)) (td (k + 3)))) () X hw hr hlocks  (by simp [doP, c_1, c_4, c_7]) (by simp [doP, hours_wd, hours_dd, c_1, c_4, c_7]) dX4_does_93
  by_cases c_10 : (td k) = 3
  · refine lv_tableIn (tgt := 94) hx hb dX4_does_15 (by rw [c_10]; decide) (by rw [c_10]; decide) (by rw [c_10]; rfl) (by decide) ?_
    refine lv_aload_n hx hb dX4_does_94 rfl (lv_at hl 1 rfl) ?_
    refine lv_iload_n hx hb dX4_does_95 rfl (lv_at hl 0 rfl) ?_
    refine va_calli (va_runV (As := [.int (td (k + 1))]) (rest := []) X.1 (m_X4_takesDown l D dA A E hE ((at_, .inl (dA 0, 240, .inl td)) :: R) mo ag ab ah asv ai al at_ ch hs ty wy wd li pl iw g (by first | assumption | omega) (td (k + 1))) (cwV 1 X.1.2.2.2.2 (lw_V q2043 q2045 qs42 q80 q2046) rfl rfl rfl (by decide +kernel) ⟨Nat.le_of_ble_eq_true rfl, Nat.le_of_ble_eq_true rfl⟩) (g_preV hE X.2 hw 0 rfl rfl) rfl rfl hl.1 rfl (lv_room (Nat.le_of_ble_eq_true rfl)) dX4_does_96 ⟨Nat.le_of_ble_eq_true rfl, Nat.le_of_ble_eq_true rfl⟩) hw.2.2 (fun q _ h => h) (fun q h => h) (fun r_12 u t H locs ht hvm h_11 hB hz9 hk9 hS => ?_)
    have hw : gW D A ((mo, .inr (4, [.ref ag, .ref ab, .ref ah, .int ch, .ref asv, .int hs, .ref ai, .int ty, .int (gr_w wy (p_takesDownI g (td (k + 1)))), .int (gr_d wd (p_takesDownI g (td (k + 1)))), .ref al, .int li, .int pl, .int iw, .ref at_])) :: (ag, .inl (dA 0, 310, .inl (gr_g g (p_takesDownI g (td (k + 1)))))) :: (at_, .inl (dA 0, 240, .inl td)) :: R) s H locs := g_aft ht hB hS
    obtain rfl : r_12 = gr_v (p_takesDownI g (td (k + 1))) := h_11
    exact g_iret (v := gr_v (p_takesDownI g (td (k + 1)))) () X hw hr hlocks  (by simp [doP, c_1, c_4, c_7, c_10]) (by simp [doP, hours_wd, hours_dd, c_1, c_4, c_7, c_10]) dX4_does_99
  by_cases c_13 : (td k) = 4
  · refine lv_tableIn (tgt := 100) hx hb dX4_does_15 (by rw [c_13]; decide) (by rw [c_13]; decide) (by rw [c_13]; rfl) (by decide) ?_
    refine lv_aload_n hx hb dX4_does_100 rfl (lv_at hl 1 rfl) ?_
    refine lv_iload_n hx hb dX4_does_101 rfl (lv_at hl 0 rfl) ?_
    refine va_calli (va_runV (As := [.int (td (k + 1))]) (rest := []) X.1 (m_X4_lifts l D dA A E hE ((at_, .inl (dA 0, 240, .inl td)) :: R) mo ag ab ah asv ai al at_ ch hs ty wy wd li pl iw g (by first | assumption | omega) (td (k + 1))) (cwV 1 X.1.2.2.2.2 (lw_V q2051 q2053 qs43 q80 q2054) rfl rfl rfl (by decide +kernel) ⟨Nat.le_of_ble_eq_true rfl, Nat.le_of_ble_eq_true rfl⟩) (g_preV hE X.2 hw 0 rfl rfl) rfl rfl hl.1 rfl (lv_room (Nat.le_of_ble_eq_true rfl)) dX4_does_102 ⟨Nat.le_of_ble_eq_true rfl, Nat.le_of_ble_eq_true rfl⟩) hw.2.2 (fun q _ h => h) (fun q h => h) (fun r_15 u t H locs ht hvm h_14 hB hz9 hk9 hS => ?_)
    have hw : gW D A ((mo, .inr (4, [.ref ag, .ref ab, .ref ah, .int ch, .ref asv, .int hs, .ref ai, .int ty, .int (gr_w wy (p_liftsI g (td (k + 1)))), .int (gr_d wd (p_liftsI g (td (k + 1)))), .ref al, .int li, .int pl, .int iw, .ref at_])) :: (ag, .inl (dA 0, 310, .inl (gr_g g (p_liftsI g (td (k + 1)))))) :: (at_, .inl (dA 0, 240, .inl td)) :: R) s H locs := g_aft ht hB hS
    obtain rfl : r_15 = gr_v (p_liftsI g (td (k + 1))) := h_14
    exact g_iret (v := gr_v (p_liftsI g (td (k + 1)))) () X hw hr hlocks  (by simp [doP, c_1, c_4, c_7, c_10, c_13]) (by simp [doP, hours_wd, hours_dd, c_1, c_4, c_7, c_10, c_13]) dX4_does_105
  by_cases c_16 : (td k) = 5
  · refine lv_tableIn (tgt := 106) hx hb dX4_does_15 (by rw [c_16]; decide) (by rw [c_16]; decide) (by rw [c_16]; rfl) (by decide) ?_
    refine lv_aload_n hx hb dX4_does_106 rfl (lv_at hl 1 rfl) ?_
    refine lv_iload_n hx hb dX4_does_107 rfl (lv_at hl 0 rfl) ?_
    refine va_calli (va_runV (As := [.int (td (k + 1))]) (rest := []) X.1 (m_X4_renews l D dA A E hE ((at_, .inl (dA 0, 240, .inl td)) :: R) mo ag ab ah asv ai al at_ ch hs ty wy wd li pl iw g (by first | assumption | omega) (td (k + 1))) (cwV 1 X.1.2.2.2.2 (lw_V q2011 q2013 qs39 q80 q2014) rfl rfl rfl (by decide +kernel) ⟨Nat.le_of_ble_eq_true rfl, Nat.le_of_ble_eq_true rfl⟩) (g_preV hE X.2 hw 0 rfl rfl) rfl rfl hl.1 rfl (lv_room (Nat.le_of_ble_eq_true rfl)) dX4_does_108 ⟨Nat.le_of_ble_eq_true rfl, Nat.le_of_ble_eq_true rfl⟩) hw.2.2 (fun q _ h => h) (fun q h => h) (fun r_18 u t H locs ht hvm h_17 hB hz9 hk9 hS => ?_)
    have hw : gW D A ((mo, .inr (4, [.ref ag, .ref ab, .ref ah, .int ch, .ref asv, .int hs, .ref ai, .int ty, .int (gr_w wy (p_renewsI g (td (k + 1)))), .int (gr_d wd (p_renewsI g (td (k + 1)))), .ref al, .int li, .int pl, .int iw, .ref at_])) :: (ag, .inl (dA 0, 310, .inl (gr_g g (p_renewsI g (td (k + 1)))))) :: (at_, .inl (dA 0, 240, .inl td)) :: R) s H locs := g_aft ht hB hS
    obtain rfl : r_18 = gr_v (p_renewsI g (td (k + 1))) := h_17
    exact g_iret (v := gr_v (p_renewsI g (td (k + 1)))) () X hw hr hlocks  (by simp [doP, c_1, c_4, c_7, c_10, c_13, c_16]) (by simp [doP, hours_wd, hours_dd, c_1, c_4, c_7, c_10, c_13, c_16]) dX4_does_111
  by_cases c_19 : (td k) = 6
  · refine lv_tableIn (tgt := 112) hx hb dX4_does_15 (by rw [c_19]; decide) (by rw [c_19]; decide) (by rw [c_19]; rfl) (by decide) ?_
    refine lv_aload_n hx hb dX4_does_112 rfl (lv_at hl 1 rfl) ?_
    refine lv_iload_n hx hb dX4_does_113 rfl (lv_at hl 0 rfl) ?_
    refine va_calli (va_runV (As := [.int (td (k + 1))]) (rest := []) X.1 (m_X4_drives l D dA A E hE ((at_, .inl (dA 0, 240, .inl td)) :: R) mo ag ab ah asv ai al at_ ch hs ty wy wd li pl iw g (by first | assumption | omega) (td (k + 1))) (cwV 1 X.1.2.2.2.2 (lw_V q2063 q2065 qs45 q80 q2066) rfl rfl rfl (by decide +kernel) ⟨Nat.le_of_ble_eq_true rfl, Nat.le_of_ble_eq_true rfl⟩) (g_preV hE X.2 hw 0 rfl rfl) rfl rfl hl.1 rfl (lv_room (Nat.le_of_ble_eq_true rfl)) dX4_does_114 ⟨Nat.le_of_ble_eq_true rfl, Nat.le_of_ble_eq_true rfl⟩) hw.2.2 (fun q _ h => h) (fun q h => h) (fun r_21 u t H locs ht hvm h_20 hB hz9 hk9 hS => ?_)
    have hw : gW D A ((mo, .inr (4, [.ref ag, .ref ab, .ref ah, .int ch, .ref asv, .int hs, .ref ai, .int ty, .int (gr_w wy (p_drivesI g (td (k + 1)))), .int (gr_d wd (p_drivesI g (td (k + 1)))), .ref al, .int li, .int pl, .int iw, .ref at_])) :: (ag, .inl (dA 0, 310, .inl (gr_g g (p_drivesI g (td (k + 1)))))) :: (at_, .inl (dA 0, 240, .inl td)) :: R) s H locs := g_aft ht hB hS
    obtain rfl : r_21 = gr_v (p_drivesI g (td (k + 1))) := h_20
    exact g_iret (v := gr_v (p_drivesI g (td (k + 1)))) () X hw hr hlocks  (by simp [doP, c_1, c_4, c_7, c_10, c_13, c_16, c_19]) (by simp [doP, hours_wd, hours_dd, c_1, c_4, c_7, c_10, c_13, c_16, c_19]) dX4_does_117
  by_cases c_22 : (td k) = 7
  · refine lv_tableIn (tgt := 118) hx hb dX4_does_15 (by rw [c_22]; decide) (by rw [c_22]; decide) (by rw [c_22]; rfl) (by decide) ?_
    refine lv_aload_n hx hb dX4_does_118 rfl (lv_at hl 1 rfl) ?_
    refine lv_iload_n hx hb dX4_does_119 rfl (lv_at hl 0 rfl) ?_
    refine lv_aload_n hx hb dX4_does_120 rfl (lv_at hl 1 rfl) ?_
    refine g_get X cfX4 hw 0 14 rfl rfl q1848 rfl rfl dX4_does_121 ?_
    refine lv_iload_n hx hb dX4_does_124 rfl (lv_at hl 2 rfl) ?_
    refine lv_iconst (v := 2) hx hb dX4_does_125 (by decide) ?_
    refine lv_iadd hx hb dX4_does_126 ?_
    refine g_addN (a := k) (b := 2) ?_
    refine g_iald X hw 2 rfl (i := k + 2) (by omega) (by first | decide | omega) dX4_does_127 ?_
    refine va_calli (va_runV (As := [.int (td (k + 1)), .int (td (k + 2))]) (rest := []) X.1 (m_X4_tells l D dA A E hE ((at_, .inl (dA 0, 240, .inl td)) :: R) mo ag ab ah asv ai al at_ ch hs ty wy wd li pl iw g (by first | assumption | omega) (td (k + 1)) (td (k + 2))) (cwV 2 X.1.2.2.2.2 (lw_V q2071 q2073 qs46 q80 q2074) rfl rfl rfl (by decide +kernel) ⟨Nat.le_of_ble_eq_true rfl, Nat.le_of_ble_eq_true rfl⟩) (g_preV hE X.2 hw 0 rfl rfl) rfl rfl hl.1 rfl (lv_room (Nat.le_of_ble_eq_true rfl)) dX4_does_128 ⟨Nat.le_of_ble_eq_true rfl, Nat.le_of_ble_eq_true rfl⟩) hw.2.2 (fun q _ h => h) (fun q h => h) (fun r_24 u t H locs ht hvm h_23 hB hz9 hk9 hS => ?_)
    have hw : gW D A ((mo, .inr (4, [.ref ag, .ref ab, .ref ah, .int ch, .ref asv, .int hs, .ref ai, .int ty, .int (gr_w wy (p_tellsI g (td (k + 1)) (td (k + 2)))), .int (gr_d wd (p_tellsI g (td (k + 1)) (td (k + 2)))), .ref al, .int li, .int pl, .int iw, .ref at_])) :: (ag, .inl (dA 0, 310, .inl (gr_g g (p_tellsI g (td (k + 1)) (td (k + 2)))))) :: (at_, .inl (dA 0, 240, .inl td)) :: R) s H locs := g_aft ht hB hS
    obtain rfl : r_24 = gr_v (p_tellsI g (td (k + 1)) (td (k + 2))) := h_23
    exact g_iret (v := gr_v (p_tellsI g (td (k + 1)) (td (k + 2)))) () X hw hr hlocks  (by simp [doP, c_1, c_4, c_7, c_10, c_13, c_16, c_19, c_22]) (by simp [doP, hours_wd, hours_dd, c_1, c_4, c_7, c_10, c_13, c_16, c_19, c_22]) dX4_does_131
  refine g_tabOut8 (tgt := 132) hx hb dX4_does_15 c_1 c_4 c_7 c_10 c_13 c_16 c_19 c_22 (by decide) ?_
  refine lv_aload_n hx hb dX4_does_132 rfl (lv_at hl 1 rfl) ?_
  refine lv_iload_n hx hb dX4_does_133 rfl (lv_at hl 0 rfl) ?_
  refine va_calli (va_runV (As := [.int (td (k + 1))]) (rest := []) X.1 (m_X4_passes l D dA A E hE ((at_, .inl (dA 0, 240, .inl td)) :: R) mo ag ab ah asv ai al at_ ch hs ty wy wd li pl iw g (by first | assumption | omega) (td (k + 1))) (cwV 1 X.1.2.2.2.2 (lw_V q2079 q2081 qs47 q80 q2082) rfl rfl rfl (by decide +kernel) ⟨Nat.le_of_ble_eq_true rfl, Nat.le_of_ble_eq_true rfl⟩) (g_preV hE X.2 hw 0 rfl rfl) rfl rfl hl.1 rfl (lv_room (Nat.le_of_ble_eq_true rfl)) dX4_does_134 ⟨Nat.le_of_ble_eq_true rfl, Nat.le_of_ble_eq_true rfl⟩) hw.2.2 (fun q _ h => h) (fun q h => h) (fun r_26 u t H locs ht hvm h_25 hB hz9 hk9 hS => ?_)
  have hw : gW D A ((mo, .inr (4, [.ref ag, .ref ab, .ref ah, .int ch, .ref asv, .int hs, .ref ai, .int ty, .int wy, .int wd, .ref al, .int li, .int pl, .int iw, .ref at_])) :: (ag, .inl (dA 0, 310, .inl (gr_g g (p_passesI g (td (k + 1)))))) :: (at_, .inl (dA 0, 240, .inl td)) :: R) s H locs := g_aft ht hB hS
  obtain rfl : r_26 = gr_v (p_passesI g (td (k + 1))) := h_25
  exact g_iret (v := gr_v (p_passesI g (td (k + 1)))) () X hw hr hlocks  (by simp [doP, c_1, c_4, c_7, c_10, c_13, c_16, c_19, c_22]) (by simp [doP, hours_wd, hours_dd, c_1, c_4, c_7, c_10, c_13, c_16, c_19, c_22]) dX4_does_137
