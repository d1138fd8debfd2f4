set_option maxHeartbeats 4000000 in
theorem m_X4_in (l : Launch) (D : va_G) (dA : Nat → ClassId) (A : Nat → Prop) (E : State → Prop) (hE : gSt A E) (R : va_W) (v lo hi : Int32) : Met l yX4_in (ws_ yX4_in cX4_in 3 (Option.some FieldType.boolean)) ({ frames := 0, cells := 0, slots := 0, locals := 0 }) (va_Pc [.int v, .int lo, .int hi] (gB D dA A E (R))) (va_Qi (fun (r : Int32) (_ : Unit) => r = bZ (inR v lo hi)) (fun _ => gE D A (R)) A) (0) (0) A := by
  refine g_start rfl rfl ?_
  intro p e s m args below meth c ls X hr hlocks hin hw hl
  have hx := X.1.1
  have hb := X.1.2.1
  have hl : lv_has ls 3 [(0, .int v), (1, .int lo), (2, .int hi)] := hl
  refine lv_iload_n hx hb dX4_in_0 rfl (lv_at hl 0 rfl) ?_
  refine lv_iload_n hx hb dX4_in_1 rfl (lv_at hl 1 rfl) ?_
  refine lv_icmp_lt (tgt := 14) hx hb dX4_in_2 (by decide) (fun c_1 => ?_) (fun c_1 => ?_)
  · skip
    refine lv_iconst (v := 0) hx hb dX4_in_14 (by decide) ?_
    exact g_zret (v := 0) () X hw hr hlocks rfl (by simp [inR, bZ, *]) rfl dX4_in_15
  · skip
    refine lv_iload_n hx hb dX4_in_5 rfl (lv_at hl 0 rfl) ?_
    refine lv_iload_n hx hb dX4_in_6 rfl (lv_at hl 2 rfl) ?_
    refine lv_icmp_gt (tgt := 14) hx hb dX4_in_7 (by decide) (fun c_2 => ?_) (fun c_2 => ?_)
    · skip
      refine lv_iconst (v := 0) hx hb dX4_in_14 (by decide) ?_
      exact g_zret (v := 0) () X hw hr hlocks rfl (by simp [inR, bZ, *]) rfl dX4_in_15
    · skip
      refine lv_iconst (v := 1) hx hb dX4_in_10 (by decide) ?_
      refine lv_goto (tgt := 15) hx hb dX4_in_11 (by decide) ?_
      exact g_zret (v := 1) () X hw hr hlocks rfl (by simp [inR, bZ, *]) rfl dX4_in_15

set_option maxHeartbeats 4000000 in
theorem m_X4_isLedge (l : Launch) (D : va_G) (dA : Nat → ClassId) (A : Nat → Prop) (E : State → Prop) (hE : gSt A E) (R : va_W) (v : Int32) : Met l yX4_isLedge (ws_ yX4_isLedge cX4_isLedge 1 (Option.some FieldType.boolean)) ({ frames := 1, cells := 0, slots := 0, locals := 22 }) (va_Pc [.int v] (gB D dA A E (R))) (va_Qi (fun (r : Int32) (_ : Unit) => r = bZ (inR v 0 5)) (fun _ => gE D A (R)) A) (0) (0) A := by
  refine g_start rfl rfl ?_
  intro p e s m args below meth c ls X hr hlocks hin hw hl
  have hx := X.1.1
  have hb := X.1.2.1
  have hl : lv_has ls 1 [(0, .int v)] := hl
  refine lv_iload_n hx hb dX4_isLedge_0 rfl (lv_at hl 0 rfl) ?_
  refine lv_iconst (v := 0) hx hb dX4_isLedge_1 (by decide) ?_
  refine lv_iconst (v := 5) hx hb dX4_isLedge_2 (by decide) ?_
  refine va_calli (va_runS (As := [.int v, .int 0, .int 5]) (rest := []) X.1 (m_X4_in l D dA A E hE R v 0 5) (va_cwS 3 X.1.2.2.2.2 (lw_S q1888 q1889 q80 q1890) rfl rfl rfl (by decide +kernel) ⟨Nat.le_of_ble_eq_true rfl, Nat.le_of_ble_eq_true rfl⟩) (g_preS hE X.2 hw) rfl rfl hl.1 rfl (lv_room (Nat.le_of_ble_eq_true rfl)) dX4_isLedge_3 ⟨Nat.le_of_ble_eq_true rfl, Nat.le_of_ble_eq_true rfl⟩) hw.2.2 (fun q _ h => h) (fun q h => h) (fun r_2 u t H locs ht hvm h_1 hB hz9 hk9 hS => ?_)
  have hw : gW D A (R) s H locs := g_aft ht hB hS
  obtain rfl : r_2 = bZ (inR v 0 5) := h_1
  exact g_zret (v := bZ (inR v 0 5)) () X hw hr hlocks (g_narZ (by first | assumption | exact bZ_01 _)) rfl rfl dX4_isLedge_6

set_option maxHeartbeats 4000000 in
theorem m_X4_isPoint (l : Launch) (D : va_G) (dA : Nat → ClassId) (A : Nat → Prop) (E : State → Prop) (hE : gSt A E) (R : va_W) (v : Int32) : Met l yX4_isPoint (ws_ yX4_isPoint cX4_isPoint 1 (Option.some FieldType.boolean)) ({ frames := 1, cells := 0, slots := 0, locals := 22 }) (va_Pc [.int v] (gB D dA A E (R))) (va_Qi (fun (r : Int32) (_ : Unit) => r = bZ (inR v 0 9)) (fun _ => gE D A (R)) A) (0) (0) A := by
  refine g_start rfl rfl ?_
  intro p e s m args below meth c ls X hr hlocks hin hw hl
  have hx := X.1.1
  have hb := X.1.2.1
  have hl : lv_has ls 1 [(0, .int v)] := hl
  refine lv_iload_n hx hb dX4_isPoint_0 rfl (lv_at hl 0 rfl) ?_
  refine lv_iconst (v := 0) hx hb dX4_isPoint_1 (by decide) ?_
  refine lv_bipush (v := 9) hx hb dX4_isPoint_2 (by decide) ?_
  refine va_calli (va_runS (As := [.int v, .int 0, .int 9]) (rest := []) X.1 (m_X4_in l D dA A E hE R v 0 9) (va_cwS 3 X.1.2.2.2.2 (lw_S q1888 q1889 q80 q1890) rfl rfl rfl (by decide +kernel) ⟨Nat.le_of_ble_eq_true rfl, Nat.le_of_ble_eq_true rfl⟩) (g_preS hE X.2 hw) rfl rfl hl.1 rfl (lv_room (Nat.le_of_ble_eq_true rfl)) dX4_isPoint_4 ⟨Nat.le_of_ble_eq_true rfl, Nat.le_of_ble_eq_true rfl⟩) hw.2.2 (fun q _ h => h) (fun q h => h) (fun r_2 u t H locs ht hvm h_1 hB hz9 hk9 hS => ?_)
  have hw : gW D A (R) s H locs := g_aft ht hB hS
  obtain rfl : r_2 = bZ (inR v 0 9) := h_1
  exact g_zret (v := bZ (inR v 0 9)) () X hw hr hlocks (g_narZ (by first | assumption | exact bZ_01 _)) rfl rfl dX4_isPoint_7

set_option maxHeartbeats 4000000 in
theorem m_X4_isCast (l : Launch) (D : va_G) (dA : Nat → ClassId) (A : Nat → Prop) (E : State → Prop) (hE : gSt A E) (R : va_W) (mo ag ab ah asv ai al at_ : Nat) (ch hs ty wy wd li pl iw : Int32) (g : gG) (v : Int32) : Met l yX4_isCast (ws_ yX4_isCast cX4_isCast 2 (Option.some FieldType.boolean)) ({ frames := 1, cells := 0, slots := 0, locals := 22 }) (va_Pc [.ref mo, .int v] (gB D dA A E ((mo, .inr (4, [.ref ag, .ref ab, .ref ah, .int ch, .ref asv, .int hs, .ref ai, .int ty, .int wy, .int wd, .ref al, .int li, .int pl, .int iw, .ref at_])) :: (ag, .inl (dA 0, 310, .inl g)) :: R))) (va_Qi (fun (r : Int32) (_ : Unit) => r = bZ (inR v 0 (g 50 - 1))) (fun _ => gE D A ((mo, .inr (4, [.ref ag, .ref ab, .ref ah, .int ch, .ref asv, .int hs, .ref ai, .int ty, .int wy, .int wd, .ref al, .int li, .int pl, .int iw, .ref at_])) :: (ag, .inl (dA 0, 310, .inl g)) :: R)) A) (0) (0) A := by
  refine g_start rfl rfl ?_
  intro p e s m args below meth c ls X hr hlocks hin hw hl
  have hx := X.1.1
  have hb := X.1.2.1
  have hl : lv_has ls 2 [(0, .ref mo), (1, .int v)] := hl
  refine lv_iload_n hx hb dX4_isCast_0 rfl (lv_at hl 1 rfl) ?_
  refine lv_iconst (v := 0) hx hb dX4_isCast_1 (by decide) ?_
  refine lv_aload_n hx hb dX4_isCast_2 rfl (lv_at hl 0 rfl) ?_
  refine g_get X cfX4 hw 0 0 rfl rfl q1834 rfl rfl dX4_isCast_3 ?_
  refine lv_bipush (v := 50) hx hb dX4_isCast_6 (by decide) ?_
  refine g_iald X hw 1 rfl (i := 50) (by decide) (by decide) dX4_isCast_8 ?_
  refine lv_iconst (v := 1) hx hb dX4_isCast_9 (by decide) ?_
  refine lv_isub hx hb dX4_isCast_10 ?_
  refine va_calli (va_runS (As := [.int v, .int 0, .int ((g 50) - 1)]) (rest := []) X.1 (m_X4_in l D dA A E hE ((mo, .inr (4, [.ref ag, .ref ab, .ref ah, .int ch, .ref asv, .int hs, .ref ai, .int ty, .int wy, .int wd, .ref al, .int li, .int pl, .int iw, .ref at_])) :: (ag, .inl (dA 0, 310, .inl g)) :: R) v 0 ((g 50) - 1)) (va_cwS 3 X.1.2.2.2.2 (lw_S q1888 q1889 q80 q1890) rfl rfl rfl (by decide +kernel) ⟨Nat.le_of_ble_eq_true rfl, Nat.le_of_ble_eq_true rfl⟩) (g_preS hE X.2 hw) rfl rfl hl.1 rfl (lv_room (Nat.le_of_ble_eq_true rfl)) dX4_isCast_11 ⟨Nat.le_of_ble_eq_true rfl, Nat.le_of_ble_eq_true rfl⟩) hw.2.2 (fun q _ h => h) (fun q h => h) (fun r_2 u t H locs ht hvm h_1 hB hz9 hk9 hS => ?_)
  have hw : gW D A ((mo, .inr (4, [.ref ag, .ref ab, .ref ah, .int ch, .ref asv, .int hs, .ref ai, .int ty, .int wy, .int wd, .ref al, .int li, .int pl, .int iw, .ref at_])) :: (ag, .inl (dA 0, 310, .inl g)) :: R) s H locs := g_aft ht hB hS
  obtain rfl : r_2 = bZ (inR v 0 ((g 50) - 1)) := h_1
  exact g_zret (v := bZ (inR v 0 ((g 50) - 1))) () X hw hr hlocks (g_narZ (by first | assumption | exact bZ_01 _)) rfl rfl dX4_isCast_14

set_option maxHeartbeats 4000000 in
theorem m_X4_isCopyist (l : Launch) (D : va_G) (dA : Nat → ClassId) (A : Nat → Prop) (E : State → Prop) (hE : gSt A E) (R : va_W) (mo ag ab ah asv ai al at_ : Nat) (ch hs ty wy wd li pl iw : Int32) (g : gG) (v : Int32) : Met l yX4_isCopyist (ws_ yX4_isCopyist cX4_isCopyist 2 (Option.some FieldType.boolean)) ({ frames := 1, cells := 0, slots := 0, locals := 22 }) (va_Pc [.ref mo, .int v] (gB D dA A E ((mo, .inr (4, [.ref ag, .ref ab, .ref ah, .int ch, .ref asv, .int hs, .ref ai, .int ty, .int wy, .int wd, .ref al, .int li, .int pl, .int iw, .ref at_])) :: (ag, .inl (dA 0, 310, .inl g)) :: R))) (va_Qi (fun (r : Int32) (_ : Unit) => r = bZ (inR v 0 (g 191 - 1))) (fun _ => gE D A ((mo, .inr (4, [.ref ag, .ref ab, .ref ah, .int ch, .ref asv, .int hs, .ref ai, .int ty, .int wy, .int wd, .ref al, .int li, .int pl, .int iw, .ref at_])) :: (ag, .inl (dA 0, 310, .inl g)) :: R)) A) (0) (0) A := by
  refine g_start rfl rfl ?_
  intro p e s m args below meth c ls X hr hlocks hin hw hl
  have hx := X.1.1
  have hb := X.1.2.1
  have hl : lv_has ls 2 [(0, .ref mo), (1, .int v)] := hl
  refine lv_iload_n hx hb dX4_isCopyist_0 rfl (lv_at hl 1 rfl) ?_
  refine lv_iconst (v := 0) hx hb dX4_isCopyist_1 (by decide) ?_
  refine lv_aload_n hx hb dX4_isCopyist_2 rfl (lv_at hl 0 rfl) ?_
  refine g_get X cfX4 hw 0 0 rfl rfl q1834 rfl rfl dX4_isCopyist_3 ?_
  refine lv_sipush (v := 191) hx hb dX4_isCopyist_6 (by decide) ?_
  refine g_iald X hw 1 rfl (i := 191) (by decide) (by decide) dX4_isCopyist_9 ?_
  refine lv_iconst (v := 1) hx hb dX4_isCopyist_10 (by decide) ?_
  refine lv_isub hx hb dX4_isCopyist_11 ?_
  refine va_calli (va_runS (As := [.int v, .int 0, .int ((g 191) - 1)]) (rest := []) X.1 (m_X4_in l D dA A E hE ((mo, .inr (4, [.ref ag, .ref ab, .ref ah, .int ch, .ref asv, .int hs, .ref ai, .int ty, .int wy, .int wd, .ref al, .int li, .int pl, .int iw, .ref at_])) :: (ag, .inl (dA 0, 310, .inl g)) :: R) v 0 ((g 191) - 1)) (va_cwS 3 X.1.2.2.2.2 (lw_S q1888 q1889 q80 q1890) rfl rfl rfl (by decide +kernel) ⟨Nat.le_of_ble_eq_true rfl, Nat.le_of_ble_eq_true rfl⟩) (g_preS hE X.2 hw) rfl rfl hl.1 rfl (lv_room (Nat.le_of_ble_eq_true rfl)) dX4_isCopyist_12 ⟨Nat.le_of_ble_eq_true rfl, Nat.le_of_ble_eq_true rfl⟩) hw.2.2 (fun q _ h => h) (fun q h => h) (fun r_2 u t H locs ht hvm h_1 hB hz9 hk9 hS => ?_)
  have hw : gW D A ((mo, .inr (4, [.ref ag, .ref ab, .ref ah, .int ch, .ref asv, .int hs, .ref ai, .int ty, .int wy, .int wd, .ref al, .int li, .int pl, .int iw, .ref at_])) :: (ag, .inl (dA 0, 310, .inl g)) :: R) s H locs := g_aft ht hB hS
  obtain rfl : r_2 = bZ (inR v 0 ((g 191) - 1)) := h_1
  exact g_zret (v := bZ (inR v 0 ((g 191) - 1))) () X hw hr hlocks (g_narZ (by first | assumption | exact bZ_01 _)) rfl rfl dX4_isCopyist_15

set_option maxHeartbeats 4000000 in
theorem m_X4_isCopy (l : Launch) (D : va_G) (dA : Nat → ClassId) (A : Nat → Prop) (E : State → Prop) (hE : gSt A E) (R : va_W) (mo ag ab ah asv ai al at_ : Nat) (ch hs ty wy wd li pl iw : Int32) (g : gG) (v : Int32) : Met l yX4_isCopy (ws_ yX4_isCopy cX4_isCopy 2 (Option.some FieldType.boolean)) ({ frames := 1, cells := 0, slots := 0, locals := 22 }) (va_Pc [.ref mo, .int v] (gB D dA A E ((mo, .inr (4, [.ref ag, .ref ab, .ref ah, .int ch, .ref asv, .int hs, .ref ai, .int ty, .int wy, .int wd, .ref al, .int li, .int pl, .int iw, .ref at_])) :: (ag, .inl (dA 0, 310, .inl g)) :: R))) (va_Qi (fun (r : Int32) (_ : Unit) => r = bZ (inR v 0 (g 212 - 1))) (fun _ => gE D A ((mo, .inr (4, [.ref ag, .ref ab, .ref ah, .int ch, .ref asv, .int hs, .ref ai, .int ty, .int wy, .int wd, .ref al, .int li, .int pl, .int iw, .ref at_])) :: (ag, .inl (dA 0, 310, .inl g)) :: R)) A) (0) (0) A := by
  refine g_start rfl rfl ?_
  intro p e s m args below meth c ls X hr hlocks hin hw hl
  have hx := X.1.1
  have hb := X.1.2.1
  have hl : lv_has ls 2 [(0, .ref mo), (1, .int v)] := hl
  refine lv_iload_n hx hb dX4_isCopy_0 rfl (lv_at hl 1 rfl) ?_
  refine lv_iconst (v := 0) hx hb dX4_isCopy_1 (by decide) ?_
  refine lv_aload_n hx hb dX4_isCopy_2 rfl (lv_at hl 0 rfl) ?_
  refine g_get X cfX4 hw 0 0 rfl rfl q1834 rfl rfl dX4_isCopy_3 ?_
  refine lv_sipush (v := 212) hx hb dX4_isCopy_6 (by decide) ?_
  refine g_iald X hw 1 rfl (i := 212) (by decide) (by decide) dX4_isCopy_9 ?_
  refine lv_iconst (v := 1) hx hb dX4_isCopy_10 (by decide) ?_
  refine lv_isub hx hb dX4_isCopy_11 ?_
  refine va_calli (va_runS (As := [.int v, .int 0, .int ((g 212) - 1)]) (rest := []) X.1 (m_X4_in l D dA A E hE ((mo, .inr (4, [.ref ag, .ref ab, .ref ah, .int ch, .ref asv, .int hs, .ref ai, .int ty, .int wy, .int wd, .ref al, .int li, .int pl, .int iw, .ref at_])) :: (ag, .inl (dA 0, 310, .inl g)) :: R) v 0 ((g 212) - 1)) (va_cwS 3 X.1.2.2.2.2 (lw_S q1888 q1889 q80 q1890) rfl rfl rfl (by decide +kernel) ⟨Nat.le_of_ble_eq_true rfl, Nat.le_of_ble_eq_true rfl⟩) (g_preS hE X.2 hw) rfl rfl hl.1 rfl (lv_room (Nat.le_of_ble_eq_true rfl)) dX4_isCopy_12 ⟨Nat.le_of_ble_eq_true rfl, Nat.le_of_ble_eq_true rfl⟩) hw.2.2 (fun q _ h => h) (fun q h => h) (fun r_2 u t H locs ht hvm h_1 hB hz9 hk9 hS => ?_)
  have hw : gW D A ((mo, .inr (4, [.ref ag, .ref ab, .ref ah, .int ch, .ref asv, .int hs, .ref ai, .int ty, .int wy, .int wd, .ref al, .int li, .int pl, .int iw, .ref at_])) :: (ag, .inl (dA 0, 310, .inl g)) :: R) s H locs := g_aft ht hB hS
  obtain rfl : r_2 = bZ (inR v 0 ((g 212) - 1)) := h_1
  exact g_zret (v := bZ (inR v 0 ((g 212) - 1))) () X hw hr hlocks (g_narZ (by first | assumption | exact bZ_01 _)) rfl rfl dX4_isCopy_15

set_option maxHeartbeats 4000000 in
theorem m_X4_refused (l : Launch) (D : va_G) (dA : Nat → ClassId) (A : Nat → Prop) (E : State → Prop) (hE : gSt A E) (R : va_W) (mo ag ab ah asv ai al at_ : Nat) (ch hs ty wy wd li pl iw : Int32) (g : gG) (x y : Int32) : Met l yX4_refused (ws_ yX4_refused cX4_refused 3 (Option.some FieldType.int)) ({ frames := 0, cells := 0, slots := 0, locals := 0 }) (va_Pc [.ref mo, .int x, .int y] (gB D dA A E ((mo, .inr (4, [.ref ag, .ref ab, .ref ah, .int ch, .ref asv, .int hs, .ref ai, .int ty, .int wy, .int wd, .ref al, .int li, .int pl, .int iw, .ref at_])) :: R))) (va_Qi (fun (r : Int32) (_ : Unit) => r = -14) (fun _ => gE D A ((mo, .inr (4, [.ref ag, .ref ab, .ref ah, .int ch, .ref asv, .int hs, .ref ai, .int ty, .int x, .int y, .ref al, .int li, .int pl, .int iw, .ref at_])) :: R)) A) (0) (0) A := by
  refine g_start rfl rfl ?_
  intro p e s m args below meth c ls X hr hlocks hin hw hl
  have hx := X.1.1
  have hb := X.1.2.1
  have hl : lv_has ls 3 [(0, .ref mo), (1, .int x), (2, .int y)] := hl
  refine lv_aload_n hx hb dX4_refused_0 rfl (lv_at hl 0 rfl) ?_
  refine lv_iload_n hx hb dX4_refused_1 rfl (lv_at hl 1 rfl) ?_
  refine g_put (ws' := (mo, .inr (4, [.ref ag, .ref ab, .ref ah, .int ch, .ref asv, .int hs, .ref ai, .int ty, .int x, .int wd, .ref al, .int li, .int pl, .int iw, .ref at_])) :: R) X cfX4 hw 0 8 rfl rfl q1842 rfl rfl rfl rfl rfl rfl dX4_refused_2 (fun H locs hw => ?_)
  refine lv_aload_n hx hb dX4_refused_5 rfl (lv_at hl 0 rfl) ?_
  refine lv_iload_n hx hb dX4_refused_6 rfl (lv_at hl 2 rfl) ?_
  refine g_put (ws' := (mo, .inr (4, [.ref ag, .ref ab, .ref ah, .int ch, .ref asv, .int hs, .ref ai, .int ty, .int x, .int y, .ref al, .int li, .int pl, .int iw, .ref at_])) :: R) X cfX4 hw 0 9 rfl rfl q1843 rfl rfl rfl rfl rfl rfl dX4_refused_7 (fun H locs hw => ?_)
  refine lv_bipush (v := (-14)) hx hb dX4_refused_10 (by decide) ?_
  exact g_iret (v := (-14)) () X hw hr hlocks  rfl rfl dX4_refused_12

set_option maxHeartbeats 4000000 in
theorem m_X4_heightOf (l : Launch) (D : va_G) (dA : Nat → ClassId) (A : Nat → Prop) (E : State → Prop) (hE : gSt A E) (R : va_W) (j : Nat) : Met l yX4_heightOf (ws_ yX4_heightOf cX4_heightOf 1 (Option.some FieldType.int)) ({ frames := 0, cells := 0, slots := 0, locals := 0 }) (va_Pc [.int (nI j)] (gB D dA A E (R))) (va_Qi (fun (r : Int32) (_ : Unit) => r = heightI j) (fun _ => gE D A (R)) A) (0) (0) A := by
  refine g_start rfl rfl ?_
  intro p e s m args below meth c ls X hr hlocks hin hw hl
  have hx := X.1.1
  have hb := X.1.2.1
  have hl : lv_has ls 1 [(0, .int (nI j))] := hl
  refine lv_iconst (v := 4) hx hb dX4_heightOf_0 (by decide) ?_
  refine lv_iconst (v := 3) hx hb dX4_heightOf_1 (by decide) ?_
  refine lv_iload_n hx hb dX4_heightOf_2 rfl (lv_at hl 0 rfl) ?_
  refine lv_imul hx hb dX4_heightOf_3 ?_
  refine g_mulN (a := 3) (b := j) ?_
  refine lv_iadd hx hb dX4_heightOf_4 ?_
  refine g_addN (a := 4) (b := 3 * j) ?_
  exact g_iret (v := nI (4 + 3 * j)) () X hw hr hlocks  rfl rfl dX4_heightOf_5

set_option maxHeartbeats 4000000 in
theorem m_X4_depthOf (l : Launch) (D : va_G) (dA : Nat → ClassId) (A : Nat → Prop) (E : State → Prop) (hE : gSt A E) (R : va_W) (mo ag ab ah asv ai al at_ : Nat) (ch hs ty wy wd li pl iw : Int32) (g : gG) (j q : Nat) (hj : j < 6) (hq : q < 10) : Met l yX4_depthOf (ws_ yX4_depthOf cX4_depthOf 3 (Option.some FieldType.int)) ({ frames := 0, cells := 0, slots := 0, locals := 0 }) (va_Pc [.ref mo, .int (nI j), .int (nI q)] (gB D dA A E ((mo, .inr (4, [.ref ag, .ref ab, .ref ah, .int ch, .ref asv, .int hs, .ref ai, .int ty, .int wy, .int wd, .ref al, .int li, .int pl, .int iw, .ref at_])) :: (ag, .inl (dA 0, 310, .inl g)) :: R))) (va_Qi (fun (r : Int32) (_ : Unit) => r = depthI g j q) (fun _ => gE D A ((mo, .inr (4, [.ref ag, .ref ab, .ref ah, .int ch, .ref asv, .int hs, .ref ai, .int ty, .int wy, .int wd, .ref al, .int li, .int pl, .int iw, .ref at_])) :: (ag, .inl (dA 0, 310, .inl g)) :: R)) A) (0) (0) A := by
  refine g_start rfl rfl ?_
  intro p e s m args below meth c ls X hr hlocks hin hw hl
  have hx := X.1.1
  have hb := X.1.2.1
  have hl : lv_has ls 3 [(0, .ref mo), (1, .int (nI j)), (2, .int (nI q))] := hl
  refine lv_bipush (v := 9) hx hb dX4_depthOf_0 (by decide) ?_
  refine lv_bipush (v := 11) hx hb dX4_depthOf_2 (by decide) ?_
  refine lv_iload_n hx hb dX4_depthOf_4 rfl (lv_at hl 1 rfl) ?_
  refine lv_imul hx hb dX4_depthOf_5 ?_
  refine g_mulN (a := 11) (b := j) ?_
  refine lv_bipush (v := 7) hx hb dX4_depthOf_6 (by decide) ?_
  refine lv_iload_n hx hb dX4_depthOf_8 rfl (lv_at hl 2 rfl) ?_
  refine lv_imul hx hb dX4_depthOf_9 ?_
  refine g_mulN (a := 7) (b := q) ?_
  refine lv_iadd hx hb dX4_depthOf_10 ?_
  refine g_addN (a := 11 * j) (b := 7 * q) ?_
  refine lv_bipush (v := 30) hx hb dX4_depthOf_11 (by decide) ?_
  refine lv_irem hx hb dX4_depthOf_13 (by decide) ?_
  refine lv_iadd hx hb dX4_depthOf_14 ?_
  refine lv_aload_n hx hb dX4_depthOf_15 rfl (lv_at hl 0 rfl) ?_
  refine g_get X cfX4 hw 0 0 rfl rfl q1834 rfl rfl dX4_depthOf_16 ?_
  refine lv_bipush (v := 20) hx hb dX4_depthOf_19 (by decide) ?_
  refine lv_iload_n hx hb dX4_depthOf_21 rfl (lv_at hl 1 rfl) ?_
  refine lv_iadd hx hb dX4_depthOf_22 ?_
  refine g_addN (a := 20) (b := j) ?_
  refine g_iald X hw 1 rfl (i := 20 + j) (by omega) (by first | decide | omega) dX4_depthOf_23 ?_
  refine lv_isub hx hb dX4_depthOf_24 ?_
  exact g_iret (v := (9 + ((nI (11 * j + 7 * q)) - (nI (11 * j + 7 * q)) / 30 * 30)) - (g (20 + j))) () X hw hr hlocks  (by exact depth_eq (by omega) (by omega)) rfl dX4_depthOf_25

set_option maxHeartbeats 4000000 in
theorem m_X4_pays (l : Launch) (D : va_G) (dA : Nat → ClassId) (A : Nat → Prop) (E : State → Prop) (hE : gSt A E) (R : va_W) (mo ag ab ah asv ai al at_ : Nat) (ch hs ty wy wd li pl iw : Int32) (g : gG) (v : Int32) : Met l yX4_pays (ws_ yX4_pays cX4_pays 3 (Option.some FieldType.boolean)) ({ frames := 0, cells := 0, slots := 0, locals := 0 }) (va_Pc [.ref mo, .int v] (gB D dA A E ((mo, .inr (4, [.ref ag, .ref ab, .ref ah, .int ch, .ref asv, .int hs, .ref ai, .int ty, .int wy, .int wd, .ref al, .int li, .int pl, .int iw, .ref at_])) :: (ag, .inl (dA 0, 310, .inl g)) :: R))) (va_Qi (fun (r : Int32) (_ : Unit) => r = bZ (!decide (g 4 < v))) (fun _ => gE D A ((mo, .inr (4, [.ref ag, .ref ab, .ref ah, .int ch, .ref asv, .int hs, .ref ai, .int ty, .int wy, .int wd, .ref al, .int li, .int pl, .int iw, .ref at_])) :: (ag, .inl (dA 0, 310, .inl (if g 4 < v then g else p_pays g v))) :: R)) A) (0) (0) A := by
  refine g_start rfl rfl ?_
  intro p e s m args below meth c ls X hr hlocks hin hw hl
  have hx := X.1.1
  have hb := X.1.2.1
  have hl : lv_has ls 3 [(0, .ref mo), (1, .int v)] := hl
  refine lv_aload_n hx hb dX4_pays_0 rfl (lv_at hl 0 rfl) ?_
  refine g_get X cfX4 hw 0 0 rfl rfl q1834 rfl rfl dX4_pays_1 ?_
  refine lv_iconst (v := 4) hx hb dX4_pays_4 (by decide) ?_
  refine g_iald X hw 1 rfl (i := 4) (by decide) (by decide) dX4_pays_5 ?_
  refine lv_iload_n hx hb dX4_pays_6 rfl (lv_at hl 1 rfl) ?_
  refine lv_icmp_lt (tgt := 14) hx hb dX4_pays_7 (by decide) (fun c_1 => ?_) (fun c_1 => ?_)
  · skip
    refine lv_iconst (v := 0) hx hb dX4_pays_14 (by decide) ?_
    refine lv_istore_n (lv' := [(2, .int 0), (0, .ref mo), (1, .int v)]) hx hb dX4_pays_15 rfl hl (by decide) rfl (fun ls hl => ?_)
    refine lv_aload_n hx hb dX4_pays_16 rfl (lv_at hl 1 rfl) ?_
    refine g_get X cfX4 hw 0 0 rfl rfl q1834 rfl rfl dX4_pays_17 ?_
    refine lv_iconst (v := 4) hx hb dX4_pays_20 (by decide) ?_
    refine lv_dup2_11 hx hb dX4_pays_21 rfl rfl ?_
    refine g_iald X hw 1 rfl (i := 4) (by decide) (by decide) dX4_pays_22 ?_
    refine lv_iload_n hx hb dX4_pays_23 rfl (lv_at hl 0 rfl) ?_
    refine lv_if_eq (tgt := 31) hx hb dX4_pays_24 (by decide) (fun c_2 => ?_) (fun c_2 => absurd (by decide) c_2)
    refine lv_iconst (v := 0) hx hb dX4_pays_31 (by decide) ?_
    refine lv_isub hx hb dX4_pays_32 ?_
    refine g_iast (ws' := (mo, .inr (4, [.ref ag, .ref ab, .ref ah, .int ch, .ref asv, .int hs, .ref ai, .int ty, .int wy, .int wd, .ref al, .int li, .int pl, .int iw, .ref at_])) :: (ag, .inl (dA 0, 310, .inl (upd g 4 ((g 4) - 0)))) :: R) X hw 1 rfl (i := 4) (by decide) (by decide) rfl dX4_pays_33 (fun H locs hw => ?_)
    refine lv_aload_n hx hb dX4_pays_34 rfl (lv_at hl 1 rfl) ?_
    refine g_get X cfX4 hw 0 0 rfl rfl q1834 rfl rfl dX4_pays_35 ?_
    refine lv_bipush (v := 6) hx hb dX4_pays_38 (by decide) ?_
    refine lv_dup2_11 hx hb dX4_pays_40 rfl rfl ?_
    refine g_iald X hw 1 rfl (i := 6) (by decide) (by decide) dX4_pays_41 ?_
    refine g_top (y := g 6) (upd_n (by omega)) ?_
    refine lv_iload_n hx hb dX4_pays_42 rfl (lv_at hl 0 rfl) ?_
    refine lv_if_eq (tgt := 50) hx hb dX4_pays_43 (by decide) (fun c_3 => ?_) (fun c_3 => absurd (by decide) c_3)
    refine lv_iconst (v := 0) hx hb dX4_pays_50 (by decide) ?_
    refine lv_iadd hx hb dX4_pays_51 ?_
    refine g_iast (ws' := (mo, .inr (4, [.ref ag, .ref ab, .ref ah, .int ch, .ref asv, .int hs, .ref ai, .int ty, .int wy, .int wd, .ref al, .int li, .int pl, .int iw, .ref at_])) :: (ag, .inl (dA 0, 310, .inl (upd (upd g 4 ((g 4) - 0)) 6 ((g 6) + 0)))) :: R) X hw 1 rfl (i := 6) (by decide) (by decide) rfl dX4_pays_52 (fun H locs hw => ?_)
    refine lv_iload_n hx hb dX4_pays_53 rfl (lv_at hl 0 rfl) ?_
    exact g_zret (v := 0) () X hw hr hlocks rfl (by simp [bZ, *]) (by first | (rw [if_pos (by assumption), pays_no]) | (rw [if_neg (by assumption)]; rfl)) dX4_pays_54
  · skip
    refine lv_iconst (v := 1) hx hb dX4_pays_10 (by decide) ?_
    refine lv_goto (tgt := 15) hx hb dX4_pays_11 (by decide) ?_
    refine lv_istore_n (lv' := [(2, .int 1), (0, .ref mo), (1, .int v)]) hx hb dX4_pays_15 rfl hl (by decide) rfl (fun ls hl => ?_)
    refine lv_aload_n hx hb dX4_pays_16 rfl (lv_at hl 1 rfl) ?_
    refine g_get X cfX4 hw 0 0 rfl rfl q1834 rfl rfl dX4_pays_17 ?_
    refine lv_iconst (v := 4) hx hb dX4_pays_20 (by decide) ?_
    refine lv_dup2_11 hx hb dX4_pays_21 rfl rfl ?_
    refine g_iald X hw 1 rfl (i := 4) (by decide) (by decide) dX4_pays_22 ?_
    refine lv_iload_n hx hb dX4_pays_23 rfl (lv_at hl 0 rfl) ?_
    refine lv_if_eq (tgt := 31) hx hb dX4_pays_24 (by decide) (fun c_4 => absurd c_4 (by decide)) (fun c_4 => ?_)
    refine lv_iload_n hx hb dX4_pays_27 rfl (lv_at hl 2 rfl) ?_
    refine lv_goto (tgt := 32) hx hb dX4_pays_28 (by decide) ?_
    refine lv_isub hx hb dX4_pays_32 ?_
    refine g_iast (ws' := (mo, .inr (4, [.ref ag, .ref ab, .ref ah, .int ch, .ref asv, .int hs, .ref ai, .int ty, .int wy, .int wd, .ref al, .int li, .int pl, .int iw, .ref at_])) :: (ag, .inl (dA 0, 310, .inl (upd g 4 ((g 4) - v)))) :: R) X hw 1 rfl (i := 4) (by decide) (by decide) rfl dX4_pays_33 (fun H locs hw => ?_)
    refine lv_aload_n hx hb dX4_pays_34 rfl (lv_at hl 1 rfl) ?_
    refine g_get X cfX4 hw 0 0 rfl rfl q1834 rfl rfl dX4_pays_35 ?_
    refine lv_bipush (v := 6) hx hb dX4_pays_38 (by decide) ?_
    refine lv_dup2_11 hx hb dX4_pays_40 rfl rfl ?_
    refine g_iald X hw 1 rfl (i := 6) (by decide) (by decide) dX4_pays_41 ?_
    refine g_top (y := g 6) (upd_n (by omega)) ?_
    refine lv_iload_n hx hb dX4_pays_42 rfl (lv_at hl 0 rfl) ?_
    refine lv_if_eq (tgt := 50) hx hb dX4_pays_43 (by decide) (fun c_5 => absurd c_5 (by decide)) (fun c_5 => ?_)
    refine lv_iload_n hx hb dX4_pays_46 rfl (lv_at hl 2 rfl) ?_
    refine lv_goto (tgt := 51) hx hb dX4_pays_47 (by decide) ?_
    refine lv_iadd hx hb dX4_pays_51 ?_
    refine g_iast (ws' := (mo, .inr (4, [.ref ag, .ref ab, .ref ah, .int ch, .ref asv, .int hs, .ref ai, .int ty, .int wy, .int wd, .ref al, .int li, .int pl, .int iw, .ref at_])) :: (ag, .inl (dA 0, 310, .inl (upd (upd g 4 ((g 4) - v)) 6 ((g 6) + v)))) :: R) X hw 1 rfl (i := 6) (by decide) (by decide) rfl dX4_pays_52 (fun H locs hw => ?_)
    refine lv_iload_n hx hb dX4_pays_53 rfl (lv_at hl 0 rfl) ?_
    exact g_zret (v := 1) () X hw hr hlocks rfl (by simp [bZ, *]) (by first | (rw [if_pos (by assumption), pays_no]) | (rw [if_neg (by assumption)]; rfl)) dX4_pays_54

set_option maxHeartbeats 4000000 in
theorem m_X4_tooFew (l : Launch) (D : va_G) (dA : Nat → ClassId) (A : Nat → Prop) (E : State → Prop) (hE : gSt A E) (R : va_W) (mo ag ab ah asv ai al at_ : Nat) (ch hs ty wy wd li pl iw : Int32) (g : gG) (v : Int32) : Met l yX4_tooFew (ws_ yX4_tooFew cX4_tooFew 2 (Option.some FieldType.int)) ({ frames := 1, cells := 0, slots := 0, locals := 22 }) (va_Pc [.ref mo, .int v] (gB D dA A E ((mo, .inr (4, [.ref ag, .ref ab, .ref ah, .int ch, .ref asv, .int hs, .ref ai, .int ty, .int wy, .int wd, .ref al, .int li, .int pl, .int iw, .ref at_])) :: (ag, .inl (dA 0, 310, .inl g)) :: R))) (va_Qi (fun (r : Int32) (_ : Unit) => r = -14) (fun _ => gE D A ((mo, .inr (4, [.ref ag, .ref ab, .ref ah, .int ch, .ref asv, .int hs, .ref ai, .int ty, .int 14, .int (v - g 4), .ref al, .int li, .int pl, .int iw, .ref at_])) :: (ag, .inl (dA 0, 310, .inl g)) :: R)) A) (0) (0) A := by
  refine g_start rfl rfl ?_
  intro p e s m args below meth c ls X hr hlocks hin hw hl
  have hx := X.1.1
  have hb := X.1.2.1
  have hl : lv_has ls 2 [(0, .ref mo), (1, .int v)] := hl
  refine lv_aload_n hx hb dX4_tooFew_0 rfl (lv_at hl 0 rfl) ?_
  refine lv_bipush (v := 14) hx hb dX4_tooFew_1 (by decide) ?_
  refine lv_iload_n hx hb dX4_tooFew_3 rfl (lv_at hl 1 rfl) ?_
  refine lv_aload_n hx hb dX4_tooFew_4 rfl (lv_at hl 0 rfl) ?_
  refine g_get X cfX4 hw 0 0 rfl rfl q1834 rfl rfl dX4_tooFew_5 ?_
  refine lv_iconst (v := 4) hx hb dX4_tooFew_8 (by decide) ?_
  refine g_iald X hw 1 rfl (i := 4) (by decide) (by decide) dX4_tooFew_9 ?_
  refine lv_isub hx hb dX4_tooFew_10 ?_
  refine va_calli (va_runV (As := [.int 14, .int (v - (g 4))]) (rest := []) X.1 (m_X4_refused l D dA A E hE ((ag, .inl (dA 0, 310, .inl g)) :: R) mo ag ab ah asv ai al at_ ch hs ty wy wd li pl iw (by first | assumption | omega) 14 (v - (g 4))) (cwV 2 X.1.2.2.2.2 (lw_V q1924 q1926 qs28 q80 q1927) rfl rfl rfl (by decide +kernel) ⟨Nat.le_of_ble_eq_true rfl, Nat.le_of_ble_eq_true rfl⟩) (g_preV hE X.2 hw 0 rfl rfl) rfl rfl hl.1 rfl (lv_room (Nat.le_of_ble_eq_true rfl)) dX4_tooFew_11 ⟨Nat.le_of_ble_eq_true rfl, Nat.le_of_ble_eq_true rfl⟩) hw.2.2 (fun q _ h => h) (fun q h => h) (fun r_2 u t H locs ht hvm h_1 hB hz9 hk9 hS => ?_)
  have hw : gW D A ((mo, .inr (4, [.ref ag, .ref ab, .ref ah, .int ch, .ref asv, .int hs, .ref ai, .int ty, .int 14, .int (v - (g 4)), .ref al, .int li, .int pl, .int iw, .ref at_])) :: (ag, .inl (dA 0, 310, .inl g)) :: R) s H locs := g_aft ht hB hS
  obtain rfl : r_2 = -14 := h_1
  exact g_iret (v := -14) () X hw hr hlocks  rfl rfl dX4_tooFew_14

set_option maxHeartbeats 4000000 in
theorem m_X4_apart (l : Launch) (D : va_G) (dA : Nat → ClassId) (A : Nat → Prop) (E : State → Prop) (hE : gSt A E) (R : va_W) (x y : Int32) : Met l yX4_apart (ws_ yX4_apart cX4_apart 2 (Option.some FieldType.int)) ({ frames := 0, cells := 0, slots := 0, locals := 0 }) (va_Pc [.int x, .int y] (gB D dA A E (R))) (va_Qi (fun (r : Int32) (_ : Unit) => r = apartI x y) (fun _ => gE D A (R)) A) (0) (0) A := by
  refine g_start rfl rfl ?_
  intro p e s m args below meth c ls X hr hlocks hin hw hl
  have hx := X.1.1
  have hb := X.1.2.1
  have hl : lv_has ls 2 [(0, .int x), (1, .int y)] := hl
  refine lv_iload_n hx hb dX4_apart_0 rfl (lv_at hl 0 rfl) ?_
  refine lv_iload_n hx hb dX4_apart_1 rfl (lv_at hl 1 rfl) ?_
  refine lv_icmp_ge (tgt := 11) hx hb dX4_apart_2 (by decide) (fun c_1 => ?_) (fun c_1 => ?_)
  · skip
    have c_1 := Int32.not_lt.mpr c_1
    refine lv_iload_n hx hb dX4_apart_11 rfl (lv_at hl 0 rfl) ?_
    refine lv_iload_n hx hb dX4_apart_12 rfl (lv_at hl 1 rfl) ?_
    refine lv_isub hx hb dX4_apart_13 ?_
    exact g_iret (v := x - y) () X hw hr hlocks  (by first | exact (if_pos (by assumption)).symm | exact (if_neg (by assumption)).symm) rfl dX4_apart_14
  · skip
    have c_1 := Int32.not_le.mp c_1
    refine lv_iload_n hx hb dX4_apart_5 rfl (lv_at hl 1 rfl) ?_
    refine lv_iload_n hx hb dX4_apart_6 rfl (lv_at hl 0 rfl) ?_
    refine lv_isub hx hb dX4_apart_7 ?_
    refine lv_goto (tgt := 14) hx hb dX4_apart_8 (by decide) ?_
    exact g_iret (v := y - x) () X hw hr hlocks  (by first | exact (if_pos (by assumption)).symm | exact (if_neg (by assumption)).symm) rfl dX4_apart_14
