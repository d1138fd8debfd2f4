set_option maxHeartbeats 4000000 in
theorem m_J12_checkIndexN (l : Launch) (D : va_G) (dA : Nat → ClassId) (A : Nat → Prop) (E : State → Prop) (hE : gSt A E) (R : va_W) (i n : Nat) (h1 : i < n) (h2 : n < 100000) : Met l yJ12_checkIndex (ws_ yJ12_checkIndex cJ12_checkIndex 3 (Option.some FieldType.int)) ({ frames := 0, cells := 0, slots := 0, locals := 0 }) (va_Pc [.int (nI i), .int (nI n), .null] (gB D dA A E (R))) (va_Qi (fun (r : Int32) (_ : Unit) => r = nI i) (fun _ => gE D A (R)) A) (0) (0) A := by
  refine g_start rfl rfl ?_
  intro p e s m args below meth c ls X hr hlocks hin hw hl
  have hx := X.1.1
  have hb := X.1.2.1
  have hl : lv_has ls 3 [(0, .int (nI i)), (1, .int (nI n)), (2, .null)] := hl
  refine lv_iload_n hx hb dJ12_checkIndex_0 rfl (lv_at hl 0 rfl) ?_
  refine lv_if_lt (tgt := 9) hx hb dJ12_checkIndex_1 (by decide) (fun c_1 => absurd c_1 (nI_pos (by omega))) (fun c_1 => ?_)
  refine lv_iload_n hx hb dJ12_checkIndex_4 rfl (lv_at hl 0 rfl) ?_
  refine lv_iload_n hx hb dJ12_checkIndex_5 rfl (lv_at hl 1 rfl) ?_
  refine lv_icmp_lt (tgt := 16) hx hb dJ12_checkIndex_6 (by decide) (fun c_2 => ?_) (fun c_2 => absurd (nI_lt h1 (by omega)) c_2)
  refine lv_iload_n hx hb dJ12_checkIndex_16 rfl (lv_at hl 0 rfl) ?_
  exact g_iret (v := nI i) () X hw hr hlocks  rfl rfl dJ12_checkIndex_17

set_option maxHeartbeats 4000000 in
theorem m_J12_checkIndexR (l : Launch) (D : va_G) (dA : Nat → ClassId) (A : Nat → Prop) (E : State → Prop) (hE : gSt A E) (R : va_W) (i n tz : Nat) (h1 : i < n) (h2 : n < 100000) : Met l yJ12_checkIndex (ws_ yJ12_checkIndex cJ12_checkIndex 3 (Option.some FieldType.int)) ({ frames := 0, cells := 0, slots := 0, locals := 0 }) (va_Pc [.int (nI i), .int (nI n), .ref tz] (gB D dA A E (R))) (va_Qi (fun (r : Int32) (_ : Unit) => r = nI i) (fun _ => gE D A (R)) A) (0) (0) A := by
  refine g_start rfl rfl ?_
  intro p e s m args below meth c ls X hr hlocks hin hw hl
  have hx := X.1.1
  have hb := X.1.2.1
  have hl : lv_has ls 3 [(0, .int (nI i)), (1, .int (nI n)), (2, .ref tz)] := hl
  refine lv_iload_n hx hb dJ12_checkIndex_0 rfl (lv_at hl 0 rfl) ?_
  refine lv_if_lt (tgt := 9) hx hb dJ12_checkIndex_1 (by decide) (fun c_1 => absurd c_1 (nI_pos (by omega))) (fun c_1 => ?_)
  refine lv_iload_n hx hb dJ12_checkIndex_4 rfl (lv_at hl 0 rfl) ?_
  refine lv_iload_n hx hb dJ12_checkIndex_5 rfl (lv_at hl 1 rfl) ?_
  refine lv_icmp_lt (tgt := 16) hx hb dJ12_checkIndex_6 (by decide) (fun c_2 => ?_) (fun c_2 => absurd (nI_lt h1 (by omega)) c_2)
  refine lv_iload_n hx hb dJ12_checkIndex_16 rfl (lv_at hl 0 rfl) ?_
  exact g_iret (v := nI i) () X hw hr hlocks  rfl rfl dJ12_checkIndex_17

set_option maxHeartbeats 4000000 in
theorem m_J9_checkIndex (l : Launch) (D : va_G) (dA : Nat → ClassId) (A : Nat → Prop) (E : State → Prop) (hE : gSt A E) (R : va_W) (kA : Nat → Nat) (hKE : gKE A E kA) (i n : Nat) (h1 : i < n) (h2 : n < 100000) : Met l yJ9_checkIndex (ws_ yJ9_checkIndex cJ9_checkIndex 2 (Option.none : Option FieldType)) ({ frames := 1, cells := 0, slots := 0, locals := 22 }) (va_Pc [.int (nI i), .int (nI n)] (gB D dA A E (R))) (va_Qv (fun (_ : Unit) => True) (fun _ => gE D A (R)) A) (0) (0) A := by
  refine g_start rfl rfl ?_
  intro p e s m args below meth c ls X hr hlocks hin hw hl
  have hx := X.1.1
  have hb := X.1.2.1
  have hl : lv_has ls 2 [(0, .int (nI i)), (1, .int (nI n))] := hl
  refine lv_iload_n hx hb dJ9_checkIndex_0 rfl (lv_at hl 0 rfl) ?_
  refine lv_iload_n hx hb dJ9_checkIndex_1 rfl (lv_at hl 1 rfl) ?_
  rcases (hKE s X.2.2.2.1).2.2.2.1 with hZ_1 | ⟨tz_2, hZ_1⟩
  · skip
    refine g_gets X hw hZ_1 q1148 rfl dJ9_checkIndex_2 ?_
    refine va_calli (va_runS (As := [.int (nI i), .int (nI n), .null]) (rest := []) X.1 (m_J12_checkIndexN l D dA A E hE R i n (by first | assumption | omega) (by first | assumption | omega)) (va_cwS 3 X.1.2.2.2.2 (lw_S q1171 q432 q82 q433) rfl rfl rfl (by decide +kernel) ⟨Nat.le_of_ble_eq_true rfl, Nat.le_of_ble_eq_true rfl⟩) (g_preS hE X.2 hw) rfl rfl hl.1 rfl (lv_room (Nat.le_of_ble_eq_true rfl)) dJ9_checkIndex_5 ⟨Nat.le_of_ble_eq_true rfl, Nat.le_of_ble_eq_true rfl⟩) hw.2.2 (fun q _ h => h) (fun q h => h) (fun r_4 u t H locs ht hvm h_3 hB hz9 hk9 hS => ?_)
    have hw : gW D A (R) s H locs := g_aft ht hB hS
    obtain rfl : r_4 = nI i := h_3
    refine lv_pop hx hb dJ9_checkIndex_8 rfl ?_
    exact g_vret () X hw hr hlocks trivial rfl dJ9_checkIndex_9
  · skip
    refine g_gets X hw hZ_1 q1148 rfl dJ9_checkIndex_2 ?_
    refine va_calli (va_runS (As := [.int (nI i), .int (nI n), .ref tz_2]) (rest := []) X.1 (m_J12_checkIndexR l D dA A E hE R i n tz_2 (by first | assumption | omega) (by first | assumption | omega)) (va_cwS 3 X.1.2.2.2.2 (lw_S q1171 q432 q82 q433) rfl rfl rfl (by decide +kernel) ⟨Nat.le_of_ble_eq_true rfl, Nat.le_of_ble_eq_true rfl⟩) (g_preS hE X.2 hw) rfl rfl hl.1 rfl (lv_room (Nat.le_of_ble_eq_true rfl)) dJ9_checkIndex_5 ⟨Nat.le_of_ble_eq_true rfl, Nat.le_of_ble_eq_true rfl⟩) hw.2.2 (fun q _ h => h) (fun q h => h) (fun r_6 u t H locs ht hvm h_5 hB hz9 hk9 hS => ?_)
    have hw : gW D A (R) s H locs := g_aft ht hB hS
    obtain rfl : r_6 = nI i := h_5
    refine lv_pop hx hb dJ9_checkIndex_8 rfl ?_
    exact g_vret () X hw hr hlocks trivial rfl dJ9_checkIndex_9

set_option maxHeartbeats 4000000 in
theorem m_J11_checkIndex (l : Launch) (D : va_G) (dA : Nat → ClassId) (A : Nat → Prop) (E : State → Prop) (hE : gSt A E) (R : va_W) (i n : Nat) (h1 : i < n) (h2 : n < 100000) : Met l yJ11_checkIndex (ws_ yJ11_checkIndex cJ11_checkIndex 2 (Option.some FieldType.int)) ({ frames := 1, cells := 0, slots := 0, locals := 22 }) (va_Pc [.int (nI i), .int (nI n)] (gB D dA A E (R))) (va_Qi (fun (r : Int32) (_ : Unit) => r = nI i) (fun _ => gE D A (R)) A) (0) (0) A := by
  refine g_start rfl rfl ?_
  intro p e s m args below meth c ls X hr hlocks hin hw hl
  have hx := X.1.1
  have hb := X.1.2.1
  have hl : lv_has ls 2 [(0, .int (nI i)), (1, .int (nI n))] := hl
  refine lv_iload_n hx hb dJ11_checkIndex_0 rfl (lv_at hl 0 rfl) ?_
  refine lv_iload_n hx hb dJ11_checkIndex_1 rfl (lv_at hl 1 rfl) ?_
  refine lv_null hx hb dJ11_checkIndex_2 ?_
  refine va_calli (va_runS (As := [.int (nI i), .int (nI n), .null]) (rest := []) X.1 (m_J12_checkIndexN l D dA A E hE R i n (by first | assumption | omega) (by first | assumption | omega)) (va_cwS 3 X.1.2.2.2.2 (lw_S q431 q432 q82 q433) rfl rfl rfl (by decide +kernel) ⟨Nat.le_of_ble_eq_true rfl, Nat.le_of_ble_eq_true rfl⟩) (g_preS hE X.2 hw) rfl rfl hl.1 rfl (lv_room (Nat.le_of_ble_eq_true rfl)) dJ11_checkIndex_3 ⟨Nat.le_of_ble_eq_true rfl, Nat.le_of_ble_eq_true rfl⟩) hw.2.2 (fun q _ h => h) (fun q h => h) (fun r_2 u t H locs ht hvm h_1 hB hz9 hk9 hS => ?_)
  have hw : gW D A (R) s H locs := g_aft ht hB hS
  obtain rfl : r_2 = nI i := h_1
  exact g_iret (v := nI i) () X hw hr hlocks  rfl rfl dJ11_checkIndex_6

set_option maxHeartbeats 4000000 in
theorem m_J9_coder (l : Launch) (D : va_G) (dA : Nat → ClassId) (A : Nat → Prop) (E : State → Prop) (hE : gSt A E) (R : va_W) (kA : Nat → Nat) (hKE : gKE A E kA) (sa sb sn : Nat) (sf : gG) (hs : gTxt dA E R sa sb sn sf)  : Met l yJ9_coder (ws_ yJ9_coder cJ9_coder 1 (Option.some FieldType.byte)) ({ frames := 0, cells := 0, slots := 0, locals := 0 }) (va_Pc [.ref sa] (gB D dA A E (R))) (va_Qi (fun (r : Int32) (_ : Unit) => r = 0) (fun _ => gE D A (R)) A) (0) (0) A := by
  refine g_start rfl rfl ?_
  intro p e s m args below meth c ls X hr hlocks hin hw hl
  have hx := X.1.1
  have hb := X.1.2.1
  have hl : lv_has ls 1 [(0, .ref sa)] := hl
  refine g_gets X hw (hKE s X.2.2.2.1).2.2.1 q1232 rfl dJ9_coder_0 ?_
  refine lv_if_eq (tgt := 13) hx hb dJ9_coder_3 (by decide) (fun c_1 => absurd c_1 (by decide)) (fun c_1 => ?_)
  refine lv_aload_n hx hb dJ9_coder_6 rfl (lv_at hl 0 rfl) ?_
  refine g_getR X (gTxt.at hE X hw hs (fun q h => h)).2.1 q1374 rfl dJ9_coder_7 ?_
  refine lv_goto (tgt := 14) hx hb dJ9_coder_10 (by decide) ?_
  exact g_zret (v := 0) () X hw hr hlocks rfl rfl rfl dJ9_coder_14

set_option maxHeartbeats 4000000 in
theorem m_J9_isLatin1 (l : Launch) (D : va_G) (dA : Nat → ClassId) (A : Nat → Prop) (E : State → Prop) (hE : gSt A E) (R : va_W) (kA : Nat → Nat) (hKE : gKE A E kA) (sa sb sn : Nat) (sf : gG) (hs : gTxt dA E R sa sb sn sf)  : Met l yJ9_isLatin1 (ws_ yJ9_isLatin1 cJ9_isLatin1 1 (Option.some FieldType.boolean)) ({ frames := 0, cells := 0, slots := 0, locals := 0 }) (va_Pc [.ref sa] (gB D dA A E (R))) (va_Qi (fun (r : Int32) (_ : Unit) => r = 1) (fun _ => gE D A (R)) A) (0) (0) A := by
  refine g_start rfl rfl ?_
  intro p e s m args below meth c ls X hr hlocks hin hw hl
  have hx := X.1.1
  have hb := X.1.2.1
  have hl : lv_has ls 1 [(0, .ref sa)] := hl
  refine g_gets X hw (hKE s X.2.2.2.1).2.2.1 q1232 rfl dJ9_isLatin1_0 ?_
  refine lv_if_eq (tgt := 17) hx hb dJ9_isLatin1_3 (by decide) (fun c_1 => absurd c_1 (by decide)) (fun c_1 => ?_)
  refine lv_aload_n hx hb dJ9_isLatin1_6 rfl (lv_at hl 0 rfl) ?_
  refine g_getR X (gTxt.at hE X hw hs (fun q h => h)).2.1 q1374 rfl dJ9_isLatin1_7 ?_
  refine lv_if_ne (tgt := 17) hx hb dJ9_isLatin1_10 (by decide) (fun c_3 => absurd (by decide) c_3) (fun c_3 => ?_)
  refine lv_iconst (v := 1) hx hb dJ9_isLatin1_13 (by decide) ?_
  refine lv_goto (tgt := 18) hx hb dJ9_isLatin1_14 (by decide) ?_
  exact g_zret (v := 1) () X hw hr hlocks rfl rfl rfl dJ9_isLatin1_18

set_option maxHeartbeats 4000000 in
theorem m_J9_length (l : Launch) (D : va_G) (dA : Nat → ClassId) (A : Nat → Prop) (E : State → Prop) (hE : gSt A E) (R : va_W) (kA : Nat → Nat) (hKE : gKE A E kA) (sa sb sn : Nat) (sf : gG) (hs : gTxt dA E R sa sb sn sf)  : Met l yJ9_length (ws_ yJ9_length cJ9_length 1 (Option.some FieldType.int)) ({ frames := 1, cells := 0, slots := 0, locals := 20 }) (va_Pc [.ref sa] (gB D dA A E (R))) (va_Qi (fun (r : Int32) (_ : Unit) => r = nI sn) (fun _ => gE D A (R)) A) (0) (0) A := by
  refine g_start rfl rfl ?_
  intro p e s m args below meth c ls X hr hlocks hin hw hl
  have hx := X.1.1
  have hb := X.1.2.1
  have hl : lv_has ls 1 [(0, .ref sa)] := hl
  refine lv_aload_n hx hb dJ9_length_0 rfl (lv_at hl 0 rfl) ?_
  refine g_getR X (gTxt.at hE X hw hs (fun q h => h)).2.2.1 q1373 rfl dJ9_length_1 ?_
  refine g_alenR X (gTxt.at hE X hw hs (fun q h => h)).2.2.2 dJ9_length_4 ?_
  refine lv_aload_n hx hb dJ9_length_5 rfl (lv_at hl 0 rfl) ?_
  refine va_calli (va_runV (As := []) (rest := [.int (nI sn)]) X.1 (m_J9_coder l D dA A E hE R kA (by first | assumption | omega) sa sb sn sf (hs.mono (fun q h => h))) (cwV 0 X.1.2.2.2.2 (lw_V q1250 q1251 q1252 q78 q1253) rfl rfl rfl (by decide +kernel) ⟨Nat.le_of_ble_eq_true rfl, Nat.le_of_ble_eq_true rfl⟩) (g_preR hE X.2 hw (gTxt.at hE X hw hs (fun q h => h)).1) rfl rfl hl.1 rfl (lv_room (Nat.le_of_ble_eq_true rfl)) dJ9_length_6 ⟨Nat.le_of_ble_eq_true rfl, Nat.le_of_ble_eq_true rfl⟩) hw.2.2 (fun q _ h => h) (fun q h => h) (fun r_5 u t H locs ht hvm h_4 hB hz9 hk9 hS => ?_)
  have hw : gW D A (R) s H locs := g_aft ht hB hS
  obtain rfl : r_5 = 0 := h_4
  refine lv_ishr hx hb dJ9_length_9 ?_
  refine g_top (y := nI sn) (sb_shr0 _) ?_
  exact g_iret (v := nI sn) () X hw hr hlocks  rfl rfl dJ9_length_10

set_option maxHeartbeats 4000000 in
theorem m_J17_charAt (l : Launch) (D : va_G) (dA : Nat → ClassId) (A : Nat → Prop) (E : State → Prop) (hE : gSt A E) (R : va_W) (kA : Nat → Nat) (hKE : gKE A E kA) (sa sb sn : Nat) (sf : gG) (hs : gTxt dA E R sa sb sn sf) (i : Nat) (hi : i < sn) : Met l yJ17_charAt (ws_ yJ17_charAt cJ17_charAt 2 (Option.some FieldType.char)) ({ frames := 2, cells := 0, slots := 0, locals := 43 }) (va_Pc [.ref sb, .int (nI i)] (gB D dA A E (R))) (va_Qi (fun (r : Int32) (_ : Unit) => r = sf i) (fun _ => gE D A (R)) A) (0) (0) A := by
  refine g_start rfl rfl ?_
  intro p e s m args below meth c ls X hr hlocks hin hw hl
  have hx := X.1.1
  have hb := X.1.2.1
  have hl : lv_has ls 2 [(0, .ref sb), (1, .int (nI i))] := hl
  have hs1 := hs.1
  have hs2 := hs.2.1
  refine lv_iload_n hx hb dJ17_charAt_0 rfl (lv_at hl 1 rfl) ?_
  refine lv_aload_n hx hb dJ17_charAt_1 rfl (lv_at hl 0 rfl) ?_
  refine g_alenR X (gTxt.at hE X hw hs (fun q h => h)).2.2.2 dJ17_charAt_2 ?_
  refine va_callv (va_runS (As := [.int (nI i), .int (nI sn)]) (rest := []) X.1 (m_J9_checkIndex l D dA A E hE R kA (by first | assumption | omega) i sn (by first | assumption | omega) (by first | assumption | omega)) (va_cwS 2 X.1.2.2.2.2 (lw_S q1274 q1169 q78 q1170) rfl rfl rfl (by decide +kernel) ⟨Nat.le_of_ble_eq_true rfl, Nat.le_of_ble_eq_true rfl⟩) (g_preS hE X.2 hw) rfl rfl hl.1 rfl (lv_room (Nat.le_of_ble_eq_true rfl)) dJ17_charAt_3 ⟨Nat.le_of_ble_eq_true rfl, Nat.le_of_ble_eq_true rfl⟩) hw.2.2 (fun q _ h => h) (fun q h => h) (fun u t H locs ht hvm h_2 hB hz9 hk9 hS => ?_)
  have hw : gW D A (R) s H locs := g_aft ht hB hS
  refine lv_aload_n hx hb dJ17_charAt_6 rfl (lv_at hl 0 rfl) ?_
  refine lv_iload_n hx hb dJ17_charAt_7 rfl (lv_at hl 1 rfl) ?_
  refine g_baldR X (gTxt.at hE X hw hs (fun q h => h)).2.2.2 (i := i) (by first | decide | omega) (by first | decide | omega) dJ17_charAt_8 ?_
  refine lv_sipush (v := 255) hx hb dJ17_charAt_9 (by decide) ?_
  refine lv_iand hx hb dJ17_charAt_12 ?_
  refine lv_i2c (v := (((sf i) &&& 255).toUInt32 % 65536).toInt32) hx hb dJ17_charAt_13 rfl ?_
  exact g_zret (v := (((sf i) &&& 255).toUInt32 % 65536).toInt32) () X hw hr hlocks (asc_nar hs.2.1 hi) (by exact asc_chr hs.2.1 hi) rfl dJ17_charAt_14

set_option maxHeartbeats 4000000 in
theorem m_J9_charAt (l : Launch) (D : va_G) (dA : Nat → ClassId) (A : Nat → Prop) (E : State → Prop) (hE : gSt A E) (R : va_W) (kA : Nat → Nat) (hKE : gKE A E kA) (sa sb sn : Nat) (sf : gG) (hs : gTxt dA E R sa sb sn sf) (i : Nat) (hi : i < sn) : Met l yJ9_charAt (ws_ yJ9_charAt cJ9_charAt 2 (Option.some FieldType.char)) ({ frames := 3, cells := 0, slots := 0, locals := 64 }) (va_Pc [.ref sa, .int (nI i)] (gB D dA A E (R))) (va_Qi (fun (r : Int32) (_ : Unit) => r = sf i) (fun _ => gE D A (R)) A) (0) (0) A := by
  refine g_start rfl rfl ?_
  intro p e s m args below meth c ls X hr hlocks hin hw hl
  have hx := X.1.1
  have hb := X.1.2.1
  have hl : lv_has ls 2 [(0, .ref sa), (1, .int (nI i))] := hl
  have hs1 := hs.1
  have hs2 := hs.2.1
  refine lv_aload_n hx hb dJ9_charAt_0 rfl (lv_at hl 0 rfl) ?_
  refine va_calli (va_runV (As := []) (rest := []) X.1 (m_J9_isLatin1 l D dA A E hE R kA (by first | assumption | omega) sa sb sn sf (hs.mono (fun q h => h))) (cwV 0 X.1.2.2.2.2 (lw_V q1267 q1268 q1269 q78 q1270) rfl rfl rfl (by decide +kernel) ⟨Nat.le_of_ble_eq_true rfl, Nat.le_of_ble_eq_true rfl⟩) (g_preR hE X.2 hw (gTxt.at hE X hw hs (fun q h => h)).1) rfl rfl hl.1 rfl (lv_room (Nat.le_of_ble_eq_true rfl)) dJ9_charAt_1 ⟨Nat.le_of_ble_eq_true rfl, Nat.le_of_ble_eq_true rfl⟩) hw.2.2 (fun q _ h => h) (fun q h => h) (fun r_3 u t H locs ht hvm h_2 hB hz9 hk9 hS => ?_)
  have hw : gW D A (R) s H locs := g_aft ht hB hS
  obtain rfl : r_3 = 1 := h_2
  refine lv_if_eq (tgt := 16) hx hb dJ9_charAt_4 (by decide) (fun c_4 => absurd c_4 (by decide)) (fun c_4 => ?_)
  refine lv_aload_n hx hb dJ9_charAt_7 rfl (lv_at hl 0 rfl) ?_
  refine g_getR X (gTxt.at hE X hw hs (fun q h => h)).2.2.1 q1373 rfl dJ9_charAt_8 ?_
  refine lv_iload_n hx hb dJ9_charAt_11 rfl (lv_at hl 1 rfl) ?_
  refine va_calli (va_runS (As := [.ref sb, .int (nI i)]) (rest := []) X.1 (m_J17_charAt l D dA A E hE R kA (by first | assumption | omega) sa sb sn sf (hs.mono (fun q h => h)) i (by first | assumption | omega)) (va_cwS 2 X.1.2.2.2.2 (lw_S q1271 q1272 q94 q1273) rfl rfl rfl (by decide +kernel) ⟨Nat.le_of_ble_eq_true rfl, Nat.le_of_ble_eq_true rfl⟩) (g_preS hE X.2 hw) rfl rfl hl.1 rfl (lv_room (Nat.le_of_ble_eq_true rfl)) dJ9_charAt_12 ⟨Nat.le_of_ble_eq_true rfl, Nat.le_of_ble_eq_true rfl⟩) hw.2.2 (fun q _ h => h) (fun q h => h) (fun r_7 u t H locs ht hvm h_6 hB hz9 hk9 hS => ?_)
  have hw : gW D A (R) s H locs := g_aft ht hB hS
  obtain rfl : r_7 = sf i := h_6
  exact g_zret (v := sf i) () X hw hr hlocks (asc_nar2 hs.2.1 hi) rfl rfl dJ9_charAt_15

set_option maxHeartbeats 4000000 in
theorem m_J17_equals (l : Launch) (D : va_G) (dA : Nat → ClassId) (A : Nat → Prop) (E : State → Prop) (hE : gSt A E) (R : va_W) (kA : Nat → Nat) (hKE : gKE A E kA) (sa sb sn : Nat) (sf : gG) (hs : gTxt dA E R sa sb sn sf) (ta tb tn : Nat) (tf : gG) (ht2 : gTxt dA E R ta tb tn tf)  : Met l yJ17_equals (ws_ yJ17_equals cJ17_equals 3 (Option.some FieldType.boolean)) ({ frames := 0, cells := 0, slots := 0, locals := 0 }) (va_Pc [.ref sb, .ref tb] (gB D dA A E (R))) (va_Qi (fun (r : Int32) (_ : Unit) => r = bZ (txEq sf sn tf tn)) (fun _ => gE D A (R)) A) (0) (0) A := by
  refine g_start rfl rfl ?_
  intro p e s m args below meth c ls X hr hlocks hin hw hl
  have hx := X.1.1
  have hb := X.1.2.1
  have hl : lv_has ls 3 [(0, .ref sb), (1, .ref tb)] := hl
  have hs1 := hs.1
  have hs2 := hs.2.1
  have hs3 := ht2.1
  refine lv_aload_n hx hb dJ17_equals_0 rfl (lv_at hl 0 rfl) ?_
  refine g_alenR X (gTxt.at hE X hw hs (fun q h => h)).2.2.2 dJ17_equals_1 ?_
  refine lv_aload_n hx hb dJ17_equals_2 rfl (lv_at hl 1 rfl) ?_
  refine g_alenR X (gTxt.at hE X hw ht2 (fun q h => h)).2.2.2 dJ17_equals_3 ?_
  refine lv_icmp_ne (tgt := 34) hx hb dJ17_equals_4 (by decide) (fun c_3 => ?_) (fun c_3 => ?_)
  · skip
    have c_3 : ¬ (sn = tn) := fun q => c_3 ((nI_eq (a := sn) (b := tn) (by omega) (by omega)).mpr q)
    refine lv_iconst (v := 0) hx hb dJ17_equals_34 (by decide) ?_
    exact g_zret (v := 0) () X hw hr hlocks rfl (by exact (txEq_n c_3).symm) rfl dJ17_equals_35
  · skip
    have c_3 : sn = tn := (nI_eq (a := sn) (b := tn) (by omega) (by omega)).mp c_3
    have hlen : sn = tn := c_3
    refine lv_iconst (v := 0) hx hb dJ17_equals_7 (by decide) ?_
    refine lv_istore_n (lv' := [(2, .int 0), (0, .ref sb), (1, .ref tb)]) hx hb dJ17_equals_8 rfl hl (by decide) rfl (fun ls hl => ?_)
    have loop_4 : ∀ (fuel : Nat) (i : Nat), ∀ (hi : i ≤ sn), ∀ (he : ∀ k, k < i → sf k = tf k), (sn - i) < fuel → ∀ (H : Heap) (locs : List Loc) (hw : gW D A (R) s H locs) (ls : Array Slot) (hl : lv_has ls 3 [(2, .int (nI i)), (0, .ref sb), (1, .ref tb)]), W p l e ({ frames := 0, cells := 0, slots := 0, locals := 0 }) s m args below meth c H locs (0) (0) (MQ below (va_Qi (fun (r : Int32) (_ : Unit) => r = bZ (txEq sf sn tf tn)) (fun _ => gE D A (R)) A) args s (0) (0) A) (F0 m 9 ls []) := by
      intro fuel
      induction fuel with
      | zero => intro i hi he hf; exact absurd hf (Nat.not_lt_zero _)
      | succ fuel ih_loop_4 =>
        intro i hi he hfuel_loop_4 H locs hw ls hl
        refine lv_iload_n hx hb dJ17_equals_9 rfl (lv_at hl 0 rfl) ?_
        refine lv_aload_n hx hb dJ17_equals_10 rfl (lv_at hl 1 rfl) ?_
        refine g_alenR X (gTxt.at hE X hw hs (fun q h => h)).2.2.2 dJ17_equals_11 ?_
        refine lv_icmp_ge (tgt := 32) hx hb dJ17_equals_12 (by decide) (fun c_6 => ?_) (fun c_6 => ?_)
        · skip
          have c_6 := Int32.not_lt.mpr c_6
          have c_6 : ¬ (i < sn) := fun q => c_6 ((nI_ltI (a := i) (b := sn) (by omega) (by omega)).mpr q)
          refine lv_iconst (v := 1) hx hb dJ17_equals_32 (by decide) ?_
          exact g_zret (v := 1) () X hw hr hlocks rfl (by exact (txEq_t hlen (fun k hk => he k (by omega))).symm) rfl dJ17_equals_33
        · skip
          have c_6 := Int32.not_le.mp c_6
          have c_6 : i < sn := (nI_ltI (a := i) (b := sn) (by omega) (by omega)).mp c_6
          refine lv_aload_n hx hb dJ17_equals_15 rfl (lv_at hl 1 rfl) ?_
          refine lv_iload_n hx hb dJ17_equals_16 rfl (lv_at hl 0 rfl) ?_
          refine g_baldR X (gTxt.at hE X hw hs (fun q h => h)).2.2.2 (i := i) (by first | decide | omega) (by first | decide | omega) dJ17_equals_17 ?_
          refine lv_aload_n hx hb dJ17_equals_18 rfl (lv_at hl 2 rfl) ?_
          refine lv_iload_n hx hb dJ17_equals_19 rfl (lv_at hl 0 rfl) ?_
          refine g_baldR X (gTxt.at hE X hw ht2 (fun q h => h)).2.2.2 (i := i) (by first | decide | omega) (by first | decide | omega) dJ17_equals_20 ?_
          refine lv_icmp_eq (tgt := 26) hx hb dJ17_equals_21 (by decide) (fun c_9 => ?_) (fun c_9 => ?_)
          · skip
            refine lv_iinc (v := nI (i + 1)) (lv' := [(2, .int (nI (i + 1))), (0, .ref sb), (1, .ref tb)]) hx hb dJ17_equals_26 hl (k := 0) rfl (nI_add i 1) (by decide) rfl (fun ls hl => ?_)
            refine lv_goto (tgt := 9) hx hb dJ17_equals_29 (by decide) ?_
            exact ih_loop_4 (i + 1) (by first | assumption | omega) (lt_s he c_9) (by omega) _ _ hw _ (lv_sub hl [0, 1, 2] rfl)
          · skip
            refine lv_iconst (v := 0) hx hb dJ17_equals_24 (by decide) ?_
            exact g_zret (v := 0) () X hw hr hlocks rfl (by exact (txEq_f (i := i) (by omega) c_9).symm) rfl dJ17_equals_25
    exact loop_4 ((sn - 0) + 1) 0 (by first | assumption | omega) (fun k h => absurd h (Nat.not_lt_zero k)) (Nat.lt_succ_self _) _ _ hw _ (lv_sub hl [0, 1, 2] rfl)
