set_option maxHeartbeats 4000000 in
theorem m_X13_isDone (l : Launch) (D : va_G) (dA : Nat → ClassId) (A : Nat → Prop) (E : State → Prop) (hE : gSt A E) (R : va_W) (kA : Nat → Nat) (hKE : gKE A E kA) (fl : Nat → Nat) (dL : Nat → ClassId) (hLE : ∀ U, E U → lmU dL U) (hDW : ∀ U, E U → dwU U) (ad : Nat → Nat) (g : gG) (hJ : gJ g) (hK : gK g) (oo os ob w : Nat) (of : gG) (x y z : Int32) (hw9 : w < 9) (hof : gAsc of (gLen (w + 1))) (hwf : ∀ q, q < gLen (w + 1) → of q = gByt (w + 1) q) (hsk : w = 7 → inR x 0 9 = true ∧ inR y 0 9 = true) (cu : Nat) : Met l yX13_isDone (wsW_ yX13_isDone cX13_isDone 4 (Option.some FieldType.boolean) [(0, 14, 15, 113)]) ({ frames := 8, cells := 300, slots := 700, locals := 177 }) (va_Pc [.ref oo, .ref (ad 0), .ref cu] (gB D dA A E ((oo, .inr (12, [.ref os, .int x, .int y, .int z])) :: (os, .inr (17, [.ref ob, .int 0, .int (txH of (gLen (w + 1))), .int 0])) :: (ob, .inl (dA 2, gLen (w + 1), .inl of)) :: (ad 0, .inr (1, [.ref (ad 1), .ref (ad 2), .ref (ad 3), .ref (ad 4), .int (g 3), .int (g 4), .int (g 5), .int (g 6), .int (g 1), .int (g 2), .int (g 0), .int (g 7)])) :: (ad 1, .inr (2, [.ref (ad 5), .int 6])) :: (ad 5, .inr (14, [.int 6, .ref (ad 9), .int 6])) :: (ad 9, .inl (dA 3, 6, .inr (.inr (.inr (.inr (rowF ad 20 6)))))) :: (ad 2, .inr (2, [.ref (ad 6), .int 10])) :: (ad 6, .inr (14, [.int (nI (nn g 50)), .ref (ad 10), .int (nI (nn g 50))])) :: (ad 10, .inl (dA 3, 10, .inr (.inr (.inr (.inr (rowF ad 30 (nn g 50))))))) :: (ad 3, .inr (2, [.ref (ad 7), .int 4])) :: (ad 7, .inr (14, [.int (nI (nn g 191)), .ref (ad 11), .int (nI (nn g 191))])) :: (ad 11, .inl (dA 3, 4, .inr (.inr (.inr (.inr (rowF ad 50 (nn g 191))))))) :: (ad 4, .inr (2, [.ref (ad 8), .int 8])) :: (ad 8, .inr (14, [.int (nI (nn g 212)), .ref (ad 12), .int (nI (nn g 212))])) :: (ad 12, .inl (dA 3, 8, .inr (.inr (.inr (.inr (rowF ad 60 (nn g 212))))))) :: (cu, .inl (dA 4, 3, .inr (.inr (.inr (.inr (rowF fl 0 3)))))) :: (fl 0, .inl (dL 0, 1, .inl (fun _ => 3))) :: (fl 1, .inl (dL 1, 1, .inl (fun _ => 3))) :: (fl 2, .inl (dL 2, 1, .inl (fun _ => 3))) :: chB dA ad g R))) (va_Qi (fun (r : Int32) (u : (Nat → Nat) × gG) => (∀ k, k < 13 → u.1 k = ad k) ∧ u.2 = gr_g g (doP g (nI w) x y z) ∧ r = bZ (dnB (doP g (nI w) x y z))) (fun u => gE D A ((oo, .inr (12, [.ref os, .int x, .int y, .int z])) :: (os, .inr (17, [.ref ob, .int 0, .int (txH of (gLen (w + 1))), .int 0])) :: (ob, .inl (dA 2, gLen (w + 1), .inl of)) :: (u.1 0, .inr (1, [.ref (u.1 1), .ref (u.1 2), .ref (u.1 3), .ref (u.1 4), .int (u.2 3), .int (u.2 4), .int (u.2 5), .int (u.2 6), .int (u.2 1), .int (u.2 2), .int (u.2 0), .int (u.2 7)])) :: (u.1 1, .inr (2, [.ref (u.1 5), .int 6])) :: (u.1 5, .inr (14, [.int 6, .ref (u.1 9), .int 6])) :: (u.1 9, .inl (dA 3, 6, .inr (.inr (.inr (.inr (rowF u.1 20 6)))))) :: (u.1 2, .inr (2, [.ref (u.1 6), .int 10])) :: (u.1 6, .inr (14, [.int (nI (nn u.2 50)), .ref (u.1 10), .int (nI (nn u.2 50))])) :: (u.1 10, .inl (dA 3, 10, .inr (.inr (.inr (.inr (rowF u.1 30 (nn u.2 50))))))) :: (u.1 3, .inr (2, [.ref (u.1 7), .int 4])) :: (u.1 7, .inr (14, [.int (nI (nn u.2 191)), .ref (u.1 11), .int (nI (nn u.2 191))])) :: (u.1 11, .inl (dA 3, 4, .inr (.inr (.inr (.inr (rowF u.1 50 (nn u.2 191))))))) :: (u.1 4, .inr (2, [.ref (u.1 8), .int 8])) :: (u.1 8, .inr (14, [.int (nI (nn u.2 212)), .ref (u.1 12), .int (nI (nn u.2 212))])) :: (u.1 12, .inl (dA 3, 8, .inr (.inr (.inr (.inr (rowF u.1 60 (nn u.2 212))))))) :: (cu, .inl (dA 4, 3, .inr (.inr (.inr (.inr (rowF fl 0 3)))))) :: (fl 0, .inl (dL 0, 1, .inl (fun _ => 3))) :: (fl 1, .inl (dL 1, 1, .inl (fun _ => 3))) :: (fl 2, .inl (dL 2, 1, .inl (fun _ => 3))) :: chB dA u.1 u.2 R)) A) (300) (700) A := by
  refine g_startH rfl rfl ?_
  intro p e s m args below meth c ls X hr hlocks hin htab hw hl
  have hx := X.1.1
  have hb := X.1.2.1
  have hl : lv_has ls 4 [(0, .ref oo), (1, .ref (ad 0)), (2, .ref cu)] := hl
  have hc1 := hJ.i.c.2
  have hc2 := hJ.i.m.2
  have hc3 := hJ.i.k.2
  refine lv_aload_n hx hb dX13_isDone_0 rfl (lv_at hl 0 rfl) ?_
  refine lv_aload_n hx hb dX13_isDone_1 rfl (lv_at hl 1 rfl) ?_
  refine lv_aload_n hx hb dX13_isDone_2 rfl (lv_at hl 2 rfl) ?_
  refine vy_calli (vy_runV (As := [.ref (ad 0), .ref cu]) (rest := []) X.1 (m_X13_does l D dA A E hE R kA (by first | assumption | omega | decide) fl dL (by first | assumption | omega | decide) (by first | assumption | omega | decide) ad g (by first | assumption | omega | decide) (by first | assumption | omega | decide) oo os ob w of x y z (by first | assumption | omega | decide) (by first | assumption | omega | decide) (by first | assumption | omega | decide) (by first | assumption | omega | decide) cu) (cwV 2 X.1.2.2.2.2 (lw_V q1619 q1621 qs23 q96 q1622) rfl rfl rfl (by decide +kernel) ⟨Nat.le_of_ble_eq_true rfl, Nat.le_of_ble_eq_true rfl⟩) (g_preV hE X.2 hw 0 rfl rfl) rfl rfl hl.1 rfl (lv_room (Nat.le_of_ble_eq_true rfl)) dX13_isDone_3 ⟨Nat.le_of_ble_eq_true rfl, Nat.le_of_ble_eq_true rfl⟩) hw.2.2 (fun q _ h => h) (fun q h => h) (fun q _ h => h) (fun E9 ce9 q9 u9 t H locs ht hvm hp9 hB9 hz9 hk9 hS hce9 hcv9 hcl9 => ?_) (fun r_2 u t H locs ht hvm h_1 hB hz9 hk9 hS => ?_)
  · obtain ⟨-, hB⟩ := hB9
    obtain ⟨q_3, rfl⟩ : ∃ z, z = q9 := ⟨_, rfl⟩
    obtain ⟨u_4, rfl⟩ : ∃ z, z = u9 := ⟨_, rfl⟩
    replace hw : gW D A ((q_3, .inr (9, [.null, .null, .null, .null, .null, .int 0, .int u_4.1, .int u_4.2])) :: (oo, .inr (12, [.ref os, .int x, .int y, .int z])) :: (os, .inr (17, [.ref ob, .int 0, .int (txH of (gLen (w + 1))), .int 0])) :: (ob, .inl (dA 2, gLen (w + 1), .inl of)) :: (ad 0, .inr (1, [.ref (ad 1), .ref (ad 2), .ref (ad 3), .ref (ad 4), .int (g 3), .int (g 4), .int (g 5), .int (g 6), .int (g 1), .int (g 2), .int (g 0), .int (g 7)])) :: (ad 1, .inr (2, [.ref (ad 5), .int 6])) :: (ad 5, .inr (14, [.int 6, .ref (ad 9), .int 6])) :: (ad 9, .inl (dA 3, 6, .inr (.inr (.inr (.inr (rowF ad 20 6)))))) :: (ad 2, .inr (2, [.ref (ad 6), .int 10])) :: (ad 6, .inr (14, [.int (nI (nn g 50)), .ref (ad 10), .int (nI (nn g 50))])) :: (ad 10, .inl (dA 3, 10, .inr (.inr (.inr (.inr (rowF ad 30 (nn g 50))))))) :: (ad 3, .inr (2, [.ref (ad 7), .int 4])) :: (ad 7, .inr (14, [.int (nI (nn g 191)), .ref (ad 11), .int (nI (nn g 191))])) :: (ad 11, .inl (dA 3, 4, .inr (.inr (.inr (.inr (rowF ad 50 (nn g 191))))))) :: (ad 4, .inr (2, [.ref (ad 8), .int 8])) :: (ad 8, .inr (14, [.int (nI (nn g 212)), .ref (ad 12), .int (nI (nn g 212))])) :: (ad 12, .inl (dA 3, 8, .inr (.inr (.inr (.inr (rowF ad 60 (nn g 212))))))) :: (cu, .inl (dA 4, 3, .inr (.inr (.inr (.inr (rowF fl 0 3)))))) :: (fl 0, .inl (dL 0, 1, .inl (fun _ => 3))) :: (fl 1, .inl (dL 1, 1, .inl (fun _ => 3))) :: (fl 2, .inl (dL 2, 1, .inl (fun _ => 3))) :: chB dA ad g R) s H locs := g_aft ht hB hS
    have hp_5 : doP g (nI w) x y z = .inl u_4 := hp9
    refine g_catchX (ci := 9) X hw htab [] ⟨0, 14, 15, 113⟩ [] rfl rfl (fun z hz => nomatch hz) (by decide) (by decide) q1618 q700 ?_
    refine lv_astore_n (lv' := [(3, .ref q_3), (0, .ref oo), (1, .ref (ad 0)), (2, .ref cu)]) hx hb dX13_isDone_15 rfl hl (by decide) rfl (fun ls hl9 => ?_)
    replace hl := hl9
    clear hl9
    refine lv_iconst (v := 0) hx hb dX13_isDone_16 (by decide) ?_
    replace hw : gW D A ((oo, .inr (12, [.ref os, .int x, .int y, .int z])) :: (os, .inr (17, [.ref ob, .int 0, .int (txH of (gLen (w + 1))), .int 0])) :: (ob, .inl (dA 2, gLen (w + 1), .inl of)) :: (ad 0, .inr (1, [.ref (ad 1), .ref (ad 2), .ref (ad 3), .ref (ad 4), .int (g 3), .int (g 4), .int (g 5), .int (g 6), .int (g 1), .int (g 2), .int (g 0), .int (g 7)])) :: (ad 1, .inr (2, [.ref (ad 5), .int 6])) :: (ad 5, .inr (14, [.int 6, .ref (ad 9), .int 6])) :: (ad 9, .inl (dA 3, 6, .inr (.inr (.inr (.inr (rowF ad 20 6)))))) :: (ad 2, .inr (2, [.ref (ad 6), .int 10])) :: (ad 6, .inr (14, [.int (nI (nn g 50)), .ref (ad 10), .int (nI (nn g 50))])) :: (ad 10, .inl (dA 3, 10, .inr (.inr (.inr (.inr (rowF ad 30 (nn g 50))))))) :: (ad 3, .inr (2, [.ref (ad 7), .int 4])) :: (ad 7, .inr (14, [.int (nI (nn g 191)), .ref (ad 11), .int (nI (nn g 191))])) :: (ad 11, .inl (dA 3, 4, .inr (.inr (.inr (.inr (rowF ad 50 (nn g 191))))))) :: (ad 4, .inr (2, [.ref (ad 8), .int 8])) :: (ad 8, .inr (14, [.int (nI (nn g 212)), .ref (ad 12), .int (nI (nn g 212))])) :: (ad 12, .inl (dA 3, 8, .inr (.inr (.inr (.inr (rowF ad 60 (nn g 212))))))) :: (cu, .inl (dA 4, 3, .inr (.inr (.inr (.inr (rowF fl 0 3)))))) :: (fl 0, .inl (dL 0, 1, .inl (fun _ => 3))) :: (fl 1, .inl (dL 1, 1, .inl (fun _ => 3))) :: (fl 2, .inl (dL 2, 1, .inl (fun _ => 3))) :: chB dA ad g R) s _ _ := g_perm (X := [(q_3, .inr (9, [.null, .null, .null, .null, .null, .int 0, .int u_4.1, .int u_4.2])), (oo, .inr (12, [.ref os, .int x, .int y, .int z])), (os, .inr (17, [.ref ob, .int 0, .int (txH of (gLen (w + 1))), .int 0])), (ob, .inl (dA 2, gLen (w + 1), .inl of)), (ad 0, .inr (1, [.ref (ad 1), .ref (ad 2), .ref (ad 3), .ref (ad 4), .int (g 3), .int (g 4), .int (g 5), .int (g 6), .int (g 1), .int (g 2), .int (g 0), .int (g 7)])), (ad 1, .inr (2, [.ref (ad 5), .int 6])), (ad 5, .inr (14, [.int 6, .ref (ad 9), .int 6])), (ad 9, .inl (dA 3, 6, .inr (.inr (.inr (.inr (rowF ad 20 6)))))), (ad 2, .inr (2, [.ref (ad 6), .int 10])), (ad 6, .inr (14, [.int (nI (nn g 50)), .ref (ad 10), .int (nI (nn g 50))])), (ad 10, .inl (dA 3, 10, .inr (.inr (.inr (.inr (rowF ad 30 (nn g 50))))))), (ad 3, .inr (2, [.ref (ad 7), .int 4])), (ad 7, .inr (14, [.int (nI (nn g 191)), .ref (ad 11), .int (nI (nn g 191))])), (ad 11, .inl (dA 3, 4, .inr (.inr (.inr (.inr (rowF ad 50 (nn g 191))))))), (ad 4, .inr (2, [.ref (ad 8), .int 8])), (ad 8, .inr (14, [.int (nI (nn g 212)), .ref (ad 12), .int (nI (nn g 212))])), (ad 12, .inl (dA 3, 8, .inr (.inr (.inr (.inr (rowF ad 60 (nn g 212))))))), (cu, .inl (dA 4, 3, .inr (.inr (.inr (.inr (rowF fl 0 3)))))), (fl 0, .inl (dL 0, 1, .inl (fun _ => 3))), (fl 1, .inl (dL 1, 1, .inl (fun _ => 3))), (fl 2, .inl (dL 2, 1, .inl (fun _ => 3)))]) (cx := [(oo, .inr (12, [.ref os, .int x, .int y, .int z])), (os, .inr (17, [.ref ob, .int 0, .int (txH of (gLen (w + 1))), .int 0])), (ob, .inl (dA 2, gLen (w + 1), .inl of)), (ad 0, .inr (1, [.ref (ad 1), .ref (ad 2), .ref (ad 3), .ref (ad 4), .int (g 3), .int (g 4), .int (g 5), .int (g 6), .int (g 1), .int (g 2), .int (g 0), .int (g 7)])), (ad 1, .inr (2, [.ref (ad 5), .int 6])), (ad 5, .inr (14, [.int 6, .ref (ad 9), .int 6])), (ad 9, .inl (dA 3, 6, .inr (.inr (.inr (.inr (rowF ad 20 6)))))), (ad 2, .inr (2, [.ref (ad 6), .int 10])), (ad 6, .inr (14, [.int (nI (nn g 50)), .ref (ad 10), .int (nI (nn g 50))])), (ad 10, .inl (dA 3, 10, .inr (.inr (.inr (.inr (rowF ad 30 (nn g 50))))))), (ad 3, .inr (2, [.ref (ad 7), .int 4])), (ad 7, .inr (14, [.int (nI (nn g 191)), .ref (ad 11), .int (nI (nn g 191))])), (ad 11, .inl (dA 3, 4, .inr (.inr (.inr (.inr (rowF ad 50 (nn g 191))))))), (ad 4, .inr (2, [.ref (ad 8), .int 8])), (ad 8, .inr (14, [.int (nI (nn g 212)), .ref (ad 12), .int (nI (nn g 212))])), (ad 12, .inl (dA 3, 8, .inr (.inr (.inr (.inr (rowF ad 60 (nn g 212))))))), (cu, .inl (dA 4, 3, .inr (.inr (.inr (.inr (rowF fl 0 3)))))), (fl 0, .inl (dL 0, 1, .inl (fun _ => 3))), (fl 1, .inl (dL 1, 1, .inl (fun _ => 3))), (fl 2, .inl (dL 2, 1, .inl (fun _ => 3)))]) (pl := chB dA ad g R) hw [1, 2, 3, 4, 5, 6, 7, 8, 9, 10, 11, 12, 13, 14, 15, 16, 17, 18, 19, 20] rfl rfl rfl rfl
    exact g_zret (v := 0) (ad, g) X hw hr hlocks rfl (by exact ⟨fun _ _ => rfl, gr_gl hp_5, dn_l hp_5⟩) rfl dX13_isDone_17
  obtain ⟨ad_6, g_7⟩ := u
  replace hw : gW D A ((oo, .inr (12, [.ref os, .int x, .int y, .int z])) :: (os, .inr (17, [.ref ob, .int 0, .int (txH of (gLen (w + 1))), .int 0])) :: (ob, .inl (dA 2, gLen (w + 1), .inl of)) :: (ad_6 0, .inr (1, [.ref (ad_6 1), .ref (ad_6 2), .ref (ad_6 3), .ref (ad_6 4), .int (g_7 3), .int (g_7 4), .int (g_7 5), .int (g_7 6), .int (g_7 1), .int (g_7 2), .int (g_7 0), .int (g_7 7)])) :: (ad_6 1, .inr (2, [.ref (ad_6 5), .int 6])) :: (ad_6 5, .inr (14, [.int 6, .ref (ad_6 9), .int 6])) :: (ad_6 9, .inl (dA 3, 6, .inr (.inr (.inr (.inr (rowF ad_6 20 6)))))) :: (ad_6 2, .inr (2, [.ref (ad_6 6), .int 10])) :: (ad_6 6, .inr (14, [.int (nI (nn g_7 50)), .ref (ad_6 10), .int (nI (nn g_7 50))])) :: (ad_6 10, .inl (dA 3, 10, .inr (.inr (.inr (.inr (rowF ad_6 30 (nn g_7 50))))))) :: (ad_6 3, .inr (2, [.ref (ad_6 7), .int 4])) :: (ad_6 7, .inr (14, [.int (nI (nn g_7 191)), .ref (ad_6 11), .int (nI (nn g_7 191))])) :: (ad_6 11, .inl (dA 3, 4, .inr (.inr (.inr (.inr (rowF ad_6 50 (nn g_7 191))))))) :: (ad_6 4, .inr (2, [.ref (ad_6 8), .int 8])) :: (ad_6 8, .inr (14, [.int (nI (nn g_7 212)), .ref (ad_6 12), .int (nI (nn g_7 212))])) :: (ad_6 12, .inl (dA 3, 8, .inr (.inr (.inr (.inr (rowF ad_6 60 (nn g_7 212))))))) :: (cu, .inl (dA 4, 3, .inr (.inr (.inr (.inr (rowF fl 0 3)))))) :: (fl 0, .inl (dL 0, 1, .inl (fun _ => 3))) :: (fl 1, .inl (dL 1, 1, .inl (fun _ => 3))) :: (fl 2, .inl (dL 2, 1, .inl (fun _ => 3))) :: chB dA ad_6 g_7 R) s H locs := g_aft ht hB hS
  clear hS hk9 hz9 hB hvm ht
  clear t
  have h_1 : (∀ k, k < 13 → ad_6 k = ad k) ∧ doP g (nI w) x y z = .inr (r_2, g_7) := h_1
  refine lv_if_lt (tgt := 13) hx hb dX13_isDone_6 (by decide) (fun c_8 => ?_) (fun c_8 => ?_)
  · skip
    refine lv_iconst (v := 0) hx hb dX13_isDone_13 (by decide) ?_
    exact g_zret (v := 0) (ad_6, g_7) X hw hr hlocks rfl (by exact ⟨h_1.1, gr_gi h_1.2, dn_n h_1.2 c_8⟩) rfl dX13_isDone_14
  · skip
    refine lv_iconst (v := 1) hx hb dX13_isDone_9 (by decide) ?_
    refine lv_goto (tgt := 14) hx hb dX13_isDone_10 (by decide) ?_
    exact g_zret (v := 1) (ad_6, g_7) X hw hr hlocks rfl (by exact ⟨h_1.1, gr_gi h_1.2, dn_y h_1.2 c_8⟩) rfl dX13_isDone_14

set_option maxHeartbeats 4000000 in
theorem m_X12_init (l : Launch) (D : va_G) (dA : Nat → ClassId) (A : Nat → Prop) (E : State → Prop) (hE : gSt A E) (R : va_W) (kA : Nat → Nat) (hKE : gKE A E kA) (rd o : Nat) : Met l yX12_init (ws_ yX12_init cX12_init 2 (Option.none : Option FieldType)) ({ frames := 1, cells := 1, slots := 9, locals := 12 }) (va_Pc [.ref rd, .ref o] (gB D dA A E ((rd, .inr (11, [.null, .null, .int 0])) :: R))) (va_Qv (fun (u : Nat) => True) (fun u => gE D A ((rd, .inr (11, [.ref u, .ref o, .int 0])) :: (u, .inl (dA 5, 9, .inr (.inr (.inr (.inr (wsF kA)))))) :: R)) A) (1) (9) A := by
  refine g_start rfl rfl ?_
  intro p e s m args below meth c ls X hr hlocks hin hw hl
  have hx := X.1.1
  have hb := X.1.2.1
  have hl : lv_has ls 2 [(0, .ref rd), (1, .ref o)] := hl
  refine lv_aload_n hx hb dX12_init_0 rfl (lv_at hl 0 rfl) ?_
  refine W.objInit hx hb X.1.2.2.2.1 (X.1.2.2.2.2 _ q1182) (X.1.2.2.2.2 _ q109) (X.1.2.2.2.2 _ q110) rfl (by rw [X.1.2.2.1]; exact hl.1) rfl dX12_init_1 (Nat.le_of_ble_eq_true rfl) (Nat.le_of_ble_eq_true rfl) ?_
  refine W.eq (g2 := F0 m 4 ls []) rfl ?_
  refine lv_aload_n hx hb dX12_init_4 rfl (lv_at hl 0 rfl) ?_
  refine lv_bipush (v := 9) hx hb dX12_init_5 (by decide) ?_
  refine g_newq (N' := 9) X hw 5 q1183 q1184 rfl rfl (by first | decide | omega) (Nat.le_of_ble_eq_true rfl) (Nat.le_of_ble_eq_true rfl) dX12_init_7 (fun q_1 H hw9 => ?_)
  replace hw := hw9
  clear hw9
  refine lv_dup hx hb dX12_init_10 rfl ?_
  refine lv_iconst (v := 0) hx hb dX12_init_11 (by decide) ?_
  refine g_ldcS X hKE 2 rfl rfl dX12_init_12 ?_
  refine g_aastT (ws' := (q_1, .inl (dA 5, 9, .inr (.inr (.inr (.inr (va_up (fun _ => none) 0 (some (kA 1)))))))) :: (rd, .inr (11, [.null, .null, .int 0])) :: R) X hw 0 rfl (gTxt.at hE X hw (gTxt.k (R := (q_1, .inl (dA 5, 9, .inr (.inr (.inr (.inr (fun _ => none)))))) :: (rd, .inr (11, [.null, .null, .int 0])) :: R) hKE (i := 1) (by first | decide | omega)) (fun q h => h)).1 (i := 0) (by decide) (by decide) rfl dX12_init_14 (fun H locs hw9 => ?_)
  replace hw := hw9
  clear hw9
  refine lv_dup hx hb dX12_init_15 rfl ?_
  refine lv_iconst (v := 1) hx hb dX12_init_16 (by decide) ?_
  refine g_ldcS X hKE 3 rfl rfl dX12_init_17 ?_
  refine g_aastT (ws' := (q_1, .inl (dA 5, 9, .inr (.inr (.inr (.inr (va_up (va_up (fun _ => none) 0 (some (kA 1))) 1 (some (kA 2)))))))) :: (rd, .inr (11, [.null, .null, .int 0])) :: R) X hw 0 rfl (gTxt.at hE X hw (gTxt.k (R := (q_1, .inl (dA 5, 9, .inr (.inr (.inr (.inr (va_up (fun _ => none) 0 (some (kA 1)))))))) :: (rd, .inr (11, [.null, .null, .int 0])) :: R) hKE (i := 2) (by first | decide | omega)) (fun q h => h)).1 (i := 1) (by decide) (by decide) rfl dX12_init_19 (fun H locs hw9 => ?_)
  replace hw := hw9
  clear hw9
  refine lv_dup hx hb dX12_init_20 rfl ?_
  refine lv_iconst (v := 2) hx hb dX12_init_21 (by decide) ?_
  refine g_ldcS X hKE 4 rfl rfl dX12_init_22 ?_
  refine g_aastT (ws' := (q_1, .inl (dA 5, 9, .inr (.inr (.inr (.inr (va_up (va_up (va_up (fun _ => none) 0 (some (kA 1))) 1 (some (kA 2))) 2 (some (kA 3)))))))) :: (rd, .inr (11, [.null, .null, .int 0])) :: R) X hw 0 rfl (gTxt.at hE X hw (gTxt.k (R := (q_1, .inl (dA 5, 9, .inr (.inr (.inr (.inr (va_up (va_up (fun _ => none) 0 (some (kA 1))) 1 (some (kA 2)))))))) :: (rd, .inr (11, [.null, .null, .int 0])) :: R) hKE (i := 3) (by first | decide | omega)) (fun q h => h)).1 (i := 2) (by decide) (by decide) rfl dX12_init_24 (fun H locs hw9 => ?_)
  replace hw := hw9
  clear hw9
  refine lv_dup hx hb dX12_init_25 rfl ?_
  refine lv_iconst (v := 3) hx hb dX12_init_26 (by decide) ?_
  refine g_ldcS X hKE 5 rfl rfl dX12_init_27 ?_
  refine g_aastT (ws' := (q_1, .inl (dA 5, 9, .inr (.inr (.inr (.inr (va_up (va_up (va_up (va_up (fun _ => none) 0 (some (kA 1))) 1 (some (kA 2))) 2 (some (kA 3))) 3 (some (kA 4)))))))) :: (rd, .inr (11, [.null, .null, .int 0])) :: R) X hw 0 rfl (gTxt.at hE X hw (gTxt.k (R := (q_1, .inl (dA 5, 9, .inr (.inr (.inr (.inr (va_up (va_up (va_up (fun _ => none) 0 (some (kA 1))) 1 (some (kA 2))) 2 (some (kA 3)))))))) :: (rd, .inr (11, [.null, .null, .int 0])) :: R) hKE (i := 4) (by first | decide | omega)) (fun q h => h)).1 (i := 3) (by decide) (by decide) rfl dX12_init_29 (fun H locs hw9 => ?_)
  replace hw := hw9
  clear hw9
  refine lv_dup hx hb dX12_init_30 rfl ?_
  refine lv_iconst (v := 4) hx hb dX12_init_31 (by decide) ?_
  refine g_ldcS X hKE 6 rfl rfl dX12_init_32 ?_
  refine g_aastT (ws' := (q_1, .inl (dA 5, 9, .inr (.inr (.inr (.inr (va_up (va_up (va_up (va_up (va_up (fun _ => none) 0 (some (kA 1))) 1 (some (kA 2))) 2 (some (kA 3))) 3 (some (kA 4))) 4 (some (kA 5)))))))) :: (rd, .inr (11, [.null, .null, .int 0])) :: R) X hw 0 rfl (gTxt.at hE X hw (gTxt.k (R := (q_1, .inl (dA 5, 9, .inr (.inr (.inr (.inr (va_up (va_up (va_up (va_up (fun _ => none) 0 (some (kA 1))) 1 (some (kA 2))) 2 (some (kA 3))) 3 (some (kA 4)))))))) :: (rd, .inr (11, [.null, .null, .int 0])) :: R) hKE (i := 5) (by first | decide | omega)) (fun q h => h)).1 (i := 4) (by decide) (by decide) rfl dX12_init_34 (fun H locs hw9 => ?_)
  replace hw := hw9
  clear hw9
  refine lv_dup hx hb dX12_init_35 rfl ?_
  refine lv_iconst (v := 5) hx hb dX12_init_36 (by decide) ?_
  refine g_ldcS X hKE 7 rfl rfl dX12_init_37 ?_
  refine g_aastT (ws' := (q_1, .inl (dA 5, 9, .inr (.inr (.inr (.inr (va_up (va_up (va_up (va_up (va_up (va_up (fun _ => none) 0 (some (kA 1))) 1 (some (kA 2))) 2 (some (kA 3))) 3 (some (kA 4))) 4 (some (kA 5))) 5 (some (kA 6)))))))) :: (rd, .inr (11, [.null, .null, .int 0])) :: R) X hw 0 rfl (gTxt.at hE X hw (gTxt.k (R := (q_1, .inl (dA 5, 9, .inr (.inr (.inr (.inr (va_up (va_up (va_up (va_up (va_up (fun _ => none) 0 (some (kA 1))) 1 (some (kA 2))) 2 (some (kA 3))) 3 (some (kA 4))) 4 (some (kA 5)))))))) :: (rd, .inr (11, [.null, .null, .int 0])) :: R) hKE (i := 6) (by first | decide | omega)) (fun q h => h)).1 (i := 5) (by decide) (by decide) rfl dX12_init_39 (fun H locs hw9 => ?_)
  replace hw := hw9
  clear hw9
  refine lv_dup hx hb dX12_init_40 rfl ?_
  refine lv_bipush (v := 6) hx hb dX12_init_41 (by decide) ?_
  refine g_ldcS X hKE 8 rfl rfl dX12_init_43 ?_
  refine g_aastT (ws' := (q_1, .inl (dA 5, 9, .inr (.inr (.inr (.inr (va_up (va_up (va_up (va_up (va_up (va_up (va_up (fun _ => none) 0 (some (kA 1))) 1 (some (kA 2))) 2 (some (kA 3))) 3 (some (kA 4))) 4 (some (kA 5))) 5 (some (kA 6))) 6 (some (kA 7)))))))) :: (rd, .inr (11, [.null, .null, .int 0])) :: R) X hw 0 rfl (gTxt.at hE X hw (gTxt.k (R := (q_1, .inl (dA 5, 9, .inr (.inr (.inr (.inr (va_up (va_up (va_up (va_up (va_up (va_up (fun _ => none) 0 (some (kA 1))) 1 (some (kA 2))) 2 (some (kA 3))) 3 (some (kA 4))) 4 (some (kA 5))) 5 (some (kA 6)))))))) :: (rd, .inr (11, [.null, .null, .int 0])) :: R) hKE (i := 7) (by first | decide | omega)) (fun q h => h)).1 (i := 6) (by decide) (by decide) rfl dX12_init_45 (fun H locs hw9 => ?_)
  replace hw := hw9
  clear hw9
  refine lv_dup hx hb dX12_init_46 rfl ?_
  refine lv_bipush (v := 7) hx hb dX12_init_47 (by decide) ?_
  refine g_ldcS X hKE 9 rfl rfl dX12_init_49 ?_
  refine g_aastT (ws' := (q_1, .inl (dA 5, 9, .inr (.inr (.inr (.inr (va_up (va_up (va_up (va_up (va_up (va_up (va_up (va_up (fun _ => none) 0 (some (kA 1))) 1 (some (kA 2))) 2 (some (kA 3))) 3 (some (kA 4))) 4 (some (kA 5))) 5 (some (kA 6))) 6 (some (kA 7))) 7 (some (kA 8)))))))) :: (rd, .inr (11, [.null, .null, .int 0])) :: R) X hw 0 rfl (gTxt.at hE X hw (gTxt.k (R := (q_1, .inl (dA 5, 9, .inr (.inr (.inr (.inr (va_up (va_up (va_up (va_up (va_up (va_up (va_up (fun _ => none) 0 (some (kA 1))) 1 (some (kA 2))) 2 (some (kA 3))) 3 (some (kA 4))) 4 (some (kA 5))) 5 (some (kA 6))) 6 (some (kA 7)))))))) :: (rd, .inr (11, [.null, .null, .int 0])) :: R) hKE (i := 8) (by first | decide | omega)) (fun q h => h)).1 (i := 7) (by decide) (by decide) rfl dX12_init_51 (fun H locs hw9 => ?_)
  replace hw := hw9
  clear hw9
  refine lv_dup hx hb dX12_init_52 rfl ?_
  refine lv_bipush (v := 8) hx hb dX12_init_53 (by decide) ?_
  refine g_ldcS X hKE 10 rfl rfl dX12_init_55 ?_
  refine g_aastT (ws' := (q_1, .inl (dA 5, 9, .inr (.inr (.inr (.inr (va_up (va_up (va_up (va_up (va_up (va_up (va_up (va_up (va_up (fun _ => none) 0 (some (kA 1))) 1 (some (kA 2))) 2 (some (kA 3))) 3 (some (kA 4))) 4 (some (kA 5))) 5 (some (kA 6))) 6 (some (kA 7))) 7 (some (kA 8))) 8 (some (kA 9)))))))) :: (rd, .inr (11, [.null, .null, .int 0])) :: R) X hw 0 rfl (gTxt.at hE X hw (gTxt.k (R := (q_1, .inl (dA 5, 9, .inr (.inr (.inr (.inr (va_up (va_up (va_up (va_up (va_up (va_up (va_up (va_up (fun _ => none) 0 (some (kA 1))) 1 (some (kA 2))) 2 (some (kA 3))) 3 (some (kA 4))) 4 (some (kA 5))) 5 (some (kA 6))) 6 (some (kA 7))) 7 (some (kA 8)))))))) :: (rd, .inr (11, [.null, .null, .int 0])) :: R) hKE (i := 9) (by first | decide | omega)) (fun q h => h)).1 (i := 8) (by decide) (by decide) rfl dX12_init_57 (fun H locs hw9 => ?_)
  replace hw := hw9
  clear hw9
  refine g_putF (ws' := (q_1, .inl (dA 5, 9, .inr (.inr (.inr (.inr (va_up (va_up (va_up (va_up (va_up (va_up (va_up (va_up (va_up (fun _ => none) 0 (some (kA 1))) 1 (some (kA 2))) 2 (some (kA 3))) 3 (some (kA 4))) 4 (some (kA 5))) 5 (some (kA 6))) 6 (some (kA 7))) 7 (some (kA 8))) 8 (some (kA 9)))))))) :: (rd, .inr (11, [.ref q_1, .null, .int 0])) :: R) X (hin rfl) cfX12 hw 1 0 rfl rfl q1194 rfl rfl rfl rfl rfl rfl rfl dX12_init_58 (fun H locs hw9 => ?_)
  replace hw := hw9
  clear hw9
  refine lv_aload_n hx hb dX12_init_61 rfl (lv_at hl 0 rfl) ?_
  refine lv_aload_n hx hb dX12_init_62 rfl (lv_at hl 1 rfl) ?_
  refine g_putF (ws' := (q_1, .inl (dA 5, 9, .inr (.inr (.inr (.inr (va_up (va_up (va_up (va_up (va_up (va_up (va_up (va_up (va_up (fun _ => none) 0 (some (kA 1))) 1 (some (kA 2))) 2 (some (kA 3))) 3 (some (kA 4))) 4 (some (kA 5))) 5 (some (kA 6))) 6 (some (kA 7))) 7 (some (kA 8))) 8 (some (kA 9)))))))) :: (rd, .inr (11, [.ref q_1, .ref o, .int 0])) :: R) X (hin rfl) cfX12 hw 1 1 rfl rfl q1195 rfl rfl rfl rfl rfl rfl rfl dX12_init_63 (fun H locs hw9 => ?_)
  replace hw := hw9
  clear hw9
  have hws : va_up (va_up (va_up (va_up (va_up (va_up (va_up (va_up (va_up (fun _ => none) 0 (some (kA 1))) 1 (some (kA 2))) 2 (some (kA 3))) 3 (some (kA 4))) 4 (some (kA 5))) 5 (some (kA 6))) 6 (some (kA 7))) 7 (some (kA 8))) 8 (some (kA 9)) = wsF kA := by
    funext i
    unfold wsF
    rcases (show i = 0 ∨ i = 1 ∨ i = 2 ∨ i = 3 ∨ i = 4 ∨ i = 5 ∨ i = 6 ∨ i = 7 ∨ i = 8 ∨ 9 ≤ i by omega) with rfl | rfl | rfl | rfl | rfl | rfl | rfl | rfl | rfl | hi
    · rfl
    · rfl
    · rfl
    · rfl
    · rfl
    · rfl
    · rfl
    · rfl
    · rfl
    · rw [va_up_ne _ _ (show i ≠ 8 by omega), va_up_ne _ _ (show i ≠ 7 by omega), va_up_ne _ _ (show i ≠ 6 by omega), va_up_ne _ _ (show i ≠ 5 by omega), va_up_ne _ _ (show i ≠ 4 by omega), va_up_ne _ _ (show i ≠ 3 by omega), va_up_ne _ _ (show i ≠ 2 by omega), va_up_ne _ _ (show i ≠ 1 by omega), va_up_ne _ _ (show i ≠ 0 by omega), if_neg (by omega)]
  replace hw : gW D A ((q_1, .inl (dA 5, 9, .inr (.inr (.inr (.inr (wsF kA)))))) :: (rd, .inr (11, [.ref q_1, .ref o, .int 0])) :: R) s _ _ := g_ws hw (by rw [hws])
  replace hw : gW D A ((rd, .inr (11, [.ref q_1, .ref o, .int 0])) :: (q_1, .inl (dA 5, 9, .inr (.inr (.inr (.inr (wsF kA)))))) :: R) s _ _ := g_perm (X := [(q_1, .inl (dA 5, 9, .inr (.inr (.inr (.inr (wsF kA)))))), (rd, .inr (11, [.ref q_1, .ref o, .int 0]))]) (cx := [(rd, .inr (11, [.ref q_1, .ref o, .int 0])), (q_1, .inl (dA 5, 9, .inr (.inr (.inr (.inr (wsF kA))))))]) (pl := R) hw [1, 0] rfl rfl rfl rfl
  exact g_vret q_1 X hw hr hlocks trivial rfl dX12_init_66
