set_option maxHeartbeats 4000000 in
theorem m_X4_cuts (l : Launch) (D : va_G) (dA : Nat → ClassId) (A : Nat → Prop) (E : State → Prop) (hE : gSt A E) (R : va_W) (mo ag ab ah asv ai al at_ : Nat) (ch hs ty wy wd li pl iw : Int32) (g : gG) (hI : gInv g) (x y z : Int32) : Met l yX4_cuts (ws_ yX4_cuts cX4_cuts 8 (Option.some FieldType.int)) ({ frames := 2, cells := 0, slots := 0, locals := 43 }) (va_Pc [.ref mo, .int x, .int y, .int z] (gB D dA A E ((mo, .inr (4, [.ref ag, .ref ab, .ref ah, .int ch, .ref asv, .int hs, .ref ai, .int ty, .int wy, .int wd, .ref al, .int li, .int pl, .int iw, .ref at_])) :: (ag, .inl (dA 0, 310, .inl g)) :: R))) (va_Qi (fun (r : Int32) (_ : Unit) => r = gr_v (p_cutsI g x y z)) (fun _ => gE D A ((mo, .inr (4, [.ref ag, .ref ab, .ref ah, .int ch, .ref asv, .int hs, .ref ai, .int ty, .int (gr_w wy (p_cutsI g x y z)), .int (gr_d wd (p_cutsI g x y z)), .ref al, .int li, .int pl, .int iw, .ref at_])) :: (ag, .inl (dA 0, 310, .inl (gr_g g (p_cutsI g x y z)))) :: R)) A) (0) (0) A := by
  refine g_start rfl rfl ?_
  intro p e s m args below meth c ls X hr hlocks hin hw hl
  have hx := X.1.1
  have hb := X.1.2.1
  have hl : lv_has ls 8 [(0, .ref mo), (1, .int x), (2, .int y), (3, .int z)] := hl
  have hI2 := hI.c.2
  have hI4 := hI.m.2
  have hI6 := hI.k.2
  refine lv_aload_n hx hb dX4_cuts_0 rfl (lv_at hl 0 rfl) ?_
  refine lv_iload_n hx hb dX4_cuts_1 rfl (lv_at hl 1 rfl) ?_
  refine va_calli (va_runV (As := [.int x]) (rest := []) X.1 (m_X4_isCopyist l D dA A E hE R mo ag ab ah asv ai al at_ ch hs ty wy wd li pl iw g x) (cwV 1 X.1.2.2.2.2 (lw_V q1968 q1970 qs33 q80 q1971) rfl rfl rfl (by decide +kernel) ⟨Nat.le_of_ble_eq_true rfl, Nat.le_of_ble_eq_true rfl⟩) (g_preV hE X.2 hw 0 rfl rfl) rfl rfl hl.1 rfl (lv_room (Nat.le_of_ble_eq_true rfl)) dX4_cuts_2 ⟨Nat.le_of_ble_eq_true rfl, Nat.le_of_ble_eq_true rfl⟩) hw.2.2 (fun q _ h => h) (fun q h => h) (fun r_2 u t H locs ht hvm h_1 hB hz9 hk9 hS => ?_)
  have hw : gW D A ((mo, .inr (4, [.ref ag, .ref ab, .ref ah, .int ch, .ref asv, .int hs, .ref ai, .int ty, .int wy, .int wd, .ref al, .int li, .int pl, .int iw, .ref at_])) :: (ag, .inl (dA 0, 310, .inl g)) :: R) s H locs := g_aft ht hB hS
  obtain rfl : r_2 = bZ (inR x 0 (g 191 - 1)) := h_1
  refine lv_if_eq (tgt := 23) hx hb dX4_cuts_5 (by decide) (fun c_3 => ?_) (fun c_3 => ?_)
  · skip
    have c_3 := bZ_0.mp c_3
    refine lv_bipush (v := (-11)) hx hb dX4_cuts_23 (by decide) ?_
    have hop : p_cutsI g x y z = .inr ((-11), g) := by simp [p_cutsI, p_cuts, p_cut5, minutesI, wornMore, c_3]
    exact g_iret (v := (-11)) () X hw hr hlocks  (by rw [hop]; rfl) (by rw [hop]; rfl) dX4_cuts_25
  · skip
    have c_3 := bZ_1 c_3
    obtain ⟨j, hj, ej⟩ := hI.inM c_3
    subst ej
    have kj : (nI j).toNatClampNeg = j := nI_clamp (by omega)
    refine lv_aload_n hx hb dX4_cuts_8 rfl (lv_at hl 0 rfl) ?_
    refine lv_iload_n hx hb dX4_cuts_9 rfl (lv_at hl 2 rfl) ?_
    refine va_calli (va_runV (As := [.int y]) (rest := []) X.1 (m_X4_isCopy l D dA A E hE R mo ag ab ah asv ai al at_ ch hs ty wy wd li pl iw g y) (cwV 1 X.1.2.2.2.2 (lw_V q1984 q1986 qs36 q80 q1987) rfl rfl rfl (by decide +kernel) ⟨Nat.le_of_ble_eq_true rfl, Nat.le_of_ble_eq_true rfl⟩) (g_preV hE X.2 hw 0 rfl rfl) rfl rfl hl.1 rfl (lv_room (Nat.le_of_ble_eq_true rfl)) dX4_cuts_10 ⟨Nat.le_of_ble_eq_true rfl, Nat.le_of_ble_eq_true rfl⟩) hw.2.2 (fun q _ h => h) (fun q h => h) (fun r_5 u t H locs ht hvm h_4 hB hz9 hk9 hS => ?_)
    have hw : gW D A ((mo, .inr (4, [.ref ag, .ref ab, .ref ah, .int ch, .ref asv, .int hs, .ref ai, .int ty, .int wy, .int wd, .ref al, .int li, .int pl, .int iw, .ref at_])) :: (ag, .inl (dA 0, 310, .inl g)) :: R) s H locs := g_aft ht hB hS
    obtain rfl : r_5 = bZ (inR y 0 (g 212 - 1)) := h_4
    refine lv_if_eq (tgt := 23) hx hb dX4_cuts_13 (by decide) (fun c_6 => ?_) (fun c_6 => ?_)
    · skip
      have c_6 := bZ_0.mp c_6
      refine lv_bipush (v := (-11)) hx hb dX4_cuts_23 (by decide) ?_
      have hop : p_cutsI g (nI j) y z = .inr ((-11), g) := by simp [p_cutsI, p_cuts, p_cut5, minutesI, wornMore, c_3, kj, c_6]
      exact g_iret (v := (-11)) () X hw hr hlocks  (by rw [hop]; rfl) (by rw [hop]; rfl) dX4_cuts_25
    · skip
      have c_6 := bZ_1 c_6
      obtain ⟨k, hk, ek⟩ := hI.inK c_6
      subst ek
      have kk : (nI k).toNatClampNeg = k := nI_clamp (by omega)
      have hkc := (hI.kc hk).2
      have hcl := hI.cl hkc
      have hcl2 := hcl.2
      have hlf : ledgeFor g k < 6 := hcl2
      refine lv_iload_n hx hb dX4_cuts_16 rfl (lv_at hl 3 rfl) ?_
      refine va_calli (va_runS (As := [.int z]) (rest := []) X.1 (m_X4_isPoint l D dA A E hE ((mo, .inr (4, [.ref ag, .ref ab, .ref ah, .int ch, .ref asv, .int hs, .ref ai, .int ty, .int wy, .int wd, .ref al, .int li, .int pl, .int iw, .ref at_])) :: (ag, .inl (dA 0, 310, .inl g)) :: R) z) (va_cwS 1 X.1.2.2.2.2 (lw_S q1898 q1899 q80 q1900) rfl rfl rfl (by decide +kernel) ⟨Nat.le_of_ble_eq_true rfl, Nat.le_of_ble_eq_true rfl⟩) (g_preS hE X.2 hw) rfl rfl hl.1 rfl (lv_room (Nat.le_of_ble_eq_true rfl)) dX4_cuts_17 ⟨Nat.le_of_ble_eq_true rfl, Nat.le_of_ble_eq_true rfl⟩) hw.2.2 (fun q _ h => h) (fun q h => h) (fun r_8 u t H locs ht hvm h_7 hB hz9 hk9 hS => ?_)
      have hw : gW D A ((mo, .inr (4, [.ref ag, .ref ab, .ref ah, .int ch, .ref asv, .int hs, .ref ai, .int ty, .int wy, .int wd, .ref al, .int li, .int pl, .int iw, .ref at_])) :: (ag, .inl (dA 0, 310, .inl g)) :: R) s H locs := g_aft ht hB hS
      obtain rfl : r_8 = bZ (inR z 0 9) := h_7
      refine lv_if_ne (tgt := 26) hx hb dX4_cuts_20 (by decide) (fun c_9 => ?_) (fun c_9 => ?_)
      · skip
        have c_9 := bZ_1 c_9
        obtain ⟨q, hq, eq⟩ := inR10 c_9
        subst eq
        have kq : (nI q).toNatClampNeg = q := nI_clamp (by omega)
        refine lv_aload_n hx hb dX4_cuts_26 rfl (lv_at hl 0 rfl) ?_
        refine g_get X cfX4 hw 0 0 rfl rfl q1834 rfl rfl dX4_cuts_27 ?_
        refine lv_sipush (v := 221) hx hb dX4_cuts_30 (by decide) ?_
        refine lv_iload_n hx hb dX4_cuts_33 rfl (lv_at hl 2 rfl) ?_
        refine lv_iadd hx hb dX4_cuts_34 ?_
        refine g_addN (a := 221) (b := k) ?_
        refine g_iald X hw 1 rfl (i := 221 + k) (by omega) (by first | decide | omega) dX4_cuts_35 ?_
        refine lv_iconst (v := 1) hx hb dX4_cuts_36 (by decide) ?_
        refine lv_icmp_ne (tgt := 52) hx hb dX4_cuts_37 (by decide) (fun c_10 => ?_) (fun c_10 => ?_)
        · skip
          refine lv_sipush (v := 229) hx hb dX4_cuts_52 (by decide) ?_
          refine lv_bipush (v := 10) hx hb dX4_cuts_55 (by decide) ?_
          refine lv_iload_n hx hb dX4_cuts_57 rfl (lv_at hl 2 rfl) ?_
          refine lv_imul hx hb dX4_cuts_58 ?_
          refine g_mulN (a := 10) (b := k) ?_
          refine lv_iadd hx hb dX4_cuts_59 ?_
          refine g_addN (a := 229) (b := 10 * k) ?_
          refine lv_iload_n hx hb dX4_cuts_60 rfl (lv_at hl 3 rfl) ?_
          refine lv_iadd hx hb dX4_cuts_61 ?_
          refine g_addN (a := 229 + 10 * k) (b := q) ?_
          refine lv_istore (lv' := [(4, .int (nI (229 + 10 * k + q))), (0, .ref mo), (1, .int (nI j)), (2, .int (nI k)), (3, .int (nI q))]) hx hb dX4_cuts_62 hl (by decide) rfl (fun ls hl => ?_)
          refine lv_aload_n hx hb dX4_cuts_64 rfl (lv_at hl 1 rfl) ?_
          refine g_get X cfX4 hw 0 0 rfl rfl q1834 rfl rfl dX4_cuts_65 ?_
          refine lv_iload hx hb dX4_cuts_68 (lv_at hl 0 rfl) ?_
          refine g_iald X hw 1 rfl (i := 229 + 10 * k + q) (by omega) (by first | decide | omega) dX4_cuts_70 ?_
          refine lv_if_lt (tgt := 104) hx hb dX4_cuts_71 (by decide) (fun c_11 => ?_) (fun c_11 => ?_)
          · skip
            refine lv_aload_n hx hb dX4_cuts_104 rfl (lv_at hl 1 rfl) ?_
            refine g_get X cfX4 hw 0 0 rfl rfl q1834 rfl rfl dX4_cuts_105 ?_
            refine lv_sipush (v := 196) hx hb dX4_cuts_108 (by decide) ?_
            refine lv_iload_n hx hb dX4_cuts_111 rfl (lv_at hl 2 rfl) ?_
            refine lv_iadd hx hb dX4_cuts_112 ?_
            refine g_addN (a := 196) (b := j) ?_
            refine g_iald X hw 1 rfl (i := 196 + j) (by omega) (by first | decide | omega) dX4_cuts_113 ?_
            refine lv_bipush (v := 20) hx hb dX4_cuts_114 (by decide) ?_
            refine lv_icmp_ne (tgt := 127) hx hb dX4_cuts_116 (by decide) (fun c_12 => ?_) (fun c_12 => ?_)
            · skip
              refine lv_aload_n hx hb dX4_cuts_127 rfl (lv_at hl 1 rfl) ?_
              refine lv_iload_n hx hb dX4_cuts_128 rfl (lv_at hl 2 rfl) ?_
              refine lv_aload_n hx hb dX4_cuts_129 rfl (lv_at hl 1 rfl) ?_
              refine g_get X cfX4 hw 0 0 rfl rfl q1834 rfl rfl dX4_cuts_130 ?_
              refine lv_sipush (v := 213) hx hb dX4_cuts_133 (by decide) ?_
              refine lv_iload_n hx hb dX4_cuts_136 rfl (lv_at hl 3 rfl) ?_
              refine lv_iadd hx hb dX4_cuts_137 ?_
              refine g_addN (a := 213) (b := k) ?_
              refine g_iald X hw 1 rfl (i := 213 + k) (by omega) (by first | decide | omega) dX4_cuts_138 ?_
              refine lv_iload_n hx hb dX4_cuts_139 rfl (lv_at hl 4 rfl) ?_
              refine g_stk (st' := [.int (nI q), .int (nI (nn g (213 + k))), .int (nI j), .ref mo]) (by rw [(hI.kc hk).1]) ?_
              refine va_calli (va_runV (As := [.int (nI j), .int (nI (nn g (213 + k))), .int (nI q)]) (rest := []) X.1 (m_X4_wouldBe l D dA A E hE R mo ag ab ah asv ai al at_ ch hs ty wy wd li pl iw g j (nn g (213 + k)) q (by first | assumption | omega) (by first | assumption | omega) (by first | assumption | omega)) (cwV 3 X.1.2.2.2.2 (lw_V q1972 q1974 qs34 q80 q1975) rfl rfl rfl (by decide +kernel) ⟨Nat.le_of_ble_eq_true rfl, Nat.le_of_ble_eq_true rfl⟩) (g_preV hE X.2 hw 0 rfl rfl) rfl rfl hl.1 rfl (lv_room (Nat.le_of_ble_eq_true rfl)) dX4_cuts_140 ⟨Nat.le_of_ble_eq_true rfl, Nat.le_of_ble_eq_true rfl⟩) hw.2.2 (fun q _ h => h) (fun q h => h) (fun r_14 u t H locs ht hvm h_13 hB hz9 hk9 hS => ?_)
              have hw : gW D A ((mo, .inr (4, [.ref ag, .ref ab, .ref ah, .int ch, .ref asv, .int hs, .ref ai, .int ty, .int wy, .int wd, .ref al, .int li, .int pl, .int iw, .ref at_])) :: (ag, .inl (dA 0, 310, .inl g)) :: R) s H locs := g_aft ht hB hS
              obtain rfl : r_14 = wouldBe g j (nn g (213 + k)) q := h_13
              refine lv_istore (lv' := [(5, .int (wouldBe g j (nn g (213 + k)) q)), (4, .int (nI (229 + 10 * k + q))), (0, .ref mo), (1, .int (nI j)), (2, .int (nI k)), (3, .int (nI q))]) hx hb dX4_cuts_143 hl (by decide) rfl (fun ls hl => ?_)
              refine lv_aload_n hx hb dX4_cuts_145 rfl (lv_at hl 2 rfl) ?_
              refine g_get X cfX4 hw 0 0 rfl rfl q1834 rfl rfl dX4_cuts_146 ?_
              refine lv_sipush (v := 192) hx hb dX4_cuts_149 (by decide) ?_
              refine lv_iload_n hx hb dX4_cuts_152 rfl (lv_at hl 3 rfl) ?_
              refine lv_iadd hx hb dX4_cuts_153 ?_
              refine g_addN (a := 192) (b := j) ?_
              refine g_iald X hw 1 rfl (i := 192 + j) (by omega) (by first | decide | omega) dX4_cuts_154 ?_
              refine lv_iconst (v := 1) hx hb dX4_cuts_155 (by decide) ?_
              refine lv_icmp_ne (tgt := 168) hx hb dX4_cuts_156 (by decide) (fun c_15 => ?_) (fun c_15 => ?_)
              · skip
                refine lv_iload hx hb dX4_cuts_168 (lv_at hl 0 rfl) ?_
                refine lv_istore (lv' := [(6, .int (wouldBe g j (nn g (213 + k)) q)), (5, .int (wouldBe g j (nn g (213 + k)) q)), (4, .int (nI (229 + 10 * k + q))), (0, .ref mo), (1, .int (nI j)), (2, .int (nI k)), (3, .int (nI q))]) hx hb dX4_cuts_170 hl (by decide) rfl (fun ls hl => ?_)
                refine lv_aload_n hx hb dX4_cuts_172 rfl (lv_at hl 3 rfl) ?_
                refine g_get X cfX4 hw 0 0 rfl rfl q1834 rfl rfl dX4_cuts_173 ?_
                refine lv_sipush (v := 200) hx hb dX4_cuts_176 (by decide) ?_
                refine lv_iload_n hx hb dX4_cuts_179 rfl (lv_at hl 4 rfl) ?_
                refine lv_iadd hx hb dX4_cuts_180 ?_
                refine g_addN (a := 200) (b := j) ?_
                refine g_iald X hw 1 rfl (i := 200 + j) (by omega) (by first | decide | omega) dX4_cuts_181 ?_
                refine lv_iload hx hb dX4_cuts_182 (lv_at hl 0 rfl) ?_
                refine lv_icmp_ge (tgt := 204) hx hb dX4_cuts_184 (by decide) (fun c_16 => ?_) (fun c_16 => ?_)
                · skip
                  have c_16 := Int32.not_lt.mpr c_16
                  refine lv_aload_n hx hb dX4_cuts_204 rfl (lv_at hl 3 rfl) ?_
                  refine g_get X cfX4 hw 0 0 rfl rfl q1834 rfl rfl dX4_cuts_205 ?_
                  refine lv_iload hx hb dX4_cuts_208 (lv_at hl 2 rfl) ?_
                  refine lv_iload hx hb dX4_cuts_210 (lv_at hl 1 rfl) ?_
                  refine g_iast (ws' := (mo, .inr (4, [.ref ag, .ref ab, .ref ah, .int ch, .ref asv, .int hs, .ref ai, .int ty, .int wy, .int wd, .ref al, .int li, .int pl, .int iw, .ref at_])) :: (ag, .inl (dA 0, 310, .inl (upd g (229 + 10 * k + q) (wouldBe g j (nn g (213 + k)) q)))) :: R) X hw 1 rfl (i := 229 + 10 * k + q) (by omega) (by first | decide | omega) rfl dX4_cuts_212 (fun H locs hw => ?_)
                  refine lv_aload_n hx hb dX4_cuts_213 rfl (lv_at hl 3 rfl) ?_
                  refine g_get X cfX4 hw 0 0 rfl rfl q1834 rfl rfl dX4_cuts_214 ?_
                  refine lv_sipush (v := 200) hx hb dX4_cuts_217 (by decide) ?_
                  refine lv_iload_n hx hb dX4_cuts_220 rfl (lv_at hl 4 rfl) ?_
                  refine lv_iadd hx hb dX4_cuts_221 ?_
                  refine g_addN (a := 200) (b := j) ?_
                  refine lv_dup2_11 hx hb dX4_cuts_222 rfl rfl ?_
                  refine g_iald X hw 1 rfl (i := 200 + j) (by omega) (by first | decide | omega) dX4_cuts_223 ?_
                  refine g_top (y := g (200 + j)) (upd_n (by omega)) ?_
                  refine lv_iload hx hb dX4_cuts_224 (lv_at hl 0 rfl) ?_
                  refine lv_isub hx hb dX4_cuts_226 ?_
                  refine g_iast (ws' := (mo, .inr (4, [.ref ag, .ref ab, .ref ah, .int ch, .ref asv, .int hs, .ref ai, .int ty, .int wy, .int wd, .ref al, .int li, .int pl, .int iw, .ref at_])) :: (ag, .inl (dA 0, 310, .inl (upd (upd g (229 + 10 * k + q) (wouldBe g j (nn g (213 + k)) q)) (200 + j) ((g (200 + j)) - (wouldBe g j (nn g (213 + k)) q))))) :: R) X hw 1 rfl (i := 200 + j) (by omega) (by first | decide | omega) rfl dX4_cuts_227 (fun H locs hw => ?_)
                  refine lv_aload_n hx hb dX4_cuts_228 rfl (lv_at hl 3 rfl) ?_
                  refine g_get X cfX4 hw 0 0 rfl rfl q1834 rfl rfl dX4_cuts_229 ?_
                  refine lv_sipush (v := 196) hx hb dX4_cuts_232 (by decide) ?_
                  refine lv_iload_n hx hb dX4_cuts_235 rfl (lv_at hl 4 rfl) ?_
                  refine lv_iadd hx hb dX4_cuts_236 ?_
                  refine g_addN (a := 196) (b := j) ?_
                  refine g_iald X hw 1 rfl (i := 196 + j) (by omega) (by first | decide | omega) dX4_cuts_237 ?_
                  refine g_top (y := g (196 + j)) ((upd_n (by omega)).trans (upd_n (by omega))) ?_
                  refine lv_iload hx hb dX4_cuts_238 (lv_at hl 1 rfl) ?_
                  refine lv_bipush (v := 30) hx hb dX4_cuts_240 (by decide) ?_
                  refine lv_icmp_le (tgt := 249) hx hb dX4_cuts_242 (by decide) (fun c_17 => ?_) (fun c_17 => ?_)
                  · skip
                    have c_17 := Int32.not_lt.mpr c_17
                    refine lv_iconst (v := 1) hx hb dX4_cuts_249 (by decide) ?_
                    refine lv_iadd hx hb dX4_cuts_250 ?_
                    refine lv_istore (lv' := [(7, .int ((g (196 + j)) + 1)), (6, .int (wouldBe g j (nn g (213 + k)) q)), (5, .int (wouldBe g j (nn g (213 + k)) q)), (4, .int (nI (229 + 10 * k + q))), (0, .ref mo), (1, .int (nI j)), (2, .int (nI k)), (3, .int (nI q))]) hx hb dX4_cuts_251 hl (by decide) rfl (fun ls hl => ?_)
                    refine lv_aload_n hx hb dX4_cuts_253 rfl (lv_at hl 4 rfl) ?_
                    refine g_get X cfX4 hw 0 0 rfl rfl q1834 rfl rfl dX4_cuts_254 ?_
                    refine lv_sipush (v := 196) hx hb dX4_cuts_257 (by decide) ?_
                    refine lv_iload_n hx hb dX4_cuts_260 rfl (lv_at hl 5 rfl) ?_
                    refine lv_iadd hx hb dX4_cuts_261 ?_
                    refine g_addN (a := 196) (b := j) ?_
                    refine lv_iload hx hb dX4_cuts_262 (lv_at hl 0 rfl) ?_
                    refine lv_bipush (v := 20) hx hb dX4_cuts_264 (by decide) ?_
                    refine lv_icmp_le (tgt := 274) hx hb dX4_cuts_266 (by decide) (fun c_18 => ?_) (fun c_18 => ?_)
                    · skip
                      have c_18 := Int32.not_lt.mpr c_18
                      refine lv_iload hx hb dX4_cuts_274 (lv_at hl 0 rfl) ?_
                      refine g_iast (ws' := (mo, .inr (4, [.ref ag, .ref ab, .ref ah, .int ch, .ref asv, .int hs, .ref ai, .int ty, .int wy, .int wd, .ref al, .int li, .int pl, .int iw, .ref at_])) :: (ag, .inl (dA 0, 310, .inl (upd (upd (upd g (229 + 10 * k + q) (wouldBe g j (nn g (213 + k)) q)) (200 + j) ((g (200 + j)) - (wouldBe g j (nn g (213 + k)) q))) (196 + j) ((g (196 + j)) + 1)))) :: R) X hw 1 rfl (i := 196 + j) (by omega) (by first | decide | omega) rfl dX4_cuts_276 (fun H locs hw => ?_)
                      refine lv_aload_n hx hb dX4_cuts_277 rfl (lv_at hl 4 rfl) ?_
                      refine g_get X cfX4 hw 0 0 rfl rfl q1834 rfl rfl dX4_cuts_278 ?_
                      refine lv_sipush (v := 204) hx hb dX4_cuts_281 (by decide) ?_
                      refine lv_iload_n hx hb dX4_cuts_284 rfl (lv_at hl 5 rfl) ?_
                      refine lv_iadd hx hb dX4_cuts_285 ?_
                      refine g_addN (a := 204) (b := j) ?_
                      refine lv_dup2_11 hx hb dX4_cuts_286 rfl rfl ?_
                      refine g_iald X hw 1 rfl (i := 204 + j) (by omega) (by first | decide | omega) dX4_cuts_287 ?_
                      refine g_top (y := g (204 + j)) ((upd_n (by omega)).trans ((upd_n (by omega)).trans (upd_n (by omega)))) ?_
                      refine lv_iconst (v := 1) hx hb dX4_cuts_288 (by decide) ?_
                      refine lv_iadd hx hb dX4_cuts_289 ?_
                      refine g_iast (ws' := (mo, .inr (4, [.ref ag, .ref ab, .ref ah, .int ch, .ref asv, .int hs, .ref ai, .int ty, .int wy, .int wd, .ref al, .int li, .int pl, .int iw, .ref at_])) :: (ag, .inl (dA 0, 310, .inl (upd (upd (upd (upd g (229 + 10 * k + q) (wouldBe g j (nn g (213 + k)) q)) (200 + j) ((g (200 + j)) - (wouldBe g j (nn g (213 + k)) q))) (196 + j) ((g (196 + j)) + 1)) (204 + j) ((g (204 + j)) + 1)))) :: R) X hw 1 rfl (i := 204 + j) (by omega) (by first | decide | omega) rfl dX4_cuts_290 (fun H locs hw => ?_)
                      refine lv_aload_n hx hb dX4_cuts_291 rfl (lv_at hl 4 rfl) ?_
                      refine g_get X cfX4 hw 0 0 rfl rfl q1834 rfl rfl dX4_cuts_292 ?_
                      refine lv_sipush (v := 309) hx hb dX4_cuts_295 (by decide) ?_
                      refine lv_dup2_11 hx hb dX4_cuts_298 rfl rfl ?_
                      refine g_iald X hw 1 rfl (i := 309) (by decide) (by decide) dX4_cuts_299 ?_
                      refine g_top (y := g 309) ((upd_n (by omega)).trans ((upd_n (by omega)).trans ((upd_n (by omega)).trans (upd_n (by omega))))) ?_
                      refine lv_iconst (v := 1) hx hb dX4_cuts_300 (by decide) ?_
                      refine lv_iadd hx hb dX4_cuts_301 ?_
                      refine g_iast (ws' := (mo, .inr (4, [.ref ag, .ref ab, .ref ah, .int ch, .ref asv, .int hs, .ref ai, .int ty, .int wy, .int wd, .ref al, .int li, .int pl, .int iw, .ref at_])) :: (ag, .inl (dA 0, 310, .inl (upd (upd (upd (upd (upd g (229 + 10 * k + q) (wouldBe g j (nn g (213 + k)) q)) (200 + j) ((g (200 + j)) - (wouldBe g j (nn g (213 + k)) q))) (196 + j) ((g (196 + j)) + 1)) (204 + j) ((g (204 + j)) + 1)) 309 ((g 309) + 1)))) :: R) X hw 1 rfl (i := 309) (by decide) (by decide) rfl dX4_cuts_302 (fun H locs hw => ?_)
                      refine lv_iload hx hb dX4_cuts_303 (lv_at hl 2 rfl) ?_
                      have hop : p_cutsI g (nI j) (nI k) (nI q) = .inr (wouldBe g j (nn g (213 + k)) q, upd (upd (upd (upd (upd g (229 + 10 * k + q) (wouldBe g j (nn g (213 + k)) q)) (200 + j) ((g (200 + j)) - (wouldBe g j (nn g (213 + k)) q))) (196 + j) ((g (196 + j)) + 1)) (204 + j) ((g (204 + j)) + 1)) 309 ((g 309) + 1)) := by simp [p_cutsI, p_cuts, p_cut5, minutesI, wornMore, c_3, kj, c_6, kk, c_9, kq, c_10, c_11, c_12, c_15, c_16, c_17, c_18]
                      exact g_iret (v := wouldBe g j (nn g (213 + k)) q) () X hw hr hlocks  (by rw [hop]; rfl) (by rw [hop]; rfl) dX4_cuts_305
                    · skip
                      have c_18 := Int32.not_le.mp c_18
                      refine lv_bipush (v := 20) hx hb dX4_cuts_269 (by decide) ?_
                      refine lv_goto (tgt := 276) hx hb dX4_cuts_271 (by decide) ?_
                      refine g_iast (ws' := (mo, .inr (4, [.ref ag, .ref ab, .ref ah, .int ch, .ref asv, .int hs, .ref ai, .int ty, .int wy, .int wd, .ref al, .int li, .int pl, .int iw, .ref at_])) :: (ag, .inl (dA 0, 310, .inl (upd (upd (upd g (229 + 10 * k + q) (wouldBe g j (nn g (213 + k)) q)) (200 + j) ((g (200 + j)) - (wouldBe g j (nn g (213 + k)) q))) (196 + j) 20))) :: R) X hw 1 rfl (i := 196 + j) (by omega) (by first | decide | omega) rfl dX4_cuts_276 (fun H locs hw => ?_)
                      refine lv_aload_n hx hb dX4_cuts_277 rfl (lv_at hl 4 rfl) ?_
                      refine g_get X cfX4 hw 0 0 rfl rfl q1834 rfl rfl dX4_cuts_278 ?_
                      refine lv_sipush (v := 204) hx hb dX4_cuts_281 (by decide) ?_
                      refine lv_iload_n hx hb dX4_cuts_284 rfl (lv_at hl 5 rfl) ?_
                      refine lv_iadd hx hb dX4_cuts_285 ?_
                      refine g_addN (a := 204) (b := j) ?_
                      refine lv_dup2_11 hx hb dX4_cuts_286 rfl rfl ?_
                      refine g_iald X hw 1 rfl (i := 204 + j) (by omega) (by first | decide | omega) dX4_cuts_287 ?_
                      refine g_top (y := g (204 + j)) ((upd_n (by omega)).trans ((upd_n (by omega)).trans (upd_n (by omega)))) ?_
                      refine lv_iconst (v := 1) hx hb dX4_cuts_288 (by decide) ?_
                      refine lv_iadd hx hb dX4_cuts_289 ?_
                      refine g_iast (ws' := (mo, .inr (4, [.ref ag, .ref ab, .ref ah, .int ch, .ref asv, .int hs, .ref ai, .int ty, .int wy, .int wd, .ref al, .int li, .int pl, .int iw, .ref at_])) :: (ag, .inl (dA 0, 310, .inl (upd (upd (upd (upd g (229 + 10 * k + q) (wouldBe g j (nn g (213 + k)) q)) (200 + j) ((g (200 + j)) - (wouldBe g j (nn g (213 + k)) q))) (196 + j) 20) (204 + j) ((g (204 + j)) + 1)))) :: R) X hw 1 rfl (i := 204 + j) (by omega) (by first | decide | omega) rfl dX4_cuts_290 (fun H locs hw => ?_)
                      refine lv_aload_n hx hb dX4_cuts_291 rfl (lv_at hl 4 rfl) ?_
                      refine g_get X cfX4 hw 0 0 rfl rfl q1834 rfl rfl dX4_cuts_292 ?_
                      refine lv_sipush (v := 309) hx hb dX4_cuts_295 (by decide) ?_
                      refine lv_dup2_11 hx hb dX4_cuts_298 rfl rfl ?_
                      refine g_iald X hw 1 rfl (i := 309) (by decide) (by decide) dX4_cuts_299 ?_
                      refine g_top (y := g 309) ((upd_n (by omega)).trans ((upd_n (by omega)).trans ((upd_n (by omega)).trans (upd_n (by omega))))) ?_
                      refine lv_iconst (v := 1) hx hb dX4_cuts_300 (by decide) ?_
                      refine lv_iadd hx hb dX4_cuts_301 ?_
                      refine g_iast (ws' := (mo, .inr (4, [.ref ag, .ref ab, .ref ah, .int ch, .ref asv, .int hs, .ref ai, .int ty, .int wy, .int wd, .ref al, .int li, .int pl, .int iw, .ref at_])) :: (ag, .inl (dA 0, 310, .inl (upd (upd (upd (upd (upd g (229 + 10 * k + q) (wouldBe g j (nn g (213 + k)) q)) (200 + j) ((g (200 + j)) - (wouldBe g j (nn g (213 + k)) q))) (196 + j) 20) (204 + j) ((g (204 + j)) + 1)) 309 ((g 309) + 1)))) :: R) X hw 1 rfl (i := 309) (by decide) (by decide) rfl dX4_cuts_302 (fun H locs hw => ?_)
                      refine lv_iload hx hb dX4_cuts_303 (lv_at hl 2 rfl) ?_
                      have hop : p_cutsI g (nI j) (nI k) (nI q) = .inr (wouldBe g j (nn g (213 + k)) q, upd (upd (upd (upd (upd g (229 + 10 * k + q) (wouldBe g j (nn g (213 + k)) q)) (200 + j) ((g (200 + j)) - (wouldBe g j (nn g (213 + k)) q))) (196 + j) 20) (204 + j) ((g (204 + j)) + 1)) 309 ((g 309) + 1)) := by simp [p_cutsI, p_cuts, p_cut5, minutesI, wornMore, c_3, kj, c_6, kk, c_9, kq, c_10, c_11, c_12, c_15, c_16, c_17, c_18]
                      exact g_iret (v := wouldBe g j (nn g (213 + k)) q) () X hw hr hlocks  (by rw [hop]; rfl) (by rw [hop]; rfl) dX4_cuts_305
                  · skip
                    have c_17 := Int32.not_le.mp c_17
                    refine lv_iconst (v := 2) hx hb dX4_cuts_245 (by decide) ?_
                    refine lv_goto (tgt := 250) hx hb dX4_cuts_246 (by decide) ?_
                    refine lv_iadd hx hb dX4_cuts_250 ?_
                    refine lv_istore (lv' := [(7, .int ((g (196 + j)) + 2)), (6, .int (wouldBe g j (nn g (213 + k)) q)), (5, .int (wouldBe g j (nn g (213 + k)) q)), (4, .int (nI (229 + 10 * k + q))), (0, .ref mo), (1, .int (nI j)), (2, .int (nI k)), (3, .int (nI q))]) hx hb dX4_cuts_251 hl (by decide) rfl (fun ls hl => ?_)
                    refine lv_aload_n hx hb dX4_cuts_253 rfl (lv_at hl 4 rfl) ?_
                    refine g_get X cfX4 hw 0 0 rfl rfl q1834 rfl rfl dX4_cuts_254 ?_
                    refine lv_sipush (v := 196) hx hb dX4_cuts_257 (by decide) ?_
                    refine lv_iload_n hx hb dX4_cuts_260 rfl (lv_at hl 5 rfl) ?_
                    refine lv_iadd hx hb dX4_cuts_261 ?_
                    refine g_addN (a := 196) (b := j) ?_
                    refine lv_iload hx hb dX4_cuts_262 (lv_at hl 0 rfl) ?_
                    refine lv_bipush (v := 20) hx hb dX4_cuts_264 (by decide) ?_
                    refine lv_icmp_le (tgt := 274) hx hb dX4_cuts_266 (by decide) (fun c_19 => ?_) (fun c_19 => ?_)
                    · skip
                      have c_19 := Int32.not_lt.mpr c_19
                      refine lv_iload hx hb dX4_cuts_274 (lv_at hl 0 rfl) ?_
                      refine g_iast (ws' := (mo, .inr (4, [.ref ag, .ref ab, .ref ah, .int ch, .ref asv, .int hs, .ref ai, .int ty, .int wy, .int wd, .ref al, .int li, .int pl, .int iw, .ref at_])) :: (ag, .inl (dA 0, 310, .inl (upd (upd (upd g (229 + 10 * k + q) (wouldBe g j (nn g (213 + k)) q)) (200 + j) ((g (200 + j)) - (wouldBe g j (nn g (213 + k)) q))) (196 + j) ((g (196 + j)) + 2)))) :: R) X hw 1 rfl (i := 196 + j) (by omega) (by first | decide | omega) rfl dX4_cuts_276 (fun H locs hw => ?_)
                      refine lv_aload_n hx hb dX4_cuts_277 rfl (lv_at hl 4 rfl) ?_
                      refine g_get X cfX4 hw 0 0 rfl rfl q1834 rfl rfl dX4_cuts_278 ?_
                      refine lv_sipush (v := 204) hx hb dX4_cuts_281 (by decide) ?_
                      refine lv_iload_n hx hb dX4_cuts_284 rfl (lv_at hl 5 rfl) ?_
                      refine lv_iadd hx hb dX4_cuts_285 ?_
                      refine g_addN (a := 204) (b := j) ?_
                      refine lv_dup2_11 hx hb dX4_cuts_286 rfl rfl ?_
                      refine g_iald X hw 1 rfl (i := 204 + j) (by omega) (by first | decide | omega) dX4_cuts_287 ?_
                      refine g_top (y := g (204 + j)) ((upd_n (by omega)).trans ((upd_n (by omega)).trans (upd_n (by omega)))) ?_
                      refine lv_iconst (v := 1) hx hb dX4_cuts_288 (by decide) ?_
                      refine lv_iadd hx hb dX4_cuts_289 ?_
                      refine g_iast (ws' := (mo, .inr (4, [.ref ag, .ref ab, .ref ah, .int ch, .ref asv, .int hs, .ref ai, .int ty, .int wy, .int wd, .ref al, .int li, .int pl, .int iw, .ref at_])) :: (ag, .inl (dA 0, 310, .inl (upd (upd (upd (upd g (229 + 10 * k + q) (wouldBe g j (nn g (213 + k)) q)) (200 + j) ((g (200 + j)) - (wouldBe g j (nn g (213 + k)) q))) (196 + j) ((g (196 + j)) + 2)) (204 + j) ((g (204 + j)) + 1)))) :: R) X hw 1 rfl (i := 204 + j) (by omega) (by first | decide | omega) rfl dX4_cuts_290 (fun H locs hw => ?_)
                      refine lv_aload_n hx hb dX4_cuts_291 rfl (lv_at hl 4 rfl) ?_
                      refine g_get X cfX4 hw 0 0 rfl rfl q1834 rfl rfl dX4_cuts_292 ?_
                      refine lv_sipush (v := 309) hx hb dX4_cuts_295 (by decide) ?_
                      refine lv_dup2_11 hx hb dX4_cuts_298 rfl rfl ?_
                      refine g_iald X hw 1 rfl (i := 309) (by decide) (by decide) dX4_cuts_299 ?_
                      refine g_top (y := g 309) ((upd_n (by omega)).trans ((upd_n (by omega)).trans ((upd_n (by omega)).trans (upd_n (by omega))))) ?_
                      refine lv_iconst (v := 1) hx hb dX4_cuts_300 (by decide) ?_
                      refine lv_iadd hx hb dX4_cuts_301 ?_
                      refine g_iast (ws' := (mo, .inr (4, [.ref ag, .ref ab, .ref ah, .int ch, .ref asv, .int hs, .ref ai, .int ty, .int wy, .int wd, .ref al, .int li, .int pl, .int iw, .ref at_])) :: (ag, .inl (dA 0, 310, .inl (upd (upd (upd (upd (upd g (229 + 10 * k + q) (wouldBe g j (nn g (213 + k)) q)) (200 + j) ((g (200 + j)) - (wouldBe g j (nn g (213 + k)) q))) (196 + j) ((g (196 + j)) + 2)) (204 + j) ((g (204 + j)) + 1)) 309 ((g 309) + 1)))) :: R) X hw 1 rfl (i := 309) (by decide) (by decide) rfl dX4_cuts_302 (fun H locs hw => ?_)
                      refine lv_iload hx hb dX4_cuts_303 (lv_at hl 2 rfl) ?_
                      have hop : p_cutsI g (nI j) (nI k) (nI q) = .inr (wouldBe g j (nn g (213 + k)) q, upd (upd (upd (upd (upd g (229 + 10 * k + q) (wouldBe g j (nn g (213 + k)) q)) (200 + j) ((g (200 + j)) - (wouldBe g j (nn g (213 + k)) q))) (196 + j) ((g (196 + j)) + 2)) (204 + j) ((g (204 + j)) + 1)) 309 ((g 309) + 1)) := by simp [p_cutsI, p_cuts, p_cut5, minutesI, wornMore, c_3, kj, c_6, kk, c_9, kq, c_10, c_11, c_12, c_15, c_16, c_17, c_19]
                      exact g_iret (v := wouldBe g j (nn g (213 + k)) q) () X hw hr hlocks  (by rw [hop]; rfl) (by rw [hop]; rfl) dX4_cuts_305
                    · skip
                      have c_19 := Int32.not_le.mp c_19
                      refine lv_bipush (v := 20) hx hb dX4_cuts_269 (by decide) ?_
                      refine lv_goto (tgt := 276) hx hb dX4_cuts_271 (by decide) ?_
                      refine g_iast (ws' := (mo, .inr (4, [.ref ag, .ref ab, .ref ah, .int ch, .ref asv, .int hs, .ref ai, .int ty, .int wy, .int wd, .ref al, .int li, .int pl, .int iw, .ref at_])) :: (ag, .inl (dA 0, 310, .inl (upd (upd (upd g (229 + 10 * k + q) (wouldBe g j (nn g (213 + k)) q)) (200 + j) ((g (200 + j)) - (wouldBe g j (nn g (213 + k)) q))) (196 + j) 20))) :: R) X hw 1 rfl (i := 196 + j) (by omega) (by first | decide | omega) rfl dX4_cuts_276 (fun H locs hw => ?_)
                      refine lv_aload_n hx hb dX4_cuts_277 rfl (lv_at hl 4 rfl) ?_
                      refine g_get X cfX4 hw 0 0 rfl rfl q1834 rfl rfl dX4_cuts_278 ?_
                      refine lv_sipush (v := 204) hx hb dX4_cuts_281 (by decide) ?_
                      refine lv_iload_n hx hb dX4_cuts_284 rfl (lv_at hl 5 rfl) ?_
                      refine lv_iadd hx hb dX4_cuts_285 ?_
                      refine g_addN (a := 204) (b := j) ?_
                      refine lv_dup2_11 hx hb dX4_cuts_286 rfl rfl ?_
                      refine g_iald X hw 1 rfl (i := 204 + j) (by omega) (by first | decide | omega) dX4_cuts_287 ?_
                      refine g_top (y := g (204 + j)) ((upd_n (by omega)).trans ((upd_n (by omega)).trans (upd_n (by omega)))) ?_
                      refine lv_iconst (v := 1) hx hb dX4_cuts_288 (by decide) ?_
                      refine lv_iadd hx hb dX4_cuts_289 ?_
                      refine g_iast (ws' := (mo, .inr (4, [.ref ag, .ref ab, .ref ah, .int ch, .ref asv, .int hs, .ref ai, .int ty, .int wy, .int wd, .ref al, .int li, .int pl, .int iw, .ref at_])) :: (ag, .inl (dA 0, 310, .inl (upd (upd (upd (upd g (229 + 10 * k + q) (wouldBe g j (nn g (213 + k)) q)) (200 + j) ((g (200 + j)) - (wouldBe g j (nn g (213 + k)) q))) (196 + j) 20) (204 + j) ((g (204 + j)) + 1)))) :: R) X hw 1 rfl (i := 204 + j) (by omega) (by first | decide | omega) rfl dX4_cuts_290 (fun H locs hw => ?_)
                      refine lv_aload_n hx hb dX4_cuts_291 rfl (lv_at hl 4 rfl) ?_
                      refine g_get X cfX4 hw 0 0 rfl rfl q1834 rfl rfl dX4_cuts_292 ?_
                      refine lv_sipush (v := 309) hx hb dX4_cuts_295 (by decide) ?_
                      refine lv_dup2_11 hx hb dX4_cuts_298 rfl rfl ?_
                      refine g_iald X hw 1 rfl (i := 309) (by decide) (by decide) dX4_cuts_299 ?_
                      refine g_top (y := g 309) ((upd_n (by omega)).trans ((upd_n (by omega)).trans ((upd_n (by omega)).trans (upd_n (by omega))))) ?_
                      refine lv_iconst (v := 1) hx hb dX4_cuts_300 (by decide) ?_
                      refine lv_iadd hx hb dX4_cuts_301 ?_
                      refine g_iast (ws' := (mo, .inr (4, [.ref ag, .ref ab, .ref ah, .int ch, .ref asv, .int hs, .ref ai, .int ty, .int wy, .int wd, .ref al, .int li, .int pl, .int iw, .ref at_])) :: (ag, .inl (dA 0, 310, .inl (upd (upd (upd (upd (upd g (229 + 10 * k + q) (wouldBe g j (nn g (213 + k)) q)) (200 + j) ((g (200 + j)) - (wouldBe g j (nn g (213 + k)) q))) (196 + j) 20) (204 + j) ((g (204 + j)) + 1)) 309 ((g 309) + 1)))) :: R) X hw 1 rfl (i := 309) (by decide) (by decide) rfl dX4_cuts_302 (fun H locs hw => ?_)
                      refine lv_iload hx hb dX4_cuts_303 (lv_at hl 2 rfl) ?_
                      have hop : p_cutsI g (nI j) (nI k) (nI q) = .inr (wouldBe g j (nn g (213 + k)) q, upd (upd (upd (upd (upd g (229 + 10 * k + q) (wouldBe g j (nn g (213 + k)) q)) (200 + j) ((g (200 + j)) - (wouldBe g j (nn g (213 + k)) q))) (196 + j) 20) (204 + j) ((g (204 + j)) + 1)) 309 ((g 309) + 1)) := by simp [p_cutsI, p_cuts, p_cut5, minutesI, wornMore, c_3, kj, c_6, kk, c_9, kq, c_10, c_11, c_12, c_15, c_16, c_17, c_19]
                      exact g_iret (v := wouldBe g j (nn g (213 + k)) q) () X hw hr hlocks  (by rw [hop]; rfl) (by rw [hop]; rfl) dX4_cuts_305
                · skip
                  have c_16 := Int32.not_le.mp c_16
                  refine lv_aload_n hx hb dX4_cuts_187 rfl (lv_at hl 3 rfl) ?_
                  refine lv_bipush (v := 8) hx hb dX4_cuts_188 (by decide) ?_
                  refine lv_aload_n hx hb dX4_cuts_190 rfl (lv_at hl 3 rfl) ?_
                  refine g_get X cfX4 hw 0 0 rfl rfl q1834 rfl rfl dX4_cuts_191 ?_
                  refine lv_sipush (v := 200) hx hb dX4_cuts_194 (by decide) ?_
                  refine lv_iload_n hx hb dX4_cuts_197 rfl (lv_at hl 4 rfl) ?_
                  refine lv_iadd hx hb dX4_cuts_198 ?_
                  refine g_addN (a := 200) (b := j) ?_
                  refine g_iald X hw 1 rfl (i := 200 + j) (by omega) (by first | decide | omega) dX4_cuts_199 ?_
                  refine va_calli (va_runV (As := [.int 8, .int (g (200 + j))]) (rest := []) X.1 (m_X4_refused l D dA A E hE ((ag, .inl (dA 0, 310, .inl g)) :: R) mo ag ab ah asv ai al at_ ch hs ty wy wd li pl iw (by first | assumption | omega) 8 (g (200 + j))) (cwV 2 X.1.2.2.2.2 (lw_V q1924 q1926 qs28 q80 q1927) rfl rfl rfl (by decide +kernel) ⟨Nat.le_of_ble_eq_true rfl, Nat.le_of_ble_eq_true rfl⟩) (g_preV hE X.2 hw 0 rfl rfl) rfl rfl hl.1 rfl (lv_room (Nat.le_of_ble_eq_true rfl)) dX4_cuts_200 ⟨Nat.le_of_ble_eq_true rfl, Nat.le_of_ble_eq_true rfl⟩) hw.2.2 (fun q _ h => h) (fun q h => h) (fun r_21 u t H locs ht hvm h_20 hB hz9 hk9 hS => ?_)
                  have hw : gW D A ((mo, .inr (4, [.ref ag, .ref ab, .ref ah, .int ch, .ref asv, .int hs, .ref ai, .int ty, .int 8, .int (g (200 + j)), .ref al, .int li, .int pl, .int iw, .ref at_])) :: (ag, .inl (dA 0, 310, .inl g)) :: R) s H locs := g_aft ht hB hS
                  obtain rfl : r_21 = -14 := h_20
                  have hop : p_cutsI g (nI j) (nI k) (nI q) = .inl (8, g (200 + j)) := by simp [p_cutsI, p_cuts, p_cut5, minutesI, wornMore, c_3, kj, c_6, kk, c_9, kq, c_10, c_11, c_12, c_15, c_16]
                  exact g_iret (v := -14) () X hw hr hlocks  (by rw [hop]; rfl) (by rw [hop]; rfl) dX4_cuts_203
              · skip
                refine lv_iload hx hb dX4_cuts_159 (lv_at hl 0 rfl) ?_
                refine lv_iconst (v := 1) hx hb dX4_cuts_161 (by decide) ?_
                refine lv_iadd hx hb dX4_cuts_162 ?_
                refine lv_iconst (v := 2) hx hb dX4_cuts_163 (by decide) ?_
                refine lv_idiv hx hb dX4_cuts_164 (by decide) ?_
                refine lv_goto (tgt := 170) hx hb dX4_cuts_165 (by decide) ?_
                refine lv_istore (lv' := [(6, .int (((wouldBe g j (nn g (213 + k)) q) + 1) / 2)), (5, .int (wouldBe g j (nn g (213 + k)) q)), (4, .int (nI (229 + 10 * k + q))), (0, .ref mo), (1, .int (nI j)), (2, .int (nI k)), (3, .int (nI q))]) hx hb dX4_cuts_170 hl (by decide) rfl (fun ls hl => ?_)
                refine lv_aload_n hx hb dX4_cuts_172 rfl (lv_at hl 3 rfl) ?_
                refine g_get X cfX4 hw 0 0 rfl rfl q1834 rfl rfl dX4_cuts_173 ?_
                refine lv_sipush (v := 200) hx hb dX4_cuts_176 (by decide) ?_
                refine lv_iload_n hx hb dX4_cuts_179 rfl (lv_at hl 4 rfl) ?_
                refine lv_iadd hx hb dX4_cuts_180 ?_
                refine g_addN (a := 200) (b := j) ?_
                refine g_iald X hw 1 rfl (i := 200 + j) (by omega) (by first | decide | omega) dX4_cuts_181 ?_
                refine lv_iload hx hb dX4_cuts_182 (lv_at hl 0 rfl) ?_
                refine lv_icmp_ge (tgt := 204) hx hb dX4_cuts_184 (by decide) (fun c_22 => ?_) (fun c_22 => ?_)
                · skip
                  have c_22 := Int32.not_lt.mpr c_22
                  refine lv_aload_n hx hb dX4_cuts_204 rfl (lv_at hl 3 rfl) ?_
                  refine g_get X cfX4 hw 0 0 rfl rfl q1834 rfl rfl dX4_cuts_205 ?_
                  refine lv_iload hx hb dX4_cuts_208 (lv_at hl 2 rfl) ?_
                  refine lv_iload hx hb dX4_cuts_210 (lv_at hl 1 rfl) ?_
                  refine g_iast (ws' := (mo, .inr (4, [.ref ag, .ref ab, .ref ah, .int ch, .ref asv, .int hs, .ref ai, .int ty, .int wy, .int wd, .ref al, .int li, .int pl, .int iw, .ref at_])) :: (ag, .inl (dA 0, 310, .inl (upd g (229 + 10 * k + q) (wouldBe g j (nn g (213 + k)) q)))) :: R) X hw 1 rfl (i := 229 + 10 * k + q) (by omega) (by first | decide | omega) rfl dX4_cuts_212 (fun H locs hw => ?_)
                  refine lv_aload_n hx hb dX4_cuts_213 rfl (lv_at hl 3 rfl) ?_
                  refine g_get X cfX4 hw 0 0 rfl rfl q1834 rfl rfl dX4_cuts_214 ?_
                  refine lv_sipush (v := 200) hx hb dX4_cuts_217 (by decide) ?_
                  refine lv_iload_n hx hb dX4_cuts_220 rfl (lv_at hl 4 rfl) ?_
                  refine lv_iadd hx hb dX4_cuts_221 ?_
                  refine g_addN (a := 200) (b := j) ?_
                  refine lv_dup2_11 hx hb dX4_cuts_222 rfl rfl ?_
                  refine g_iald X hw 1 rfl (i := 200 + j) (by omega) (by first | decide | omega) dX4_cuts_223 ?_
                  refine g_top (y := g (200 + j)) (upd_n (by omega)) ?_
                  refine lv_iload hx hb dX4_cuts_224 (lv_at hl 0 rfl) ?_
                  refine lv_isub hx hb dX4_cuts_226 ?_
                  refine g_iast (ws' := (mo, .inr (4, [.ref ag, .ref ab, .ref ah, .int ch, .ref asv, .int hs, .ref ai, .int ty, .int wy, .int wd, .ref al, .int li, .int pl, .int iw, .ref at_])) :: (ag, .inl (dA 0, 310, .inl (upd (upd g (229 + 10 * k + q) (wouldBe g j (nn g (213 + k)) q)) (200 + j) ((g (200 + j)) - (((wouldBe g j (nn g (213 + k)) q) + 1) / 2))))) :: R) X hw 1 rfl (i := 200 + j) (by omega) (by first | decide | omega) rfl dX4_cuts_227 (fun H locs hw => ?_)
                  refine lv_aload_n hx hb dX4_cuts_228 rfl (lv_at hl 3 rfl) ?_
                  refine g_get X cfX4 hw 0 0 rfl rfl q1834 rfl rfl dX4_cuts_229 ?_
                  refine lv_sipush (v := 196) hx hb dX4_cuts_232 (by decide) ?_
                  refine lv_iload_n hx hb dX4_cuts_235 rfl (lv_at hl 4 rfl) ?_
                  refine lv_iadd hx hb dX4_cuts_236 ?_
                  refine g_addN (a := 196) (b := j) ?_
                  refine g_iald X hw 1 rfl (i := 196 + j) (by omega) (by first | decide | omega) dX4_cuts_237 ?_
                  refine g_top (y := g (196 + j)) ((upd_n (by omega)).trans (upd_n (by omega))) ?_
                  refine lv_iload hx hb dX4_cuts_238 (lv_at hl 1 rfl) ?_
                  refine lv_bipush (v := 30) hx hb dX4_cuts_240 (by decide) ?_
                  refine lv_icmp_le (tgt := 249) hx hb dX4_cuts_242 (by decide) (fun c_23 => ?_) (fun c_23 => ?_)
                  · skip
                    have c_23 := Int32.not_lt.mpr c_23
                    refine lv_iconst (v := 1) hx hb dX4_cuts_249 (by decide) ?_
                    refine lv_iadd hx hb dX4_cuts_250 ?_
                    refine lv_istore (lv' := [(7, .int ((g (196 + j)) + 1)), (6, .int (((wouldBe g j (nn g (213 + k)) q) + 1) / 2)), (5, .int (wouldBe g j (nn g (213 + k)) q)), (4, .int (nI (229 + 10 * k + q))), (0, .ref mo), (1, .int (nI j)), (2, .int (nI k)), (3, .int (nI q))]) hx hb dX4_cuts_251 hl (by decide) rfl (fun ls hl => ?_)
                    refine lv_aload_n hx hb dX4_cuts_253 rfl (lv_at hl 4 rfl) ?_
                    refine g_get X cfX4 hw 0 0 rfl rfl q1834 rfl rfl dX4_cuts_254 ?_
                    refine lv_sipush (v := 196) hx hb dX4_cuts_257 (by decide) ?_
                    refine lv_iload_n hx hb dX4_cuts_260 rfl (lv_at hl 5 rfl) ?_
                    refine lv_iadd hx hb dX4_cuts_261 ?_
                    refine g_addN (a := 196) (b := j) ?_
                    refine lv_iload hx hb dX4_cuts_262 (lv_at hl 0 rfl) ?_
                    refine lv_bipush (v := 20) hx hb dX4_cuts_264 (by decide) ?_
                    refine lv_icmp_le (tgt := 274) hx hb dX4_cuts_266 (by decide) (fun c_24 => ?_) (fun c_24 => ?_)
                    · skip
                      have c_24 := Int32.not_lt.mpr c_24
                      refine lv_iload hx hb dX4_cuts_274 (lv_at hl 0 rfl) ?_
                      refine g_iast (ws' := (mo, .inr (4, [.ref ag, .ref ab, .ref ah, .int ch, .ref asv, .int hs, .ref ai, .int ty, .int wy, .int wd, .ref al, .int li, .int pl, .int iw, .ref at_])) :: (ag, .inl (dA 0, 310, .inl (upd (upd (upd g (229 + 10 * k + q) (wouldBe g j (nn g (213 + k)) q)) (200 + j) ((g (200 + j)) - (((wouldBe g j (nn g (213 + k)) q) + 1) / 2))) (196 + j) ((g (196 + j)) + 1)))) :: R) X hw 1 rfl (i := 196 + j) (by omega) (by first | decide | omega) rfl dX4_cuts_276 (fun H locs hw => ?_)
                      refine lv_aload_n hx hb dX4_cuts_277 rfl (lv_at hl 4 rfl) ?_
                      refine g_get X cfX4 hw 0 0 rfl rfl q1834 rfl rfl dX4_cuts_278 ?_
                      refine lv_sipush (v := 204) hx hb dX4_cuts_281 (by decide) ?_
                      refine lv_iload_n hx hb dX4_cuts_284 rfl (lv_at hl 5 rfl) ?_
                      refine lv_iadd hx hb dX4_cuts_285 ?_
                      refine g_addN (a := 204) (b := j) ?_
                      refine lv_dup2_11 hx hb dX4_cuts_286 rfl rfl ?_
                      refine g_iald X hw 1 rfl (i := 204 + j) (by omega) (by first | decide | omega) dX4_cuts_287 ?_
                      refine g_top (y := g (204 + j)) ((upd_n (by omega)).trans ((upd_n (by omega)).trans (upd_n (by omega)))) ?_
                      refine lv_iconst (v := 1) hx hb dX4_cuts_288 (by decide) ?_
                      refine lv_iadd hx hb dX4_cuts_289 ?_
                      refine g_iast (ws' := (mo, .inr (4, [.ref ag, .ref ab, .ref ah, .int ch, .ref asv, .int hs, .ref ai, .int ty, .int wy, .int wd, .ref al, .int li, .int pl, .int iw, .ref at_])) :: (ag, .inl (dA 0, 310, .inl (upd (upd (upd (upd g (229 + 10 * k + q) (wouldBe g j (nn g (213 + k)) q)) (200 + j) ((g (200 + j)) - (((wouldBe g j (nn g (213 + k)) q) + 1) / 2))) (196 + j) ((g (196 + j)) + 1)) (204 + j) ((g (204 + j)) + 1)))) :: R) X hw 1 rfl (i := 204 + j) (by omega) (by first | decide | omega) rfl dX4_cuts_290 (fun H locs hw => ?_)
                      refine lv_aload_n hx hb dX4_cuts_291 rfl (lv_at hl 4 rfl) ?_
                      refine g_get X cfX4 hw 0 0 rfl rfl q1834 rfl rfl dX4_cuts_292 ?_
                      refine lv_sipush (v := 309) hx hb dX4_cuts_295 (by decide) ?_
                      refine lv_dup2_11 hx hb dX4_cuts_298 rfl rfl ?_
                      refine g_iald X hw 1 rfl (i := 309) (by decide) (by decide) dX4_cuts_299 ?_
                      refine g_top (y := g 309) ((upd_n (by omega)).trans ((upd_n (by omega)).trans ((upd_n (by omega)).trans (upd_n (by omega))))) ?_
                      refine lv_iconst (v := 1) hx hb dX4_cuts_300 (by decide) ?_
                      refine lv_iadd hx hb dX4_cuts_301 ?_
                      refine g_iast (ws' := (mo, .inr (4, [.ref ag, .ref ab, .ref ah, .int ch, .ref asv, .int hs, .ref ai, .int ty, .int wy, .int wd, .ref al, .int li, .int pl, .int iw, .ref at_])) :: (ag, .inl (dA 0, 310, .inl (upd (upd (upd (upd (upd g (229 + 10 * k + q) (wouldBe g j (nn g (213 + k)) q)) (200 + j) ((g (200 + j)) - (((wouldBe g j (nn g (213 + k)) q) + 1) / 2))) (196 + j) ((g (196 + j)) + 1)) (204 + j) ((g (204 + j)) + 1)) 309 ((g 309) + 1)))) :: R) X hw 1 rfl (i := 309) (by decide) (by decide) rfl dX4_cuts_302 (fun H locs hw => ?_)
                      refine lv_iload hx hb dX4_cuts_303 (lv_at hl 2 rfl) ?_
                      have hop : p_cutsI g (nI j) (nI k) (nI q) = .inr (wouldBe g j (nn g (213 + k)) q, upd (upd (upd (upd (upd g (229 + 10 * k + q) (wouldBe g j (nn g (213 + k)) q)) (200 + j) ((g (200 + j)) - (((wouldBe g j (nn g (213 + k)) q) + 1) / 2))) (196 + j) ((g (196 + j)) + 1)) (204 + j) ((g (204 + j)) + 1)) 309 ((g 309) + 1)) := by simp [p_cutsI, p_cuts, p_cut5, minutesI, wornMore, c_3, kj, c_6, kk, c_9, kq, c_10, c_11, c_12, c_15, c_22, c_23, c_24]
                      exact g_iret (v := wouldBe g j (nn g (213 + k)) q) () X hw hr hlocks  (by rw [hop]; rfl) (by rw [hop]; rfl) dX4_cuts_305
                    · skip
                      have c_24 := Int32.not_le.mp c_24
                      refine lv_bipush (v := 20) hx hb dX4_cuts_269 (by decide) ?_
                      refine lv_goto (tgt := 276) hx hb dX4_cuts_271 (by decide) ?_
                      refine g_iast (ws' := (mo, .inr (4, [.ref ag, .ref ab, .ref ah, .int ch, .ref asv, .int hs, .ref ai, .int ty, .int wy, .int wd, .ref al, .int li, .int pl, .int iw, .ref at_])) :: (ag, .inl (dA 0, 310, .inl (upd (upd (upd g (229 + 10 * k + q) (wouldBe g j (nn g (213 + k)) q)) (200 + j) ((g (200 + j)) - (((wouldBe g j (nn g (213 + k)) q) + 1) / 2))) (196 + j) 20))) :: R) X hw 1 rfl (i := 196 + j) (by omega) (by first | decide | omega) rfl dX4_cuts_276 (fun H locs hw => ?_)
                      refine lv_aload_n hx hb dX4_cuts_277 rfl (lv_at hl 4 rfl) ?_
                      refine g_get X cfX4 hw 0 0 rfl rfl q1834 rfl rfl dX4_cuts_278 ?_
                      refine lv_sipush (v := 204) hx hb dX4_cuts_281 (by decide) ?_
                      refine lv_iload_n hx hb dX4_cuts_284 rfl (lv_at hl 5 rfl) ?_
                      refine lv_iadd hx hb dX4_cuts_285 ?_
                      refine g_addN (a := 204) (b := j) ?_
                      refine lv_dup2_11 hx hb dX4_cuts_286 rfl rfl ?_
                      refine g_iald X hw 1 rfl (i := 204 + j) (by omega) (by first | decide | omega) dX4_cuts_287 ?_
                      refine g_top (y := g (204 + j)) ((upd_n (by omega)).trans ((upd_n (by omega)).trans (upd_n (by omega)))) ?_
                      refine lv_iconst (v := 1) hx hb dX4_cuts_288 (by decide) ?_
                      refine lv_iadd hx hb dX4_cuts_289 ?_
                      refine g_iast (ws' := (mo, .inr (4, [.ref ag, .ref ab, .ref ah, .int ch, .ref asv, .int hs, .ref ai, .int ty, .int wy, .int wd, .ref al, .int li, .int pl, .int iw, .ref at_])) :: (ag, .inl (dA 0, 310, .inl (upd (upd (upd (upd g (229 + 10 * k + q) (wouldBe g j (nn g (213 + k)) q)) (200 + j) ((g (200 + j)) - (((wouldBe g j (nn g (213 + k)) q) + 1) / 2))) (196 + j) 20) (204 + j) ((g (204 + j)) + 1)))) :: R) X hw 1 rfl (i := 204 + j) (by omega) (by first | decide | omega) rfl dX4_cuts_290 (fun H locs hw => ?_)
                      refine lv_aload_n hx hb dX4_cuts_291 rfl (lv_at hl 4 rfl) ?_
                      refine g_get X cfX4 hw 0 0 rfl rfl q1834 rfl rfl dX4_cuts_292 ?_
                      refine lv_sipush (v := 309) hx hb dX4_cuts_295 (by decide) ?_
                      refine lv_dup2_11 hx hb dX4_cuts_298 rfl rfl ?_
                      refine g_iald X hw 1 rfl (i := 309) (by decide) (by decide) dX4_cuts_299 ?_
                      refine g_top (y := g 309) ((upd_n (by omega)).trans ((upd_n (by omega)).trans ((upd_n (by omega)).trans (upd_n (by omega))))) ?_
                      refine lv_iconst (v := 1) hx hb dX4_cuts_300 (by decide) ?_
                      refine lv_iadd hx hb dX4_cuts_301 ?_
                      refine g_iast (ws' := (mo, .inr (4, [.ref ag, .ref ab, .ref ah, .int ch, .ref asv, .int hs, .ref ai, .int ty, .int wy, .int wd, .ref al, .int li, .int pl, .int iw, .ref at_])) :: (ag, .inl (dA 0, 310, .inl (upd (upd (upd (upd (upd g (229 + 10 * k + q) (wouldBe g j (nn g (213 + k)) q)) (200 + j) ((g (200 + j)) - (((wouldBe g j (nn g (213 + k)) q) + 1) / 2))) (196 + j) 20) (204 + j) ((g (204 + j)) + 1)) 309 ((g 309) + 1)))) :: R) X hw 1 rfl (i := 309) (by decide) (by decide) rfl dX4_cuts_302 (fun H locs hw => ?_)
                      refine lv_iload hx hb dX4_cuts_303 (lv_at hl 2 rfl) ?_
                      have hop : p_cutsI g (nI j) (nI k) (nI q) = .inr (wouldBe g j (nn g (213 + k)) q, upd (upd (upd (upd (upd g (229 + 10 * k + q) (wouldBe g j (nn g (213 + k)) q)) (200 + j) ((g (200 + j)) - (((wouldBe g j (nn g (213 + k)) q) + 1) / 2))) (196 + j) 20) (204 + j) ((g (204 + j)) + 1)) 309 ((g 309) + 1)) := by simp [p_cutsI, p_cuts, p_cut5, minutesI, wornMore, c_3, kj, c_6, kk, c_9, kq, c_10, c_11, c_12, c_15, c_22, c_23, c_24]
                      exact g_iret (v := wouldBe g j (nn g (213 + k)) q) () X hw hr hlocks  (by rw [hop]; rfl) (by rw [hop]; rfl) dX4_cuts_305
                  · skip
                    have c_23 := Int32.not_le.mp c_23
                    refine lv_iconst (v := 2) hx hb dX4_cuts_245 (by decide) ?_
                    refine lv_goto (tgt := 250) hx hb dX4_cuts_246 (by decide) ?_
                    refine lv_iadd hx hb dX4_cuts_250 ?_
                    refine lv_istore (lv' := [(7, .int ((g (196 + j)) + 2)), (6, .int (((wouldBe g j (nn g (213 + k)) q) + 1) / 2)), (5, .int (wouldBe g j (nn g (213 + k)) q)), (4, .int (nI (229 + 10 * k + q))), (0, .ref mo), (1, .int (nI j)), (2, .int (nI k)), (3, .int (nI q))]) hx hb dX4_cuts_251 hl (by decide) rfl (fun ls hl => ?_)
                    refine lv_aload_n hx hb dX4_cuts_253 rfl (lv_at hl 4 rfl) ?_
                    refine g_get X cfX4 hw 0 0 rfl rfl q1834 rfl rfl dX4_cuts_254 ?_
                    refine lv_sipush (v := 196) hx hb dX4_cuts_257 (by decide) ?_
                    refine lv_iload_n hx hb dX4_cuts_260 rfl (lv_at hl 5 rfl) ?_
                    refine lv_iadd hx hb dX4_cuts_261 ?_
                    refine g_addN (a := 196) (b := j) ?_
                    refine lv_iload hx hb dX4_cuts_262 (lv_at hl 0 rfl) ?_
                    refine lv_bipush (v := 20) hx hb dX4_cuts_264 (by decide) ?_
                    refine lv_icmp_le (tgt := 274) hx hb dX4_cuts_266 (by decide) (fun c_25 => ?_) (fun c_25 => ?_)
                    · skip
                      have c_25 := Int32.not_lt.mpr c_25
                      refine lv_iload hx hb dX4_cuts_274 (lv_at hl 0 rfl) ?_
                      refine g_iast (ws' := (mo, .inr (4, [.ref ag, .ref ab, .ref ah, .int ch, .ref asv, .int hs, .ref ai, .int ty, .int wy, .int wd, .ref al, .int li, .int pl, .int iw, .ref at_])) :: (ag, .inl (dA 0, 310, .inl (upd (upd (upd g (229 + 10 * k + q) (wouldBe g j (nn g (213 + k)) q)) (200 + j) ((g (200 + j)) - (((wouldBe g j (nn g (213 + k)) q) + 1) / 2))) (196 + j) ((g (196 + j)) + 2)))) :: R) X hw 1 rfl (i := 196 + j) (by omega) (by first | decide | omega) rfl dX4_cuts_276 (fun H locs hw => ?_)
                      refine lv_aload_n hx hb dX4_cuts_277 rfl (lv_at hl 4 rfl) ?_
                      refine g_get X cfX4 hw 0 0 rfl rfl q1834 rfl rfl dX4_cuts_278 ?_
                      refine lv_sipush (v := 204) hx hb dX4_cuts_281 (by decide) ?_
                      refine lv_iload_n hx hb dX4_cuts_284 rfl (lv_at hl 5 rfl) ?_
                      refine lv_iadd hx hb dX4_cuts_285 ?_
                      refine g_addN (a := 204) (b := j) ?_
                      refine lv_dup2_11 hx hb dX4_cuts_286 rfl rfl ?_
                      refine g_iald X hw 1 rfl (i := 204 + j) (by omega) (by first | decide | omega) dX4_cuts_287 ?_
                      refine g_top (y := g (204 + j)) ((upd_n (by omega)).trans ((upd_n (by omega)).trans (upd_n (by omega)))) ?_
                      refine lv_iconst (v := 1) hx hb dX4_cuts_288 (by decide) ?_
                      refine lv_iadd hx hb dX4_cuts_289 ?_
                      refine g_iast (ws' := (mo, .inr (4, [.ref ag, .ref ab, .ref ah, .int ch, .ref asv, .int hs, .ref ai, .int ty, .int wy, .int wd, .ref al, .int li, .int pl, .int iw, .ref at_])) :: (ag, .inl (dA 0, 310, .inl (upd (upd (upd (upd g (229 + 10 * k + q) (wouldBe g j (nn g (213 + k)) q)) (200 + j) ((g (200 + j)) - (((wouldBe g j (nn g (213 + k)) q) + 1) / 2))) (196 + j) ((g (196 + j)) + 2)) (204 + j) ((g (204 + j)) + 1)))) :: R) X hw 1 rfl (i := 204 + j) (by omega) (by first | decide | omega) rfl dX4_cuts_290 (fun H locs hw => ?_)
                      refine lv_aload_n hx hb dX4_cuts_291 rfl (lv_at hl 4 rfl) ?_
                      refine g_get X cfX4 hw 0 0 rfl rfl q1834 rfl rfl dX4_cuts_292 ?_
                      refine lv_sipush (v := 309) hx hb dX4_cuts_295 (by decide) ?_
                      refine lv_dup2_11 hx hb dX4_cuts_298 rfl rfl ?_
                      refine g_iald X hw 1 rfl (i := 309) (by decide) (by decide) dX4_cuts_299 ?_
                      refine g_top (y := g 309) ((upd_n (by omega)).trans ((upd_n (by omega)).trans ((upd_n (by omega)).trans (upd_n (by omega))))) ?_
                      refine lv_iconst (v := 1) hx hb dX4_cuts_300 (by decide) ?_
                      refine lv_iadd hx hb dX4_cuts_301 ?_
                      refine g_iast (ws' := (mo, .inr (4, [.ref ag, .ref ab, .ref ah, .int ch, .ref asv, .int hs, .ref ai, .int ty, .int wy, .int wd, .ref al, .int li, .int pl, .int iw, .ref at_])) :: (ag, .inl (dA 0, 310, .inl (upd (upd (upd (upd (upd g (229 + 10 * k + q) (wouldBe g j (nn g (213 + k)) q)) (200 + j) ((g (200 + j)) - (((wouldBe g j (nn g (213 + k)) q) + 1) / 2))) (196 + j) ((g (196 + j)) + 2)) (204 + j) ((g (204 + j)) + 1)) 309 ((g 309) + 1)))) :: R) X hw 1 rfl (i := 309) (by decide) (by decide) rfl dX4_cuts_302 (fun H locs hw => ?_)
                      refine lv_iload hx hb dX4_cuts_303 (lv_at hl 2 rfl) ?_
                      have hop : p_cutsI g (nI j) (nI k) (nI q) = .inr (wouldBe g j (nn g (213 + k)) q, upd (upd (upd (upd (upd g (229 + 10 * k + q) (wouldBe g j (nn g (213 + k)) q)) (200 + j) ((g (200 + j)) - (((wouldBe g j (nn g (213 + k)) q) + 1) / 2))) (196 + j) ((g (196 + j)) + 2)) (204 + j) ((g (204 + j)) + 1)) 309 ((g 309) + 1)) := by simp [p_cutsI, p_cuts, p_cut5, minutesI, wornMore, c_3, kj, c_6, kk, c_9, kq, c_10, c_11, c_12, c_15, c_22, c_23, c_25]
                      exact g_iret (v := wouldBe g j (nn g (213 + k)) q) () X hw hr hlocks  (by rw [hop]; rfl) (by rw [hop]; rfl) dX4_cuts_305
                    · skip
                      have c_25 := Int32.not_le.mp c_25
                      refine lv_bipush (v := 20) hx hb dX4_cuts_269 (by decide) ?_
                      refine lv_goto (tgt := 276) hx hb dX4_cuts_271 (by decide) ?_
                      refine g_iast (ws' := (mo, .inr (4, [.ref ag, .ref ab, .ref ah, .int ch, .ref asv, .int hs, .ref ai, .int ty, .int wy, .int wd, .ref al, .int li, .int pl, .int iw, .ref at_])) :: (ag, .inl (dA 0, 310, .inl (upd (upd (upd g (229 + 10 * k + q) (wouldBe g j (nn g (213 + k)) q)) (200 + j) ((g (200 + j)) - (((wouldBe g j (nn g (213 + k)) q) + 1) / 2))) (196 + j) 20))) :: R) X hw 1 rfl (i := 196 + j) (by omega) (by first | decide | omega) rfl dX4_cuts_276 (fun H locs hw => ?_)
                      refine lv_aload_n hx hb dX4_cuts_277 rfl (lv_at hl 4 rfl) ?_
                      refine g_get X cfX4 hw 0 0 rfl rfl q1834 rfl rfl dX4_cuts_278 ?_
                      refine lv_sipush (v := 204) hx hb dX4_cuts_281 (by decide) ?_
                      refine lv_iload_n hx hb dX4_cuts_284 rfl (lv_at hl 5 rfl) ?_
                      refine lv_iadd hx hb dX4_cuts_285 ?_
                      refine g_addN (a := 204) (b := j) ?_
                      refine lv_dup2_11 hx hb dX4_cuts_286 rfl rfl ?_
                      refine g_iald X hw 1 rfl (i := 204 + j) (by omega) (by first | decide | omega) dX4_cuts_287 ?_
                      refine g_top (y := g (204 + j)) ((upd_n (by omega)).trans ((upd_n (by omega)).trans (upd_n (by omega)))) ?_
                      refine lv_iconst (v := 1) hx hb dX4_cuts_288 (by decide) ?_
                      refine lv_iadd hx hb dX4_cuts_289 ?_
                      refine g_iast (ws' := (mo, .inr (4, [.ref ag, .ref ab, .ref ah, .int ch, .ref asv, .int hs, .ref ai, .int ty, .int wy, .int wd, .ref al, .int li, .int pl, .int iw, .ref at_])) :: (ag, .inl (dA 0, 310, .inl (upd (upd (upd (upd g (229 + 10 * k + q) (wouldBe g j (nn g (213 + k)) q)) (200 + j) ((g (200 + j)) - (((wouldBe g j (nn g (213 + k)) q) + 1) / 2))) (196 + j) 20) (204 + j) ((g (204 + j)) + 1)))) :: R) X hw 1 rfl (i := 204 + j) (by omega) (by first | decide | omega) rfl dX4_cuts_290 (fun H locs hw => ?_)
                      refine lv_aload_n hx hb dX4_cuts_291 rfl (lv_at hl 4 rfl) ?_
                      refine g_get X cfX4 hw 0 0 rfl rfl q1834 rfl rfl dX4_cuts_292 ?_
                      refine lv_sipush (v := 309) hx hb dX4_cuts_295 (by decide) ?_
                      refine lv_dup2_11 hx hb dX4_cuts_298 rfl rfl ?_
                      refine g_iald X hw 1 rfl (i := 309) (by decide) (by decide) dX4_cuts_299 ?_
                      refine g_top (y := g 309) ((upd_n (by omega)).trans ((upd_n (by omega)).trans ((upd_n (by omega)).trans (upd_n (by omega))))) ?_
                      refine lv_iconst (v := 1) hx hb dX4_cuts_300 (by decide) ?_
                      refine lv_iadd hx hb dX4_cuts_301 ?_
                      refine g_iast (ws' := (mo, .inr (4, [.ref ag, .ref ab, .ref ah, .int ch, .ref asv, .int hs, .ref ai, .int ty, .int wy, .int wd, .ref al, .int li, .int pl, .int iw, .ref at_])) :: (ag, .inl (dA 0, 310, .inl (upd (upd (upd (upd (upd g (229 + 10 * k + q) (wouldBe g j (nn g (213 + k)) q)) (200 + j) ((g (200 + j)) - (((wouldBe g j (nn g (213 + k)) q) + 1) / 2))) (196 + j) 20) (204 + j) ((g (204 + j)) + 1)) 309 ((g 309) + 1)))) :: R) X hw 1 rfl (i := 309) (by decide) (by decide) rfl dX4_cuts_302 (fun H locs hw => ?_)
                      refine lv_iload hx hb dX4_cuts_303 (lv_at hl 2 rfl) ?_
                      have hop : p_cutsI g (nI j) (nI k) (nI q) = .inr (wouldBe g j (nn g (213 + k)) q, upd (upd (upd (upd (upd g (229 + 10 * k + q) (wouldBe g j (nn g (213 + k)) q)) (200 + j) ((g (200 + j)) - (((wouldBe g j (nn g (213 + k)) q) + 1) / 2))) (196 + j) 20) (204 + j) ((g (204 + j)) + 1)) 309 ((g 309) + 1)) := by simp [p_cutsI, p_cuts, p_cut5, minutesI, wornMore, c_3, kj, c_6, kk, c_9, kq, c_10, c_11, c_12, c_15, c_22, c_23, c_25]
                      exact g_iret (v := wouldBe g j (nn g (213 + k)) q) () X hw hr hlocks  (by rw [hop]; rfl) (by rw [hop]; rfl) dX4_cuts_305
                · skip
                  have c_22 := Int32.not_le.mp c_22
                  refine lv_aload_n hx hb dX4_cuts_187 rfl (lv_at hl 3 rfl) ?_
                  refine lv_bipush (v := 8) hx hb dX4_cuts_188 (by decide) ?_
                  refine lv_aload_n hx hb dX4_cuts_190 rfl (lv_at hl 3 rfl) ?_
                  refine g_get X cfX4 hw 0 0 rfl rfl q1834 rfl rfl dX4_cuts_191 ?_
                  refine lv_sipush (v := 200) hx hb dX4_cuts_194 (by decide) ?_
                  refine lv_iload_n hx hb dX4_cuts_197 rfl (lv_at hl 4 rfl) ?_
                  refine lv_iadd hx hb dX4_cuts_198 ?_
                  refine g_addN (a := 200) (b := j) ?_
                  refine g_iald X hw 1 rfl (i := 200 + j) (by omega) (by first | decide | omega) dX4_cuts_199 ?_
                  refine va_calli (va_runV (As := [.int 8, .int (g (200 + j))]) (rest := []) X.1 (m_X4_refused l D dA A E hE ((ag, .inl (dA 0, 310, .inl g)) :: R) mo ag ab ah asv ai al at_ ch hs ty wy wd li pl iw (by first | assumption | omega) 8 (g (200 + j))) (cwV 2 X.1.2.2.2.2 (lw_V q1924 q1926 qs28 q80 q1927) rfl rfl rfl (by decide +kernel) ⟨Nat.le_of_ble_eq_true rfl, Nat.le_of_ble_eq_true rfl⟩) (g_preV hE X.2 hw 0 rfl rfl) rfl rfl hl.1 rfl (lv_room (Nat.le_of_ble_eq_true rfl)) dX4_cuts_200 ⟨Nat.le_of_ble_eq_true rfl, Nat.le_of_ble_eq_true rfl⟩) hw.2.2 (fun q _ h => h) (fun q h => h) (fun r_27 u t H locs ht hvm h_26 hB hz9 hk9 hS => ?_)
                  have hw : gW D A ((mo, .inr (4, [.ref ag, .ref ab, .ref ah, .int ch, .ref asv, .int hs, .ref ai, .int ty, .int 8, .int (g (200 + j)), .ref al, .int li, .int pl, .int iw, .ref at_])) :: (ag, .inl (dA 0, 310, .inl g)) :: R) s H locs := g_aft ht hB hS
                  obtain rfl : r_27 = -14 := h_26
                  have hop : p_cutsI g (nI j) (nI k) (nI q) = .inl (8, g (200 + j)) := by simp [p_cutsI, p_cuts, p_cut5, minutesI, wornMore, c_3, kj, c_6, kk, c_9, kq, c_10, c_11, c_12, c_15, c_22]
                  exact g_iret (v := -14) () X hw hr hlocks  (by rw [hop]; rfl) (by rw [hop]; rfl) dX4_cuts_203
            · skip
              refine lv_aload_n hx hb dX4_cuts_119 rfl (lv_at hl 1 rfl) ?_
              refine lv_bipush (v := 6) hx hb dX4_cuts_120 (by decide) ?_
              refine lv_iload_n hx hb dX4_cuts_122 rfl (lv_at hl 2 rfl) ?_
              refine va_calli (va_runV (As := [.int 6, .int (nI j)]) (rest := []) X.1 (m_X4_refused l D dA A E hE ((ag, .inl (dA 0, 310, .inl g)) :: R) mo ag ab ah asv ai al at_ ch hs ty wy wd li pl iw (by first | assumption | omega) 6 (nI j)) (cwV 2 X.1.2.2.2.2 (lw_V q1924 q1926 qs28 q80 q1927) rfl rfl rfl (by decide +kernel) ⟨Nat.le_of_ble_eq_true rfl, Nat.le_of_ble_eq_true rfl⟩) (g_preV hE X.2 hw 0 rfl rfl) rfl rfl hl.1 rfl (lv_room (Nat.le_of_ble_eq_true rfl)) dX4_cuts_123 ⟨Nat.le_of_ble_eq_true rfl, Nat.le_of_ble_eq_true rfl⟩) hw.2.2 (fun q _ h => h) (fun q h => h) (fun r_29 u t H locs ht hvm h_28 hB hz9 hk9 hS => ?_)
              have hw : gW D A ((mo, .inr (4, [.ref ag, .ref ab, .ref ah, .int ch, .ref asv, .int hs, .ref ai, .int ty, .int 6, .int (nI j), .ref al, .int li, .int pl, .int iw, .ref at_])) :: (ag, .inl (dA 0, 310, .inl g)) :: R) s H locs := g_aft ht hB hS
              obtain rfl : r_29 = -14 := h_28
              have hop : p_cutsI g (nI j) (nI k) (nI q) = .inl (6, nI j) := by simp [p_cutsI, p_cuts, p_cut5, minutesI, wornMore, c_3, kj, c_6, kk, c_9, kq, c_10, c_11, c_12]
              exact g_iret (v := -14) () X hw hr hlocks  (by rw [hop]; rfl) (by rw [hop]; rfl) dX4_cuts_126
          · skip
            refine lv_aload_n hx hb dX4_cuts_74 rfl (lv_at hl 1 rfl) ?_
            refine g_get X cfX4 hw 0 0 rfl rfl q1834 rfl rfl dX4_cuts_75 ?_
            refine lv_iload hx hb dX4_cuts_78 (lv_at hl 0 rfl) ?_
            refine g_iald X hw 1 rfl (i := 229 + 10 * k + q) (by omega) (by first | decide | omega) dX4_cuts_80 ?_
            refine lv_aload_n hx hb dX4_cuts_81 rfl (lv_at hl 1 rfl) ?_
            refine lv_iload_n hx hb dX4_cuts_82 rfl (lv_at hl 3 rfl) ?_
            refine lv_iload_n hx hb dX4_cuts_83 rfl (lv_at hl 4 rfl) ?_
            refine va_calli (va_runV (As := [.int (nI k), .int (nI q)]) (rest := [.int (g (229 + 10 * k + q))]) X.1 (m_X4_dueAt l D dA A E hE R mo ag ab ah asv ai al at_ ch hs ty wy wd li pl iw g (by first | assumption | omega) k q (by first | assumption | omega) (by first | assumption | omega)) (cwV 2 X.1.2.2.2.2 (lw_V q1992 q1994 qs38 q80 q1995) rfl rfl rfl (by decide +kernel) ⟨Nat.le_of_ble_eq_true rfl, Nat.le_of_ble_eq_true rfl⟩) (g_preV hE X.2 hw 0 rfl rfl) rfl rfl hl.1 rfl (lv_room (Nat.le_of_ble_eq_true rfl)) dX4_cuts_84 ⟨Nat.le_of_ble_eq_true rfl, Nat.le_of_ble_eq_true rfl⟩) hw.2.2 (fun q _ h => h) (fun q h => h) (fun r_31 u t H locs ht hvm h_30 hB hz9 hk9 hS => ?_)
            have hw : gW D A ((mo, .inr (4, [.ref ag, .ref ab, .ref ah, .int ch, .ref asv, .int hs, .ref ai, .int ty, .int wy, .int wd, .ref al, .int li, .int pl, .int iw, .ref at_])) :: (ag, .inl (dA 0, 310, .inl g)) :: R) s H locs := g_aft ht hB hS
            obtain rfl : r_31 = g (91 + 10 * nn g (213 + k) + q) := h_30
            refine lv_icmp_lt (tgt := 104) hx hb dX4_cuts_87 (by decide) (fun c_32 => ?_) (fun c_32 => ?_)
            · skip
              refine lv_aload_n hx hb dX4_cuts_104 rfl (lv_at hl 1 rfl) ?_
              refine g_get X cfX4 hw 0 0 rfl rfl q1834 rfl rfl dX4_cuts_105 ?_
              refine lv_sipush (v := 196) hx hb dX4_cuts_108 (by decide) ?_
              refine lv_iload_n hx hb dX4_cuts_111 rfl (lv_at hl 2 rfl) ?_
              refine lv_iadd hx hb dX4_cuts_112 ?_
              refine g_addN (a := 196) (b := j) ?_
              refine g_iald X hw 1 rfl (i := 196 + j) (by omega) (by first | decide | omega) dX4_cuts_113 ?_
              refine lv_bipush (v := 20) hx hb dX4_cuts_114 (by decide) ?_
              refine lv_icmp_ne (tgt := 127) hx hb dX4_cuts_116 (by decide) (fun c_33 => ?_) (fun c_33 => ?_)
              · skip
                refine lv_aload_n hx hb dX4_cuts_127 rfl (lv_at hl 1 rfl) ?_
                refine lv_iload_n hx hb dX4_cuts_128 rfl (lv_at hl 2 rfl) ?_
                refine lv_aload_n hx hb dX4_cuts_129 rfl (lv_at hl 1 rfl) ?_
                refine g_get X cfX4 hw 0 0 rfl rfl q1834 rfl rfl dX4_cuts_130 ?_
                refine lv_sipush (v := 213) hx hb dX4_cuts_133 (by decide) ?_
                refine lv_iload_n hx hb dX4_cuts_136 rfl (lv_at hl 3 rfl) ?_
                refine lv_iadd hx hb dX4_cuts_137 ?_
                refine g_addN (a := 213) (b := k) ?_
                refine g_iald X hw 1 rfl (i := 213 + k) (by omega) (by first | decide | omega) dX4_cuts_138 ?_
                refine lv_iload_n hx hb dX4_cuts_139 rfl (lv_at hl 4 rfl) ?_
                refine g_stk (st' := [.int (nI q), .int (nI (nn g (213 + k))), .int (nI j), .ref mo]) (by rw [(hI.kc hk).1]) ?_
                refine va_calli (va_runV (As := [.int (nI j), .int (nI (nn g (213 + k))), .int (nI q)]) (rest := []) X.1 (m_X4_wouldBe l D dA A E hE R mo ag ab ah asv ai al at_ ch hs ty wy wd li pl iw g j (nn g (213 + k)) q (by first | assumption | omega) (by first | assumption | omega) (by first | assumption | omega)) (cwV 3 X.1.2.2.2.2 (lw_V q1972 q1974 qs34 q80 q1975) rfl rfl rfl (by decide +kernel) ⟨Nat.le_of_ble_eq_true rfl, Nat.le_of_ble_eq_true rfl⟩) (g_preV hE X.2 hw 0 rfl rfl) rfl rfl hl.1 rfl (lv_room (Nat.le_of_ble_eq_true rfl)) dX4_cuts_140 ⟨Nat.le_of_ble_eq_true rfl, Nat.le_of_ble_eq_true rfl⟩) hw.2.2 (fun q _ h => h) (fun q h => h) (fun r_35 u t H locs ht hvm h_34 hB hz9 hk9 hS => ?_)
                have hw : gW D A ((mo, .inr (4, [.ref ag, .ref ab, .ref ah, .int ch, .ref asv, .int hs, .ref ai, .int ty, .int wy, .int wd, .ref al, .int li, .int pl, .int iw, .ref at_])) :: (ag, .inl (dA 0, 310, .inl g)) :: R) s H locs := g_aft ht hB hS
                obtain rfl : r_35 = wouldBe g j (nn g (213 + k)) q := h_34
                refine lv_istore (lv' := [(5, .int (wouldBe g j (nn g (213 + k)) q)), (4, .int (nI (229 + 10 * k + q))), (0, .ref mo), (1, .int (nI j)), (2, .int (nI k)), (3, .int (nI q))]) hx hb dX4_cuts_143 hl (by decide) rfl (fun ls hl => ?_)
                refine lv_aload_n hx hb dX4_cuts_145 rfl (lv_at hl 2 rfl) ?_
                refine g_get X cfX4 hw 0 0 rfl rfl q1834 rfl rfl dX4_cuts_146 ?_
                refine lv_sipush (v := 192) hx hb dX4_cuts_149 (by decide) ?_
                refine lv_iload_n hx hb dX4_cuts_152 rfl (lv_at hl 3 rfl) ?_
                refine lv_iadd hx hb dX4_cuts_153 ?_
                refine g_addN (a := 192) (b := j) ?_
                refine g_iald X hw 1 rfl (i := 192 + j) (by omega) (by first | decide | omega) dX4_cuts_154 ?_
                refine lv_iconst (v := 1) hx hb dX4_cuts_155 (by decide) ?_
                refine lv_icmp_ne (tgt := 168) hx hb dX4_cuts_156 (by decide) (fun c_36 => ?_) (fun c_36 => ?_)
                · skip
                  refine lv_iload hx hb dX4_cuts_168 (lv_at hl 0 rfl) ?_
                  refine lv_istore (lv' := [(6, .int (wouldBe g j (nn g (213 + k)) q)), (5, .int (wouldBe g j (nn g (213 + k)) q)), (4, .int (nI (229 + 10 * k + q))), (0, .ref mo), (1, .int (nI j)), (2, .int (nI k)), (3, .int (nI q))]) hx hb dX4_cuts_170 hl (by decide) rfl (fun ls hl => ?_)
                  refine lv_aload_n hx hb dX4_cuts_172 rfl (lv_at hl 3 rfl) ?_
                  refine g_get X cfX4 hw 0 0 rfl rfl q1834 rfl rfl dX4_cuts_173 ?_
                  refine lv_sipush (v := 200) hx hb dX4_cuts_176 (by decide) ?_
                  refine lv_iload_n hx hb dX4_cuts_179 rfl (lv_at hl 4 rfl) ?_
                  refine lv_iadd hx hb dX4_cuts_180 ?_
                  refine g_addN (a := 200) (b := j) ?_
                  refine g_iald X hw 1 rfl (i := 200 + j) (by omega) (by first | decide | omega) dX4_cuts_181 ?_
                  refine lv_iload hx hb dX4_cuts_182 (lv_at hl 0 rfl) ?_
                  refine lv_icmp_ge (tgt := 204) hx hb dX4_cuts_184 (by decide) (fun c_37 => ?_) (fun c_37 => ?_)
                  · skip
                    have c_37 := Int32.not_lt.mpr c_37
                    refine lv_aload_n hx hb dX4_cuts_204 rfl (lv_at hl 3 rfl) ?_
                    refine g_get X cfX4 hw 0 0 rfl rfl q1834 rfl rfl dX4_cuts_205 ?_
                    refine lv_iload hx hb dX4_cuts_208 (lv_at hl 2 rfl) ?_
                    refine lv_iload hx hb dX4_cuts_210 (lv_at hl 1 rfl) ?_
                    refine g_iast (ws' := (mo, .inr (4, [.ref ag, .ref ab, .ref ah, .int ch, .ref asv, .int hs, .ref ai, .int ty, .int wy, .int wd, .ref al, .int li, .int pl, .int iw, .ref at_])) :: (ag, .inl (dA 0, 310, .inl (upd g (229 + 10 * k + q) (wouldBe g j (nn g (213 + k)) q)))) :: R) X hw 1 rfl (i := 229 + 10 * k + q) (by omega) (by first | decide | omega) rfl dX4_cuts_212 (fun H locs hw => ?_)
                    refine lv_aload_n hx hb dX4_cuts_213 rfl (lv_at hl 3 rfl) ?_
                    refine g_get X cfX4 hw 0 0 rfl rfl q1834 rfl rfl dX4_cuts_214 ?_
                    refine lv_sipush (v := 200) hx hb dX4_cuts_217 (by decide) ?_
                    refine lv_iload_n hx hb dX4_cuts_220 rfl (lv_at hl 4 rfl) ?_
                    refine lv_iadd hx hb dX4_cuts_221 ?_
                    refine g_addN (a := 200) (b := j) ?_
                    refine lv_dup2_11 hx hb dX4_cuts_222 rfl rfl ?_
                    refine g_iald X hw 1 rfl (i := 200 + j) (by omega) (by first | decide | omega) dX4_cuts_223 ?_
                    refine g_top (y := g (200 + j)) (upd_n (by omega)) ?_
                    refine lv_iload hx hb dX4_cuts_224 (lv_at hl 0 rfl) ?_
                    refine lv_isub hx hb dX4_cuts_226 ?_
                    refine g_iast (ws' := (mo, .inr (4, [.ref ag, .ref ab, .ref ah, .int ch, .ref asv, .int hs, .ref ai, .int ty, .int wy, .int wd, .ref al, .int li, .int pl, .int iw, .ref at_])) :: (ag, .inl (dA 0, 310, .inl (upd (upd g (229 + 10 * k + q) (wouldBe g j (nn g (213 + k)) q)) (200 + j) ((g (200 + j)) - (wouldBe g j (nn g (213 + k)) q))))) :: R) X hw 1 rfl (i := 200 + j) (by omega) (by first | decide | omega) rfl dX4_cuts_227 (fun H locs hw => ?_)
                    refine lv_aload_n hx hb dX4_cuts_228 rfl (lv_at hl 3 rfl) ?_
                    refine g_get X cfX4 hw 0 0 rfl rfl q1834 rfl rfl dX4_cuts_229 ?_
                    refine lv_sipush (v := 196) hx hb dX4_cuts_232 (by decide) ?_
                    refine lv_iload_n hx hb dX4_cuts_235 rfl (lv_at hl 4 rfl) ?_
                    refine lv_iadd hx hb dX4_cuts_236 ?_
                    refine g_addN (a := 196) (b := j) ?_
                    refine g_iald X hw 1 rfl (i := 196 + j) (by omega) (by first | decide | omega) dX4_cuts_237 ?_
                    refine g_top (y := g (196 + j)) ((upd_n (by omega)).trans (upd_n (by omega))) ?_
                    refine lv_iload hx hb dX4_cuts_238 (lv_at hl 1 rfl) ?_
                    refine lv_bipush (v := 30) hx hb dX4_cuts_240 (by decide) ?_
                    refine lv_icmp_le (tgt := 249) hx hb dX4_cuts_242 (by decide) (fun c_38 => ?_) (fun c_38 => ?_)
                    · skip
                      have c_38 := Int32.not_lt.mpr c_38
                      refine lv_iconst (v := 1) hx hb dX4_cuts_249 (by decide) ?_
                      refine lv_iadd hx hb dX4_cuts_250 ?_
                      refine lv_istore (lv' := [(7, .int ((g (196 + j)) + 1)), (6, .int (wouldBe g j (nn g (213 + k)) q)), (5, .int (wouldBe g j (nn g (213 + k)) q)), (4, .int (nI (229 + 10 * k + q))), (0, .ref mo), (1, .int (nI j)), (2, .int (nI k)), (3, .int (nI q))]) hx hb dX4_cuts_251 hl (by decide) rfl (fun ls hl => ?_)
                      refine lv_aload_n hx hb dX4_cuts_253 rfl (lv_at hl 4 rfl) ?_
                      refine g_get X cfX4 hw 0 0 rfl rfl q1834 rfl rfl dX4_cuts_254 ?_
                      refine lv_sipush (v := 196) hx hb dX4_cuts_257 (by decide) ?_
                      refine lv_iload_n hx hb dX4_cuts_260 rfl (lv_at hl 5 rfl) ?_
                      refine lv_iadd hx hb dX4_cuts_261 ?_
                      refine g_addN (a := 196) (b := j) ?_
                      refine lv_iload hx hb dX4_cuts_262 (lv_at hl 0 rfl) ?_
                      refine lv_bipush (v := 20) hx hb dX4_cuts_264 (by decide) ?_
                      refine lv_icmp_le (tgt := 274) hx hb dX4_cuts_266 (by decide) (fun c_39 => ?_) (fun c_39 => ?_)
                      · skip
                        have c_39 := Int32.not_lt.mpr c_39
                        refine lv_iload hx hb dX4_cuts_274 (lv_at hl 0 rfl) ?_
                        refine g_iast (ws' := (mo, .inr (4, [.ref ag, .ref ab, .ref ah, .int ch, .ref asv, .int hs, .ref ai, .int ty, .int wy, .int wd, .ref al, .int li, .int pl, .int iw, .ref at_])) :: (ag, .inl (dA 0, 310, .inl (upd (upd (upd g (229 + 10 * k + q) (wouldBe g j (nn g (213 + k)) q)) (200 + j) ((g (200 + j)) - (wouldBe g j (nn g (213 + k)) q))) (196 + j) ((g (196 + j)) + 1)))) :: R) X hw 1 rfl (i := 196 + j) (by omega) (by first | decide | omega) rfl dX4_cuts_276 (fun H locs hw => ?_)
                        refine lv_aload_n hx hb dX4_cuts_277 rfl (lv_at hl 4 rfl) ?_
                        refine g_get X cfX4 hw 0 0 rfl rfl q1834 rfl rfl dX4_cuts_278 ?_
                        refine lv_sipush (v := 204) hx hb dX4_cuts_281 (by decide) ?_
                        refine lv_iload_n hx hb dX4_cuts_284 rfl (lv_at hl 5 rfl) ?_
                        refine lv_iadd hx hb dX4_cuts_285 ?_
                        refine g_addN (a := 204) (b := j) ?_
                        refine lv_dup2_11 hx hb dX4_cuts_286 rfl rfl ?_
                        refine g_iald X hw 1 rfl (i := 204 + j) (by omega) (by first | decide | omega) dX4_cuts_287 ?_
                        refine g_top (y := g (204 + j)) ((upd_n (by omega)).trans ((upd_n (by omega)).trans (upd_n (by omega)))) ?_
                        refine lv_iconst (v := 1) hx hb dX4_cuts_288 (by decide) ?_
                        refine lv_iadd hx hb dX4_cuts_289 ?_
                        refine g_iast (ws' := (mo, .inr (4, [.ref ag, .ref ab, .ref ah, .int ch, .ref asv, .int hs, .ref ai, .int ty, .int wy, .int wd, .ref al, .int li, .int pl, .int iw, .ref at_])) :: (ag, .inl (dA 0, 310, .inl (upd (upd (upd (upd g (229 + 10 * k + q) (wouldBe g j (nn g (213 + k)) q)) (200 + j) ((g (200 + j)) - (wouldBe g j (nn g (213 + k)) q))) (196 + j) ((g (196 + j)) + 1)) (204 + j) ((g (204 + j)) + 1)))) :: R) X hw 1 rfl (i := 204 + j) (by omega) (by first | decide | omega) rfl dX4_cuts_290 (fun H locs hw => ?_)
                        refine lv_aload_n hx hb dX4_cuts_291 rfl (lv_at hl 4 rfl) ?_
                        refine g_get X cfX4 hw 0 0 rfl rfl q1834 rfl rfl dX4_cuts_292 ?_
                        refine lv_sipush (v := 309) hx hb dX4_cuts_295 (by decide) ?_
                        refine lv_dup2_11 hx hb dX4_cuts_298 rfl rfl ?_
                        refine g_iald X hw 1 rfl (i := 309) (by decide) (by decide) dX4_cuts_299 ?_
                        refine g_top (y := g 309) ((upd_n (by omega)).trans ((upd_n (by omega)).trans ((upd_n (by omega)).trans (upd_n (by omega))))) ?_
                        refine lv_iconst (v := 1) hx hb dX4_cuts_300 (by decide) ?_
                        refine lv_iadd hx hb dX4_cuts_301 ?_
                        refine g_iast (ws' := (mo, .inr (4, [.ref ag, .ref ab, .ref ah, .int ch, .ref asv, .int hs, .ref ai, .int ty, .int wy, .int wd, .ref al, .int li, .int pl, .int iw, .ref at_])) :: (ag, .inl (dA 0, 310, .inl (upd (upd (upd (upd (upd g (229 + 10 * k + q) (wouldBe g j (nn g (213 + k)) q)) (200 + j) ((g (200 + j)) - (wouldBe g j (nn g (213 + k)) q))) (196 + j) ((g (196 + j)) + 1)) (204 + j) ((g (204 + j)) + 1)) 309 ((g 309) + 1)))) :: R) X hw 1 rfl (i := 309) (by decide) (by decide) rfl dX4_cuts_302 (fun H locs hw => ?_)
                        refine lv_iload hx hb dX4_cuts_303 (lv_at hl 2 rfl) ?_
                        have hop : p_cutsI g (nI j) (nI k) (nI q) = .inr (wouldBe g j (nn g (213 + k)) q, upd (upd (upd (upd (upd g (229 + 10 * k + q) (wouldBe g j (nn g (213 + k)) q)) (200 + j) ((g (200 + j)) - (wouldBe g j (nn g (213 + k)) q))) (196 + j) ((g (196 + j)) + 1)) (204 + j) ((g (204 + j)) + 1)) 309 ((g 309) + 1)) := by simp [p_cutsI, p_cuts, p_cut5, minutesI, wornMore, c_3, kj, c_6, kk, c_9, kq, c_10, c_11, c_32, c_33, c_36, c_37, c_38, c_39]
                        exact g_iret (v := wouldBe g j (nn g (213 + k)) q) () X hw hr hlocks  (by rw [hop]; rfl) (by rw [hop]; rfl) dX4_cuts_305
                      · skip
                        have c_39 := Int32.not_le.mp c_39
                        refine lv_bipush (v := 20) hx hb dX4_cuts_269 (by decide) ?_
                        refine lv_goto (tgt := 276) hx hb dX4_cuts_271 (by decide) ?_
                        refine g_iast (ws' := (mo, .inr (4, [.ref ag, .ref ab, .ref ah, .int ch, .ref asv, .int hs, .ref ai, .int ty, .int wy, .int wd, .ref al, .int li, .int pl, .int iw, .ref at_])) :: (ag, .inl (dA 0, 310, .inl (upd (upd (upd g (229 + 10 * k + q) (wouldBe g j (nn g (213 + k)) q)) (200 + j) ((g (200 + j)) - (wouldBe g j (nn g (213 + k)) q))) (196 + j) 20))) :: R) X hw 1 rfl (i := 196 + j) (by omega) (by first | decide | omega) rfl dX4_cuts_276 (fun H locs hw => ?_)
                        refine lv_aload_n hx hb dX4_cuts_277 rfl (lv_at hl 4 rfl) ?_
                        refine g_get X cfX4 hw 0 0 rfl rfl q1834 rfl rfl dX4_cuts_278 ?_
                        refine lv_sipush (v := 204) hx hb dX4_cuts_281 (by decide) ?_
                        refine lv_iload_n hx hb dX4_cuts_284 rfl (lv_at hl 5 rfl) ?_
                        refine lv_iadd hx hb dX4_cuts_285 ?_
                        refine g_addN (a := 204) (b := j) ?_
                        refine lv_dup2_11 hx hb dX4_cuts_286 rfl rfl ?_
                        refine g_iald X hw 1 rfl (i := 204 + j) (by omega) (by first | decide | omega) dX4_cuts_287 ?_
                        refine g_top (y := g (204 + j)) ((upd_n (by omega)).trans ((upd_n (by omega)).trans (upd_n (by omega)))) ?_
                        refine lv_iconst (v := 1) hx hb dX4_cuts_288 (by decide) ?_
                        refine lv_iadd hx hb dX4_cuts_289 ?_
                        refine g_iast (ws' := (mo, .inr (4, [.ref ag, .ref ab, .ref ah, .int ch, .ref asv, .int hs, .ref ai, .int ty, .int wy, .int wd, .ref al, .int li, .int pl, .int iw, .ref at_])) :: (ag, .inl (dA 0, 310, .inl (upd (upd (upd (upd g (229 + 10 * k + q) (wouldBe g j (nn g (213 + k)) q)) (200 + j) ((g (200 + j)) - (wouldBe g j (nn g (213 + k)) q))) (196 + j) 20) (204 + j) ((g (204 + j)) + 1)))) :: R) X hw 1 rfl (i := 204 + j) (by omega) (by first | decide | omega) rfl dX4_cuts_290 (fun H locs hw => ?_)
                        refine lv_aload_n hx hb dX4_cuts_291 rfl (lv_at hl 4 rfl) ?_
                        refine g_get X cfX4 hw 0 0 rfl rfl q1834 rfl rfl dX4_cuts_292 ?_
                        refine lv_sipush (v := 309) hx hb dX4_cuts_295 (by decide) ?_
                        refine lv_dup2_11 hx hb dX4_cuts_298 rfl rfl ?_
                        refine g_iald X hw 1 rfl (i := 309) (by decide) (by decide) dX4_cuts_299 ?_
                        refine g_top (y := g 309) ((upd_n (by omega)).trans ((upd_n (by omega)).trans ((upd_n (by omega)).trans (upd_n (by omega))))) ?_
                        refine lv_iconst (v := 1) hx hb dX4_cuts_300 (by decide) ?_
                        refine lv_iadd hx hb dX4_cuts_301 ?_
                        refine g_iast (ws' := (mo, .inr (4, [.ref ag, .ref ab, .ref ah, .int ch, .ref asv, .int hs, .ref ai, .int ty, .int wy, .int wd, .ref al, .int li, .int pl, .int iw, .ref at_])) :: (ag, .inl (dA 0, 310, .inl (upd (upd (upd (upd (upd g (229 + 10 * k + q) (wouldBe g j (nn g (213 + k)) q)) (200 + j) ((g (200 + j)) - (wouldBe g j (nn g (213 + k)) q))) (196 + j) 20) (204 + j) ((g (204 + j)) + 1)) 309 ((g 309) + 1)))) :: R) X hw 1 rfl (i := 309) (by decide) (by decide) rfl dX4_cuts_302 (fun H locs hw => ?_)
                        refine lv_iload hx hb dX4_cuts_303 (lv_at hl 2 rfl) ?_
                        have hop : p_cutsI g (nI j) (nI k) (nI q) = .inr (wouldBe g j (nn g (213 + k)) q, upd (upd (upd (upd (upd g (229 + 10 * k + q) (wouldBe g j (nn g (213 + k)) q)) (200 + j) ((g (200 + j)) - (wouldBe g j (nn g (213 + k)) q))) (196 + j) 20) (204 + j) ((g (204 + j)) + 1)) 309 ((g 309) + 1)) := by simp [p_cutsI, p_cuts, p_cut5, minutesI, wornMore, c_3, kj, c_6, kk, c_9, kq, c_10, c_11, c_32, c_33, c_36, c_37, c_38, c_39]
                        exact g_iret (v := wouldBe g j (nn g (213 + k)) q) () X hw hr hlocks  (by rw [hop]; rfl) (by rw [hop]; rfl) dX4_cuts_305
                    · skip
                      have c_38 := Int32.not_le.mp c_38
                      refine lv_iconst (v := 2) hx hb dX4_cuts_245 (by decide) ?_
                      refine lv_goto (tgt := 250) hx hb dX4_cuts_246 (by decide) ?_
                      refine lv_iadd hx hb dX4_cuts_250 ?_
                      refine lv_istore (lv' := [(7, .int ((g (196 + j)) + 2)), (6, .int (wouldBe g j (nn g (213 + k)) q)), (5, .int (wouldBe g j (nn g (213 + k)) q)), (4, .int (nI (229 + 10 * k + q))), (0, .ref mo), (1, .int (nI j)), (2, .int (nI k)), (3, .int (nI q))]) hx hb dX4_cuts_251 hl (by decide) rfl (fun ls hl => ?_)
                      refine lv_aload_n hx hb dX4_cuts_253 rfl (lv_at hl 4 rfl) ?_
                      refine g_get X cfX4 hw 0 0 rfl rfl q1834 rfl rfl dX4_cuts_254 ?_
                      refine lv_sipush (v := 196) hx hb dX4_cuts_257 (by decide) ?_
                      refine lv_iload_n hx hb dX4_cuts_260 rfl (lv_at hl 5 rfl) ?_
                      refine lv_iadd hx hb dX4_cuts_261 ?_
                      refine g_addN (a := 196) (b := j) ?_
                      refine lv_iload hx hb dX4_cuts_262 (lv_at hl 0 rfl) ?_
                      refine lv_bipush (v := 20) hx hb dX4_cuts_264 (by decide) ?_
                      refine lv_icmp_le (tgt := 274) hx hb dX4_cuts_266 (by decide) (fun c_40 => ?_) (fun c_40 => ?_)
                      · skip
                        have c_40 := Int32.not_lt.mpr c_40
                        refine lv_iload hx hb dX4_cuts_274 (lv_at hl 0 rfl) ?_
                        refine g_iast (ws' := (mo, .inr (4, [.ref ag, .ref ab, .ref ah, .int ch, .ref asv, .int hs, .ref ai, .int ty, .int wy, .int wd, .ref al, .int li, .int pl, .int iw, .ref at_])) :: (ag, .inl (dA 0, 310, .inl (upd (upd (upd g (229 + 10 * k + q) (wouldBe g j (nn g (213 + k)) q)) (200 + j) ((g (200 + j)) - (wouldBe g j (nn g (213 + k)) q))) (196 + j) ((g (196 + j)) + 2)))) :: R) X hw 1 rfl (i := 196 + j) (by omega) (by first | decide | omega) rfl dX4_cuts_276 (fun H locs hw => ?_)
                        refine lv_aload_n hx hb dX4_cuts_277 rfl (lv_at hl 4 rfl) ?_
                        refine g_get X cfX4 hw 0 0 rfl rfl q1834 rfl rfl dX4_cuts_278 ?_
                        refine lv_sipush (v := 204) hx hb dX4_cuts_281 (by decide) ?_
                        refine lv_iload_n hx hb dX4_cuts_284 rfl (lv_at hl 5 rfl) ?_
                        refine lv_iadd hx hb dX4_cuts_285 ?_
                        refine g_addN (a := 204) (b := j) ?_
                        refine lv_dup2_11 hx hb dX4_cuts_286 rfl rfl ?_
                        refine g_iald X hw 1 rfl (i := 204 + j) (by omega) (by first | decide | omega) dX4_cuts_287 ?_
                        refine g_top (y := g (204 + j)) ((upd_n (by omega)).trans ((upd_n (by omega)).trans (upd_n (by omega)))) ?_
                        refine lv_iconst (v := 1) hx hb dX4_cuts_288 (by decide) ?_
                        refine lv_iadd hx hb dX4_cuts_289 ?_
                        refine g_iast (ws' := (mo, .inr (4, [.ref ag, .ref ab, .ref ah, .int ch, .ref asv, .int hs, .ref ai, .int ty, .int wy, .int wd, .ref al, .int li, .int pl, .int iw, .ref at_])) :: (ag, .inl (dA 0, 310, .inl (upd (upd (upd (upd g (229 + 10 * k + q) (wouldBe g j (nn g (213 + k)) q)) (200 + j) ((g (200 + j)) - (wouldBe g j (nn g (213 + k)) q))) (196 + j) ((g (196 + j)) + 2)) (204 + j) ((g (204 + j)) + 1)))) :: R) X hw 1 rfl (i := 204 + j) (by omega) (by first | decide | omega) rfl dX4_cuts_290 (fun H locs hw => ?_)
                        refine lv_aload_n hx hb dX4_cuts_291 rfl (lv_at hl 4 rfl) ?_
                        refine g_get X cfX4 hw 0 0 rfl rfl q1834 rfl rfl dX4_cuts_292 ?_
                        refine lv_sipush (v := 309) hx hb dX4_cuts_295 (by decide) ?_
                        refine lv_dup2_11 hx hb dX4_cuts_298 rfl rfl ?_
                        refine g_iald X hw 1 rfl (i := 309) (by decide) (by decide) dX4_cuts_299 ?_
                        refine g_top (y := g 309) ((upd_n (by omega)).trans ((upd_n (by omega)).trans ((upd_n (by omega)).trans (upd_n (by omega))))) ?_
                        refine lv_iconst (v := 1) hx hb dX4_cuts_300 (by decide) ?_
                        refine lv_iadd hx hb dX4_cuts_301 ?_
                        refine g_iast (ws' := (mo, .inr (4, [.ref ag, .ref ab, .ref ah, .int ch, .ref asv, .int hs, .ref ai, .int ty, .int wy, .int wd, .ref al, .int li, .int pl, .int iw, .ref at_])) :: (ag, .inl (dA 0, 310, .inl (upd (upd (upd (upd (upd g (229 + 10 * k + q) (wouldBe g j (nn g (213 + k)) q)) (200 + j) ((g (200 + j)) - (wouldBe g j (nn g (213 + k)) q))) (196 + j) ((g (196 + j)) + 2)) (204 + j) ((g (204 + j)) + 1)) 309 ((g 309) + 1)))) :: R) X hw 1 rfl (i := 309) (by decide) (by decide) rfl dX4_cuts_302 (fun H locs hw => ?_)
                        refine lv_iload hx hb dX4_cuts_303 (lv_at hl 2 rfl) ?_
                        have hop : p_cutsI g (nI j) (nI k) (nI q) = .inr (wouldBe g j (nn g (213 + k)) q, upd (upd (upd (upd (upd g (229 + 10 * k + q) (wouldBe g j (nn g (213 + k)) q)) (200 + j) ((g (200 + j)) - (wouldBe g j (nn g (213 + k)) q))) (196 + j) ((g (196 + j)) + 2)) (204 + j) ((g (204 + j)) + 1)) 309 ((g 309) + 1)) := by simp [p_cutsI, p_cuts, p_cut5, minutesI, wornMore, c_3, kj, c_6, kk, c_9, kq, c_10, c_11, c_32, c_33, c_36, c_37, c_38, c_40]
                        exact g_iret (v := wouldBe g j (nn g (213 + k)) q) () X hw hr hlocks  (by rw [hop]; rfl) (by rw [hop]; rfl) dX4_cuts_305
                      · skip
                        have c_40 := Int32.not_le.mp c_40
                        refine lv_bipush (v := 20) hx hb dX4_cuts_269 (by decide) ?_
                        refine lv_goto (tgt := 276) hx hb dX4_cuts_271 (by decide) ?_
                        refine g_iast (ws' := (mo, .inr (4, [.ref ag, .ref ab, .ref ah, .int ch, .ref asv, .int hs, .ref ai, .int ty, .int wy, .int wd, .ref al, .int li, .int pl, .int iw, .ref at_])) :: (ag, .inl (dA 0, 310, .inl (upd (upd (upd g (229 + 10 * k + q) (wouldBe g j (nn g (213 + k)) q)) (200 + j) ((g (200 + j)) - (wouldBe g j (nn g (213 + k)) q))) (196 + j) 20))) :: R) X hw 1 rfl (i := 196 + j) (by omega) (by first | decide | omega) rfl dX4_cuts_276 (fun H locs hw => ?_)
                        refine lv_aload_n hx hb dX4_cuts_277 rfl (lv_at hl 4 rfl) ?_
                        refine g_get X cfX4 hw 0 0 rfl rfl q1834 rfl rfl dX4_cuts_278 ?_
                        refine lv_sipush (v := 204) hx hb dX4_cuts_281 (by decide) ?_
                        refine lv_iload_n hx hb dX4_cuts_284 rfl (lv_at hl 5 rfl) ?_
                        refine lv_iadd hx hb dX4_cuts_285 ?_
                        refine g_addN (a := 204) (b := j) ?_
                        refine lv_dup2_11 hx hb dX4_cuts_286 rfl rfl ?_
                        refine g_iald X hw 1 rfl (i := 204 + j) (by omega) (by first | decide | omega) dX4_cuts_287 ?_
                        refine g_top (y := g (204 + j)) ((upd_n (by omega)).trans ((upd_n (by omega)).trans (upd_n (by omega)))) ?_
                        refine lv_iconst (v := 1) hx hb dX4_cuts_288 (by decide) ?_
                        refine lv_iadd hx hb dX4_cuts_289 ?_
                        refine g_iast (ws' := (mo, .inr (4, [.ref ag, .ref ab, .ref ah, .int ch, .ref asv, .int hs, .ref ai, .int ty, .int wy, .int wd, .ref al, .int li, .int pl, .int iw, .ref at_])) :: (ag, .inl (dA 0, 310, .inl (upd (upd (upd (upd g (229 + 10 * k + q) (wouldBe g j (nn g (213 + k)) q)) (200 + j) ((g (200 + j)) - (wouldBe g j (nn g (213 + k)) q))) (196 + j) 20) (204 + j) ((g (204 + j)) + 1)))) :: R) X hw 1 rfl (i := 204 + j) (by omega) (by first | decide | omega) rfl dX4_cuts_290 (fun H locs hw => ?_)
                        refine lv_aload_n hx hb dX4_cuts_291 rfl (lv_at hl 4 rfl) ?_
                        refine g_get X cfX4 hw 0 0 rfl rfl q1834 rfl rfl dX4_cuts_292 ?_
                        refine lv_sipush (v := 309) hx hb dX4_cuts_295 (by decide) ?_
                        refine lv_dup2_11 hx hb dX4_cuts_298 rfl rfl ?_
                        refine g_iald X hw 1 rfl (i := 309) (by decide) (by decide) dX4_cuts_299 ?_
                        refine g_top (y := g 309) ((upd_n (by omega)).trans ((upd_n (by omega)).trans ((upd_n (by omega)).trans (upd_n (by omega))))) ?_
                        refine lv_iconst (v := 1) hx hb dX4_cuts_300 (by decide) ?_
                        refine lv_iadd hx hb dX4_cuts_301 ?_
                        refine g_iast (ws' := (mo, .inr (4, [.ref ag, .ref ab, .ref ah, .int ch, .ref asv, .int hs, .ref ai, .int ty, .int wy, .int wd, .ref al, .int li, .int pl, .int iw, .ref at_])) :: (ag, .inl (dA 0, 310, .inl (upd (upd (upd (upd (upd g (229 + 10 * k + q) (wouldBe g j (nn g (213 + k)) q)) (200 + j) ((g (200 + j)) - (wouldBe g j (nn g (213 + k)) q))) (196 + j) 20) (204 + j) ((g (204 + j)) + 1)) 309 ((g 309) + 1)))) :: R) X hw 1 rfl (i := 309) (by decide) (by decide) rfl dX4_cuts_302 (fun H locs hw => ?_)
                        refine lv_iload hx hb dX4_cuts_303 (lv_at hl 2 rfl) ?_
                        have hop : p_cutsI g (nI j) (nI k) (nI q) = .inr (wouldBe g j (nn g (213 + k)) q, upd (upd (upd (upd (upd g (229 + 10 * k + q) (wouldBe g j (nn g (213 + k)) q)) (200 + j) ((g (200 + j)) - (wouldBe g j (nn g (213 + k)) q))) (196 + j) 20) (204 + j) ((g (204 + j)) + 1)) 309 ((g 309) + 1)) := by simp [p_cutsI, p_cuts, p_cut5, minutesI, wornMore, c_3, kj, c_6, kk, c_9, kq, c_10, c_11, c_32, c_33, c_36, c_37, c_38, c_40]
                        exact g_iret (v := wouldBe g j (nn g (213 + k)) q) () X hw hr hlocks  (by rw [hop]; rfl) (by rw [hop]; rfl) dX4_cuts_305
                  · skip
                    have c_37 := Int32.not_le.mp c_37
                    refine lv_aload_n hx hb dX4_cuts_187 rfl (lv_at hl 3 rfl) ?_
                    refine lv_bipush (v := 8) hx hb dX4_cuts_188 (by decide) ?_
                    refine lv_aload_n hx hb dX4_cuts_190 rfl (lv_at hl 3 rfl) ?_
                    refine g_get X cfX4 hw 0 0 rfl rfl q1834 rfl rfl dX4_cuts_191 ?_
                    refine lv_sipush (v := 200) hx hb dX4_cuts_194 (by decide) ?_
                    refine lv_iload_n hx hb dX4_cuts_197 rfl (lv_at hl 4 rfl) ?_
                    refine lv_iadd hx hb dX4_cuts_198 ?_
                    refine g_addN (a := 200) (b := j) ?_
                    refine g_iald X hw 1 rfl (i := 200 + j) (by omega) (by first | decide | omega) dX4_cuts_199 ?_
                    refine va_calli (va_runV (As := [.int 8, .int (g (200 + j))]) (rest := []) X.1 (m_X4_refused l D dA A E hE ((ag, .inl (dA 0, 310, .inl g)) :: R) mo ag ab ah asv ai al at_ ch hs ty wy wd li pl iw (by first | assumption | omega) 8 (g (200 + j))) (cwV 2 X.1.2.2.2.2 (lw_V q1924 q1926 qs28 q80 q1927) rfl rfl rfl (by decide +kernel) ⟨Nat.le_of_ble_eq_true rfl, Nat.le_of_ble_eq_true rfl⟩) (g_preV hE X.2 hw 0 rfl rfl) rfl rfl hl.1 rfl (lv_room (Nat.le_of_ble_eq_true rfl)) dX4_cuts_200 ⟨Nat.le_of_ble_eq_true rfl, Nat.le_of_ble_eq_true rfl⟩) hw.2.2 (fun q _ h => h) (fun q h => h) (fun r_42 u t H locs ht hvm h_41 hB hz9 hk9 hS => ?_)
                    have hw : gW D A ((mo, .inr (4, [.ref ag, .ref ab, .ref ah, .int ch, .ref asv, .int hs, .ref ai, .int ty, .int 8, .int (g (200 + j)), .ref al, .int li, .int pl, .int iw, .ref at_])) :: (ag, .inl (dA 0, 310, .inl g)) :: R) s H locs := g_aft ht hB hS
                    obtain rfl : r_42 = -14 := h_41
                    have hop : p_cutsI g (nI j) (nI k) (nI q) = .inl (8, g (200 + j)) := by simp [p_cutsI, p_cuts, p_cut5, minutesI, wornMore, c_3, kj, c_6, kk, c_9, kq, c_10, c_11, c_32, c_33, c_36, c_37]
                    exact g_iret (v := -14) () X hw hr hlocks  (by rw [hop]; rfl) (by rw [hop]; rfl) dX4_cuts_203
                · skip
                  refine lv_iload hx hb dX4_cuts_159 (lv_at hl 0 rfl) ?_
                  refine lv_iconst (v := 1) hx hb dX4_cuts_161 (by decide) ?_
                  refine lv_iadd hx hb dX4_cuts_162 ?_
                  refine lv_iconst (v := 2) hx hb dX4_cuts_163 (by decide) ?_
                  refine lv_idiv hx hb dX4_cuts_164 (by decide) ?_
                  refine lv_goto (tgt := 170) hx hb dX4_cuts_165 (by decide) ?_
                  refine lv_istore (lv' := [(6, .int (((wouldBe g j (nn g (213 + k)) q) + 1) / 2)), (5, .int (wouldBe g j (nn g (213 + k)) q)), (4, .int (nI (229 + 10 * k + q))), (0, .ref mo), (1, .int (nI j)), (2, .int (nI k)), (3, .int (nI q))]) hx hb dX4_cuts_170 hl (by decide) rfl (fun ls hl => ?_)
                  refine lv_aload_n hx hb dX4_cuts_172 rfl (lv_at hl 3 rfl) ?_
                  refine g_get X cfX4 hw 0 0 rfl rfl q1834 rfl rfl dX4_cuts_173 ?_
                  refine lv_sipush (v := 200) hx hb dX4_cuts_176 (by decide) ?_
                  refine lv_iload_n hx hb dX4_cuts_179 rfl (lv_at hl 4 rfl) ?_
                  refine lv_iadd hx hb dX4_cuts_180 ?_
                  refine g_addN (a := 200) (b := j) ?_
                  refine g_iald X hw 1 rfl (i := 200 + j) (by omega) (by first | decide | omega) dX4_cuts_181 ?_
                  refine lv_iload hx hb dX4_cuts_182 (lv_at hl 0 rfl) ?_
                  refine lv_icmp_ge (tgt := 204) hx hb dX4_cuts_184 (by decide) (fun c_43 => ?_) (fun c_43 => ?_)
                  · skip
                    have c_43 := Int32.not_lt.mpr c_43
                    refine lv_aload_n hx hb dX4_cuts_204 rfl (lv_at hl 3 rfl) ?_
                    refine g_get X cfX4 hw 0 0 rfl rfl q1834 rfl rfl dX4_cuts_205 ?_
                    refine lv_iload hx hb dX4_cuts_208 (lv_at hl 2 rfl) ?_
                    refine lv_iload hx hb dX4_cuts_210 (lv_at hl 1 rfl) ?_
                    refine g_iast (ws' := (mo, .inr (4, [.ref ag, .ref ab, .ref ah, .int ch, .ref asv, .int hs, .ref ai, .int ty, .int wy, .int wd, .ref al, .int li, .int pl, .int iw, .ref at_])) :: (ag, .inl (dA 0, 310, .inl (upd g (229 + 10 * k + q) (wouldBe g j (nn g (213 + k)) q)))) :: R) X hw 1 rfl (i := 229 + 10 * k + q) (by omega) (by first | decide | omega) rfl dX4_cuts_212 (fun H locs hw => ?_)
                    refine lv_aload_n hx hb dX4_cuts_213 rfl (lv_at hl 3 rfl) ?_
                    refine g_get X cfX4 hw 0 0 rfl rfl q1834 rfl rfl dX4_cuts_214 ?_
                    refine lv_sipush (v := 200) hx hb dX4_cuts_217 (by decide) ?_
                    refine lv_iload_n hx hb dX4_cuts_220 rfl (lv_at hl 4 rfl) ?_
                    refine lv_iadd hx hb dX4_cuts_221 ?_
                    refine g_addN (a := 200) (b := j) ?_
                    refine lv_dup2_11 hx hb dX4_cuts_222 rfl rfl ?_
                    refine g_iald X hw 1 rfl (i := 200 + j) (by omega) (by first | decide | omega) dX4_cuts_223 ?_
                    refine g_top (y := g (200 + j)) (upd_n (by omega)) ?_
                    refine lv_iload hx hb dX4_cuts_224 (lv_at hl 0 rfl) ?_
                    refine lv_isub hx hb dX4_cuts_226 ?_
                    refine g_iast (ws' := (mo, .inr (4, [.ref ag, .ref ab, .ref ah, .int ch, .ref asv, .int hs, .ref ai, .int ty, .int wy, .int wd, .ref al, .int li, .int pl, .int iw, .ref at_])) :: (ag, .inl (dA 0, 310, .inl (upd (upd g (229 + 10 * k + q) (wouldBe g j (nn g (213 + k)) q)) (200 + j) ((g (200 + j)) - (((wouldBe g j (nn g (213 + k)) q) + 1) / 2))))) :: R) X hw 1 rfl (i := 200 + j) (by omega) (by first | decide | omega) rfl dX4_cuts_227 (fun H locs hw => ?_)
                    refine lv_aload_n hx hb dX4_cuts_228 rfl (lv_at hl 3 rfl) ?_
                    refine g_get X cfX4 hw 0 0 rfl rfl q1834 rfl rfl dX4_cuts_229 ?_
                    refine lv_sipush (v := 196) hx hb dX4_cuts_232 (by decide) ?_
                    refine lv_iload_n hx hb dX4_cuts_235 rfl (lv_at hl 4 rfl) ?_
                    refine lv_iadd hx hb dX4_cuts_236 ?_
                    refine g_addN (a := 196) (b := j) ?_
                    refine g_iald X hw 1 rfl (i := 196 + j) (by omega) (by first | decide | omega) dX4_cuts_237 ?_
                    refine g_top (y := g (196 + j)) ((upd_n (by omega)).trans (upd_n (by omega))) ?_
                    refine lv_iload hx hb dX4_cuts_238 (lv_at hl 1 rfl) ?_
                    refine lv_bipush (v := 30) hx hb dX4_cuts_240 (by decide) ?_
                    refine lv_icmp_le (tgt := 249) hx hb dX4_cuts_242 (by decide) (fun c_44 => ?_) (fun c_44 => ?_)
                    · skip
                      have c_44 := Int32.not_lt.mpr c_44
                      refine lv_iconst (v := 1) hx hb dX4_cuts_249 (by decide) ?_
                      refine lv_iadd hx hb dX4_cuts_250 ?_
                      refine lv_istore (lv' := [(7, .int ((g (196 + j)) + 1)), (6, .int (((wouldBe g j (nn g (213 + k)) q) + 1) / 2)), (5, .int (wouldBe g j (nn g (213 + k)) q)), (4, .int (nI (229 + 10 * k + q))), (0, .ref mo), (1, .int (nI j)), (2, .int (nI k)), (3, .int (nI q))]) hx hb dX4_cuts_251 hl (by decide) rfl (fun ls hl => ?_)
                      refine lv_aload_n hx hb dX4_cuts_253 rfl (lv_at hl 4 rfl) ?_
                      refine g_get X cfX4 hw 0 0 rfl rfl q1834 rfl rfl dX4_cuts_254 ?_
                      refine lv_sipush (v := 196) hx hb dX4_cuts_257 (by decide) ?_
                      refine lv_iload_n hx hb dX4_cuts_260 rfl (lv_at hl 5 rfl) ?_
                      refine lv_iadd hx hb dX4_cuts_261 ?_
                      refine g_addN (a := 196) (b := j) ?_
                      refine lv_iload hx hb dX4_cuts_262 (lv_at hl 0 rfl) ?_
                      refine lv_bipush (v := 20) hx hb dX4_cuts_264 (by decide) ?_
                      refine lv_icmp_le (tgt := 274) hx hb dX4_cuts_266 (by decide) (fun c_45 => ?_) (fun c_45 => ?_)
                      · skip
                        have c_45 := Int32.not_lt.mpr c_45
                        refine lv_iload hx hb dX4_cuts_274 (lv_at hl 0 rfl) ?_
                        refine g_iast (ws' := (mo, .inr (4, [.ref ag, .ref ab, .ref ah, .int ch, .ref asv, .int hs, .ref ai, .int ty, .int wy, .int wd, .ref al, .int li, .int pl, .int iw, .ref at_])) :: (ag, .inl (dA 0, 310, .inl (upd (upd (upd g (229 + 10 * k + q) (wouldBe g j (nn g (213 + k)) q)) (200 + j) ((g (200 + j)) - (((wouldBe g j (nn g (213 + k)) q) + 1) / 2))) (196 + j) ((g (196 + j)) + 1)))) :: R) X hw 1 rfl (i := 196 + j) (by omega) (by first | decide | omega) rfl dX4_cuts_276 (fun H locs hw => ?_)
                        refine lv_aload_n hx hb dX4_cuts_277 rfl (lv_at hl 4 rfl) ?_
                        refine g_get X cfX4 hw 0 0 rfl rfl q1834 rfl rfl dX4_cuts_278 ?_
                        refine lv_sipush (v := 204) hx hb dX4_cuts_281 (by decide) ?_
                        refine lv_iload_n hx hb dX4_cuts_284 rfl (lv_at hl 5 rfl) ?_
                        refine lv_iadd hx hb dX4_cuts_285 ?_
                        refine g_addN (a := 204) (b := j) ?_
                        refine lv_dup2_11 hx hb dX4_cuts_286 rfl rfl ?_
                        refine g_iald X hw 1 rfl (i := 204 + j) (by omega) (by first | decide | omega) dX4_cuts_287 ?_
                        refine g_top (y := g (204 + j)) ((upd_n (by omega)).trans ((upd_n (by omega)).trans (upd_n (by omega)))) ?_
                        refine lv_iconst (v := 1) hx hb dX4_cuts_288 (by decide) ?_
                        refine lv_iadd hx hb dX4_cuts_289 ?_
                        refine g_iast (ws' := (mo, .inr (4, [.ref ag, .ref ab, .ref ah, .int ch, .ref asv, .int hs, .ref ai, .int ty, .int wy, .int wd, .ref al, .int li, .int pl, .int iw, .ref at_])) :: (ag, .inl (dA 0, 310, .inl (upd (upd (upd (upd g (229 + 10 * k + q) (wouldBe g j (nn g (213 + k)) q)) (200 + j) ((g (200 + j)) - (((wouldBe g j (nn g (213 + k)) q) + 1) / 2))) (196 + j) ((g (196 + j)) + 1)) (204 + j) ((g (204 + j)) + 1)))) :: R) X hw 1 rfl (i := 204 + j) (by omega) (by first | decide | omega) rfl dX4_cuts_290 (fun H locs hw => ?_)
                        refine lv_aload_n hx hb dX4_cuts_291 rfl (lv_at hl 4 rfl) ?_
                        refine g_get X cfX4 hw 0 0 rfl rfl q1834 rfl rfl dX4_cuts_292 ?_
                        refine lv_sipush (v := 309) hx hb dX4_cuts_295 (by decide) ?_
                        refine lv_dup2_11 hx hb dX4_cuts_298 rfl rfl ?_
                        refine g_iald X hw 1 rfl (i := 309) (by decide) (by decide) dX4_cuts_299 ?_
                        refine g_top (y := g 309) ((upd_n (by omega)).trans ((upd_n (by omega)).trans ((upd_n (by omega)).trans (upd_n (by omega))))) ?_
                        refine lv_iconst (v := 1) hx hb dX4_cuts_300 (by decide) ?_
                        refine lv_iadd hx hb dX4_cuts_301 ?_
                        refine g_iast (ws' := (mo, .inr (4, [.ref ag, .ref ab, .ref ah, .int ch, .ref asv, .int hs, .ref ai, .int ty, .int wy, .int wd, .ref al, .int li, .int pl, .int iw, .ref at_])) :: (ag, .inl (dA 0, 310, .inl (upd (upd (upd (upd (upd g (229 + 10 * k + q) (wouldBe g j (nn g (213 + k)) q)) (200 + j) ((g (200 + j)) - (((wouldBe g j (nn g (213 + k)) q) + 1) / 2))) (196 + j) ((g (196 + j)) + 1)) (204 + j) ((g (204 + j)) + 1)) 309 ((g 309) + 1)))) :: R) X hw 1 rfl (i := 309) (by decide) (by decide) rfl dX4_cuts_302 (fun H locs hw => ?_)
                        refine lv_iload hx hb dX4_cuts_303 (lv_at hl 2 rfl) ?_
                        have hop : p_cutsI g (nI j) (nI k) (nI q) = .inr (wouldBe g j (nn g (213 + k)) q, upd (upd (upd (upd (upd g (229 + 10 * k + q) (wouldBe g j (nn g (213 + k)) q)) (200 + j) ((g (200 + j)) - (((wouldBe g j (nn g (213 + k)) q) + 1) / 2))) (196 + j) ((g (196 + j)) + 1)) (204 + j) ((g (204 + j)) + 1)) 309 ((g 309) + 1)) := by simp [p_cutsI, p_cuts, p_cut5, minutesI, wornMore, c_3, kj, c_6, kk, c_9, kq, c_10, c_11, c_32, c_33, c_36, c_43, c_44, c_45]
                        exact g_iret (v := wouldBe g j (nn g (213 + k)) q) () X hw hr hlocks  (by rw [hop]; rfl) (by rw [hop]; rfl) dX4_cuts_305
                      · skip
                        have c_45 := Int32.not_le.mp c_45
                        refine lv_bipush (v := 20) hx hb dX4_cuts_269 (by decide) ?_
                        refine lv_goto (tgt := 276) hx hb dX4_cuts_271 (by decide) ?_
                        refine g_iast (ws' := (mo, .inr (4, [.ref ag, .ref ab, .ref ah, .int ch, .ref asv, .int hs, .ref ai, .int ty, .int wy, .int wd, .ref al, .int li, .int pl, .int iw, .ref at_])) :: (ag, .inl (dA 0, 310, .inl (upd (upd (upd g (229 + 10 * k + q) (wouldBe g j (nn g (213 + k)) q)) (200 + j) ((g (200 + j)) - (((wouldBe g j (nn g (213 + k)) q) + 1) / 2))) (196 + j) 20))) :: R) X hw 1 rfl (i := 196 + j) (by omega) (by first | decide | omega) rfl dX4_cuts_276 (fun H locs hw => ?_)
                        refine lv_aload_n hx hb dX4_cuts_277 rfl (lv_at hl 4 rfl) ?_
                        refine g_get X cfX4 hw 0 0 rfl rfl q1834 rfl rfl dX4_cuts_278 ?_
                        refine lv_sipush (v := 204) hx hb dX4_cuts_281 (by decide) ?_
                        refine lv_iload_n hx hb dX4_cuts_284 rfl (lv_at hl 5 rfl) ?_
                        refine lv_iadd hx hb dX4_cuts_285 ?_
                        refine g_addN (a := 204) (b := j) ?_
                        refine lv_dup2_11 hx hb dX4_cuts_286 rfl rfl ?_
                        refine g_iald X hw 1 rfl (i := 204 + j) (by omega) (by first | decide | omega) dX4_cuts_287 ?_
                        refine g_top (y := g (204 + j)) ((upd_n (by omega)).trans ((upd_n (by omega)).trans (upd_n (by omega)))) ?_
                        refine lv_iconst (v := 1) hx hb dX4_cuts_288 (by decide) ?_
                        refine lv_iadd hx hb dX4_cuts_289 ?_
                        refine g_iast (ws' := (mo, .inr (4, [.ref ag, .ref ab, .ref ah, .int ch, .ref asv, .int hs, .ref ai, .int ty, .int wy, .int wd, .ref al, .int li, .int pl, .int iw, .ref at_])) :: (ag, .inl (dA 0, 310, .inl (upd (upd (upd (upd g (229 + 10 * k + q) (wouldBe g j (nn g (213 + k)) q)) (200 + j) ((g (200 + j)) - (((wouldBe g j (nn g (213 + k)) q) + 1) / 2))) (196 + j) 20) (204 + j) ((g (204 + j)) + 1)))) :: R) X hw 1 rfl (i := 204 + j) (by omega) (by first | decide | omega) rfl dX4_cuts_290 (fun H locs hw => ?_)
                        refine lv_aload_n hx hb dX4_cuts_291 rfl (lv_at hl 4 rfl) ?_
                        refine g_get X cfX4 hw 0 0 rfl rfl q1834 rfl rfl dX4_cuts_292 ?_
                        refine lv_sipush (v := 309) hx hb dX4_cuts_295 (by decide) ?_
                        refine lv_dup2_11 hx hb dX4_cuts_298 rfl rfl ?_
                        refine g_iald X hw 1 rfl (i := 309) (by decide) (by decide) dX4_cuts_299 ?_
                        refine g_top (y := g 309) ((upd_n (by omega)).trans ((upd_n (by omega)).trans ((upd_n (by omega)).trans (upd_n (by omega))))) ?_
                        refine lv_iconst (v := 1) hx hb dX4_cuts_300 (by decide) ?_
                        refine lv_iadd hx hb dX4_cuts_301 ?_
                        refine g_iast (ws' := (mo, .inr (4, [.ref ag, .ref ab, .ref ah, .int ch, .ref asv, .int hs, .ref ai, .int ty, .int wy, .int wd, .ref al, .int li, .int pl, .int iw, .ref at_])) :: (ag, .inl (dA 0, 310, .inl (upd (upd (upd (upd (upd g (229 + 10 * k + q) (wouldBe g j (nn g (213 + k)) q)) (200 + j) ((g (200 + j)) - (((wouldBe g j (nn g (213 + k)) q) + 1) / 2))) (196 + j) 20) (204 + j) ((g (204 + j)) + 1)) 309 ((g 309) + 1)))) :: R) X hw 1 rfl (i := 309) (by decide) (by decide) rfl dX4_cuts_302 (fun H locs hw => ?_)
                        refine lv_iload hx hb dX4_cuts_303 (lv_at hl 2 rfl) ?_
                        have hop : p_cutsI g (nI j) (nI k) (nI q) = .inr (wouldBe g j (nn g (213 + k)) q, upd (upd (upd (upd (upd g (229 + 10 * k + q) (wouldBe g j (nn g (213 + k)) q)) (200 + j) ((g (200 + j)) - (((wouldBe g j (nn g (213 + k)) q) + 1) / 2))) (196 + j) 20) (204 + j) ((g (204 + j)) + 1)) 309 ((g 309) + 1)) := by simp [p_cutsI, p_cuts, p_cut5, minutesI, wornMore, c_3, kj, c_6, kk, c_9, kq, c_10, c_11, c_32, c_33, c_36, c_43, c_44, c_45]
                        exact g_iret (v := wouldBe g j (nn g (213 + k)) q) () X hw hr hlocks  (by rw [hop]; rfl) (by rw [hop]; rfl) dX4_cuts_305
                    · skip
                      have c_44 := Int32.not_le.mp c_44
                      refine lv_iconst (v := 2) hx hb dX4_cuts_245 (by decide) ?_
                      refine lv_goto (tgt := 250) hx hb dX4_cuts_246 (by decide) ?_
                      refine lv_iadd hx hb dX4_cuts_250 ?_
                      refine lv_istore (lv' := [(7, .int ((g (196 + j)) + 2)), (6, .int (((wouldBe g j (nn g (213 + k)) q) + 1) / 2)), (5, .int (wouldBe g j (nn g (213 + k)) q)), (4, .int (nI (229 + 10 * k + q))), (0, .ref mo), (1, .int (nI j)), (2, .int (nI k)), (3, .int (nI q))]) hx hb dX4_cuts_251 hl (by decide) rfl (fun ls hl => ?_)
                      refine lv_aload_n hx hb dX4_cuts_253 rfl (lv_at hl 4 rfl) ?_
                      refine g_get X cfX4 hw 0 0 rfl rfl q1834 rfl rfl dX4_cuts_254 ?_
                      refine lv_sipush (v := 196) hx hb dX4_cuts_257 (by decide) ?_
                      refine lv_iload_n hx hb dX4_cuts_260 rfl (lv_at hl 5 rfl) ?_
                      refine lv_iadd hx hb dX4_cuts_261 ?_
                      refine g_addN (a := 196) (b := j) ?_
                      refine lv_iload hx hb dX4_cuts_262 (lv_at hl 0 rfl) ?_
                      refine lv_bipush (v := 20) hx hb dX4_cuts_264 (by decide) ?_
                      refine lv_icmp_le (tgt := 274) hx hb dX4_cuts_266 (by decide) (fun c_46 => ?_) (fun c_46 => ?_)
                      · skip
                        have c_46 := Int32.not_lt.mpr c_46
                        refine lv_iload hx hb dX4_cuts_274 (lv_at hl 0 rfl) ?_
                        refine g_iast (ws' := (mo, .inr (4, [.ref ag, .ref ab, .ref ah, .int ch, .ref asv, .int hs, .ref ai, .int ty, .int wy, .int wd, .ref al, .int li, .int pl, .int iw, .ref at_])) :: (ag, .inl (dA 0, 310, .inl (upd (upd (upd g (229 + 10 * k + q) (wouldBe g j (nn g (213 + k)) q)) (200 + j) ((g (200 + j)) - (((wouldBe g j (nn g (213 + k)) q) + 1) / 2))) (196 + j) ((g (196 + j)) + 2)))) :: R) X hw 1 rfl (i := 196 + j) (by omega) (by first | decide | omega) rfl dX4_cuts_276 (fun H locs hw => ?_)
                        refine lv_aload_n hx hb dX4_cuts_277 rfl (lv_at hl 4 rfl) ?_
                        refine g_get X cfX4 hw 0 0 rfl rfl q1834 rfl rfl dX4_cuts_278 ?_
                        refine lv_sipush (v := 204) hx hb dX4_cuts_281 (by decide) ?_
                        refine lv_iload_n hx hb dX4_cuts_284 rfl (lv_at hl 5 rfl) ?_
                        refine lv_iadd hx hb dX4_cuts_285 ?_
                        refine g_addN (a := 204) (b := j) ?_
                        refine lv_dup2_11 hx hb dX4_cuts_286 rfl rfl ?_
                        refine g_iald X hw 1 rfl (i := 204 + j) (by omega) (by first | decide | omega) dX4_cuts_287 ?_
                        refine g_top (y := g (204 + j)) ((upd_n (by omega)).trans ((upd_n (by omega)).trans (upd_n (by omega)))) ?_
                        refine lv_iconst (v := 1) hx hb dX4_cuts_288 (by decide) ?_
                        refine lv_iadd hx hb dX4_cuts_289 ?_
                        refine g_iast (ws' := (mo, .inr (4, [.ref ag, .ref ab, .ref ah, .int ch, .ref asv, .int hs, .ref ai, .int ty, .int wy, .int wd, .ref al, .int li, .int pl, .int iw, .ref at_])) :: (ag, .inl (dA 0, 310, .inl (upd (upd (upd (upd g (229 + 10 * k + q) (wouldBe g j (nn g (213 + k)) q)) (200 + j) ((g (200 + j)) - (((wouldBe g j (nn g (213 + k)) q) + 1) / 2))) (196 + j) ((g (196 + j)) + 2)) (204 + j) ((g (204 + j)) + 1)))) :: R) X hw 1 rfl (i := 204 + j) (by omega) (by first | decide | omega) rfl dX4_cuts_290 (fun H locs hw => ?_)
                        refine lv_aload_n hx hb dX4_cuts_291 rfl (lv_at hl 4 rfl) ?_
                        refine g_get X cfX4 hw 0 0 rfl rfl q1834 rfl rfl dX4_cuts_292 ?_
                        refine lv_sipush (v := 309) hx hb dX4_cuts_295 (by decide) ?_
                        refine lv_dup2_11 hx hb dX4_cuts_298 rfl rfl ?_
                        refine g_iald X hw 1 rfl (i := 309) (by decide) (by decide) dX4_cuts_299 ?_
                        refine g_top (y := g 309) ((upd_n (by omega)).trans ((upd_n (by omega)).trans ((upd_n (by omega)).trans (upd_n (by omega))))) ?_
                        refine lv_iconst (v := 1) hx hb dX4_cuts_300 (by decide) ?_
                        refine lv_iadd hx hb dX4_cuts_301 ?_
                        refine g_iast (ws' := (mo, .inr (4, [.ref ag, .ref ab, .ref ah, .int ch, .ref asv, .int hs, .ref ai, .int ty, .int wy, .int wd, .ref al, .int li, .int pl, .int iw, .ref at_])) :: (ag, .inl (dA 0, 310, .inl (upd (upd (upd (upd (upd g (229 + 10 * k + q) (wouldBe g j (nn g (213 + k)) q)) (200 + j) ((g (200 + j)) - (((wouldBe g j (nn g (213 + k)) q) + 1) / 2))) (196 + j) ((g (196 + j)) + 2)) (204 + j) ((g (204 + j)) + 1)) 309 ((g 309) + 1)))) :: R) X hw 1 rfl (i := 309) (by decide) (by decide) rfl dX4_cuts_302 (fun H locs hw => ?_)
                        refine lv_iload hx hb dX4_cuts_303 (lv_at hl 2 rfl) ?_
                        have hop : p_cutsI g (nI j) (nI k) (nI q) = .inr (wouldBe g j (nn g (213 + k)) q, upd (upd (upd (upd (upd g (229 + 10 * k + q) (wouldBe g j (nn g (213 + k)) q)) (200 + j) ((g (200 + j)) - (((wouldBe g j (nn g (213 + k)) q) + 1) / 2))) (196 + j) ((g (196 + j)) + 2)) (204 + j) ((g (204 + j)) + 1)) 309 ((g 309) + 1)) := by simp [p_cutsI, p_cuts, p_cut5, minutesI, wornMore, c_3, kj, c_6, kk, c_9, kq, c_10, c_11, c_32, c_33, c_36, c_43, c_44, c_46]
                        exact g_iret (v := wouldBe g j (nn g (213 + k)) q) () X hw hr hlocks  (by rw [hop]; rfl) (by rw [hop]; rfl) dX4_cuts_305
                      · skip
                        have c_46 := Int32.not_le.mp c_46
                        refine lv_bipush (v := 20) hx hb dX4_cuts_269 (by decide) ?_
                        refine lv_goto (tgt := 276) hx hb dX4_cuts_271 (by decide) ?_
                        refine g_iast (ws' := (mo, .inr (4, [.ref ag, .ref ab, .ref ah, .int ch, .ref asv, .int hs, .ref ai, .int ty, .int wy, .int wd, .ref al, .int li, .int pl, .int iw, .ref at_])) :: (ag, .inl (dA 0, 310, .inl (upd (upd (upd g (229 + 10 * k + q) (wouldBe g j (nn g (213 + k)) q)) (200 + j) ((g (200 + j)) - (((wouldBe g j (nn g (213 + k)) q) + 1) / 2))) (196 + j) 20))) :: R) X hw 1 rfl (i := 196 + j) (by omega) (by first | decide | omega) rfl dX4_cuts_276 (fun H locs hw => ?_)
                        refine lv_aload_n hx hb dX4_cuts_277 rfl (lv_at hl 4 rfl) ?_
                        refine g_get X cfX4 hw 0 0 rfl rfl q1834 rfl rfl dX4_cuts_278 ?_
                        refine lv_sipush (v := 204) hx hb dX4_cuts_281 (by decide) ?_
                        refine lv_iload_n hx hb dX4_cuts_284 rfl (lv_at hl 5 rfl) ?_
                        refine lv_iadd hx hb dX4_cuts_285 ?_
                        refine g_addN (a := 204) (b := j) ?_
                        refine lv_dup2_11 hx hb dX4_cuts_286 rfl rfl ?_
                        refine g_iald X hw 1 rfl (i := 204 + j) (by omega) (by first | decide | omega) dX4_cuts_287 ?_
                        refine g_top (y := g (204 + j)) ((upd_n (by omega)).trans ((upd_n (by omega)).trans (upd_n (by omega)))) ?_
                        refine lv_iconst (v := 1) hx hb dX4_cuts_288 (by decide) ?_
                        refine lv_iadd hx hb dX4_cuts_289 ?_
                        refine g_iast (ws' := (mo, .inr (4, [.ref ag, .ref ab, .ref ah, .int ch, .ref asv, .int hs, .ref ai, .int ty, .int wy, .int wd, .ref al, .int li, .int pl, .int iw, .ref at_])) :: (ag, .inl (dA 0, 310, .inl (upd (upd (upd (upd g (229 + 10 * k + q) (wouldBe g j (nn g (213 + k)) q)) (200 + j) ((g (200 + j)) - (((wouldBe g j (nn g (213 + k)) q) + 1) / 2))) (196 + j) 20) (204 + j) ((g (204 + j)) + 1)))) :: R) X hw 1 rfl (i := 204 + j) (by omega) (by first | decide | omega) rfl dX4_cuts_290 (fun H locs hw => ?_)
                        refine lv_aload_n hx hb dX4_cuts_291 rfl (lv_at hl 4 rfl) ?_
                        refine g_get X cfX4 hw 0 0 rfl rfl q1834 rfl rfl dX4_cuts_292 ?_
                        refine lv_sipush (v := 309) hx hb dX4_cuts_295 (by decide) ?_
                        refine lv_dup2_11 hx hb dX4_cuts_298 rfl rfl ?_
                        refine g_iald X hw 1 rfl (i := 309) (by decide) (by decide) dX4_cuts_299 ?_
                        refine g_top (y := g 309) ((upd_n (by omega)).trans ((upd_n (by omega)).trans ((upd_n (by omega)).trans (upd_n (by omega))))) ?_
                        refine lv_iconst (v := 1) hx hb dX4_cuts_300 (by decide) ?_
                        refine lv_iadd hx hb dX4_cuts_301 ?_
                        refine g_iast (ws' := (mo, .inr (4, [.ref ag, .ref ab, .ref ah, .int ch, .ref asv, .int hs, .ref ai, .int ty, .int wy, .int wd, .ref al, .int li, .int pl, .int iw, .ref at_])) :: (ag, .inl (dA 0, 310, .inl (upd (upd (upd (upd (upd g (229 + 10 * k + q) (wouldBe g j (nn g (213 + k)) q)) (200 + j) ((g (200 + j)) - (((wouldBe g j (nn g (213 + k)) q) + 1) / 2))) (196 + j) 20) (204 + j) ((g (204 + j)) + 1)) 309 ((g 309) + 1)))) :: R) X hw 1 rfl (i := 309) (by decide) (by decide) rfl dX4_cuts_302 (fun H locs hw => ?_)
                        refine lv_iload hx hb dX4_cuts_303 (lv_at hl 2 rfl) ?_
                        have hop : p_cutsI g (nI j) (nI k) (nI q) = .inr (wouldBe g j (nn g (213 + k)) q, upd (upd (upd (upd (upd g (229 + 10 * k + q) (wouldBe g j (nn g (213 + k)) q)) (200 + j) ((g (200 + j)) - (((wouldBe g j (nn g (213 + k)) q) + 1) / 2))) (196 + j) 20) (204 + j) ((g (204 + j)) + 1)) 309 ((g 309) + 1)) := by simp [p_cutsI, p_cuts, p_cut5, minutesI, wornMore, c_3, kj, c_6, kk, c_9, kq, c_10, c_11, c_32, c_33, c_36, c_43, c_44, c_46]
                        exact g_iret (v := wouldBe g j (nn g (213 + k)) q) () X hw hr hlocks  (by rw [hop]; rfl) (by rw [hop]; rfl) dX4_cuts_305
                  · skip
                    have c_43 := Int32.not_le.mp c_43
                    refine lv_aload_n hx hb dX4_cuts_187 rfl (lv_at hl 3 rfl) ?_
                    refine lv_bipush (v := 8) hx hb dX4_cuts_188 (by decide) ?_
                    refine lv_aload_n hx hb dX4_cuts_190 rfl (lv_at hl 3 rfl) ?_
                    refine g_get X cfX4 hw 0 0 rfl rfl q1834 rfl rfl dX4_cuts_191 ?_
                    refine lv_sipush (v := 200) hx hb dX4_cuts_194 (by decide) ?_
                    refine lv_iload_n hx hb dX4_cuts_197 rfl (lv_at hl 4 rfl) ?_
                    refine lv_iadd hx hb dX4_cuts_198 ?_
                    refine g_addN (a := 200) (b := j) ?_
                    refine g_iald X hw 1 rfl (i := 200 + j) (by omega) (by first | decide | omega) dX4_cuts_199 ?_
                    refine va_calli (va_runV (As := [.int 8, .int (g (200 + j))]) (rest := []) X.1 (m_X4_refused l D dA A E hE ((ag, .inl (dA 0, 310, .inl g)) :: R) mo ag ab ah asv ai al at_ ch hs ty wy wd li pl iw (by first | assumption | omega) 8 (g (200 + j))) (cwV 2 X.1.2.2.2.2 (lw_V q1924 q1926 qs28 q80 q1927) rfl rfl rfl (by decide +kernel) ⟨Nat.le_of_ble_eq_true rfl, Nat.le_of_ble_eq_true rfl⟩) (g_preV hE X.2 hw 0 rfl rfl) rfl rfl hl.1 rfl (lv_room (Nat.le_of_ble_eq_true rfl)) dX4_cuts_200 ⟨Nat.le_of_ble_eq_true rfl, Nat.le_of_ble_eq_true rfl⟩) hw.2.2 (fun q _ h => h) (fun q h => h) (fun r_48 u t H locs ht hvm h_47 hB hz9 hk9 hS => ?_)
                    have hw : gW D A ((mo, .inr (4, [.ref ag, .ref ab, .ref ah, .int ch, .ref asv, .int hs, .ref ai, .int ty, .int 8, .int (g (200 + j)), .ref al, .int li, .int pl, .int iw, .ref at_])) :: (ag, .inl (dA 0, 310, .inl g)) :: R) s H locs := g_aft ht hB hS
                    obtain rfl : r_48 = -14 := h_47
                    have hop : p_cutsI g (nI j) (nI k) (nI q) = .inl (8, g (200 + j)) := by simp [p_cutsI, p_cuts, p_cut5, minutesI, wornMore, c_3, kj, c_6, kk, c_9, kq, c_10, c_11, c_32, c_33, c_36, c_43]
                    exact g_iret (v := -14) () X hw hr hlocks  (by rw [hop]; rfl) (by rw [hop]; rfl) dX4_cuts_203
              · skip
                refine lv_aload_n hx hb dX4_cuts_119 rfl (lv_at hl 1 rfl) ?_
                refine lv_bipush (v := 6) hx hb dX4_cuts_120 (by decide) ?_
                refine lv_iload_n hx hb dX4_cuts_122 rfl (lv_at hl 2 rfl) ?_
                refine va_calli (va_runV (As := [.int 6, .int (nI j)]) (rest := []) X.1 (m_X4_refused l D dA A E hE ((ag, .inl (dA 0, 310, .inl g)) :: R) mo ag ab ah asv ai al at_ ch hs ty wy wd li pl iw (by first | assumption | omega) 6 (nI j)) (cwV 2 X.1.2.2.2.2 (lw_V q1924 q1926 qs28 q80 q1927) rfl rfl rfl (by decide +kernel) ⟨Nat.le_of_ble_eq_true rfl, Nat.le_of_ble_eq_true rfl⟩) (g_preV hE X.2 hw 0 rfl rfl) rfl rfl hl.1 rfl (lv_room (Nat.le_of_ble_eq_true rfl)) dX4_cuts_123 ⟨Nat.le_of_ble_eq_true rfl, Nat.le_of_ble_eq_true rfl⟩) hw.2.2 (fun q _ h => h) (fun q h => h) (fun r_50 u t H locs ht hvm h_49 hB hz9 hk9 hS => ?_)
                have hw : gW D A ((mo, .inr (4, [.ref ag, .ref ab, .ref ah, .int ch, .ref asv, .int hs, .ref ai, .int ty, .int 6, .int (nI j), .ref al, .int li, .int pl, .int iw, .ref at_])) :: (ag, .inl (dA 0, 310, .inl g)) :: R) s H locs := g_aft ht hB hS
                obtain rfl : r_50 = -14 := h_49
                have hop : p_cutsI g (nI j) (nI k) (nI q) = .inl (6, nI j) := by simp [p_cutsI, p_cuts, p_cut5, minutesI, wornMore, c_3, kj, c_6, kk, c_9, kq, c_10, c_11, c_32, c_33]
                exact g_iret (v := -14) () X hw hr hlocks  (by rw [hop]; rfl) (by rw [hop]; rfl) dX4_cuts_126
            · skip
              refine lv_aload_n hx hb dX4_cuts_90 rfl (lv_at hl 1 rfl) ?_
              refine lv_bipush (v := 7) hx hb dX4_cuts_91 (by decide) ?_
              refine lv_aload_n hx hb dX4_cuts_93 rfl (lv_at hl 1 rfl) ?_
              refine g_get X cfX4 hw 0 0 rfl rfl q1834 rfl rfl dX4_cuts_94 ?_
              refine lv_iload hx hb dX4_cuts_97 (lv_at hl 0 rfl) ?_
              refine g_iald X hw 1 rfl (i := 229 + 10 * k + q) (by omega) (by first | decide | omega) dX4_cuts_99 ?_
              refine va_calli (va_runV (As := [.int 7, .int (g (229 + 10 * k + q))]) (rest := []) X.1 (m_X4_refused l D dA A E hE ((ag, .inl (dA 0, 310, .inl g)) :: R) mo ag ab ah asv ai al at_ ch hs ty wy wd li pl iw (by first | assumption | omega) 7 (g (229 + 10 * k + q))) (cwV 2 X.1.2.2.2.2 (lw_V q1924 q1926 qs28 q80 q1927) rfl rfl rfl (by decide +kernel) ⟨Nat.le_of_ble_eq_true rfl, Nat.le_of_ble_eq_true rfl⟩) (g_preV hE X.2 hw 0 rfl rfl) rfl rfl hl.1 rfl (lv_room (Nat.le_of_ble_eq_true rfl)) dX4_cuts_100 ⟨Nat.le_of_ble_eq_true rfl, Nat.le_of_ble_eq_true rfl⟩) hw.2.2 (fun q _ h => h) (fun q h => h) (fun r_52 u t H locs ht hvm h_51 hB hz9 hk9 hS => ?_)
              have hw : gW D A ((mo, .inr (4, [.ref ag, .ref ab, .ref ah, .int ch, .ref asv, .int hs, .ref ai, .int ty, .int 7, .int (g (229 + 10 * k + q)), .ref al, .int li, .int pl, .int iw, .ref at_])) :: (ag, .inl (dA 0, 310, .inl g)) :: R) s H locs := g_aft ht hB hS
              obtain rfl : r_52 = -14 := h_51
              have hop : p_cutsI g (nI j) (nI k) (nI q) = .inl (7, g (229 + 10 * k + q)) := by simp [p_cutsI, p_cuts, p_cut5, minutesI, wornMore, c_3, kj, c_6, kk, c_9, kq, c_10, c_11, c_32]
              exact g_iret (v := -14) () X hw hr hlocks  (by rw [hop]; rfl) (by rw [hop]; rfl) dX4_cuts_103
        · skip
          refine lv_aload_n hx hb dX4_cuts_40 rfl (lv_at hl 0 rfl) ?_
          refine lv_bipush (v := 9) hx hb dX4_cuts_41 (by decide) ?_
          refine lv_aload_n hx hb dX4_cuts_43 rfl (lv_at hl 0 rfl) ?_
          refine lv_iload_n hx hb dX4_cuts_44 rfl (lv_at hl 2 rfl) ?_
          refine va_calli (va_runV (As := [.int (nI k)]) (rest := [.int 9, .ref mo]) X.1 (m_X4_ledgeFor l D dA A E hE R mo ag ab ah asv ai al at_ ch hs ty wy wd li pl iw g (by first | assumption | omega) k (by first | assumption | omega)) (cwV 1 X.1.2.2.2.2 (lw_V q1988 q1990 qs37 q80 q1991) rfl rfl rfl (by decide +kernel) ⟨Nat.le_of_ble_eq_true rfl, Nat.le_of_ble_eq_true rfl⟩) (g_preV hE X.2 hw 0 rfl rfl) rfl rfl hl.1 rfl (lv_room (Nat.le_of_ble_eq_true rfl)) dX4_cuts_45 ⟨Nat.le_of_ble_eq_true rfl, Nat.le_of_ble_eq_true rfl⟩) hw.2.2 (fun q _ h => h) (fun q h => h) (fun r_54 u t H locs ht hvm h_53 hB hz9 hk9 hS => ?_)
          have hw : gW D A ((mo, .inr (4, [.ref ag, .ref ab, .ref ah, .int ch, .ref asv, .int hs, .ref ai, .int ty, .int wy, .int wd, .ref al, .int li, .int pl, .int iw, .ref at_])) :: (ag, .inl (dA 0, 310, .inl g)) :: R) s H locs := g_aft ht hB hS
          obtain rfl : r_54 = nI (ledgeFor g k) := h_53
          refine va_calli (va_runV (As := [.int 9, .int (nI (ledgeFor g k))]) (rest := []) X.1 (m_X4_refused l D dA A E hE ((ag, .inl (dA 0, 310, .inl g)) :: R) mo ag ab ah asv ai al at_ ch hs ty wy wd li pl iw (by first | assumption | omega) 9 (nI (ledgeFor g k))) (cwV 2 X.1.2.2.2.2 (lw_V q1924 q1926 qs28 q80 q1927) rfl rfl rfl (by decide +kernel) ⟨Nat.le_of_ble_eq_true rfl, Nat.le_of_ble_eq_true rfl⟩) (g_preV hE X.2 hw 0 rfl rfl) rfl rfl hl.1 rfl (lv_room (Nat.le_of_ble_eq_true rfl)) dX4_cuts_48 ⟨Nat.le_of_ble_eq_true rfl, Nat.le_of_ble_eq_true rfl⟩) hw.2.2 (fun q _ h => h) (fun q h => h) (fun r_56 u t H locs ht hvm h_55 hB hz9 hk9 hS => ?_)
          have hw : gW D A ((mo, .inr (4, [.ref ag, .ref ab, .ref ah, .int ch, .ref asv, .int hs, .ref ai, .int ty, .int 9, .int (nI (ledgeFor g k)), .ref al, .int li, .int pl, .int iw, .ref at_])) :: (ag, .inl (dA 0, 310, .inl g)) :: R) s H locs := g_aft ht hB hS
          obtain rfl : r_56 = -14 := h_55
          have hop : p_cutsI g (nI j) (nI k) (nI q) = .inl (9, nI (ledgeFor g k)) := by simp [p_cutsI, p_cuts, p_cut5, minutesI, wornMore, c_3, kj, c_6, kk, c_9, kq, c_10]
          exact g_iret (v := -14) () X hw hr hlocks  (by rw [hop]; rfl) (by rw [hop]; rfl) dX4_cuts_51
      · skip
        have c_9 := bZ_0.mp c_9
        refine lv_bipush (v := (-11)) hx hb dX4_cuts_23 (by decide) ?_
        have hop : p_cutsI g (nI j) (nI k) z = .inr ((-11), g) := by simp [p_cutsI, p_cuts, p_cut5, minutesI, wornMore, c_3, kj, c_6, kk, c_9]
        exact g_iret (v := (-11)) () X hw hr hlocks  (by rw [hop]; rfl) (by rw [hop]; rfl) dX4_cuts_25

set_option maxHeartbeats 4000000 in
theorem m_X4_renews (l : Launch) (D : va_G) (dA : Nat → ClassId) (A : Nat → Prop) (E : State → Prop) (hE : gSt A E) (R : va_W) (mo ag ab ah asv ai al at_ : Nat) (ch hs ty wy wd li pl iw : Int32) (g : gG) (hI : gInv g) (v : Int32) : Met l yX4_renews (ws_ yX4_renews cX4_renews 3 (Option.some FieldType.int)) ({ frames := 2, cells := 0, slots := 0, locals := 43 }) (va_Pc [.ref mo, .int v] (gB D dA A E ((mo, .inr (4, [.ref ag, .ref ab, .ref ah, .int ch, .ref asv, .int hs, .ref ai, .int ty, .int wy, .int wd, .ref al, .int li, .int pl, .int iw, .ref at_])) :: (ag, .inl (dA 0, 310, .inl g)) :: R))) (va_Qi (fun (r : Int32) (_ : Unit) => r = gr_v (p_renewsI g v)) (fun _ => gE D A ((mo, .inr (4, [.ref ag, .ref ab, .ref ah, .int ch, .ref asv, .int hs, .ref ai, .int ty, .int (gr_w wy (p_renewsI g v)), .int (gr_d wd (p_renewsI g v)), .ref al, .int li, .int pl, .int iw, .ref at_])) :: (ag, .inl (dA 0, 310, .inl (gr_g g (p_renewsI g v)))) :: R)) A) (0) (0) A := by
  refine g_start rfl rfl ?_
  intro p e s m args below meth c ls X hr hlocks hin hw hl
  have hx := X.1.1
  have hb := X.1.2.1
  have hl : lv_has ls 3 [(0, .ref mo), (1, .int v)] := hl
  have hI2 := hI.c.2
  have hI4 := hI.m.2
  have hI6 := hI.k.2
  refine lv_aload_n hx hb dX4_renews_0 rfl (lv_at hl 0 rfl) ?_
  refine lv_iload_n hx hb dX4_renews_1 rfl (lv_at hl 1 rfl) ?_
  refine va_calli (va_runV (As := [.int v]) (rest := []) X.1 (m_X4_isCopyist l D dA A E hE R mo ag ab ah asv ai al at_ ch hs ty wy wd li pl iw g v) (cwV 1 X.1.2.2.2.2 (lw_V q1968 q1970 qs33 q80 q1971) rfl rfl rfl (by decide +kernel) ⟨Nat.le_of_ble_eq_true rfl, Nat.le_of_ble_eq_true rfl⟩) (g_preV hE X.2 hw 0 rfl rfl) rfl rfl hl.1 rfl (lv_room (Nat.le_of_ble_eq_true rfl)) dX4_renews_2 ⟨Nat.le_of_ble_eq_true rfl, Nat.le_of_ble_eq_true rfl⟩) hw.2.2 (fun q _ h => h) (fun q h => h) (fun r_2 u t H locs ht hvm h_1 hB hz9 hk9 hS => ?_)
  have hw : gW D A ((mo, .inr (4, [.ref ag, .ref ab, .ref ah, .int ch, .ref asv, .int hs, .ref ai, .int ty, .int wy, .int wd, .ref al, .int li, .int pl, .int iw, .ref at_])) :: (ag, .inl (dA 0, 310, .inl g)) :: R) s H locs := g_aft ht hB hS
  obtain rfl : r_2 = bZ (inR v 0 (g 191 - 1)) := h_1
  refine lv_if_ne (tgt := 11) hx hb dX4_renews_5 (by decide) (fun c_3 => ?_) (fun c_3 => ?_)
  · skip
    have c_3 := bZ_1 c_3
    obtain ⟨j, hj, ej⟩ := hI.inM c_3
    subst ej
    have kj : (nI j).toNatClampNeg = j := nI_clamp (by omega)
    refine lv_aload_n hx hb dX4_renews_11 rfl (lv_at hl 0 rfl) ?_
    refine lv_iconst (v := 1) hx hb dX4_renews_12 (by decide) ?_
    refine va_calli (va_runV (As := [.int 1]) (rest := []) X.1 (m_X4_pays l D dA A E hE R mo ag ab ah asv ai al at_ ch hs ty wy wd li pl iw g 1) (cwV 1 X.1.2.2.2.2 (lw_V q1916 q1918 qs26 q80 q1919) rfl rfl rfl (by decide +kernel) ⟨Nat.le_of_ble_eq_true rfl, Nat.le_of_ble_eq_true rfl⟩) (g_preV hE X.2 hw 0 rfl rfl) rfl rfl hl.1 rfl (lv_room (Nat.le_of_ble_eq_true rfl)) dX4_renews_13 ⟨Nat.le_of_ble_eq_true rfl, Nat.le_of_ble_eq_true rfl⟩) hw.2.2 (fun q _ h => h) (fun q h => h) (fun r_5 u t H locs ht hvm h_4 hB hz9 hk9 hS => ?_)
    have hw : gW D A ((mo, .inr (4, [.ref ag, .ref ab, .ref ah, .int ch, .ref asv, .int hs, .ref ai, .int ty, .int wy, .int wd, .ref al, .int li, .int pl, .int iw, .ref at_])) :: (ag, .inl (dA 0, 310, .inl (if g 4 < 1 then g else p_pays g 1))) :: R) s H locs := g_aft ht hB hS
    obtain rfl : r_5 = bZ (!decide (g 4 < 1)) := h_4
    refine lv_if_ne (tgt := 25) hx hb dX4_renews_16 (by decide) (fun c_6 => ?_) (fun c_6 => ?_)
    · skip
      have c_6 := bZ_1 c_6
      have c_6 := bnd_t c_6
      have hw : gW D A ((mo, .inr (4, [.ref ag, .ref ab, .ref ah, .int ch, .ref asv, .int hs, .ref ai, .int ty, .int wy, .int wd, .ref al, .int li, .int pl, .int iw, .ref at_])) :: (ag, .inl (dA 0, 310, .inl (upd (upd g 4 (g 4 - 1)) 6 (g 6 + 1)))) :: R) s _ _ := g_ws hw (by rw [if_neg c_6]; rfl)
      refine lv_aload_n hx hb dX4_renews_25 rfl (lv_at hl 0 rfl) ?_
      refine g_get X cfX4 hw 0 0 rfl rfl q1834 rfl rfl dX4_renews_26 ?_
      refine lv_sipush (v := 196) hx hb dX4_renews_29 (by decide) ?_
      refine lv_iload_n hx hb dX4_renews_32 rfl (lv_at hl 1 rfl) ?_
      refine lv_iadd hx hb dX4_renews_33 ?_
      refine g_addN (a := 196) (b := j) ?_
      refine g_iald X hw 1 rfl (i := 196 + j) (by omega) (by first | decide | omega) dX4_renews_34 ?_
      refine g_top (y := g (196 + j)) ((upd_n (by omega)).trans (upd_n (by omega))) ?_
      refine lv_istore_n (lv' := [(2, .int (g (196 + j))), (0, .ref mo), (1, .int (nI j))]) hx hb dX4_renews_35 rfl hl (by decide) rfl (fun ls hl => ?_)
      refine lv_aload_n hx hb dX4_renews_36 rfl (lv_at hl 1 rfl) ?_
      refine g_get X cfX4 hw 0 0 rfl rfl q1834 rfl rfl dX4_renews_37 ?_
      refine lv_sipush (v := 196) hx hb dX4_renews_40 (by decide) ?_
      refine lv_iload_n hx hb dX4_renews_43 rfl (lv_at hl 2 rfl) ?_
      refine lv_iadd hx hb dX4_renews_44 ?_
      refine g_addN (a := 196) (b := j) ?_
      refine lv_iconst (v := 0) hx hb dX4_renews_45 (by decide) ?_
      refine g_iast (ws' := (mo, .inr (4, [.ref ag, .ref ab, .ref ah, .int ch, .ref asv, .int hs, .ref ai, .int ty, .int wy, .int wd, .ref al, .int li, .int pl, .int iw, .ref at_])) :: (ag, .inl (dA 0, 310, .inl (upd (upd (upd g 4 (g 4 - 1)) 6 (g 6 + 1)) (196 + j) 0))) :: R) X hw 1 rfl (i := 196 + j) (by omega) (by first | decide | omega) rfl dX4_renews_46 (fun H locs hw => ?_)
      refine lv_aload_n hx hb dX4_renews_47 rfl (lv_at hl 1 rfl) ?_
      refine g_get X cfX4 hw 0 0 rfl rfl q1834 rfl rfl dX4_renews_48 ?_
      refine lv_sipush (v := 208) hx hb dX4_renews_51 (by decide) ?_
      refine lv_iload_n hx hb dX4_renews_54 rfl (lv_at hl 2 rfl) ?_
      refine lv_iadd hx hb dX4_renews_55 ?_
      refine g_addN (a := 208) (b := j) ?_
      refine lv_dup2_11 hx hb dX4_renews_56 rfl rfl ?_
      refine g_iald X hw 1 rfl (i := 208 + j) (by omega) (by first | decide | omega) dX4_renews_57 ?_
      refine g_top (y := g (208 + j)) ((upd_n (by omega)).trans ((upd_n (by omega)).trans (upd_n (by omega)))) ?_
      refine lv_iconst (v := 1) hx hb dX4_renews_58 (by decide) ?_
      refine lv_iadd hx hb dX4_renews_59 ?_
      refine g_iast (ws' := (mo, .inr (4, [.ref ag, .ref ab, .ref ah, .int ch, .ref asv, .int hs, .ref ai, .int ty, .int wy, .int wd, .ref al, .int li, .int pl, .int iw, .ref at_])) :: (ag, .inl (dA 0, 310, .inl (upd (upd (upd (upd g 4 (g 4 - 1)) 6 (g 6 + 1)) (196 + j) 0) (208 + j) ((g (208 + j)) + 1)))) :: R) X hw 1 rfl (i := 208 + j) (by omega) (by first | decide | omega) rfl dX4_renews_60 (fun H locs hw => ?_)
      refine lv_iload_n hx hb dX4_renews_61 rfl (lv_at hl 0 rfl) ?_
      have hop : p_renewsI g (nI j) = .inr (g (196 + j), upd (upd (upd (upd g 4 (g 4 - 1)) 6 (g 6 + 1)) (196 + j) 0) (208 + j) ((g (208 + j)) + 1)) := by simp [p_renewsI, p_renews, p_pays, c_3, kj, c_6]
      exact g_iret (v := g (196 + j)) () X hw hr hlocks  (by rw [hop]; rfl) (by rw [hop]; rfl) dX4_renews_62
    · skip
      have c_6 := bZ_0.mp c_6
      have c_6 := bnd_f c_6
      have hw : gW D A ((mo, .inr (4, [.ref ag, .ref ab, .ref ah, .int ch, .ref asv, .int hs, .ref ai, .int ty, .int wy, .int wd, .ref al, .int li, .int pl, .int iw, .ref at_])) :: (ag, .inl (dA 0, 310, .inl g)) :: R) s _ _ := g_ws hw (by rw [if_pos c_6])
      refine lv_aload_n hx hb dX4_renews_19 rfl (lv_at hl 0 rfl) ?_
      refine lv_iconst (v := 1) hx hb dX4_renews_20 (by decide) ?_
      refine va_calli (va_runV (As := [.int 1]) (rest := []) X.1 (m_X4_tooFew l D dA A E hE R mo ag ab ah asv ai al at_ ch hs ty wy wd li pl iw g 1) (cwV 1 X.1.2.2.2.2 (lw_V q1920 q1922 qs27 q80 q1923) rfl rfl rfl (by decide +kernel) ⟨Nat.le_of_ble_eq_true rfl, Nat.le_of_ble_eq_true rfl⟩) (g_preV hE X.2 hw 0 rfl rfl) rfl rfl hl.1 rfl (lv_room (Nat.le_of_ble_eq_true rfl)) dX4_renews_21 ⟨Nat.le_of_ble_eq_true rfl, Nat.le_of_ble_eq_true rfl⟩) hw.2.2 (fun q _ h => h) (fun q h => h) (fun r_8 u t H locs ht hvm h_7 hB hz9 hk9 hS => ?_)
      have hw : gW D A ((mo, .inr (4, [.ref ag, .ref ab, .ref ah, .int ch, .ref asv, .int hs, .ref ai, .int ty, .int 14, .int (1 - g 4), .ref al, .int li, .int pl, .int iw, .ref at_])) :: (ag, .inl (dA 0, 310, .inl g)) :: R) s H locs := g_aft ht hB hS
      obtain rfl : r_8 = -14 := h_7
      have hop : p_renewsI g (nI j) = .inl (14, 1 - g 4) := by simp [p_renewsI, p_renews, p_pays, c_3, kj, c_6]
      exact g_iret (v := -14) () X hw hr hlocks  (by rw [hop]; rfl) (by rw [hop]; rfl) dX4_renews_24
  · skip
    have c_3 := bZ_0.mp c_3
    refine lv_bipush (v := (-11)) hx hb dX4_renews_8 (by decide) ?_
    have hop : p_renewsI g v = .inr ((-11), g) := by simp [p_renewsI, p_renews, p_pays, c_3]
    exact g_iret (v := (-11)) () X hw hr hlocks  (by rw [hop]; rfl) (by rw [hop]; rfl) dX4_renews_10

set_option maxHeartbeats 4000000 in
theorem m_X4_takesDown (l : Launch) (D : va_G) (dA : Nat → ClassId) (A : Nat → Prop) (E : State → Prop) (hE : gSt A E) (R : va_W) (mo ag ab ah asv ai al at_ : Nat) (ch hs ty wy wd li pl iw : Int32) (g : gG) (hI : gInv g) (v : Int32) : Met l yX4_takesDown (ws_ yX4_takesDown cX4_takesDown 2 (Option.some FieldType.int)) ({ frames := 2, cells := 0, slots := 0, locals := 42 }) (va_Pc [.ref mo, .int v] (gB D dA A E ((mo, .inr (4, [.ref ag, .ref ab, .ref ah, .int ch, .ref asv, .int hs, .ref ai, .int ty, .int wy, .int wd, .ref al, .int li, .int pl, .int iw, .ref at_])) :: (ag, .inl (dA 0, 310, .inl g)) :: R))) (va_Qi (fun (r : Int32) (_ : Unit) => r = gr_v (p_takesDownI g v)) (fun _ => gE D A ((mo, .inr (4, [.ref ag, .ref ab, .ref ah, .int ch, .ref asv, .int hs, .ref ai, .int ty, .int (gr_w wy (p_takesDownI g v)), .int (gr_d wd (p_takesDownI g v)), .ref al, .int li, .int pl, .int iw, .ref at_])) :: (ag, .inl (dA 0, 310, .inl (gr_g g (p_takesDownI g v)))) :: R)) A) (0) (0) A := by
  refine g_start rfl rfl ?_
  intro p e s m args below meth c ls X hr hlocks hin hw hl
  have hx := X.1.1
  have hb := X.1.2.1
  have hl : lv_has ls 2 [(0, .ref mo), (1, .int v)] := hl
  have hI2 := hI.c.2
  have hI4 := hI.m.2
  have hI6 := hI.k.2
  refine lv_iload_n hx hb dX4_takesDown_0 rfl (lv_at hl 1 rfl) ?_
  refine va_calli (va_runS (As := [.int v]) (rest := []) X.1 (m_X4_isLedge l D dA A E hE ((mo, .inr (4, [.ref ag, .ref ab, .ref ah, .int ch, .ref asv, .int hs, .ref ai, .int ty, .int wy, .int wd, .ref al, .int li, .int pl, .int iw, .ref at_])) :: (ag, .inl (dA 0, 310, .inl g)) :: R) v) (va_cwS 1 X.1.2.2.2.2 (lw_S q1885 q1886 q80 q1887) rfl rfl rfl (by decide +kernel) ⟨Nat.le_of_ble_eq_true rfl, Nat.le_of_ble_eq_true rfl⟩) (g_preS hE X.2 hw) rfl rfl hl.1 rfl (lv_room (Nat.le_of_ble_eq_true rfl)) dX4_takesDown_1 ⟨Nat.le_of_ble_eq_true rfl, Nat.le_of_ble_eq_true rfl⟩) hw.2.2 (fun q _ h => h) (fun q h => h) (fun r_2 u t H locs ht hvm h_1 hB hz9 hk9 hS => ?_)
  have hw : gW D A ((mo, .inr (4, [.ref ag, .ref ab, .ref ah, .int ch, .ref asv, .int hs, .ref ai, .int ty, .int wy, .int wd, .ref al, .int li, .int pl, .int iw, .ref at_])) :: (ag, .inl (dA 0, 310, .inl g)) :: R) s H locs := g_aft ht hB hS
  obtain rfl : r_2 = bZ (inR v 0 5) := h_1
  refine lv_if_ne (tgt := 10) hx hb dX4_takesDown_4 (by decide) (fun c_3 => ?_) (fun c_3 => ?_)
  · skip
    have c_3 := bZ_1 c_3
    obtain ⟨j, hj, ej⟩ := inR6 c_3
    subst ej
    have kj : (nI j).toNatClampNeg = j := nI_clamp (by omega)
    refine lv_aload_n hx hb dX4_takesDown_10 rfl (lv_at hl 0 rfl) ?_
    refine g_get X cfX4 hw 0 0 rfl rfl q1834 rfl rfl dX4_takesDown_11 ?_
    refine lv_bipush (v := 14) hx hb dX4_takesDown_14 (by decide) ?_
    refine lv_iload_n hx hb dX4_takesDown_16 rfl (lv_at hl 1 rfl) ?_
    refine lv_iadd hx hb dX4_takesDown_17 ?_
    refine g_addN (a := 14) (b := j) ?_
    refine g_iald X hw 1 rfl (i := 14 + j) (by omega) (by first | decide | omega) dX4_takesDown_18 ?_
    refine lv_if_eq (tgt := 37) hx hb dX4_takesDown_19 (by decide) (fun c_4 => ?_) (fun c_4 => ?_)
    · skip
      refine lv_aload_n hx hb dX4_takesDown_37 rfl (lv_at hl 0 rfl) ?_
      refine g_get X cfX4 hw 0 0 rfl rfl q1834 rfl rfl dX4_takesDown_38 ?_
      refine lv_iconst (v := 2) hx hb dX4_takesDown_41 (by decide) ?_
      refine g_iald X hw 1 rfl (i := 2) (by decide) (by decide) dX4_takesDown_42 ?_
      refine lv_bipush (v := 7) hx hb dX4_takesDown_43 (by decide) ?_
      refine lv_icmp_lt (tgt := 61) hx hb dX4_takesDown_45 (by decide) (fun c_5 => ?_) (fun c_5 => ?_)
      · skip
        refine lv_aload_n hx hb dX4_takesDown_61 rfl (lv_at hl 0 rfl) ?_
        refine g_get X cfX4 hw 0 0 rfl rfl q1834 rfl rfl dX4_takesDown_62 ?_
        refine lv_bipush (v := 14) hx hb dX4_takesDown_65 (by decide) ?_
        refine lv_iload_n hx hb dX4_takesDown_67 rfl (lv_at hl 1 rfl) ?_
        refine lv_iadd hx hb dX4_takesDown_68 ?_
        refine g_addN (a := 14) (b := j) ?_
        refine lv_iconst (v := 1) hx hb dX4_takesDown_69 (by decide) ?_
        refine g_iast (ws' := (mo, .inr (4, [.ref ag, .ref ab, .ref ah, .int ch, .ref asv, .int hs, .ref ai, .int ty, .int wy, .int wd, .ref al, .int li, .int pl, .int iw, .ref at_])) :: (ag, .inl (dA 0, 310, .inl (upd g (14 + j) 1))) :: R) X hw 1 rfl (i := 14 + j) (by omega) (by first | decide | omega) rfl dX4_takesDown_70 (fun H locs hw => ?_)
        refine lv_aload_n hx hb dX4_takesDown_71 rfl (lv_at hl 0 rfl) ?_
        refine g_get X cfX4 hw 0 0 rfl rfl q1834 rfl rfl dX4_takesDown_72 ?_
        refine lv_bipush (v := 20) hx hb dX4_takesDown_75 (by decide) ?_
        refine lv_iload_n hx hb dX4_takesDown_77 rfl (lv_at hl 1 rfl) ?_
        refine lv_iadd hx hb dX4_takesDown_78 ?_
        refine g_addN (a := 20) (b := j) ?_
        refine g_iald X hw 1 rfl (i := 20 + j) (by omega) (by first | decide | omega) dX4_takesDown_79 ?_
        refine g_top (y := g (20 + j)) (upd_n (by omega)) ?_
        have hop : p_takesDownI g (nI j) = .inr (g (20 + j), upd g (14 + j) 1) := by simp [p_takesDownI, p_takesDown, c_3, kj, c_4, c_5]
        exact g_iret (v := g (20 + j)) () X hw hr hlocks  (by rw [hop]; rfl) (by rw [hop]; rfl) dX4_takesDown_80
      · skip
        refine lv_aload_n hx hb dX4_takesDown_48 rfl (lv_at hl 0 rfl) ?_
        refine lv_bipush (v := 12) hx hb dX4_takesDown_49 (by decide) ?_
        refine lv_aload_n hx hb dX4_takesDown_51 rfl (lv_at hl 0 rfl) ?_
        refine g_get X cfX4 hw 0 0 rfl rfl q1834 rfl rfl dX4_takesDown_52 ?_
        refine lv_iconst (v := 2) hx hb dX4_takesDown_55 (by decide) ?_
        refine g_iald X hw 1 rfl (i := 2) (by decide) (by decide) dX4_takesDown_56 ?_
        refine va_calli (va_runV (As := [.int 12, .int (g 2)]) (rest := []) X.1 (m_X4_refused l D dA A E hE ((ag, .inl (dA 0, 310, .inl g)) :: R) mo ag ab ah asv ai al at_ ch hs ty wy wd li pl iw (by first | assumption | omega) 12 (g 2)) (cwV 2 X.1.2.2.2.2 (lw_V q1924 q1926 qs28 q80 q1927) rfl rfl rfl (by decide +kernel) ⟨Nat.le_of_ble_eq_true rfl, Nat.le_of_ble_eq_true rfl⟩) (g_preV hE X.2 hw 0 rfl rfl) rfl rfl hl.1 rfl (lv_room (Nat.le_of_ble_eq_true rfl)) dX4_takesDown_57 ⟨Nat.le_of_ble_eq_true rfl, Nat.le_of_ble_eq_true rfl⟩) hw.2.2 (fun q _ h => h) (fun q h => h) (fun r_7 u t H locs ht hvm h_6 hB hz9 hk9 hS => ?_)
        have hw : gW D A ((mo, .inr (4, [.ref ag, .ref ab, .ref ah, .int ch, .ref asv, .int hs, .ref ai, .int ty, .int 12, .int (g 2), .ref al, .int li, .int pl, .int iw, .ref at_])) :: (ag, .inl (dA 0, 310, .inl g)) :: R) s H locs := g_aft ht hB hS
        obtain rfl : r_7 = -14 := h_6
        have hop : p_takesDownI g (nI j) = .inl (12, g 2) := by simp [p_takesDownI, p_takesDown, c_3, kj, c_4, c_5]
        exact g_iret (v := -14) () X hw hr hlocks  (by rw [hop]; rfl) (by rw [hop]; rfl) dX4_takesDown_60
    · skip
      refine lv_aload_n hx hb dX4_takesDown_22 rfl (lv_at hl 0 rfl) ?_
      refine lv_iconst (v := 2) hx hb dX4_takesDown_23 (by decide) ?_
      refine lv_aload_n hx hb dX4_takesDown_24 rfl (lv_at hl 0 rfl) ?_
      refine g_get X cfX4 hw 0 0 rfl rfl q1834 rfl rfl dX4_takesDown_25 ?_
      refine lv_bipush (v := 14) hx hb dX4_takesDown_28 (by decide) ?_
      refine lv_iload_n hx hb dX4_takesDown_30 rfl (lv_at hl 1 rfl) ?_
      refine lv_iadd hx hb dX4_takesDown_31 ?_
      refine g_addN (a := 14) (b := j) ?_
      refine g_iald X hw 1 rfl (i := 14 + j) (by omega) (by first | decide | omega) dX4_takesDown_32 ?_
      refine va_calli (va_runV (As := [.int 2, .int (g (14 + j))]) (rest := []) X.1 (m_X4_refused l D dA A E hE ((ag, .inl (dA 0, 310, .inl g)) :: R) mo ag ab ah asv ai al at_ ch hs ty wy wd li pl iw (by first | assumption | omega) 2 (g (14 + j))) (cwV 2 X.1.2.2.2.2 (lw_V q1924 q1926 qs28 q80 q1927) rfl rfl rfl (by decide +kernel) ⟨Nat.le_of_ble_eq_true rfl, Nat.le_of_ble_eq_true rfl⟩) (g_preV hE X.2 hw 0 rfl rfl) rfl rfl hl.1 rfl (lv_room (Nat.le_of_ble_eq_true rfl)) dX4_takesDown_33 ⟨Nat.le_of_ble_eq_true rfl, Nat.le_of_ble_eq_true rfl⟩) hw.2.2 (fun q _ h => h) (fun q h => h) (fun r_9 u t H locs ht hvm h_8 hB hz9 hk9 hS => ?_)
      have hw : gW D A ((mo, .inr (4, [.ref ag, .ref ab, .ref ah, .int ch, .ref asv, .int hs, .ref ai, .int ty, .int 2, .int (g (14 + j)), .ref al, .int li, .int pl, .int iw, .ref at_])) :: (ag, .inl (dA 0, 310, .inl g)) :: R) s H locs := g_aft ht hB hS
      obtain rfl : r_9 = -14 := h_8
      have hop : p_takesDownI g (nI j) = .inl (2, g (14 + j)) := by simp [p_takesDownI, p_takesDown, c_3, kj, c_4]
      exact g_iret (v := -14) () X hw hr hlocks  (by rw [hop]; rfl) (by rw [hop]; rfl) dX4_takesDown_36
  · skip
    have c_3 := bZ_0.mp c_3
    refine lv_bipush (v := (-11)) hx hb dX4_takesDown_7 (by decide) ?_
    have hop : p_takesDownI g v = .inr ((-11), g) := by simp [p_takesDownI, p_takesDown, c_3]
    exact g_iret (v := (-11)) () X hw hr hlocks  (by rw [hop]; rfl) (by rw [hop]; rfl) dX4_takesDown_9

set_option maxHeartbeats 4000000 in
theorem m_X4_drives (l : Launch) (D : va_G) (dA : Nat → ClassId) (A : Nat → Prop) (E : State → Prop) (hE : gSt A E) (R : va_W) (mo ag ab ah asv ai al at_ : Nat) (ch hs ty wy wd li pl iw : Int32) (g : gG) (hI : gInv g) (v : Int32) : Met l yX4_drives (ws_ yX4_drives cX4_drives 3 (Option.some FieldType.int)) ({ frames := 2, cells := 0, slots := 0, locals := 43 }) (va_Pc [.ref mo, .int v] (gB D dA A E ((mo, .inr (4, [.ref ag, .ref ab, .ref ah, .int ch, .ref asv, .int hs, .ref ai, .int ty, .int wy, .int wd, .ref al, .int li, .int pl, .int iw, .ref at_])) :: (ag, .inl (dA 0, 310, .inl g)) :: R))) (va_Qi (fun (r : Int32) (_ : Unit) => r = gr_v (p_drivesI g v)) (fun _ => gE D A ((mo, .inr (4, [.ref ag, .ref ab, .ref ah, .int ch, .ref asv, .int hs, .ref ai, .int ty, .int (gr_w wy (p_drivesI g v)), .int (gr_d wd (p_drivesI g v)), .ref al, .int li, .int pl, .int iw, .ref at_])) :: (ag, .inl (dA 0, 310, .inl (gr_g g (p_drivesI g v)))) :: R)) A) (0) (0) A := by
  refine g_start rfl rfl ?_
  intro p e s m args below meth c ls X hr hlocks hin hw hl
  have hx := X.1.1
  have hb := X.1.2.1
  have hl : lv_has ls 3 [(0, .ref mo), (1, .int v)] := hl
  have hI2 := hI.c.2
  have hI4 := hI.m.2
  have hI6 := hI.k.2
  refine lv_iload_n hx hb dX4_drives_0 rfl (lv_at hl 1 rfl) ?_
  refine va_calli (va_runS (As := [.int v]) (rest := []) X.1 (m_X4_isLedge l D dA A E hE ((mo, .inr (4, [.ref ag, .ref ab, .ref ah, .int ch, .ref asv, .int hs, .ref ai, .int ty, .int wy, .int wd, .ref al, .int li, .int pl, .int iw, .ref at_])) :: (ag, .inl (dA 0, 310, .inl g)) :: R) v) (va_cwS 1 X.1.2.2.2.2 (lw_S q1885 q1886 q80 q1887) rfl rfl rfl (by decide +kernel) ⟨Nat.le_of_ble_eq_true rfl, Nat.le_of_ble_eq_true rfl⟩) (g_preS hE X.2 hw) rfl rfl hl.1 rfl (lv_room (Nat.le_of_ble_eq_true rfl)) dX4_drives_1 ⟨Nat.le_of_ble_eq_true rfl, Nat.le_of_ble_eq_true rfl⟩) hw.2.2 (fun q _ h => h) (fun q h => h) (fun r_2 u t H locs ht hvm h_1 hB hz9 hk9 hS => ?_)
  have hw : gW D A ((mo, .inr (4, [.ref ag, .ref ab, .ref ah, .int ch, .ref asv, .int hs, .ref ai, .int ty, .int wy, .int wd, .ref al, .int li, .int pl, .int iw, .ref at_])) :: (ag, .inl (dA 0, 310, .inl g)) :: R) s H locs := g_aft ht hB hS
  obtain rfl : r_2 = bZ (inR v 0 5) := h_1
  refine lv_if_ne (tgt := 10) hx hb dX4_drives_4 (by decide) (fun c_3 => ?_) (fun c_3 => ?_)
  · skip
    have c_3 := bZ_1 c_3
    obtain ⟨j, hj, ej⟩ := inR6 c_3
    subst ej
    have kj : (nI j).toNatClampNeg = j := nI_clamp (by omega)
    refine lv_aload_n hx hb dX4_drives_10 rfl (lv_at hl 0 rfl) ?_
    refine lv_iconst (v := 1) hx hb dX4_drives_11 (by decide) ?_
    refine va_calli (va_runV (As := [.int 1]) (rest := []) X.1 (m_X4_pays l D dA A E hE R mo ag ab ah asv ai al at_ ch hs ty wy wd li pl iw g 1) (cwV 1 X.1.2.2.2.2 (lw_V q1916 q1918 qs26 q80 q1919) rfl rfl rfl (by decide +kernel) ⟨Nat.le_of_ble_eq_true rfl, Nat.le_of_ble_eq_true rfl⟩) (g_preV hE X.2 hw 0 rfl rfl) rfl rfl hl.1 rfl (lv_room (Nat.le_of_ble_eq_true rfl)) dX4_drives_12 ⟨Nat.le_of_ble_eq_true rfl, Nat.le_of_ble_eq_true rfl⟩) hw.2.2 (fun q _ h => h) (fun q h => h) (fun r_5 u t H locs ht hvm h_4 hB hz9 hk9 hS => ?_)
    have hw : gW D A ((mo, .inr (4, [.ref ag, .ref ab, .ref ah, .int ch, .ref asv, .int hs, .ref ai, .int ty, .int wy, .int wd, .ref al, .int li, .int pl, .int iw, .ref at_])) :: (ag, .inl (dA 0, 310, .inl (if g 4 < 1 then g else p_pays g 1))) :: R) s H locs := g_aft ht hB hS
    obtain rfl : r_5 = bZ (!decide (g 4 < 1)) := h_4
    refine lv_if_ne (tgt := 24) hx hb dX4_drives_15 (by decide) (fun c_6 => ?_) (fun c_6 => ?_)
    · skip
      have c_6 := bZ_1 c_6
      have c_6 := bnd_t c_6
      have hw : gW D A ((mo, .inr (4, [.ref ag, .ref ab, .ref ah, .int ch, .ref asv, .int hs, .ref ai, .int ty, .int wy, .int wd, .ref al, .int li, .int pl, .int iw, .ref at_])) :: (ag, .inl (dA 0, 310, .inl (upd (upd g 4 (g 4 - 1)) 6 (g 6 + 1)))) :: R) s _ _ := g_ws hw (by rw [if_neg c_6]; rfl)
      refine lv_aload_n hx hb dX4_drives_24 rfl (lv_at hl 0 rfl) ?_
      refine g_get X cfX4 hw 0 0 rfl rfl q1834 rfl rfl dX4_drives_25 ?_
      refine lv_bipush (v := 8) hx hb dX4_drives_28 (by decide) ?_
      refine lv_iload_n hx hb dX4_drives_30 rfl (lv_at hl 1 rfl) ?_
      refine lv_iadd hx hb dX4_drives_31 ?_
      refine g_addN (a := 8) (b := j) ?_
      refine g_iald X hw 1 rfl (i := 8 + j) (by omega) (by first | decide | omega) dX4_drives_32 ?_
      refine g_top (y := g (8 + j)) ((upd_n (by omega)).trans (upd_n (by omega))) ?_
      refine lv_istore_n (lv' := [(2, .int (g (8 + j))), (0, .ref mo), (1, .int (nI j))]) hx hb dX4_drives_33 rfl hl (by decide) rfl (fun ls hl => ?_)
      refine lv_aload_n hx hb dX4_drives_34 rfl (lv_at hl 1 rfl) ?_
      refine g_get X cfX4 hw 0 0 rfl rfl q1834 rfl rfl dX4_drives_35 ?_
      refine lv_bipush (v := 8) hx hb dX4_drives_38 (by decide) ?_
      refine lv_iload_n hx hb dX4_drives_40 rfl (lv_at hl 2 rfl) ?_
      refine lv_iadd hx hb dX4_drives_41 ?_
      refine g_addN (a := 8) (b := j) ?_
      refine lv_iconst (v := 0) hx hb dX4_drives_42 (by decide) ?_
      refine g_iast (ws' := (mo, .inr (4, [.ref ag, .ref ab, .ref ah, .int ch, .ref asv, .int hs, .ref ai, .int ty, .int wy, .int wd, .ref al, .int li, .int pl, .int iw, .ref at_])) :: (ag, .inl (dA 0, 310, .inl (upd (upd (upd g 4 (g 4 - 1)) 6 (g 6 + 1)) (8 + j) 0))) :: R) X hw 1 rfl (i := 8 + j) (by omega) (by first | decide | omega) rfl dX4_drives_43 (fun H locs hw => ?_)
      refine lv_iload_n hx hb dX4_drives_44 rfl (lv_at hl 0 rfl) ?_
      have hop : p_drivesI g (nI j) = .inr (g (8 + j), upd (upd (upd g 4 (g 4 - 1)) 6 (g 6 + 1)) (8 + j) 0) := by simp [p_drivesI, p_drives, p_pays, c_3, kj, c_6]
      exact g_iret (v := g (8 + j)) () X hw hr hlocks  (by rw [hop]; rfl) (by rw [hop]; rfl) dX4_drives_45
    · skip
      have c_6 := bZ_0.mp c_6
      have c_6 := bnd_f c_6
      have hw : gW D A ((mo, .inr (4, [.ref ag, .ref ab, .ref ah, .int ch, .ref asv, .int hs, .ref ai, .int ty, .int wy, .int wd, .ref al, .int li, .int pl, .int iw, .ref at_])) :: (ag, .inl (dA 0, 310, .inl g)) :: R) s _ _ := g_ws hw (by rw [if_pos c_6])
      refine lv_aload_n hx hb dX4_drives_18 rfl (lv_at hl 0 rfl) ?_
      refine lv_iconst (v := 1) hx hb dX4_drives_19 (by decide) ?_
      refine va_calli (va_runV (As := [.int 1]) (rest := []) X.1 (m_X4_tooFew l D dA A E hE R mo ag ab ah asv ai al at_ ch hs ty wy wd li pl iw g 1) (cwV 1 X.1.2.2.2.2 (lw_V q1920 q1922 qs27 q80 q1923) rfl rfl rfl (by decide +kernel) ⟨Nat.le_of_ble_eq_true rfl, Nat.le_of_ble_eq_true rfl⟩) (g_preV hE X.2 hw 0 rfl rfl) rfl rfl hl.1 rfl (lv_room (Nat.le_of_ble_eq_true rfl)) dX4_drives_20 ⟨Nat.le_of_ble_eq_true rfl, Nat.le_of_ble_eq_true rfl⟩) hw.2.2 (fun q _ h => h) (fun q h => h) (fun r_8 u t H locs ht hvm h_7 hB hz9 hk9 hS => ?_)
      have hw : gW D A ((mo, .inr (4, [.ref ag, .ref ab, .ref ah, .int ch, .ref asv, .int hs, .ref ai, .int ty, .int 14, .int (1 - g 4), .ref al, .int li, .int pl, .int iw, .ref at_])) :: (ag, .inl (dA 0, 310, .inl g)) :: R) s H locs := g_aft ht hB hS
      obtain rfl : r_8 = -14 := h_7
      have hop : p_drivesI g (nI j) = .inl (14, 1 - g 4) := by simp [p_drivesI, p_drives, p_pays, c_3, kj, c_6]
      exact g_iret (v := -14) () X hw hr hlocks  (by rw [hop]; rfl) (by rw [hop]; rfl) dX4_drives_23
  · skip
    have c_3 := bZ_0.mp c_3
    refine lv_bipush (v := (-11)) hx hb dX4_drives_7 (by decide) ?_
    have hop : p_drivesI g v = .inr ((-11), g) := by simp [p_drivesI, p_drives, p_pays, c_3]
    exact g_iret (v := (-11)) () X hw hr hlocks  (by rw [hop]; rfl) (by rw [hop]; rfl) dX4_drives_9

set_option maxHeartbeats 4000000 in
theorem m_X4_tells (l : Launch) (D : va_G) (dA : Nat → ClassId) (A : Nat → Prop) (E : State → Prop) (hE : gSt A E) (R : va_W) (mo ag ab ah asv ai al at_ : Nat) (ch hs ty wy wd li pl iw : Int32) (g : gG) (hI : gInv g) (x y : Int32) : Met l yX4_tells (ws_ yX4_tells cX4_tells 4 (Option.some FieldType.int)) ({ frames := 1, cells := 0, slots := 0, locals := 22 }) (va_Pc [.ref mo, .int x, .int y] (gB D dA A E ((mo, .inr (4, [.ref ag, .ref ab, .ref ah, .int ch, .ref asv, .int hs, .ref ai, .int ty, .int wy, .int wd, .ref al, .int li, .int pl, .int iw, .ref at_])) :: (ag, .inl (dA 0, 310, .inl g)) :: R))) (va_Qi (fun (r : Int32) (_ : Unit) => r = gr_v (p_tellsI g x y)) (fun _ => gE D A ((mo, .inr (4, [.ref ag, .ref ab, .ref ah, .int ch, .ref asv, .int hs, .ref ai, .int ty, .int (gr_w wy (p_tellsI g x y)), .int (gr_d wd (p_tellsI g x y)), .ref al, .int li, .int pl, .int iw, .ref at_])) :: (ag, .inl (dA 0, 310, .inl (gr_g g (p_tellsI g x y)))) :: R)) A) (0) (0) A := by
  refine g_start rfl rfl ?_
  intro p e s m args below meth c ls X hr hlocks hin hw hl
  have hx := X.1.1
  have hb := X.1.2.1
  have hl : lv_has ls 4 [(0, .ref mo), (1, .int x), (2, .int y)] := hl
  have hI2 := hI.c.2
  have hI4 := hI.m.2
  have hI6 := hI.k.2
  refine lv_iload_n hx hb dX4_tells_0 rfl (lv_at hl 1 rfl) ?_
  refine lv_iconst (v := 0) hx hb dX4_tells_1 (by decide) ?_
  refine lv_bipush (v := 9) hx hb dX4_tells_2 (by decide) ?_
  refine va_calli (va_runS (As := [.int x, .int 0, .int 9]) (rest := []) X.1 (m_X4_in l D dA A E hE ((mo, .inr (4, [.ref ag, .ref ab, .ref ah, .int ch, .ref asv, .int hs, .ref ai, .int ty, .int wy, .int wd, .ref al, .int li, .int pl, .int iw, .ref at_])) :: (ag, .inl (dA 0, 310, .inl g)) :: R) x 0 9) (va_cwS 3 X.1.2.2.2.2 (lw_S q1888 q1889 q80 q1890) rfl rfl rfl (by decide +kernel) ⟨Nat.le_of_ble_eq_true rfl, Nat.le_of_ble_eq_true rfl⟩) (g_preS hE X.2 hw) rfl rfl hl.1 rfl (lv_room (Nat.le_of_ble_eq_true rfl)) dX4_tells_4 ⟨Nat.le_of_ble_eq_true rfl, Nat.le_of_ble_eq_true rfl⟩) hw.2.2 (fun q _ h => h) (fun q h => h) (fun r_2 u t H locs ht hvm h_1 hB hz9 hk9 hS => ?_)
  have hw : gW D A ((mo, .inr (4, [.ref ag, .ref ab, .ref ah, .int ch, .ref asv, .int hs, .ref ai, .int ty, .int wy, .int wd, .ref al, .int li, .int pl, .int iw, .ref at_])) :: (ag, .inl (dA 0, 310, .inl g)) :: R) s H locs := g_aft ht hB hS
  obtain rfl : r_2 = bZ (inR x 0 9) := h_1
  refine lv_if_eq (tgt := 20) hx hb dX4_tells_7 (by decide) (fun c_3 => ?_) (fun c_3 => ?_)
  · skip
    have c_3 := bZ_0.mp c_3
    refine lv_bipush (v := (-12)) hx hb dX4_tells_20 (by decide) ?_
    have hop : p_tellsI g x y = .inr ((-12), g) := by simp [p_tellsI, p_tells, c_3]
    exact g_iret (v := (-12)) () X hw hr hlocks  (by rw [hop]; rfl) (by rw [hop]; rfl) dX4_tells_22
  · skip
    have c_3 := bZ_1 c_3
    refine lv_iload_n hx hb dX4_tells_10 rfl (lv_at hl 2 rfl) ?_
    refine lv_iconst (v := 0) hx hb dX4_tells_11 (by decide) ?_
    refine lv_bipush (v := 9) hx hb dX4_tells_12 (by decide) ?_
    refine va_calli (va_runS (As := [.int y, .int 0, .int 9]) (rest := []) X.1 (m_X4_in l D dA A E hE ((mo, .inr (4, [.ref ag, .ref ab, .ref ah, .int ch, .ref asv, .int hs, .ref ai, .int ty, .int wy, .int wd, .ref al, .int li, .int pl, .int iw, .ref at_])) :: (ag, .inl (dA 0, 310, .inl g)) :: R) y 0 9) (va_cwS 3 X.1.2.2.2.2 (lw_S q1888 q1889 q80 q1890) rfl rfl rfl (by decide +kernel) ⟨Nat.le_of_ble_eq_true rfl, Nat.le_of_ble_eq_true rfl⟩) (g_preS hE X.2 hw) rfl rfl hl.1 rfl (lv_room (Nat.le_of_ble_eq_true rfl)) dX4_tells_14 ⟨Nat.le_of_ble_eq_true rfl, Nat.le_of_ble_eq_true rfl⟩) hw.2.2 (fun q _ h => h) (fun q h => h) (fun r_5 u t H locs ht hvm h_4 hB hz9 hk9 hS => ?_)
    have hw : gW D A ((mo, .inr (4, [.ref ag, .ref ab, .ref ah, .int ch, .ref asv, .int hs, .ref ai, .int ty, .int wy, .int wd, .ref al, .int li, .int pl, .int iw, .ref at_])) :: (ag, .inl (dA 0, 310, .inl g)) :: R) s H locs := g_aft ht hB hS
    obtain rfl : r_5 = bZ (inR y 0 9) := h_4
    refine lv_if_ne (tgt := 23) hx hb dX4_tells_17 (by decide) (fun c_6 => ?_) (fun c_6 => ?_)
    · skip
      have c_6 := bZ_1 c_6
      refine lv_bipush (v := 10) hx hb dX4_tells_23 (by decide) ?_
      refine lv_aload_n hx hb dX4_tells_25 rfl (lv_at hl 0 rfl) ?_
      refine g_get X cfX4 hw 0 0 rfl rfl q1834 rfl rfl dX4_tells_26 ?_
      refine lv_iconst (v := 1) hx hb dX4_tells_29 (by decide) ?_
      refine g_iald X hw 1 rfl (i := 1) (by decide) (by decide) dX4_tells_30 ?_
      refine lv_imul hx hb dX4_tells_31 ?_
      refine lv_aload_n hx hb dX4_tells_32 rfl (lv_at hl 0 rfl) ?_
      refine g_get X cfX4 hw 0 0 rfl rfl q1834 rfl rfl dX4_tells_33 ?_
      refine lv_iconst (v := 2) hx hb dX4_tells_36 (by decide) ?_
      refine g_iald X hw 1 rfl (i := 2) (by decide) (by decide) dX4_tells_37 ?_
      refine lv_iadd hx hb dX4_tells_38 ?_
      refine lv_istore_n (lv' := [(3, .int ((10 * (g 1)) + (g 2))), (0, .ref mo), (1, .int x), (2, .int y)]) hx hb dX4_tells_39 rfl hl (by decide) rfl (fun ls hl => ?_)
      refine lv_aload_n hx hb dX4_tells_40 rfl (lv_at hl 1 rfl) ?_
      refine g_get X cfX4 hw 0 0 rfl rfl q1834 rfl rfl dX4_tells_41 ?_
      refine lv_iconst (v := 1) hx hb dX4_tells_44 (by decide) ?_
      refine lv_iload_n hx hb dX4_tells_45 rfl (lv_at hl 2 rfl) ?_
      refine g_iast (ws' := (mo, .inr (4, [.ref ag, .ref ab, .ref ah, .int ch, .ref asv, .int hs, .ref ai, .int ty, .int wy, .int wd, .ref al, .int li, .int pl, .int iw, .ref at_])) :: (ag, .inl (dA 0, 310, .inl (upd g 1 x))) :: R) X hw 1 rfl (i := 1) (by decide) (by decide) rfl dX4_tells_46 (fun H locs hw => ?_)
      refine lv_aload_n hx hb dX4_tells_47 rfl (lv_at hl 1 rfl) ?_
      refine g_get X cfX4 hw 0 0 rfl rfl q1834 rfl rfl dX4_tells_48 ?_
      refine lv_iconst (v := 2) hx hb dX4_tells_51 (by decide) ?_
      refine lv_iload_n hx hb dX4_tells_52 rfl (lv_at hl 3 rfl) ?_
      refine g_iast (ws' := (mo, .inr (4, [.ref ag, .ref ab, .ref ah, .int ch, .ref asv, .int hs, .ref ai, .int ty, .int wy, .int wd, .ref al, .int li, .int pl, .int iw, .ref at_])) :: (ag, .inl (dA 0, 310, .inl (upd (upd g 1 x) 2 y))) :: R) X hw 1 rfl (i := 2) (by decide) (by decide) rfl dX4_tells_53 (fun H locs hw => ?_)
      refine lv_iload_n hx hb dX4_tells_54 rfl (lv_at hl 0 rfl) ?_
      have hop : p_tellsI g x y = .inr ((10 * (g 1)) + (g 2), upd (upd g 1 x) 2 y) := by simp [p_tellsI, p_tells, c_3, c_6]
      exact g_iret (v := (10 * (g 1)) + (g 2)) () X hw hr hlocks  (by rw [hop]; rfl) (by rw [hop]; rfl) dX4_tells_55
    · skip
      have c_6 := bZ_0.mp c_6
      refine lv_bipush (v := (-12)) hx hb dX4_tells_20 (by decide) ?_
      have hop : p_tellsI g x y = .inr ((-12), g) := by simp [p_tellsI, p_tells, c_3, c_6]
      exact g_iret (v := (-12)) () X hw hr hlocks  (by rw [hop]; rfl) (by rw [hop]; rfl) dX4_tells_22

set_option maxHeartbeats 4000000 in
theorem m_X4_ofPoints (l : Launch) (D : va_G) (dA : Nat → ClassId) (A : Nat → Prop) (E : State → Prop) (hE : gSt A E) (R : va_W) (mo ag ab ah asv ai al at_ : Nat) (ch hs ty wy wd li pl iw : Int32) (g : gG) (hI : gInv g) (j : Nat) (w : Int32) (hj : j < nn g 212) : Met l yX4_ofPoints (ws_ yX4_ofPoints cX4_ofPoints 7 (Option.some FieldType.int)) ({ frames := 1, cells := 0, slots := 0, locals := 22 }) (va_Pc [.ref mo, .int (nI j), .int w] (gB D dA A E ((mo, .inr (4, [.ref ag, .ref ab, .ref ah, .int ch, .ref asv, .int hs, .ref ai, .int ty, .int wy, .int wd, .ref al, .int li, .int pl, .int iw, .ref at_])) :: (ag, .inl (dA 0, 310, .inl g)) :: R))) (va_Qi (fun (r : Int32) (_ : Unit) => r = ofPoints g j w) (fun _ => gE D A ((mo, .inr (4, [.ref ag, .ref ab, .ref ah, .int ch, .ref asv, .int hs, .ref ai, .int ty, .int wy, .int wd, .ref al, .int li, .int pl, .int iw, .ref at_])) :: (ag, .inl (dA 0, 310, .inl g)) :: R)) A) (0) (0) A := by
  refine g_start rfl rfl ?_
  intro p e s m args below meth c ls X hr hlocks hin hw hl
  have hx := X.1.1
  have hb := X.1.2.1
  have hl : lv_has ls 7 [(0, .ref mo), (1, .int (nI j)), (2, .int w)] := hl
  have hI2 := hI.c.2
  have hI4 := hI.m.2
  have hI6 := hI.k.2
  have hkc := (hI.kc hj).2
  have hcl := (hI.cl hkc)
  have hcl2 := hcl.2
  refine lv_iconst (v := 0) hx hb dX4_ofPoints_0 (by decide) ?_
  refine lv_istore_n (lv' := [(3, .int 0), (0, .ref mo), (1, .int (nI j)), (2, .int w)]) hx hb dX4_ofPoints_1 rfl hl (by decide) rfl (fun ls hl => ?_)
  refine lv_iconst (v := 0) hx hb dX4_ofPoints_2 (by decide) ?_
  refine lv_istore (lv' := [(4, .int 0), (3, .int 0), (0, .ref mo), (1, .int (nI j)), (2, .int w)]) hx hb dX4_ofPoints_3 hl (by decide) rfl (fun ls hl => ?_)
  have loop_1 : ∀ (fuel : Nat) (i : Nat), ∀ (hi : i ≤ 10), (10 - i) < fuel → ∀ (H : Heap) (locs : List Loc) (hw : gW D A ((mo, .inr (4, [.ref ag, .ref ab, .ref ah, .int ch, .ref asv, .int hs, .ref ai, .int ty, .int wy, .int wd, .ref al, .int li, .int pl, .int iw, .ref at_])) :: (ag, .inl (dA 0, 310, .inl g)) :: R) s H locs) (ls : Array Slot) (hl : lv_has ls 7 [(4, .int (nI i)), (3, .int (ofPointsL g j w i)), (0, .ref mo), (1, .int (nI j)), (2, .int w)]), W p l e ({ frames := 1, cells := 0, slots := 0, locals := 22 }) s m args below meth c H locs (0) (0) (MQ below (va_Qi (fun (r : Int32) (_ : Unit) => r = ofPoints g j w) (fun _ => gE D A ((mo, .inr (4, [.ref ag, .ref ab, .ref ah, .int ch, .ref asv, .int hs, .ref ai, .int ty, .int wy, .int wd, .ref al, .int li, .int pl, .int iw, .ref at_])) :: (ag, .inl (dA 0, 310, .inl g)) :: R)) A) args s (0) (0) A) (F0 m 5 ls []) := by
    intro fuel
    induction fuel with
    | zero => intro i hi hf; exact absurd hf (Nat.not_lt_zero _)
    | succ fuel ih_loop_1 =>
      intro i hi hfuel_loop_1 H locs hw ls hl
      refine lv_iload hx hb dX4_ofPoints_5 (lv_at hl 0 rfl) ?_
      refine lv_bipush (v := 10) hx hb dX4_ofPoints_7 (by decide) ?_
      refine lv_icmp_ge (tgt := 123) hx hb dX4_ofPoints_9 (by decide) (fun c_2 => ?_) (fun c_2 => ?_)
      · skip
        have c_2 := Int32.not_lt.mpr c_2
        have c_2 : ¬ (i < 10) := fun q => c_2 ((nI_ltI (a := i) (b := 10) (by omega) (by omega)).mpr q)
        refine lv_iload_n hx hb dX4_ofPoints_123 rfl (lv_at hl 1 rfl) ?_
        obtain rfl : i = 10 := by omega
        exact g_iret (v := ofPointsL g j w 10) () X hw hr hlocks  rfl rfl dX4_ofPoints_124
      · skip
        have c_2 := Int32.not_le.mp c_2
        have c_2 : i < 10 := (nI_ltI (a := i) (b := 10) (by omega) (by omega)).mp c_2
        refine lv_aload_n hx hb dX4_ofPoints_12 rfl (lv_at hl 2 rfl) ?_
        refine g_get X cfX4 hw 0 0 rfl rfl q1834 rfl rfl dX4_ofPoints_13 ?_
        refine lv_sipush (v := 229) hx hb dX4_ofPoints_16 (by decide) ?_
        refine lv_bipush (v := 10) hx hb dX4_ofPoints_19 (by decide) ?_
        refine lv_iload_n hx hb dX4_ofPoints_21 rfl (lv_at hl 3 rfl) ?_
        refine lv_imul hx hb dX4_ofPoints_22 ?_
        refine g_mulN (a := 10) (b := j) ?_
        refine lv_iadd hx hb dX4_ofPoints_23 ?_
        refine g_addN (a := 229) (b := 10 * j) ?_
        refine lv_iload hx hb dX4_ofPoints_24 (lv_at hl 0 rfl) ?_
        refine lv_iadd hx hb dX4_ofPoints_26 ?_
        refine g_addN (a := 229 + 10 * j) (b := i) ?_
        refine g_iald X hw 1 rfl (i := 229 + 10 * j + i) (by omega) (by first | decide | omega) dX4_ofPoints_27 ?_
        refine lv_istore (lv' := [(5, .int (g (229 + 10 * j + i))), (4, .int (nI i)), (3, .int (ofPointsL g j w i)), (0, .ref mo), (1, .int (nI j)), (2, .int w)]) hx hb dX4_ofPoints_28 hl (by decide) rfl (fun ls hl => ?_)
        refine lv_iload hx hb dX4_ofPoints_30 (lv_at hl 0 rfl) ?_
        refine lv_aload_n hx hb dX4_ofPoints_32 rfl (lv_at hl 3 rfl) ?_
        refine lv_iload_n hx hb dX4_ofPoints_33 rfl (lv_at hl 4 rfl) ?_
        refine lv_iload hx hb dX4_ofPoints_34 (lv_at hl 1 rfl) ?_
        refine va_calli (va_runV (As := [.int (nI j), .int (nI i)]) (rest := [.int (g (229 + 10 * j + i))]) X.1 (m_X4_dueAt l D dA A E hE R mo ag ab ah asv ai al at_ ch hs ty wy wd li pl iw g (by first | assumption | omega) j i (by first | assumption | omega) (by first | assumption | omega)) (cwV 2 X.1.2.2.2.2 (lw_V q1992 q1994 qs38 q80 q1995) rfl rfl rfl (by decide +kernel) ⟨Nat.le_of_ble_eq_true rfl, Nat.le_of_ble_eq_true rfl⟩) (g_preV hE X.2 hw 0 rfl rfl) rfl rfl hl.1 rfl (lv_room (Nat.le_of_ble_eq_true rfl)) dX4_ofPoints_36 ⟨Nat.le_of_ble_eq_true rfl, Nat.le_of_ble_eq_true rfl⟩) hw.2.2 (fun q _ h => h) (fun q h => h) (fun r_4 u t H locs ht hvm h_3 hB hz9 hk9 hS => ?_)
        have hw : gW D A ((mo, .inr (4, [.ref ag, .ref ab, .ref ah, .int ch, .ref asv, .int hs, .ref ai, .int ty, .int wy, .int wd, .ref al, .int li, .int pl, .int iw, .ref at_])) :: (ag, .inl (dA 0, 310, .inl g)) :: R) s H locs := g_aft ht hB hS
        obtain rfl : r_4 = g (91 + 10 * nn g (213 + j) + i) := h_3
        refine lv_isub hx hb dX4_ofPoints_39 ?_
        refine lv_istore (lv' := [(6, .int ((g (229 + 10 * j + i)) - (g (91 + 10 * nn g (213 + j) + i)))), (5, .int (g (229 + 10 * j + i))), (4, .int (nI i)), (3, .int (ofPointsL g j w i)), (0, .ref mo), (1, .int (nI j)), (2, .int w)]) hx hb dX4_ofPoints_40 hl (by decide) rfl (fun ls hl => ?_)
        refine lv_iload hx hb dX4_ofPoints_42 (lv_at hl 1 rfl) ?_
        refine lv_if_lt (tgt := 117) hx hb dX4_ofPoints_44 (by decide) (fun c_5 => ?_) (fun c_5 => ?_)
        · skip
          refine lv_iinc (v := nI (i + 1)) (lv' := [(4, .int (nI (i + 1))), (6, .int ((g (229 + 10 * j + i)) - (g (91 + 10 * nn g (213 + j) + i)))), (5, .int (g (229 + 10 * j + i))), (3, .int (ofPointsL g j w i)), (0, .ref mo), (1, .int (nI j)), (2, .int w)]) hx hb dX4_ofPoints_117 hl (k := 2) rfl (nI_add i 1) (by decide) rfl (fun ls hl => ?_)
          refine lv_goto (tgt := 5) hx hb dX4_ofPoints_120 (by decide) ?_
          have hl : lv_has ls 7 [(4, .int (nI (i + 1))), (3, .int (ofPointsL g j w i)), (0, .ref mo), (1, .int (nI j)), (2, .int w)] := (lv_sub hl [0, 3, 4, 5, 6] rfl)
          rw [show ofPointsL g j w i = ofPointsL g j w (i + 1) from by simp [ofPointsL, ofPoint, c_2, c_5]] at hl
          have hl : lv_has ls 7 [(4, .int (nI (i + 1))), (3, .int (ofPointsL g j w (i + 1))), (0, .ref mo), (1, .int (nI j)), (2, .int w)] := hl
          exact ih_loop_1 (i + 1) (by first | assumption | omega) (by omega) _ _ hw _ (hl)
        · skip
          refine lv_iload_n hx hb dX4_ofPoints_47 rfl (lv_at hl 3 rfl) ?_
          refine lv_iload_n hx hb dX4_ofPoints_48 rfl (lv_at hl 6 rfl) ?_
          refine lv_if_ne (tgt := 56) hx hb dX4_ofPoints_49 (by decide) (fun c_6 => ?_) (fun c_6 => ?_)
          · skip
            refine lv_iload_n hx hb dX4_ofPoints_56 rfl (lv_at hl 6 rfl) ?_
            refine lv_iconst (v := 1) hx hb dX4_ofPoints_57 (by decide) ?_
            refine lv_icmp_ne (tgt := 74) hx hb dX4_ofPoints_58 (by decide) (fun c_7 => ?_) (fun c_7 => ?_)
            · skip
              refine lv_iload_n hx hb dX4_ofPoints_74 rfl (lv_at hl 6 rfl) ?_
              refine lv_iconst (v := 2) hx hb dX4_ofPoints_75 (by decide) ?_
              refine lv_icmp_ne (tgt := 84) hx hb dX4_ofPoints_76 (by decide) (fun c_8 => ?_) (fun c_8 => ?_)
              · skip
                refine lv_iload_n hx hb dX4_ofPoints_84 rfl (lv_at hl 6 rfl) ?_
                refine lv_iconst (v := 3) hx hb dX4_ofPoints_85 (by decide) ?_
                refine lv_icmp_ne (tgt := 103) hx hb dX4_ofPoints_86 (by decide) (fun c_9 => ?_) (fun c_9 => ?_)
                · skip
                  refine lv_iload hx hb dX4_ofPoints_103 (lv_at hl 0 rfl) ?_
                  refine lv_if_ge (tgt := 114) hx hb dX4_ofPoints_105 (by decide) (fun c_10 => ?_) (fun c_10 => ?_)
                  · skip
                    have c_10 := Int32.not_lt.mpr c_10
                    refine lv_iconst (v := 0) hx hb dX4_ofPoints_114 (by decide) ?_
                    refine lv_iadd hx hb dX4_ofPoints_115 ?_
                    refine lv_istore_n (lv' := [(3, .int ((ofPointsL g j w i) + 0)), (6, .int ((g (229 + 10 * j + i)) - (g (91 + 10 * nn g (213 + j) + i)))), (5, .int (g (229 + 10 * j + i))), (4, .int (nI i)), (0, .ref mo), (1, .int (nI j)), (2, .int w)]) hx hb dX4_ofPoints_116 rfl hl (by decide) rfl (fun ls hl => ?_)
                    refine lv_iinc (v := nI (i + 1)) (lv' := [(4, .int (nI (i + 1))), (3, .int ((ofPointsL g j w i) + 0)), (6, .int ((g (229 + 10 * j + i)) - (g (91 + 10 * nn g (213 + j) + i)))), (5, .int (g (229 + 10 * j + i))), (0, .ref mo), (1, .int (nI j)), (2, .int w)]) hx hb dX4_ofPoints_117 hl (k := 3) rfl (nI_add i 1) (by decide) rfl (fun ls hl => ?_)
                    refine lv_goto (tgt := 5) hx hb dX4_ofPoints_120 (by decide) ?_
                    have hl : lv_has ls 7 [(4, .int (nI (i + 1))), (3, .int ((ofPointsL g j w i) + 0)), (0, .ref mo), (1, .int (nI j)), (2, .int w)] := (lv_sub hl [0, 1, 4, 5, 6] rfl)
                    rw [show (ofPointsL g j w i) + 0 = ofPointsL g j w (i + 1) from by simp [ofPointsL, ofPoint, c_2, c_5, c_6, c_7, c_8, c_9, c_10]] at hl
                    have hl : lv_has ls 7 [(4, .int (nI (i + 1))), (3, .int (ofPointsL g j w (i + 1))), (0, .ref mo), (1, .int (nI j)), (2, .int w)] := hl
                    exact ih_loop_1 (i + 1) (by first | assumption | omega) (by omega) _ _ hw _ (hl)
                  · skip
                    have c_10 := Int32.not_le.mp c_10
                    refine lv_iload hx hb dX4_ofPoints_108 (lv_at hl 0 rfl) ?_
                    refine lv_ineg hx hb dX4_ofPoints_110 ?_
                    refine lv_goto (tgt := 115) hx hb dX4_ofPoints_111 (by decide) ?_
                    refine lv_iadd hx hb dX4_ofPoints_115 ?_
                    refine lv_istore_n (lv' := [(3, .int ((ofPointsL g j w i) + (-((g (229 + 10 * j + i)) - (g (91 + 10 * nn g (213 + j) + i)))))), (6, .int ((g (229 + 10 * j + i)) - (g (91 + 10 * nn g (213 + j) + i)))), (5, .int (g (229 + 10 * j + i))), (4, .int (nI i)), (0, .ref mo), (1, .int (nI j)), (2, .int w)]) hx hb dX4_ofPoints_116 rfl hl (by decide) rfl (fun ls hl => ?_)
                    refine lv_iinc (v := nI (i + 1)) (lv' := [(4, .int (nI (i + 1))), (3, .int ((ofPointsL g j w i) + (-((g (229 + 10 * j + i)) - (g (91 + 10 * nn g (213 + j) + i)))))), (6, .int ((g (229 + 10 * j + i)) - (g (91 + 10 * nn g (213 + j) + i)))), (5, .int (g (229 + 10 * j + i))), (0, .ref mo), (1, .int (nI j)), (2, .int w)]) hx hb dX4_ofPoints_117 hl (k := 3) rfl (nI_add i 1) (by decide) rfl (fun ls hl => ?_)
                    refine lv_goto (tgt := 5) hx hb dX4_ofPoints_120 (by decide) ?_
                    have hl : lv_has ls 7 [(4, .int (nI (i + 1))), (3, .int ((ofPointsL g j w i) + (-((g (229 + 10 * j + i)) - (g (91 + 10 * nn g (213 + j) + i)))))), (0, .ref mo), (1, .int (nI j)), (2, .int w)] := (lv_sub hl [0, 1, 4, 5, 6] rfl)
                    rw [show (ofPointsL g j w i) + (-((g (229 + 10 * j + i)) - (g (91 + 10 * nn g (213 + j) + i)))) = ofPointsL g j w (i + 1) from by simp [ofPointsL, ofPoint, c_2, c_5, c_6, c_7, c_8, c_9, c_10]] at hl
                    have hl : lv_has ls 7 [(4, .int (nI (i + 1))), (3, .int (ofPointsL g j w (i + 1))), (0, .ref mo), (1, .int (nI j)), (2, .int w)] := hl
                    exact ih_loop_1 (i + 1) (by first | assumption | omega) (by omega) _ _ hw _ (hl)
                · skip
                  refine lv_iload hx hb dX4_ofPoints_89 (lv_at hl 0 rfl) ?_
                  refine lv_if_le (tgt := 99) hx hb dX4_ofPoints_91 (by decide) (fun c_11 => ?_) (fun c_11 => ?_)
                  · skip
                    have c_11 := Int32.not_lt.mpr c_11
                    refine lv_iconst (v := 0) hx hb dX4_ofPoints_99 (by decide) ?_
                    refine lv_goto (tgt := 115) hx hb dX4_ofPoints_100 (by decide) ?_
                    refine lv_iadd hx hb dX4_ofPoints_115 ?_
                    refine lv_istore_n (lv' := [(3, .int ((ofPointsL g j w i) + 0)), (6, .int ((g (229 + 10 * j + i)) - (g (91 + 10 * nn g (213 + j) + i)))), (5, .int (g (229 + 10 * j + i))), (4, .int (nI i)), (0, .ref mo), (1, .int (nI j)), (2, .int w)]) hx hb dX4_ofPoints_116 rfl hl (by decide) rfl (fun ls hl => ?_)
                    refine lv_iinc (v := nI (i + 1)) (lv' := [(4, .int (nI (i + 1))), (3, .int ((ofPointsL g j w i) + 0)), (6, .int ((g (229 + 10 * j + i)) - (g (91 + 10 * nn g (213 + j) + i)))), (5, .int (g (229 + 10 * j + i))), (0, .ref mo), (1, .int (nI j)), (2, .int w)]) hx hb dX4_ofPoints_117 hl (k := 3) rfl (nI_add i 1) (by decide) rfl (fun ls hl => ?_)
                    refine lv_goto (tgt := 5) hx hb dX4_ofPoints_120 (by decide) ?_
                    have hl : lv_has ls 7 [(4, .int (nI (i + 1))), (3, .int ((ofPointsL g j w i) + 0)), (0, .ref mo), (1, .int (nI j)), (2, .int w)] := (lv_sub hl [0, 1, 4, 5, 6] rfl)
                    rw [show (ofPointsL g j w i) + 0 = ofPointsL g j w (i + 1) from by simp [ofPointsL, ofPoint, c_2, c_5, c_6, c_7, c_8, c_9, c_11]] at hl
                    have hl : lv_has ls 7 [(4, .int (nI (i + 1))), (3, .int (ofPointsL g j w (i + 1))), (0, .ref mo), (1, .int (nI j)), (2, .int w)] := hl
                    exact ih_loop_1 (i + 1) (by first | assumption | omega) (by omega) _ _ hw _ (hl)
                  · skip
                    have c_11 := Int32.not_le.mp c_11
                    refine lv_iload hx hb dX4_ofPoints_94 (lv_at hl 0 rfl) ?_
                    refine lv_goto (tgt := 115) hx hb dX4_ofPoints_96 (by decide) ?_
                    refine lv_iadd hx hb dX4_ofPoints_115 ?_
                    refine lv_istore_n (lv' := [(3, .int ((ofPointsL g j w i) + ((g (229 + 10 * j + i)) - (g (91 + 10 * nn g (213 + j) + i))))), (6, .int ((g (229 + 10 * j + i)) - (g (91 + 10 * nn g (213 + j) + i)))), (5, .int (g (229 + 10 * j + i))), (4, .int (nI i)), (0, .ref mo), (1, .int (nI j)), (2, .int w)]) hx hb dX4_ofPoints_116 rfl hl (by decide) rfl (fun ls hl => ?_)
                    refine lv_iinc (v := nI (i + 1)) (lv' := [(4, .int (nI (i + 1))), (3, .int ((ofPointsL g j w i) + ((g (229 + 10 * j + i)) - (g (91 + 10 * nn g (213 + j) + i))))), (6, .int ((g (229 + 10 * j + i)) - (g (91 + 10 * nn g (213 + j) + i)))), (5, .int (g (229 + 10 * j + i))), (0, .ref mo), (1, .int (nI j)), (2, .int w)]) hx hb dX4_ofPoints_117 hl (k := 3) rfl (nI_add i 1) (by decide) rfl (fun ls hl => ?_)
                    refine lv_goto (tgt := 5) hx hb dX4_ofPoints_120 (by decide) ?_
                    have hl : lv_has ls 7 [(4, .int (nI (i + 1))), (3, .int ((ofPointsL g j w i) + ((g (229 + 10 * j + i)) - (g (91 + 10 * nn g (213 + j) + i))))), (0, .ref mo), (1, .int (nI j)), (2, .int w)] := (lv_sub hl [0, 1, 4, 5, 6] rfl)
                    rw [show (ofPointsL g j w i) + ((g (229 + 10 * j + i)) - (g (91 + 10 * nn g (213 + j) + i))) = ofPointsL g j w (i + 1) from by simp [ofPointsL, ofPoint, c_2, c_5, c_6, c_7, c_8, c_9, c_11]] at hl
                    have hl : lv_has ls 7 [(4, .int (nI (i + 1))), (3, .int (ofPointsL g j w (i + 1))), (0, .ref mo), (1, .int (nI j)), (2, .int w)] := hl
                    exact ih_loop_1 (i + 1) (by first | assumption | omega) (by omega) _ _ hw _ (hl)
              · skip
                refine lv_iload hx hb dX4_ofPoints_79 (lv_at hl 1 rfl) ?_
                refine lv_goto (tgt := 115) hx hb dX4_ofPoints_81 (by decide) ?_
                refine lv_iadd hx hb dX4_ofPoints_115 ?_
                refine lv_istore_n (lv' := [(3, .int ((ofPointsL g j w i) + (g (229 + 10 * j + i)))), (6, .int ((g (229 + 10 * j + i)) - (g (91 + 10 * nn g (213 + j) + i)))), (5, .int (g (229 + 10 * j + i))), (4, .int (nI i)), (0, .ref mo), (1, .int (nI j)), (2, .int w)]) hx hb dX4_ofPoints_116 rfl hl (by decide) rfl (fun ls hl => ?_)
                refine lv_iinc (v := nI (i + 1)) (lv' := [(4, .int (nI (i + 1))), (3, .int ((ofPointsL g j w i) + (g (229 + 10 * j + i)))), (6, .int ((g (229 + 10 * j + i)) - (g (91 + 10 * nn g (213 + j) + i)))), (5, .int (g (229 + 10 * j + i))), (0, .ref mo), (1, .int (nI j)), (2, .int w)]) hx hb dX4_ofPoints_117 hl (k := 3) rfl (nI_add i 1) (by decide) rfl (fun ls hl => ?_)
                refine lv_goto (tgt := 5) hx hb dX4_ofPoints_120 (by decide) ?_
                have hl : lv_has ls 7 [(4, .int (nI (i + 1))), (3, .int ((ofPointsL g j w i) + (g (229 + 10 * j + i)))), (0, .ref mo), (1, .int (nI j)), (2, .int w)] := (lv_sub hl [0, 1, 4, 5, 6] rfl)
                rw [show (ofPointsL g j w i) + (g (229 + 10 * j + i)) = ofPointsL g j w (i + 1) from by simp [ofPointsL, ofPoint, c_2, c_5, c_6, c_7, c_8]] at hl
                have hl : lv_has ls 7 [(4, .int (nI (i + 1))), (3, .int (ofPointsL g j w (i + 1))), (0, .ref mo), (1, .int (nI j)), (2, .int w)] := hl
                exact ih_loop_1 (i + 1) (by first | assumption | omega) (by omega) _ _ hw _ (hl)
            · skip
              refine lv_iload hx hb dX4_ofPoints_61 (lv_at hl 0 rfl) ?_
              refine lv_if_ne (tgt := 70) hx hb dX4_ofPoints_63 (by decide) (fun c_12 => ?_) (fun c_12 => ?_)
              · skip
                refine lv_iconst (v := 0) hx hb dX4_ofPoints_70 (by decide) ?_
                refine lv_goto (tgt := 115) hx hb dX4_ofPoints_71 (by decide) ?_
                refine lv_iadd hx hb dX4_ofPoints_115 ?_
                refine lv_istore_n (lv' := [(3, .int ((ofPointsL g j w i) + 0)), (6, .int ((g (229 + 10 * j + i)) - (g (91 + 10 * nn g (213 + j) + i)))), (5, .int (g (229 + 10 * j + i))), (4, .int (nI i)), (0, .ref mo), (1, .int (nI j)), (2, .int w)]) hx hb dX4_ofPoints_116 rfl hl (by decide) rfl (fun ls hl => ?_)
                refine lv_iinc (v := nI (i + 1)) (lv' := [(4, .int (nI (i + 1))), (3, .int ((ofPointsL g j w i) + 0)), (6, .int ((g (229 + 10 * j + i)) - (g (91 + 10 * nn g (213 + j) + i)))), (5, .int (g (229 + 10 * j + i))), (0, .ref mo), (1, .int (nI j)), (2, .int w)]) hx hb dX4_ofPoints_117 hl (k := 3) rfl (nI_add i 1) (by decide) rfl (fun ls hl => ?_)
                refine lv_goto (tgt := 5) hx hb dX4_ofPoints_120 (by decide) ?_
                have hl : lv_has ls 7 [(4, .int (nI (i + 1))), (3, .int ((ofPointsL g j w i) + 0)), (0, .ref mo), (1, .int (nI j)), (2, .int w)] := (lv_sub hl [0, 1, 4, 5, 6] rfl)
                rw [show (ofPointsL g j w i) + 0 = ofPointsL g j w (i + 1) from by simp [ofPointsL, ofPoint, c_2, c_5, c_6, c_7, c_12]] at hl
                have hl : lv_has ls 7 [(4, .int (nI (i + 1))), (3, .int (ofPointsL g j w (i + 1))), (0, .ref mo), (1, .int (nI j)), (2, .int w)] := hl
                exact ih_loop_1 (i + 1) (by first | assumption | omega) (by omega) _ _ hw _ (hl)
              · skip
                refine lv_iconst (v := 1) hx hb dX4_ofPoints_66 (by decide) ?_
                refine lv_goto (tgt := 115) hx hb dX4_ofPoints_67 (by decide) ?_
                refine lv_iadd hx hb dX4_ofPoints_115 ?_
                refine lv_istore_n (lv' := [(3, .int ((ofPointsL g j w i) + 1)), (6, .int ((g (229 + 10 * j + i)) - (g (91 + 10 * nn g (213 + j) + i)))), (5, .int (g (229 + 10 * j + i))), (4, .int (nI i)), (0, .ref mo), (1, .int (nI j)), (2, .int w)]) hx hb dX4_ofPoints_116 rfl hl (by decide) rfl (fun ls hl => ?_)
                refine lv_iinc (v := nI (i + 1)) (lv' := [(4, .int (nI (i + 1))), (3, .int ((ofPointsL g j w i) + 1)), (6, .int ((g (229 + 10 * j + i)) - (g (91 + 10 * nn g (213 + j) + i)))), (5, .int (g (229 + 10 * j + i))), (0, .ref mo), (1, .int (nI j)), (2, .int w)]) hx hb dX4_ofPoints_117 hl (k := 3) rfl (nI_add i 1) (by decide) rfl (fun ls hl => ?_)
                refine lv_goto (tgt := 5) hx hb dX4_ofPoints_120 (by decide) ?_
                have hl : lv_has ls 7 [(4, .int (nI (i + 1))), (3, .int ((ofPointsL g j w i) + 1)), (0, .ref mo), (1, .int (nI j)), (2, .int w)] := (lv_sub hl [0, 1, 4, 5, 6] rfl)
                rw [show (ofPointsL g j w i) + 1 = ofPointsL g j w (i + 1) from by simp [ofPointsL, ofPoint, c_2, c_5, c_6, c_7, c_12]] at hl
                have hl : lv_has ls 7 [(4, .int (nI (i + 1))), (3, .int (ofPointsL g j w (i + 1))), (0, .ref mo), (1, .int (nI j)), (2, .int w)] := hl
                exact ih_loop_1 (i + 1) (by first | assumption | omega) (by omega) _ _ hw _ (hl)
          · skip
            refine lv_iconst (v := 1) hx hb dX4_ofPoints_52 (by decide) ?_
            refine lv_goto (tgt := 115) hx hb dX4_ofPoints_53 (by decide) ?_
            refine lv_iadd hx hb dX4_ofPoints_115 ?_
            refine lv_istore_n (lv' := [(3, .int ((ofPointsL g j w i) + 1)), (6, .int ((g (229 + 10 * j + i)) - (g (91 + 10 * nn g (213 + j) + i)))), (5, .int (g (229 + 10 * j + i))), (4, .int (nI i)), (0, .ref mo), (1, .int (nI j)), (2, .int w)]) hx hb dX4_ofPoints_116 rfl hl (by decide) rfl (fun ls hl => ?_)
            refine lv_iinc (v := nI (i + 1)) (lv' := [(4, .int (nI (i + 1))), (3, .int ((ofPointsL g j w i) + 1)), (6, .int ((g (229 + 10 * j + i)) - (g (91 + 10 * nn g (213 + j) + i)))), (5, .int (g (229 + 10 * j + i))), (0, .ref mo), (1, .int (nI j)), (2, .int w)]) hx hb dX4_ofPoints_117 hl (k := 3) rfl (nI_add i 1) (by decide) rfl (fun ls hl => ?_)
            refine lv_goto (tgt := 5) hx hb dX4_ofPoints_120 (by decide) ?_
            have hl : lv_has ls 7 [(4, .int (nI (i + 1))), (3, .int ((ofPointsL g j w i) + 1)), (0, .ref mo), (1, .int (nI j)), (2, .int w)] := (lv_sub hl [0, 1, 4, 5, 6] rfl)
            rw [show (ofPointsL g j w i) + 1 = ofPointsL g j w (i + 1) from by simp [ofPointsL, ofPoint, c_2, c_5, c_6]] at hl
            have hl : lv_has ls 7 [(4, .int (nI (i + 1))), (3, .int (ofPointsL g j w (i + 1))), (0, .ref mo), (1, .int (nI j)), (2, .int w)] := hl
            exact ih_loop_1 (i + 1) (by first | assumption | omega) (by omega) _ _ hw _ (hl)
  have hl : lv_has ls 7 [(4, .int 0), (3, .int 0), (0, .ref mo), (1, .int (nI j)), (2, .int w)] := (lv_sub hl [0, 1, 2, 3, 4] rfl)
  have hl : lv_has ls 7 [(4, .int 0), (3, .int (ofPointsL g j w 0)), (0, .ref mo), (1, .int (nI j)), (2, .int w)] := by exact hl
  exact loop_1 ((10 - 0) + 1) 0 (by first | assumption | omega) (Nat.lt_succ_self _) _ _ hw _ (hl)

set_option maxHeartbeats 4000000 in
theorem m_X4_weightOf (l : Launch) (D : va_G) (dA : Nat → ClassId) (A : Nat → Prop) (E : State → Prop) (hE : gSt A E) (R : va_W) (mo ag ab ah asv ai al at_ : Nat) (ch hs ty wy wd li pl iw : Int32) (g : gG) (hI : gInv g) (j : Nat) (hj : j < nn g 212) : Met l yX4_weightOf (ws_ yX4_weightOf cX4_weightOf 2 (Option.some FieldType.int)) ({ frames := 2, cells := 0, slots := 0, locals := 48 }) (va_Pc [.ref mo, .int (nI j)] (gB D dA A E ((mo, .inr (4, [.ref ag, .ref ab, .ref ah, .int ch, .ref asv, .int hs, .ref ai, .int ty, .int wy, .int wd, .ref al, .int li, .int pl, .int iw, .ref at_])) :: (ag, .inl (dA 0, 310, .inl g)) :: R))) (va_Qi (fun (r : Int32) (_ : Unit) => r = weightI g j) (fun _ => gE D A ((mo, .inr (4, [.ref ag, .ref ab, .ref ah, .int ch, .ref asv, .int hs, .ref ai, .int ty, .int wy, .int wd, .ref al, .int li, .int pl, .int iw, .ref at_])) :: (ag, .inl (dA 0, 310, .inl g)) :: R)) A) (0) (0) A := by
  refine g_start rfl rfl ?_
  intro p e s m args below meth c ls X hr hlocks hin hw hl
  have hx := X.1.1
  have hb := X.1.2.1
  have hl : lv_has ls 2 [(0, .ref mo), (1, .int (nI j))] := hl
  refine lv_bipush (v := 120) hx hb dX4_weightOf_0 (by decide) ?_
  refine lv_aload_n hx hb dX4_weightOf_2 rfl (lv_at hl 0 rfl) ?_
  refine lv_iload_n hx hb dX4_weightOf_3 rfl (lv_at hl 1 rfl) ?_
  refine lv_iconst (v := 2) hx hb dX4_weightOf_4 (by decide) ?_
  refine va_calli (va_runV (As := [.int (nI j), .int 2]) (rest := [.int 120]) X.1 (m_X4_ofPoints l D dA A E hE R mo ag ab ah asv ai al at_ ch hs ty wy wd li pl iw g (by first | assumption | omega) j 2 (by first | assumption | omega)) (cwV 2 X.1.2.2.2.2 (lw_V q2019 q2021 qs40 q80 q2022) rfl rfl rfl (by decide +kernel) ⟨Nat.le_of_ble_eq_true rfl, Nat.le_of_ble_eq_true rfl⟩) (g_preV hE X.2 hw 0 rfl rfl) rfl rfl hl.1 rfl (lv_room (Nat.le_of_ble_eq_true rfl)) dX4_weightOf_5 ⟨Nat.le_of_ble_eq_true rfl, Nat.le_of_ble_eq_true rfl⟩) hw.2.2 (fun q _ h => h) (fun q h => h) (fun r_2 u t H locs ht hvm h_1 hB hz9 hk9 hS => ?_)
  have hw : gW D A ((mo, .inr (4, [.ref ag, .ref ab, .ref ah, .int ch, .ref asv, .int hs, .ref ai, .int ty, .int wy, .int wd, .ref al, .int li, .int pl, .int iw, .ref at_])) :: (ag, .inl (dA 0, 310, .inl g)) :: R) s H locs := g_aft ht hB hS
  obtain rfl : r_2 = ofPoints g j 2 := h_1
  refine lv_bipush (v := 10) hx hb dX4_weightOf_8 (by decide) ?_
  refine lv_idiv hx hb dX4_weightOf_10 (by decide) ?_
  refine lv_isub hx hb dX4_weightOf_11 ?_
  exact g_iret (v := 120 - ((ofPoints g j 2) / 10)) () X hw hr hlocks  rfl rfl dX4_weightOf_12

set_option maxHeartbeats 4000000 in
theorem m_X4_uncut (l : Launch) (D : va_G) (dA : Nat → ClassId) (A : Nat → Prop) (E : State → Prop) (hE : gSt A E) (R : va_W) (mo ag ab ah asv ai al at_ : Nat) (ch hs ty wy wd li pl iw : Int32) (g : gG) (hI : gInv g) (j : Nat) (hj : j < nn g 212) : Met l yX4_uncut (ws_ yX4_uncut cX4_uncut 3 (Option.some FieldType.int)) ({ frames := 0, cells := 0, slots := 0, locals := 0 }) (va_Pc [.ref mo, .int (nI j)] (gB D dA A E ((mo, .inr (4, [.ref ag, .ref ab, .ref ah, .int ch, .ref asv, .int hs, .ref ai, .int ty, .int wy, .int wd, .ref al, .int li, .int pl, .int iw, .ref at_])) :: (ag, .inl (dA 0, 310, .inl g)) :: R))) (va_Qi (fun (r : Int32) (_ : Unit) => r = nI (uncut g j)) (fun _ => gE D A ((mo, .inr (4, [.ref ag, .ref ab, .ref ah, .int ch, .ref asv, .int hs, .ref ai, .int ty, .int wy, .int wd, .ref al, .int li, .int pl, .int iw, .ref at_])) :: (ag, .inl (dA 0, 310, .inl g)) :: R)) A) (0) (0) A := by
  refine g_start rfl rfl ?_
  intro p e s m args below meth c ls X hr hlocks hin hw hl
  have hx := X.1.1
  have hb := X.1.2.1
  have hl : lv_has ls 3 [(0, .ref mo), (1, .int (nI j))] := hl
  have hI2 := hI.c.2
  have hI4 := hI.m.2
  have hI6 := hI.k.2
  refine lv_iconst (v := 0) hx hb dX4_uncut_0 (by decide) ?_
  refine lv_istore_n (lv' := [(2, .int 0), (0, .ref mo), (1, .int (nI j))]) hx hb dX4_uncut_1 rfl hl (by decide) rfl (fun ls hl => ?_)
  have loop_1 : ∀ (fuel : Nat) (i : Nat), ∀ (hi : i ≤ 10), ∀ (hu : uncut g j = uncutL g j (10 - i) i), (10 - i) < fuel → ∀ (H : Heap) (locs : List Loc) (hw : gW D A ((mo, .inr (4, [.ref ag, .ref ab, .ref ah, .int ch, .ref asv, .int hs, .ref ai, .int ty, .int wy, .int wd, .ref al, .int li, .int pl, .int iw, .ref at_])) :: (ag, .inl (dA 0, 310, .inl g)) :: R) s H locs) (ls : Array Slot) (hl : lv_has ls 3 [(2, .int (nI i)), (0, .ref mo), (1, .int (nI j))]), W p l e ({ frames := 0, cells := 0, slots := 0, locals := 0 }) s m args below meth c H locs (0) (0) (MQ below (va_Qi (fun (r : Int32) (_ : Unit) => r = nI (uncut g j)) (fun _ => gE D A ((mo, .inr (4, [.ref ag, .ref ab, .ref ah, .int ch, .ref asv, .int hs, .ref ai, .int ty, .int wy, .int wd, .ref al, .int li, .int pl, .int iw, .ref at_])) :: (ag, .inl (dA 0, 310, .inl g)) :: R)) A) args s (0) (0) A) (F0 m 2 ls []) := by
    intro fuel
    induction fuel with
    | zero => intro i hi hu hf; exact absurd hf (Nat.not_lt_zero _)
    | succ fuel ih_loop_1 =>
      intro i hi hu hfuel_loop_1 H locs hw ls hl
      refine lv_iload_n hx hb dX4_uncut_2 rfl (lv_at hl 0 rfl) ?_
      refine lv_bipush (v := 10) hx hb dX4_uncut_3 (by decide) ?_
      refine lv_icmp_ge (tgt := 32) hx hb dX4_uncut_5 (by decide) (fun c_2 => ?_) (fun c_2 => ?_)
      · skip
        have c_2 := Int32.not_lt.mpr c_2
        have c_2 : ¬ (i < 10) := fun q => c_2 ((nI_ltI (a := i) (b := 10) (by omega) (by omega)).mpr q)
        refine lv_iload_n hx hb dX4_uncut_32 rfl (lv_at hl 0 rfl) ?_
        obtain rfl : i = 10 := by omega
        exact g_iret (v := 10) () X hw hr hlocks  (by rw [hu]; rfl) rfl dX4_uncut_33
      · skip
        have c_2 := Int32.not_le.mp c_2
        have c_2 : i < 10 := (nI_ltI (a := i) (b := 10) (by omega) (by omega)).mp c_2
        refine lv_aload_n hx hb dX4_uncut_8 rfl (lv_at hl 1 rfl) ?_
        refine g_get X cfX4 hw 0 0 rfl rfl q1834 rfl rfl dX4_uncut_9 ?_
        refine lv_sipush (v := 229) hx hb dX4_uncut_12 (by decide) ?_
        refine lv_bipush (v := 10) hx hb dX4_uncut_15 (by decide) ?_
        refine lv_iload_n hx hb dX4_uncut_17 rfl (lv_at hl 2 rfl) ?_
        refine lv_imul hx hb dX4_uncut_18 ?_
        refine g_mulN (a := 10) (b := j) ?_
        refine lv_iadd hx hb dX4_uncut_19 ?_
        refine g_addN (a := 229) (b := 10 * j) ?_
        refine lv_iload_n hx hb dX4_uncut_20 rfl (lv_at hl 0 rfl) ?_
        refine lv_iadd hx hb dX4_uncut_21 ?_
        refine g_addN (a := 229 + 10 * j) (b := i) ?_
        refine g_iald X hw 1 rfl (i := 229 + 10 * j + i) (by omega) (by first | decide | omega) dX4_uncut_22 ?_
        refine lv_if_lt (tgt := 32) hx hb dX4_uncut_23 (by decide) (fun c_3 => ?_) (fun c_3 => ?_)
        · skip
          refine lv_iload_n hx hb dX4_uncut_32 rfl (lv_at hl 0 rfl) ?_
          exact g_iret (v := nI i) () X hw hr hlocks  (by rw [hu, uncutL_st (by omega) c_3]) rfl dX4_uncut_33
        · skip
          refine lv_iinc (v := nI (i + 1)) (lv' := [(2, .int (nI (i + 1))), (0, .ref mo), (1, .int (nI j))]) hx hb dX4_uncut_26 hl (k := 0) rfl (nI_add i 1) (by decide) rfl (fun ls hl => ?_)
          refine lv_goto (tgt := 2) hx hb dX4_uncut_29 (by decide) ?_
          exact ih_loop_1 (i + 1) (by first | assumption | omega) (by rw [hu]; exact uncutL_go (by omega) c_3) (by omega) _ _ hw _ (lv_sub hl [0, 1, 2] rfl)
  exact loop_1 ((10 - 0) + 1) 0 (by first | assumption | omega) (rfl) (Nat.lt_succ_self _) _ _ hw _ (lv_sub hl [0, 1, 2] rfl)

set_option maxHeartbeats 4000000 in
theorem m_X4_lifts (l : Launch) (D : va_G) (dA : Nat → ClassId) (A : Nat → Prop) (E : State → Prop) (hE : gSt A E) (R : va_W) (mo ag ab ah asv ai al at_ : Nat) (ch hs ty wy wd li pl iw : Int32) (g : gG) (hI : gInv g) (v : Int32) : Met l yX4_lifts (ws_ yX4_lifts cX4_lifts 5 (Option.some FieldType.int)) ({ frames := 3, cells := 0, slots := 0, locals := 69 }) (va_Pc [.ref mo, .int v] (gB D dA A E ((mo, .inr (4, [.ref ag, .ref ab, .ref ah, .int ch, .ref asv, .int hs, .ref ai, .int ty, .int wy, .int wd, .ref al, .int li, .int pl, .int iw, .ref at_])) :: (ag, .inl (dA 0, 310, .inl g)) :: R))) (va_Qi (fun (r : Int32) (_ : Unit) => r = gr_v (p_liftsI g v)) (fun _ => gE D A ((mo, .inr (4, [.ref ag, .ref ab, .ref ah, .int ch, .ref asv, .int hs, .ref ai, .int ty, .int (gr_w wy (p_liftsI g v)), .int (gr_d wd (p_liftsI g v)), .ref al, .int li, .int pl, .int iw, .ref at_])) :: (ag, .inl (dA 0, 310, .inl (gr_g g (p_liftsI g v)))) :: R)) A) (0) (0) A := by
  refine g_start rfl rfl ?_
  intro p e s m args below meth c ls X hr hlocks hin hw hl
  have hx := X.1.1
  have hb := X.1.2.1
  have hl : lv_has ls 5 [(0, .ref mo), (1, .int v)] := hl
  have hI2 := hI.c.2
  have hI4 := hI.m.2
  have hI6 := hI.k.2
  refine lv_aload_n hx hb dX4_lifts_0 rfl (lv_at hl 0 rfl) ?_
  refine lv_iload_n hx hb dX4_lifts_1 rfl (lv_at hl 1 rfl) ?_
  refine va_calli (va_runV (As := [.int v]) (rest := []) X.1 (m_X4_isCopy l D dA A E hE R mo ag ab ah asv ai al at_ ch hs ty wy wd li pl iw g v) (cwV 1 X.1.2.2.2.2 (lw_V q1984 q1986 qs36 q80 q1987) rfl rfl rfl (by decide +kernel) ⟨Nat.le_of_ble_eq_true rfl, Nat.le_of_ble_eq_true rfl⟩) (g_preV hE X.2 hw 0 rfl rfl) rfl rfl hl.1 rfl (lv_room (Nat.le_of_ble_eq_true rfl)) dX4_lifts_2 ⟨Nat.le_of_ble_eq_true rfl, Nat.le_of_ble_eq_true rfl⟩) hw.2.2 (fun q _ h => h) (fun q h => h) (fun r_2 u t H locs ht hvm h_1 hB hz9 hk9 hS => ?_)
  have hw : gW D A ((mo, .inr (4, [.ref ag, .ref ab, .ref ah, .int ch, .ref asv, .int hs, .ref ai, .int ty, .int wy, .int wd, .ref al, .int li, .int pl, .int iw, .ref at_])) :: (ag, .inl (dA 0, 310, .inl g)) :: R) s H locs := g_aft ht hB hS
  obtain rfl : r_2 = bZ (inR v 0 (g 212 - 1)) := h_1
  refine lv_if_ne (tgt := 11) hx hb dX4_lifts_5 (by decide) (fun c_3 => ?_) (fun c_3 => ?_)
  · skip
    have c_3 := bZ_1 c_3
    obtain ⟨k, hk, ek⟩ := hI.inK c_3
    subst ek
    have kk : (nI k).toNatClampNeg = k := nI_clamp (by omega)
    have hkc := (hI.kc hk).2
    have hcl := hI.cl hkc
    have hcl2 := hcl.2
    have hlf : ledgeFor g k < 6 := hcl2
    have hu10 : uncut g k ≤ 10 := uncut_le
    refine lv_aload_n hx hb dX4_lifts_11 rfl (lv_at hl 0 rfl) ?_
    refine lv_iload_n hx hb dX4_lifts_12 rfl (lv_at hl 1 rfl) ?_
    refine va_calli (va_runV (As := [.int (nI k)]) (rest := []) X.1 (m_X4_ledgeFor l D dA A E hE R mo ag ab ah asv ai al at_ ch hs ty wy wd li pl iw g (by first | assumption | omega) k (by first | assumption | omega)) (cwV 1 X.1.2.2.2.2 (lw_V q1988 q1990 qs37 q80 q1991) rfl rfl rfl (by decide +kernel) ⟨Nat.le_of_ble_eq_true rfl, Nat.le_of_ble_eq_true rfl⟩) (g_preV hE X.2 hw 0 rfl rfl) rfl rfl hl.1 rfl (lv_room (Nat.le_of_ble_eq_true rfl)) dX4_lifts_13 ⟨Nat.le_of_ble_eq_true rfl, Nat.le_of_ble_eq_true rfl⟩) hw.2.2 (fun q _ h => h) (fun q h => h) (fun r_5 u t H locs ht hvm h_4 hB hz9 hk9 hS => ?_)
    have hw : gW D A ((mo, .inr (4, [.ref ag, .ref ab, .ref ah, .int ch, .ref asv, .int hs, .ref ai, .int ty, .int wy, .int wd, .ref al, .int li, .int pl, .int iw, .ref at_])) :: (ag, .inl (dA 0, 310, .inl g)) :: R) s H locs := g_aft ht hB hS
    obtain rfl : r_5 = nI (ledgeFor g k) := h_4
    refine lv_istore_n (lv' := [(2, .int (nI (ledgeFor g k))), (0, .ref mo), (1, .int (nI k))]) hx hb dX4_lifts_16 rfl hl (by decide) rfl (fun ls hl => ?_)
    refine lv_aload_n hx hb dX4_lifts_17 rfl (lv_at hl 1 rfl) ?_
    refine g_get X cfX4 hw 0 0 rfl rfl q1834 rfl rfl dX4_lifts_18 ?_
    refine lv_sipush (v := 221) hx hb dX4_lifts_21 (by decide) ?_
    refine lv_iload_n hx hb dX4_lifts_24 rfl (lv_at hl 2 rfl) ?_
    refine lv_iadd hx hb dX4_lifts_25 ?_
    refine g_addN (a := 221) (b := k) ?_
    refine g_iald X hw 1 rfl (i := 221 + k) (by omega) (by first | decide | omega) dX4_lifts_26 ?_
    refine lv_iconst (v := 1) hx hb dX4_lifts_27 (by decide) ?_
    refine lv_icmp_ne (tgt := 39) hx hb dX4_lifts_28 (by decide) (fun c_6 => ?_) (fun c_6 => ?_)
    · skip
      refine lv_aload_n hx hb dX4_lifts_39 rfl (lv_at hl 1 rfl) ?_
      refine lv_iload_n hx hb dX4_lifts_40 rfl (lv_at hl 2 rfl) ?_
      refine va_calli (va_runV (As := [.int (nI k)]) (rest := []) X.1 (m_X4_uncut l D dA A E hE R mo ag ab ah asv ai al at_ ch hs ty wy wd li pl iw g (by first | assumption | omega) k (by first | assumption | omega)) (cwV 1 X.1.2.2.2.2 (lw_V q2055 q2057 qs44 q80 q2058) rfl rfl rfl (by decide +kernel) ⟨Nat.le_of_ble_eq_true rfl, Nat.le_of_ble_eq_true rfl⟩) (g_preV hE X.2 hw 0 rfl rfl) rfl rfl hl.1 rfl (lv_room (Nat.le_of_ble_eq_true rfl)) dX4_lifts_41 ⟨Nat.le_of_ble_eq_true rfl, Nat.le_of_ble_eq_true rfl⟩) hw.2.2 (fun q _ h => h) (fun q h => h) (fun r_8 u t H locs ht hvm h_7 hB hz9 hk9 hS => ?_)
      have hw : gW D A ((mo, .inr (4, [.ref ag, .ref ab, .ref ah, .int ch, .ref asv, .int hs, .ref ai, .int ty, .int wy, .int wd, .ref al, .int li, .int pl, .int iw, .ref at_])) :: (ag, .inl (dA 0, 310, .inl g)) :: R) s H locs := g_aft ht hB hS
      obtain rfl : r_8 = nI (uncut g k) := h_7
      refine lv_bipush (v := 10) hx hb dX4_lifts_44 (by decide) ?_
      refine lv_icmp_ge (tgt := 61) hx hb dX4_lifts_46 (by decide) (fun c_9 => ?_) (fun c_9 => ?_)
      · skip
        have c_9 := Int32.not_lt.mpr c_9
        have c_9 : ¬ ((uncut g k) < 10) := fun q => c_9 ((nI_ltI (a := (uncut g k)) (b := 10) (by omega) (by omega)).mpr q)
        refine lv_aload_n hx hb dX4_lifts_61 rfl (lv_at hl 1 rfl) ?_
        refine g_get X cfX4 hw 0 0 rfl rfl q1834 rfl rfl dX4_lifts_62 ?_
        refine lv_bipush (v := 14) hx hb dX4_lifts_65 (by decide) ?_
        refine lv_iload_n hx hb dX4_lifts_67 rfl (lv_at hl 0 rfl) ?_
        refine lv_iadd hx hb dX4_lifts_68 ?_
        refine g_addN (a := 14) (b := (ledgeFor g k)) ?_
        refine g_iald X hw 1 rfl (i := 14 + (ledgeFor g k)) (by omega) (by first | decide | omega) dX4_lifts_69 ?_
        refine lv_iconst (v := 1) hx hb dX4_lifts_70 (by decide) ?_
        refine lv_icmp_eq (tgt := 90) hx hb dX4_lifts_71 (by decide) (fun c_10 => ?_) (fun c_10 => ?_)
        · skip
          refine lv_aload_n hx hb dX4_lifts_90 rfl (lv_at hl 1 rfl) ?_
          refine g_get X cfX4 hw 0 0 rfl rfl q1834 rfl rfl dX4_lifts_91 ?_
          refine lv_iconst (v := 2) hx hb dX4_lifts_94 (by decide) ?_
          refine g_iald X hw 1 rfl (i := 2) (by decide) (by decide) dX4_lifts_95 ?_
          refine lv_bipush (v := 7) hx hb dX4_lifts_96 (by decide) ?_
          refine lv_icmp_lt (tgt := 114) hx hb dX4_lifts_98 (by decide) (fun c_11 => ?_) (fun c_11 => ?_)
          · skip
            refine lv_aload_n hx hb dX4_lifts_114 rfl (lv_at hl 1 rfl) ?_
            refine lv_iload_n hx hb dX4_lifts_115 rfl (lv_at hl 2 rfl) ?_
            refine va_calli (va_runV (As := [.int (nI k)]) (rest := []) X.1 (m_X4_weightOf l D dA A E hE R mo ag ab ah asv ai al at_ ch hs ty wy wd li pl iw g (by first | assumption | omega) k (by first | assumption | omega)) (cwV 1 X.1.2.2.2.2 (lw_V q2023 q2025 qs41 q80 q2026) rfl rfl rfl (by decide +kernel) ⟨Nat.le_of_ble_eq_true rfl, Nat.le_of_ble_eq_true rfl⟩) (g_preV hE X.2 hw 0 rfl rfl) rfl rfl hl.1 rfl (lv_room (Nat.le_of_ble_eq_true rfl)) dX4_lifts_116 ⟨Nat.le_of_ble_eq_true rfl, Nat.le_of_ble_eq_true rfl⟩) hw.2.2 (fun q _ h => h) (fun q h => h) (fun r_13 u t H locs ht hvm h_12 hB hz9 hk9 hS => ?_)
            have hw : gW D A ((mo, .inr (4, [.ref ag, .ref ab, .ref ah, .int ch, .ref asv, .int hs, .ref ai, .int ty, .int wy, .int wd, .ref al, .int li, .int pl, .int iw, .ref at_])) :: (ag, .inl (dA 0, 310, .inl g)) :: R) s H locs := g_aft ht hB hS
            obtain rfl : r_13 = weightI g k := h_12
            refine lv_bipush (v := 120) hx hb dX4_lifts_119 (by decide) ?_
            refine lv_isub hx hb dX4_lifts_121 ?_
            refine lv_iconst (v := 3) hx hb dX4_lifts_122 (by decide) ?_
            refine lv_iload_n hx hb dX4_lifts_123 rfl (lv_at hl 0 rfl) ?_
            refine va_calli (va_runS (As := [.int (nI (ledgeFor g k))]) (rest := [.int 3, .int ((weightI g k) - 120)]) X.1 (m_X4_heightOf l D dA A E hE ((mo, .inr (4, [.ref ag, .ref ab, .ref ah, .int ch, .ref asv, .int hs, .ref ai, .int ty, .int wy, .int wd, .ref al, .int li, .int pl, .int iw, .ref at_])) :: (ag, .inl (dA 0, 310, .inl g)) :: R) (ledgeFor g k)) (va_cwS 1 X.1.2.2.2.2 (lw_S q1891 q1892 q80 q1893) rfl rfl rfl (by decide +kernel) ⟨Nat.le_of_ble_eq_true rfl, Nat.le_of_ble_eq_true rfl⟩) (g_preS hE X.2 hw) rfl rfl hl.1 rfl (lv_room (Nat.le_of_ble_eq_true rfl)) dX4_lifts_124 ⟨Nat.le_of_ble_eq_true rfl, Nat.le_of_ble_eq_true rfl⟩) hw.2.2 (fun q _ h => h) (fun q h => h) (fun r_15 u t H locs ht hvm h_14 hB hz9 hk9 hS => ?_)
            have hw : gW D A ((mo, .inr (4, [.ref ag, .ref ab, .ref ah, .int ch, .ref asv, .int hs, .ref ai, .int ty, .int wy, .int wd, .ref al, .int li, .int pl, .int iw, .ref at_])) :: (ag, .inl (dA 0, 310, .inl g)) :: R) s H locs := g_aft ht hB hS
            obtain rfl : r_15 = heightI (ledgeFor g k) := h_14
            refine lv_imul hx hb dX4_lifts_127 ?_
            refine lv_iconst (v := 2) hx hb dX4_lifts_128 (by decide) ?_
            refine lv_idiv hx hb dX4_lifts_129 (by decide) ?_
            refine lv_iadd hx hb dX4_lifts_130 ?_
            refine lv_istore_n (lv' := [(3, .int (((weightI g k) - 120) + ((3 * (heightI (ledgeFor g k))) / 2))), (2, .int (nI (ledgeFor g k))), (0, .ref mo), (1, .int (nI k))]) hx hb dX4_lifts_131 rfl hl (by decide) rfl (fun ls hl => ?_)
            refine lv_iload_n hx hb dX4_lifts_132 rfl (lv_at hl 0 rfl) ?_
            refine lv_if_le (tgt := 144) hx hb dX4_lifts_133 (by decide) (fun c_16 => ?_) (fun c_16 => ?_)
            · skip
              have c_16 := Int32.not_lt.mpr c_16
              refine lv_bipush (v := 10) hx hb dX4_lifts_144 (by decide) ?_
              refine lv_iconst (v := 2) hx hb dX4_lifts_146 (by decide) ?_
              refine lv_aload_n hx hb dX4_lifts_147 rfl (lv_at hl 2 rfl) ?_
              refine lv_iload_n hx hb dX4_lifts_148 rfl (lv_at hl 3 rfl) ?_
              refine lv_iconst (v := 1) hx hb dX4_lifts_149 (by decide) ?_
              refine va_calli (va_runV (As := [.int (nI k), .int 1]) (rest := [.int 2, .int 10]) X.1 (m_X4_ofPoints l D dA A E hE R mo ag ab ah asv ai al at_ ch hs ty wy wd li pl iw g (by first | assumption | omega) k 1 (by first | assumption | omega)) (cwV 2 X.1.2.2.2.2 (lw_V q2019 q2021 qs40 q80 q2022) rfl rfl rfl (by decide +kernel) ⟨Nat.le_of_ble_eq_true rfl, Nat.le_of_ble_eq_true rfl⟩) (g_preV hE X.2 hw 0 rfl rfl) rfl rfl hl.1 rfl (lv_room (Nat.le_of_ble_eq_true rfl)) dX4_lifts_150 ⟨Nat.le_of_ble_eq_true rfl, Nat.le_of_ble_eq_true rfl⟩) hw.2.2 (fun q _ h => h) (fun q h => h) (fun r_18 u t H locs ht hvm h_17 hB hz9 hk9 hS => ?_)
              have hw : gW D A ((mo, .inr (4, [.ref ag, .ref ab, .ref ah, .int ch, .ref asv, .int hs, .ref ai, .int ty, .int wy, .int wd, .ref al, .int li, .int pl, .int iw, .ref at_])) :: (ag, .inl (dA 0, 310, .inl g)) :: R) s H locs := g_aft ht hB hS
              obtain rfl : r_18 = ofPoints g k 1 := h_17
              refine lv_imul hx hb dX4_lifts_153 ?_
              refine lv_iadd hx hb dX4_lifts_154 ?_
              refine lv_istore (lv' := [(4, .int (10 + (2 * (ofPoints g k 1)))), (3, .int (((weightI g k) - 120) + ((3 * (heightI (ledgeFor g k))) / 2))), (2, .int (nI (ledgeFor g k))), (0, .ref mo), (1, .int (nI k))]) hx hb dX4_lifts_155 hl (by decide) rfl (fun ls hl => ?_)
              refine lv_aload_n hx hb dX4_lifts_157 rfl (lv_at hl 3 rfl) ?_
              refine g_get X cfX4 hw 0 0 rfl rfl q1834 rfl rfl dX4_lifts_158 ?_
              refine lv_sipush (v := 221) hx hb dX4_lifts_161 (by decide) ?_
              refine lv_iload_n hx hb dX4_lifts_164 rfl (lv_at hl 4 rfl) ?_
              refine lv_iadd hx hb dX4_lifts_165 ?_
              refine g_addN (a := 221) (b := k) ?_
              refine lv_iconst (v := 1) hx hb dX4_lifts_166 (by decide) ?_
              refine g_iast (ws' := (mo, .inr (4, [.ref ag, .ref ab, .ref ah, .int ch, .ref asv, .int hs, .ref ai, .int ty, .int wy, .int wd, .ref al, .int li, .int pl, .int iw, .ref at_])) :: (ag, .inl (dA 0, 310, .inl (upd g (221 + k) 1))) :: R) X hw 1 rfl (i := 221 + k) (by omega) (by first | decide | omega) rfl dX4_lifts_167 (fun H locs hw => ?_)
              refine lv_aload_n hx hb dX4_lifts_168 rfl (lv_at hl 3 rfl) ?_
              refine g_get X cfX4 hw 0 0 rfl rfl q1834 rfl rfl dX4_lifts_169 ?_
              refine lv_bipush (v := 14) hx hb dX4_lifts_172 (by decide) ?_
              refine lv_iload_n hx hb dX4_lifts_174 rfl (lv_at hl 2 rfl) ?_
              refine lv_iadd hx hb dX4_lifts_175 ?_
              refine g_addN (a := 14) (b := (ledgeFor g k)) ?_
              refine lv_iconst (v := 2) hx hb dX4_lifts_176 (by decide) ?_
              refine g_iast (ws' := (mo, .inr (4, [.ref ag, .ref ab, .ref ah, .int ch, .ref asv, .int hs, .ref ai, .int ty, .int wy, .int wd, .ref al, .int li, .int pl, .int iw, .ref at_])) :: (ag, .inl (dA 0, 310, .inl (upd (upd g (221 + k) 1) (14 + (ledgeFor g k)) 2))) :: R) X hw 1 rfl (i := 14 + (ledgeFor g k)) (by omega) (by first | decide | omega) rfl dX4_lifts_177 (fun H locs hw => ?_)
              refine lv_aload_n hx hb dX4_lifts_178 rfl (lv_at hl 3 rfl) ?_
              refine g_get X cfX4 hw 0 0 rfl rfl q1834 rfl rfl dX4_lifts_179 ?_
              refine lv_bipush (v := 44) hx hb dX4_lifts_182 (by decide) ?_
              refine lv_iload_n hx hb dX4_lifts_184 rfl (lv_at hl 2 rfl) ?_
              refine lv_iadd hx hb dX4_lifts_185 ?_
              refine g_addN (a := 44) (b := (ledgeFor g k)) ?_
              refine lv_iload_n hx hb dX4_lifts_186 rfl (lv_at hl 4 rfl) ?_
              refine g_iast (ws' := (mo, .inr (4, [.ref ag, .ref ab, .ref ah, .int ch, .ref asv, .int hs, .ref ai, .int ty, .int wy, .int wd, .ref al, .int li, .int pl, .int iw, .ref at_])) :: (ag, .inl (dA 0, 310, .inl (upd (upd (upd g (221 + k) 1) (14 + (ledgeFor g k)) 2) (44 + (ledgeFor g k)) (nI k)))) :: R) X hw 1 rfl (i := 44 + (ledgeFor g k)) (by omega) (by first | decide | omega) rfl dX4_lifts_187 (fun H locs hw => ?_)
              refine lv_aload_n hx hb dX4_lifts_188 rfl (lv_at hl 3 rfl) ?_
              refine g_get X cfX4 hw 0 0 rfl rfl q1834 rfl rfl dX4_lifts_189 ?_
              refine lv_iconst (v := 4) hx hb dX4_lifts_192 (by decide) ?_
              refine lv_dup2_11 hx hb dX4_lifts_193 rfl rfl ?_
              refine g_iald X hw 1 rfl (i := 4) (by decide) (by decide) dX4_lifts_194 ?_
              refine g_top (y := g 4) ((upd_n (by omega)).trans ((upd_n (by omega)).trans (upd_n (by omega)))) ?_
              refine lv_iload hx hb dX4_lifts_195 (lv_at hl 0 rfl) ?_
              refine lv_iadd hx hb dX4_lifts_197 ?_
              refine g_iast (ws' := (mo, .inr (4, [.ref ag, .ref ab, .ref ah, .int ch, .ref asv, .int hs, .ref ai, .int ty, .int wy, .int wd, .ref al, .int li, .int pl, .int iw, .ref at_])) :: (ag, .inl (dA 0, 310, .inl (upd (upd (upd (upd g (221 + k) 1) (14 + (ledgeFor g k)) 2) (44 + (ledgeFor g k)) (nI k)) 4 ((g 4) + (10 + (2 * (ofPoints g k 1))))))) :: R) X hw 1 rfl (i := 4) (by decide) (by decide) rfl dX4_lifts_198 (fun H locs hw => ?_)
              refine lv_aload_n hx hb dX4_lifts_199 rfl (lv_at hl 3 rfl) ?_
              refine g_get X cfX4 hw 0 0 rfl rfl q1834 rfl rfl dX4_lifts_200 ?_
              refine lv_iconst (v := 5) hx hb dX4_lifts_203 (by decide) ?_
              refine lv_dup2_11 hx hb dX4_lifts_204 rfl rfl ?_
              refine g_iald X hw 1 rfl (i := 5) (by decide) (by decide) dX4_lifts_205 ?_
              refine g_top (y := g 5) ((upd_n (by omega)).trans ((upd_n (by omega)).trans ((upd_n (by omega)).trans (upd_n (by omega))))) ?_
              refine lv_iload hx hb dX4_lifts_206 (lv_at hl 0 rfl) ?_
              refine lv_iadd hx hb dX4_lifts_208 ?_
              refine g_iast (ws' := (mo, .inr (4, [.ref ag, .ref ab, .ref ah, .int ch, .ref asv, .int hs, .ref ai, .int ty, .int wy, .int wd, .ref al, .int li, .int pl, .int iw, .ref at_])) :: (ag, .inl (dA 0, 310, .inl (upd (upd (upd (upd (upd g (221 + k) 1) (14 + (ledgeFor g k)) 2) (44 + (ledgeFor g k)) (nI k)) 4 ((g 4) + (10 + (2 * (ofPoints g k 1))))) 5 ((g 5) + (10 + (2 * (ofPoints g k 1))))))) :: R) X hw 1 rfl (i := 5) (by decide) (by decide) rfl dX4_lifts_209 (fun H locs hw => ?_)
              refine lv_iload hx hb dX4_lifts_210 (lv_at hl 0 rfl) ?_
              have hop : p_liftsI g (nI k) = .inr (10 + (2 * (ofPoints g k 1)), upd (upd (upd (upd (upd g (221 + k) 1) (14 + (ledgeFor g k)) 2) (44 + (ledgeFor g k)) (nI k)) 4 ((g 4) + (10 + (2 * (ofPoints g k 1))))) 5 ((g 5) + (10 + (2 * (ofPoints g k 1))))) := by simp [p_liftsI, p_lifts, p_lift4, overI, c_3, kk, c_6, c_9, c_10, c_11, c_16]
              exact g_iret (v := 10 + (2 * (ofPoints g k 1))) () X hw hr hlocks  (by rw [hop]; rfl) (by rw [hop]; rfl) dX4_lifts_212
            · skip
              have c_16 := Int32.not_le.mp c_16
              refine lv_aload_n hx hb dX4_lifts_136 rfl (lv_at hl 2 rfl) ?_
              refine lv_bipush (v := 13) hx hb dX4_lifts_137 (by decide) ?_
              refine lv_iload_n hx hb dX4_lifts_139 rfl (lv_at hl 0 rfl) ?_
              refine va_calli (va_runV (As := [.int 13, .int (((weightI g k) - 120) + ((3 * (heightI (ledgeFor g k))) / 2))]) (rest := []) X.1 (m_X4_refused l D dA A E hE ((ag, .inl (dA 0, 310, .inl g)) :: R) mo ag ab ah asv ai al at_ ch hs ty wy wd li pl iw (by first | assumption | omega) 13 (((weightI g k) - 120) + ((3 * (heightI (ledgeFor g k))) / 2))) (cwV 2 X.1.2.2.2.2 (lw_V q1924 q1926 qs28 q80 q1927) rfl rfl rfl (by decide +kernel) ⟨Nat.le_of_ble_eq_true rfl, Nat.le_of_ble_eq_true rfl⟩) (g_preV hE X.2 hw 0 rfl rfl) rfl rfl hl.1 rfl (lv_room (Nat.le_of_ble_eq_true rfl)) dX4_lifts_140 ⟨Nat.le_of_ble_eq_true rfl, Nat.le_of_ble_eq_true rfl⟩) hw.2.2 (fun q _ h => h) (fun q h => h) (fun r_20 u t H locs ht hvm h_19 hB hz9 hk9 hS => ?_)
              have hw : gW D A ((mo, .inr (4, [.ref ag, .ref ab, .ref ah, .int ch, .ref asv, .int hs, .ref ai, .int ty, .int 13, .int (((weightI g k) - 120) + ((3 * (heightI (ledgeFor g k))) / 2)), .ref al, .int li, .int pl, .int iw, .ref at_])) :: (ag, .inl (dA 0, 310, .inl g)) :: R) s H locs := g_aft ht hB hS
              obtain rfl : r_20 = -14 := h_19
              have hop : p_liftsI g (nI k) = .inl (13, ((weightI g k) - 120) + ((3 * (heightI (ledgeFor g k))) / 2)) := by simp [p_liftsI, p_lifts, p_lift4, overI, c_3, kk, c_6, c_9, c_10, c_11, c_16]
              exact g_iret (v := -14) () X hw hr hlocks  (by rw [hop]; rfl) (by rw [hop]; rfl) dX4_lifts_143
          · skip
            refine lv_aload_n hx hb dX4_lifts_101 rfl (lv_at hl 1 rfl) ?_
            refine lv_bipush (v := 12) hx hb dX4_lifts_102 (by decide) ?_
            refine lv_aload_n hx hb dX4_lifts_104 rfl (lv_at hl 1 rfl) ?_
            refine g_get X cfX4 hw 0 0 rfl rfl q1834 rfl rfl dX4_lifts_105 ?_
            refine lv_iconst (v := 2) hx hb dX4_lifts_108 (by decide) ?_
            refine g_iald X hw 1 rfl (i := 2) (by decide) (by decide) dX4_lifts_109 ?_
            refine va_calli (va_runV (As := [.int 12, .int (g 2)]) (rest := []) X.1 (m_X4_refused l D dA A E hE ((ag, .inl (dA 0, 310, .inl g)) :: R) mo ag ab ah asv ai al at_ ch hs ty wy wd li pl iw (by first | assumption | omega) 12 (g 2)) (cwV 2 X.1.2.2.2.2 (lw_V q1924 q1926 qs28 q80 q1927) rfl rfl rfl (by decide +kernel) ⟨Nat.le_of_ble_eq_true rfl, Nat.le_of_ble_eq_true rfl⟩) (g_preV hE X.2 hw 0 rfl rfl) rfl rfl hl.1 rfl (lv_room (Nat.le_of_ble_eq_true rfl)) dX4_lifts_110 ⟨Nat.le_of_ble_eq_true rfl, Nat.le_of_ble_eq_true rfl⟩) hw.2.2 (fun q _ h => h) (fun q h => h) (fun r_22 u t H locs ht hvm h_21 hB hz9 hk9 hS => ?_)
            have hw : gW D A ((mo, .inr (4, [.ref ag, .ref ab, .ref ah, .int ch, .ref asv, .int hs, .ref ai, .int ty, .int 12, .int (g 2), .ref al, .int li, .int pl, .int iw, .ref at_])) :: (ag, .inl (dA 0, 310, .inl g)) :: R) s H locs := g_aft ht hB hS
            obtain rfl : r_22 = -14 := h_21
            have hop : p_liftsI g (nI k) = .inl (12, g 2) := by simp [p_liftsI, p_lifts, p_lift4, overI, c_3, kk, c_6, c_9, c_10, c_11]
            exact g_iret (v := -14) () X hw hr hlocks  (by rw [hop]; rfl) (by rw [hop]; rfl) dX4_lifts_113
        · skip
          refine lv_aload_n hx hb dX4_lifts_74 rfl (lv_at hl 1 rfl) ?_
          refine lv_bipush (v := 11) hx hb dX4_lifts_75 (by decide) ?_
          refine lv_aload_n hx hb dX4_lifts_77 rfl (lv_at hl 1 rfl) ?_
          refine g_get X cfX4 hw 0 0 rfl rfl q1834 rfl rfl dX4_lifts_78 ?_
          refine lv_bipush (v := 14) hx hb dX4_lifts_81 (by decide) ?_
          refine lv_iload_n hx hb dX4_lifts_83 rfl (lv_at hl 0 rfl) ?_
          refine lv_iadd hx hb dX4_lifts_84 ?_
          refine g_addN (a := 14) (b := (ledgeFor g k)) ?_
          refine g_iald X hw 1 rfl (i := 14 + (ledgeFor g k)) (by omega) (by first | decide | omega) dX4_lifts_85 ?_
          refine va_calli (va_runV (As := [.int 11, .int (g (14 + (ledgeFor g k)))]) (rest := []) X.1 (m_X4_refused l D dA A E hE ((ag, .inl (dA 0, 310, .inl g)) :: R) mo ag ab ah asv ai al at_ ch hs ty wy wd li pl iw (by first | assumption | omega) 11 (g (14 + (ledgeFor g k)))) (cwV 2 X.1.2.2.2.2 (lw_V q1924 q1926 qs28 q80 q1927) rfl rfl rfl (by decide +kernel) ⟨Nat.le_of_ble_eq_true rfl, Nat.le_of_ble_eq_true rfl⟩) (g_preV hE X.2 hw 0 rfl rfl) rfl rfl hl.1 rfl (lv_room (Nat.le_of_ble_eq_true rfl)) dX4_lifts_86 ⟨Nat.le_of_ble_eq_true rfl, Nat.le_of_ble_eq_true rfl⟩) hw.2.2 (fun q _ h => h) (fun q h => h) (fun r_24 u t H locs ht hvm h_23 hB hz9 hk9 hS => ?_)
          have hw : gW D A ((mo, .inr (4, [.ref ag, .ref ab, .ref ah, .int ch, .ref asv, .int hs, .ref ai, .int ty, .int 11, .int (g (14 + (ledgeFor g k))), .ref al, .int li, .int pl, .int iw, .ref at_])) :: (ag, .inl (dA 0, 310, .inl g)) :: R) s H locs := g_aft ht hB hS
          obtain rfl : r_24 = -14 := h_23
          have hop : p_liftsI g (nI k) = .inl (11, g (14 + (ledgeFor g k))) := by simp [p_liftsI, p_lifts, p_lift4, overI, c_3, kk, c_6, c_9, c_10]
          exact g_iret (v := -14) () X hw hr hlocks  (by rw [hop]; rfl) (by rw [hop]; rfl) dX4_lifts_89
      · skip
        have c_9 := Int32.not_le.mp c_9
        have c_9 : (uncut g k) < 10 := (nI_ltI (a := (uncut g k)) (b := 10) (by omega) (by omega)).mp c_9
        refine lv_aload_n hx hb dX4_lifts_49 rfl (lv_at hl 1 rfl) ?_
        refine lv_bipush (v := 10) hx hb dX4_lifts_50 (by decide) ?_
        refine lv_aload_n hx hb dX4_lifts_52 rfl (lv_at hl 1 rfl) ?_
        refine lv_iload_n hx hb dX4_lifts_53 rfl (lv_at hl 2 rfl) ?_
        refine va_calli (va_runV (As := [.int (nI k)]) (rest := [.int 10, .ref mo]) X.1 (m_X4_uncut l D dA A E hE R mo ag ab ah asv ai al at_ ch hs ty wy wd li pl iw g (by first | assumption | omega) k (by first | assumption | omega)) (cwV 1 X.1.2.2.2.2 (lw_V q2055 q2057 qs44 q80 q2058) rfl rfl rfl (by decide +kernel) ⟨Nat.le_of_ble_eq_true rfl, Nat.le_of_ble_eq_true rfl⟩) (g_preV hE X.2 hw 0 rfl rfl) rfl rfl hl.1 rfl (lv_room (Nat.le_of_ble_eq_true rfl)) dX4_lifts_54 ⟨Nat.le_of_ble_eq_true rfl, Nat.le_of_ble_eq_true rfl⟩) hw.2.2 (fun q _ h => h) (fun q h => h) (fun r_26 u t H locs ht hvm h_25 hB hz9 hk9 hS => ?_)
        have hw : gW D A ((mo, .inr (4, [.ref ag, .ref ab, .ref ah, .int ch, .ref asv, .int hs, .ref ai, .int ty, .int wy, .int wd, .ref al, .int li, .int pl, .int iw, .ref at_])) :: (ag, .inl (dA 0, 310, .inl g)) :: R) s H locs := g_aft ht hB hS
        obtain rfl : r_26 = nI (uncut g k) := h_25
        refine va_calli (va_runV (As := [.int 10, .int (nI (uncut g k))]) (rest := []) X.1 (m_X4_refused l D dA A E hE ((ag, .inl (dA 0, 310, .inl g)) :: R) mo ag ab ah asv ai al at_ ch hs ty wy wd li pl iw (by first | assumption | omega) 10 (nI (uncut g k))) (cwV 2 X.1.2.2.2.2 (lw_V q1924 q1926 qs28 q80 q1927) rfl rfl rfl (by decide +kernel) ⟨Nat.le_of_ble_eq_true rfl, Nat.le_of_ble_eq_true rfl⟩) (g_preV hE X.2 hw 0 rfl rfl) rfl rfl hl.1 rfl (lv_room (Nat.le_of_ble_eq_true rfl)) dX4_lifts_57 ⟨Nat.le_of_ble_eq_true rfl, Nat.le_of_ble_eq_true rfl⟩) hw.2.2 (fun q _ h => h) (fun q h => h) (fun r_28 u t H locs ht hvm h_27 hB hz9 hk9 hS => ?_)
        have hw : gW D A ((mo, .inr (4, [.ref ag, .ref ab, .ref ah, .int ch, .ref asv, .int hs, .ref ai, .int ty, .int 10, .int (nI (uncut g k)), .ref al, .int li, .int pl, .int iw, .ref at_])) :: (ag, .inl (dA 0, 310, .inl g)) :: R) s H locs := g_aft ht hB hS
        obtain rfl : r_28 = -14 := h_27
        have hop : p_liftsI g (nI k) = .inl (10, nI (uncut g k)) := by simp [p_liftsI, p_lifts, p_lift4, overI, c_3, kk, c_6, c_9]
        exact g_iret (v := -14) () X hw hr hlocks  (by rw [hop]; rfl) (by rw [hop]; rfl) dX4_lifts_60
    · skip
      refine lv_aload_n hx hb dX4_lifts_31 rfl (lv_at hl 1 rfl) ?_
      refine lv_bipush (v := 9) hx hb dX4_lifts_32 (by decide) ?_
      refine lv_iload_n hx hb dX4_lifts_34 rfl (lv_at hl 0 rfl) ?_
      refine va_calli (va_runV (As := [.int 9, .int (nI (ledgeFor g k))]) (rest := []) X.1 (m_X4_refused l D dA A E hE ((ag, .inl (dA 0, 310, .inl g)) :: R) mo ag ab ah asv ai al at_ ch hs ty wy wd li pl iw (by first | assumption | omega) 9 (nI (ledgeFor g k))) (cwV 2 X.1.2.2.2.2 (lw_V q1924 q1926 qs28 q80 q1927) rfl rfl rfl (by decide +kernel) ⟨Nat.le_of_ble_eq_true rfl, Nat.le_of_ble_eq_true rfl⟩) (g_preV hE X.2 hw 0 rfl rfl) rfl rfl hl.1 rfl (lv_room (Nat.le_of_ble_eq_true rfl)) dX4_lifts_35 ⟨Nat.le_of_ble_eq_true rfl, Nat.le_of_ble_eq_true rfl⟩) hw.2.2 (fun q _ h => h) (fun q h => h) (fun r_30 u t H locs ht hvm h_29 hB hz9 hk9 hS => ?_)
      have hw : gW D A ((mo, .inr (4, [.ref ag, .ref ab, .ref ah, .int ch, .ref asv, .int hs, .ref ai, .int ty, .int 9, .int (nI (ledgeFor g k)), .ref al, .int li, .int pl, .int iw, .ref at_])) :: (ag, .inl (dA 0, 310, .inl g)) :: R) s H locs := g_aft ht hB hS
      obtain rfl : r_30 = -14 := h_29
      have hop : p_liftsI g (nI k) = .inl (9, nI (ledgeFor g k)) := by simp [p_liftsI, p_lifts, p_lift4, overI, c_3, kk, c_6]
      exact g_iret (v := -14) () X hw hr hlocks  (by rw [hop]; rfl) (by rw [hop]; rfl) dX4_lifts_38
  · skip
    have c_3 := bZ_0.mp c_3
    refine lv_bipush (v := (-11)) hx hb dX4_lifts_8 (by decide) ?_
    have hop : p_liftsI g v = .inr ((-11), g) := by simp [p_liftsI, p_lifts, p_lift4, overI, c_3]
    exact g_iret (v := (-11)) () X hw hr hlocks  (by rw [hop]; rfl) (by rw [hop]; rfl) dX4_lifts_10

set_option maxHeartbeats 4000000 in
theorem m_X4_copyOf (l : Launch) (D : va_G) (dA : Nat → ClassId) (A : Nat → Prop) (E : State → Prop) (hE : gSt A E) (R : va_W) (mo ag ab ah asv ai al at_ : Nat) (ch hs ty wy wd li pl iw : Int32) (g : gG) (hI : gInv g) (v w : Int32) : Met l yX4_copyOf (ws_ yX4_copyOf cX4_copyOf 3 (Option.some FieldType.int)) ({ frames := 3, cells := 0, slots := 0, locals := 69 }) (va_Pc [.ref mo, .int v, .int w] (gB D dA A E ((mo, .inr (4, [.ref ag, .ref ab, .ref ah, .int ch, .ref asv, .int hs, .ref ai, .int ty, .int wy, .int wd, .ref al, .int li, .int pl, .int iw, .ref at_])) :: (ag, .inl (dA 0, 310, .inl g)) :: R))) (va_Qi (fun (r : Int32) (_ : Unit) => r = q_copyOf g v w) (fun _ => gE D A ((mo, .inr (4, [.ref ag, .ref ab, .ref ah, .int ch, .ref asv, .int hs, .ref ai, .int ty, .int wy, .int wd, .ref al, .int li, .int pl, .int iw, .ref at_])) :: (ag, .inl (dA 0, 310, .inl g)) :: R)) A) (0) (0) A := by
  refine g_start rfl rfl ?_
  intro p e s m args below meth c ls X hr hlocks hin hw hl
  have hx := X.1.1
  have hb := X.1.2.1
  have hl : lv_has ls 3 [(0, .ref mo), (1, .int v), (2, .int w)] := hl
  have hI2 := hI.c.2
  have hI4 := hI.m.2
  have hI6 := hI.k.2
  refine lv_aload_n hx hb dX4_copyOf_0 rfl (lv_at hl 0 rfl) ?_
  refine lv_iload_n hx hb dX4_copyOf_1 rfl (lv_at hl 1 rfl) ?_
  refine va_calli (va_runV (As := [.int v]) (rest := []) X.1 (m_X4_isCopy l D dA A E hE R mo ag ab ah asv ai al at_ ch hs ty wy wd li pl iw g v) (cwV 1 X.1.2.2.2.2 (lw_V q1984 q1986 qs36 q80 q1987) rfl rfl rfl (by decide +kernel) ⟨Nat.le_of_ble_eq_true rfl, Nat.le_of_ble_eq_true rfl⟩) (g_preV hE X.2 hw 0 rfl rfl) rfl rfl hl.1 rfl (lv_room (Nat.le_of_ble_eq_true rfl)) dX4_copyOf_2 ⟨Nat.le_of_ble_eq_true rfl, Nat.le_of_ble_eq_true rfl⟩) hw.2.2 (fun q _ h => h) (fun q h => h) (fun r_2 u t H locs ht hvm h_1 hB hz9 hk9 hS => ?_)
  have hw : gW D A ((mo, .inr (4, [.ref ag, .ref ab, .ref ah, .int ch, .ref asv, .int hs, .ref ai, .int ty, .int wy, .int wd, .ref al, .int li, .int pl, .int iw, .ref at_])) :: (ag, .inl (dA 0, 310, .inl g)) :: R) s H locs := g_aft ht hB hS
  obtain rfl : r_2 = bZ (inR v 0 (g 212 - 1)) := h_1
  refine lv_if_ne (tgt := 11) hx hb dX4_copyOf_5 (by decide) (fun c_3 => ?_) (fun c_3 => ?_)
  · skip
    have c_3 := bZ_1 c_3
    obtain ⟨j, hj, ej⟩ := hI.inK c_3
    subst ej
    have kj : (nI j).toNatClampNeg = j := nI_clamp (by omega)
    refine lv_iload_n hx hb dX4_copyOf_11 rfl (lv_at hl 2 rfl) ?_
    by_cases c_4 : w = 0
    · refine lv_tableIn (tgt := 48) hx hb dX4_copyOf_12 (by rw [c_4]; decide) (by rw [c_4]; decide) (by rw [c_4]; rfl) (by decide) ?_
      subst c_4
      refine lv_aload_n hx hb dX4_copyOf_48 rfl (lv_at hl 0 rfl) ?_
      refine g_get X cfX4 hw 0 0 rfl rfl q1834 rfl rfl dX4_copyOf_49 ?_
      refine lv_sipush (v := 213) hx hb dX4_copyOf_52 (by decide) ?_
      refine lv_bipush (v := 8) hx hb dX4_copyOf_55 (by decide) ?_
      refine lv_iload_n hx hb dX4_copyOf_57 rfl (lv_at hl 2 rfl) ?_
      refine lv_imul hx hb dX4_copyOf_58 ?_
      refine g_top (y := 0) (by decide) ?_
      refine lv_iadd hx hb dX4_copyOf_59 ?_
      refine g_top (y := 213) (by decide) ?_
      refine lv_iload_n hx hb dX4_copyOf_60 rfl (lv_at hl 1 rfl) ?_
      refine lv_iadd hx hb dX4_copyOf_61 ?_
      refine g_addN (a := 213) (b := j) ?_
      refine g_iald X hw 1 rfl (i := 213 + j) (by omega) (by first | decide | omega) dX4_copyOf_62 ?_
      exact g_iret (v := g (213 + j)) () X hw hr hlocks  (by simp [q_copyOf, c_3, kj]) rfl dX4_copyOf_63
    by_cases c_5 : w = 1
    · refine lv_tableIn (tgt := 48) hx hb dX4_copyOf_12 (by rw [c_5]; decide) (by rw [c_5]; decide) (by rw [c_5]; rfl) (by decide) ?_
      subst c_5
      refine lv_aload_n hx hb dX4_copyOf_48 rfl (lv_at hl 0 rfl) ?_
      refine g_get X cfX4 hw 0 0 rfl rfl q1834 rfl rfl dX4_copyOf_49 ?_
      refine lv_sipush (v := 213) hx hb dX4_copyOf_52 (by decide) ?_
      refine lv_bipush (v := 8) hx hb dX4_copyOf_55 (by decide) ?_
      refine lv_iload_n hx hb dX4_copyOf_57 rfl (lv_at hl 2 rfl) ?_
      refine lv_imul hx hb dX4_copyOf_58 ?_
      refine g_top (y := 8) (by decide) ?_
      refine lv_iadd hx hb dX4_copyOf_59 ?_
      refine g_top (y := 221) (by decide) ?_
      refine lv_iload_n hx hb dX4_copyOf_60 rfl (lv_at hl 1 rfl) ?_
      refine lv_iadd hx hb dX4_copyOf_61 ?_
      refine g_addN (a := 221) (b := j) ?_
      refine g_iald X hw 1 rfl (i := 221 + j) (by omega) (by first | decide | omega) dX4_copyOf_62 ?_
      exact g_iret (v := g (221 + j)) () X hw hr hlocks  (by simp [q_copyOf, c_3, kj, c_4]) rfl dX4_copyOf_63
    by_cases c_6 : w = 2
    · refine lv_tableIn (tgt := 64) hx hb dX4_copyOf_12 (by rw [c_6]; decide) (by rw [c_6]; decide) (by rw [c_6]; rfl) (by decide) ?_
      subst c_6
      refine lv_aload_n hx hb dX4_copyOf_64 rfl (lv_at hl 0 rfl) ?_
      refine lv_iload_n hx hb dX4_copyOf_65 rfl (lv_at hl 1 rfl) ?_
      refine lv_iload_n hx hb dX4_copyOf_66 rfl (lv_at hl 2 rfl) ?_
      refine lv_iconst (v := 2) hx hb dX4_copyOf_67 (by decide) ?_
      refine lv_isub hx hb dX4_copyOf_68 ?_
      refine g_top (y := 0) (by decide) ?_
      refine va_calli (va_runV (As := [.int (nI j), .int 0]) (rest := []) X.1 (m_X4_ofPoints l D dA A E hE R mo ag ab ah asv ai al at_ ch hs ty wy wd li pl iw g (by first | assumption | omega) j 0 (by first | assumption | omega)) (cwV 2 X.1.2.2.2.2 (lw_V q2019 q2021 qs40 q80 q2022) rfl rfl rfl (by decide +kernel) ⟨Nat.le_of_ble_eq_true rfl, Nat.le_of_ble_eq_true rfl⟩) (g_preV hE X.2 hw 0 rfl rfl) rfl rfl hl.1 rfl (lv_room (Nat.le_of_ble_eq_true rfl)) dX4_copyOf_69 ⟨Nat.le_of_ble_eq_true rfl, Nat.le_of_ble_eq_true rfl⟩) hw.2.2 (fun q _ h => h) (fun q h => h) (fun r_8 u t H locs ht hvm h_7 hB hz9 hk9 hS => ?_)
      have hw : gW D A ((mo, .inr (4, [.ref ag, .ref ab, .ref ah, .int ch, .ref asv, .int hs, .ref ai, .int ty, .int wy, .int wd, .ref al, .int li, .int pl, .int iw, .ref at_])) :: (ag, .inl (dA 0, 310, .inl g)) :: R) s H locs := g_aft ht hB hS
      obtain rfl : r_8 = ofPoints g j 0 := h_7
      exact g_iret (v := ofPoints g j 0) () X hw hr hlocks  (by simp [q_copyOf, c_3, kj, c_4, c_5]) rfl dX4_copyOf_72
    by_cases c_9 : w = 3
    · refine lv_tableIn (tgt := 64) hx hb dX4_copyOf_12 (by rw [c_9]; decide) (by rw [c_9]; decide) (by rw [c_9]; rfl) (by decide) ?_
      subst c_9
      refine lv_aload_n hx hb dX4_copyOf_64 rfl (lv_at hl 0 rfl) ?_
      refine lv_iload_n hx hb dX4_copyOf_65 rfl (lv_at hl 1 rfl) ?_
      refine lv_iload_n hx hb dX4_copyOf_66 rfl (lv_at hl 2 rfl) ?_
      refine lv_iconst (v := 2) hx hb dX4_copyOf_67 (by decide) ?_
      refine lv_isub hx hb dX4_copyOf_68 ?_
      refine g_top (y := 1) (by decide) ?_
      refine va_calli (va_runV (As := [.int (nI j), .int 1]) (rest := []) X.1 (m_X4_ofPoints l D dA A E hE R mo ag ab ah asv ai al at_ ch hs ty wy wd li pl iw g (by first | assumption | omega) j 1 (by first | assumption | omega)) (cwV 2 X.1.2.2.2.2 (lw_V q2019 q2021 qs40 q80 q2022) rfl rfl rfl (by decide +kernel) ⟨Nat.le_of_ble_eq_true rfl, Nat.le_of_ble_eq_true rfl⟩) (g_preV hE X.2 hw 0 rfl rfl) rfl rfl hl.1 rfl (lv_room (Nat.le_of_ble_eq_true rfl)) dX4_copyOf_69 ⟨Nat.le_of_ble_eq_true rfl, Nat.le_of_ble_eq_true rfl⟩) hw.2.2 (fun q _ h => h) (fun q h => h) (fun r_11 u t H locs ht hvm h_10 hB hz9 hk9 hS => ?_)
      have hw : gW D A ((mo, .inr (4, [.ref ag, .ref ab, .ref ah, .int ch, .ref asv, .int hs, .ref ai, .int ty, .int wy, .int wd, .ref al, .int li, .int pl, .int iw, .ref at_])) :: (ag, .inl (dA 0, 310, .inl g)) :: R) s H locs := g_aft ht hB hS
      obtain rfl : r_11 = ofPoints g j 1 := h_10
      exact g_iret (v := ofPoints g j 1) () X hw hr hlocks  (by simp [q_copyOf, c_3, kj, c_4, c_5, c_6]) rfl dX4_copyOf_72
    by_cases c_12 : w = 4
    · refine lv_tableIn (tgt := 73) hx hb dX4_copyOf_12 (by rw [c_12]; decide) (by rw [c_12]; decide) (by rw [c_12]; rfl) (by decide) ?_
      subst c_12
      refine lv_aload_n hx hb dX4_copyOf_73 rfl (lv_at hl 0 rfl) ?_
      refine lv_iload_n hx hb dX4_copyOf_74 rfl (lv_at hl 1 rfl) ?_
      refine va_calli (va_runV (As := [.int (nI j)]) (rest := []) X.1 (m_X4_weightOf l D dA A E hE R mo ag ab ah asv ai al at_ ch hs ty wy wd li pl iw g (by first | assumption | omega) j (by first | assumption | omega)) (cwV 1 X.1.2.2.2.2 (lw_V q2023 q2025 qs41 q80 q2026) rfl rfl rfl (by decide +kernel) ⟨Nat.le_of_ble_eq_true rfl, Nat.le_of_ble_eq_true rfl⟩) (g_preV hE X.2 hw 0 rfl rfl) rfl rfl hl.1 rfl (lv_room (Nat.le_of_ble_eq_true rfl)) dX4_copyOf_75 ⟨Nat.le_of_ble_eq_true rfl, Nat.le_of_ble_eq_true rfl⟩) hw.2.2 (fun q _ h => h) (fun q h => h) (fun r_14 u t H locs ht hvm h_13 hB hz9 hk9 hS => ?_)
      have hw : gW D A ((mo, .inr (4, [.ref ag, .ref ab, .ref ah, .int ch, .ref asv, .int hs, .ref ai, .int ty, .int wy, .int wd, .ref al, .int li, .int pl, .int iw, .ref at_])) :: (ag, .inl (dA 0, 310, .inl g)) :: R) s H locs := g_aft ht hB hS
      obtain rfl : r_14 = weightI g j := h_13
      exact g_iret (v := weightI g j) () X hw hr hlocks  (by simp [q_copyOf, c_3, kj, c_4, c_5, c_6, c_9]) rfl dX4_copyOf_78
    refine g_tabOut5 (tgt := 79) hx hb dX4_copyOf_12 c_4 c_5 c_6 c_9 c_12 (by decide) ?_
    refine lv_bipush (v := (-12)) hx hb dX4_copyOf_79 (by decide) ?_
    exact g_iret (v := (-12)) () X hw hr hlocks  (by simp [q_copyOf, c_3, kj, c_4, c_5, c_6, c_9, c_12]) rfl dX4_copyOf_81
  · skip
    have c_3 := bZ_0.mp c_3
    refine lv_bipush (v := (-11)) hx hb dX4_copyOf_8 (by decide) ?_
    exact g_iret (v := (-11)) () X hw hr hlocks  (by simp [q_copyOf, c_3]) rfl dX4_copyOf_10

set_option maxHeartbeats 4000000 in
theorem m_X4_copyDepth (l : Launch) (D : va_G) (dA : Nat → ClassId) (A : Nat → Prop) (E : State → Prop) (hE : gSt A E) (R : va_W) (mo ag ab ah asv ai al at_ : Nat) (ch hs ty wy wd li pl iw : Int32) (g : gG) (hI : gInv g) (v w : Int32) : Met l yX4_copyDepth (ws_ yX4_copyDepth cX4_copyDepth 4 (Option.some FieldType.int)) ({ frames := 2, cells := 0, slots := 0, locals := 43 }) (va_Pc [.ref mo, .int v, .int w] (gB D dA A E ((mo, .inr (4, [.ref ag, .ref ab, .ref ah, .int ch, .ref asv, .int hs, .ref ai, .int ty, .int wy, .int wd, .ref al, .int li, .int pl, .int iw, .ref at_])) :: (ag, .inl (dA 0, 310, .inl g)) :: R))) (va_Qi (fun (r : Int32) (_ : Unit) => r = q_copyDepth g v w) (fun _ => gE D A ((mo, .inr (4, [.ref ag, .ref ab, .ref ah, .int ch, .ref asv, .int hs, .ref ai, .int ty, .int wy, .int wd, .ref al, .int li, .int pl, .int iw, .ref at_])) :: (ag, .inl (dA 0, 310, .inl g)) :: R)) A) (0) (0) A := by
  refine g_start rfl rfl ?_
  intro p e s m args below meth c ls X hr hlocks hin hw hl
  have hx := X.1.1
  have hb := X.1.2.1
  have hl : lv_has ls 4 [(0, .ref mo), (1, .int v), (2, .int w)] := hl
  have hI2 := hI.c.2
  have hI4 := hI.m.2
  have hI6 := hI.k.2
  refine lv_aload_n hx hb dX4_copyDepth_0 rfl (lv_at hl 0 rfl) ?_
  refine lv_iload_n hx hb dX4_copyDepth_1 rfl (lv_at hl 1 rfl) ?_
  refine va_calli (va_runV (As := [.int v]) (rest := []) X.1 (m_X4_isCopy l D dA A E hE R mo ag ab ah asv ai al at_ ch hs ty wy wd li pl iw g v) (cwV 1 X.1.2.2.2.2 (lw_V q1984 q1986 qs36 q80 q1987) rfl rfl rfl (by decide +kernel) ⟨Nat.le_of_ble_eq_true rfl, Nat.le_of_ble_eq_true rfl⟩) (g_preV hE X.2 hw 0 rfl rfl) rfl rfl hl.1 rfl (lv_room (Nat.le_of_ble_eq_true rfl)) dX4_copyDepth_2 ⟨Nat.le_of_ble_eq_true rfl, Nat.le_of_ble_eq_true rfl⟩) hw.2.2 (fun q _ h => h) (fun q h => h) (fun r_2 u t H locs ht hvm h_1 hB hz9 hk9 hS => ?_)
  have hw : gW D A ((mo, .inr (4, [.ref ag, .ref ab, .ref ah, .int ch, .ref asv, .int hs, .ref ai, .int ty, .int wy, .int wd, .ref al, .int li, .int pl, .int iw, .ref at_])) :: (ag, .inl (dA 0, 310, .inl g)) :: R) s H locs := g_aft ht hB hS
  obtain rfl : r_2 = bZ (inR v 0 (g 212 - 1)) := h_1
  refine lv_if_eq (tgt := 15) hx hb dX4_copyDepth_5 (by decide) (fun c_3 => ?_) (fun c_3 => ?_)
  · skip
    have c_3 := bZ_0.mp c_3
    refine lv_bipush (v := (-11)) hx hb dX4_copyDepth_15 (by decide) ?_
    exact g_iret (v := (-11)) () X hw hr hlocks  (by simp [q_copyDepth, c_3]) rfl dX4_copyDepth_17
  · skip
    have c_3 := bZ_1 c_3
    obtain ⟨j, hj, ej⟩ := hI.inK c_3
    subst ej
    have kj : (nI j).toNatClampNeg = j := nI_clamp (by omega)
    refine lv_iload_n hx hb dX4_copyDepth_8 rfl (lv_at hl 2 rfl) ?_
    refine va_calli (va_runS (As := [.int w]) (rest := []) X.1 (m_X4_isPoint l D dA A E hE ((mo, .inr (4, [.ref ag, .ref ab, .ref ah, .int ch, .ref asv, .int hs, .ref ai, .int ty, .int wy, .int wd, .ref al, .int li, .int pl, .int iw, .ref at_])) :: (ag, .inl (dA 0, 310, .inl g)) :: R) w) (va_cwS 1 X.1.2.2.2.2 (lw_S q1898 q1899 q80 q1900) rfl rfl rfl (by decide +kernel) ⟨Nat.le_of_ble_eq_true rfl, Nat.le_of_ble_eq_true rfl⟩) (g_preS hE X.2 hw) rfl rfl hl.1 rfl (lv_room (Nat.le_of_ble_eq_true rfl)) dX4_copyDepth_9 ⟨Nat.le_of_ble_eq_true rfl, Nat.le_of_ble_eq_true rfl⟩) hw.2.2 (fun q _ h => h) (fun q h => h) (fun r_5 u t H locs ht hvm h_4 hB hz9 hk9 hS => ?_)
    have hw : gW D A ((mo, .inr (4, [.ref ag, .ref ab, .ref ah, .int ch, .ref asv, .int hs, .ref ai, .int ty, .int wy, .int wd, .ref al, .int li, .int pl, .int iw, .ref at_])) :: (ag, .inl (dA 0, 310, .inl g)) :: R) s H locs := g_aft ht hB hS
    obtain rfl : r_5 = bZ (inR w 0 9) := h_4
    refine lv_if_ne (tgt := 18) hx hb dX4_copyDepth_12 (by decide) (fun c_6 => ?_) (fun c_6 => ?_)
    · skip
      have c_6 := bZ_1 c_6
      obtain ⟨q, hq, eq⟩ := inR10 c_6
      subst eq
      have kq : (nI q).toNatClampNeg = q := nI_clamp (by omega)
      refine lv_aload_n hx hb dX4_copyDepth_18 rfl (lv_at hl 0 rfl) ?_
      refine g_get X cfX4 hw 0 0 rfl rfl q1834 rfl rfl dX4_copyDepth_19 ?_
      refine lv_sipush (v := 229) hx hb dX4_copyDepth_22 (by decide) ?_
      refine lv_bipush (v := 10) hx hb dX4_copyDepth_25 (by decide) ?_
      refine lv_iload_n hx hb dX4_copyDepth_27 rfl (lv_at hl 1 rfl) ?_
      refine lv_imul hx hb dX4_copyDepth_28 ?_
      refine g_mulN (a := 10) (b := j) ?_
      refine lv_iadd hx hb dX4_copyDepth_29 ?_
      refine g_addN (a := 229) (b := 10 * j) ?_
      refine lv_iload_n hx hb dX4_copyDepth_30 rfl (lv_at hl 2 rfl) ?_
      refine lv_iadd hx hb dX4_copyDepth_31 ?_
      refine g_addN (a := 229 + 10 * j) (b := q) ?_
      refine g_iald X hw 1 rfl (i := 229 + 10 * j + q) (by omega) (by first | decide | omega) dX4_copyDepth_32 ?_
      refine lv_istore_n (lv' := [(3, .int (g (229 + 10 * j + q))), (0, .ref mo), (1, .int (nI j)), (2, .int (nI q))]) hx hb dX4_copyDepth_33 rfl hl (by decide) rfl (fun ls hl => ?_)
      refine lv_iload_n hx hb dX4_copyDepth_34 rfl (lv_at hl 0 rfl) ?_
      refine lv_if_ge (tgt := 43) hx hb dX4_copyDepth_35 (by decide) (fun c_7 => ?_) (fun c_7 => ?_)
      · skip
        have c_7 := Int32.not_lt.mpr c_7
        refine lv_iload_n hx hb dX4_copyDepth_43 rfl (lv_at hl 0 rfl) ?_
        exact g_iret (v := g (229 + 10 * j + q)) () X hw hr hlocks  (by simp [q_copyDepth, c_3, kj, c_6, kq, c_7]) rfl dX4_copyDepth_44
      · skip
        have c_7 := Int32.not_le.mp c_7
        refine lv_bipush (v := (-15)) hx hb dX4_copyDepth_38 (by decide) ?_
        refine lv_goto (tgt := 44) hx hb dX4_copyDepth_40 (by decide) ?_
        exact g_iret (v := (-15)) () X hw hr hlocks  (by simp [q_copyDepth, c_3, kj, c_6, kq, c_7]) rfl dX4_copyDepth_44
    · skip
      have c_6 := bZ_0.mp c_6
      refine lv_bipush (v := (-11)) hx hb dX4_copyDepth_15 (by decide) ?_
      exact g_iret (v := (-11)) () X hw hr hlocks  (by simp [q_copyDepth, c_3, kj, c_6]) rfl dX4_copyDepth_17

set_option maxHeartbeats 4000000 in
theorem m_X4_wrong (l : Launch) (D : va_G) (dA : Nat → ClassId) (A : Nat → Prop) (E : State → Prop) (hE : gSt A E) (R : va_W) (mo ag ab ah asv ai al at_ : Nat) (ch hs ty wy wd li pl iw : Int32) (g : gG) (hI : gInv g) (v : Int32) : Met l yX4_wrong (ws_ yX4_wrong cX4_wrong 5 (Option.some FieldType.int)) ({ frames := 2, cells := 0, slots := 0, locals := 43 }) (va_Pc [.ref mo, .int v] (gB D dA A E ((mo, .inr (4, [.ref ag, .ref ab, .ref ah, .int ch, .ref asv, .int hs, .ref ai, .int ty, .int wy, .int wd, .ref al, .int li, .int pl, .int iw, .ref at_])) :: (ag, .inl (dA 0, 310, .inl g)) :: R))) (va_Qi (fun (r : Int32) (_ : Unit) => r = q_wrong g v) (fun _ => gE D A ((mo, .inr (4, [.ref ag, .ref ab, .ref ah, .int ch, .ref asv, .int hs, .ref ai, .int ty, .int wy, .int wd, .ref al, .int li, .int pl, .int iw, .ref at_])) :: (ag, .inl (dA 0, 310, .inl g)) :: R)) A) (0) (0) A := by
  refine g_start rfl rfl ?_
  intro p e s m args below meth c ls X hr hlocks hin hw hl
  have hx := X.1.1
  have hb := X.1.2.1
  have hl : lv_has ls 5 [(0, .ref mo), (1, .int v)] := hl
  have hI2 := hI.c.2
  have hI4 := hI.m.2
  have hI6 := hI.k.2
  refine lv_aload_n hx hb dX4_wrong_0 rfl (lv_at hl 0 rfl) ?_
  refine lv_iload_n hx hb dX4_wrong_1 rfl (lv_at hl 1 rfl) ?_
  refine va_calli (va_runV (As := [.int v]) (rest := []) X.1 (m_X4_isCopy l D dA A E hE R mo ag ab ah asv ai al at_ ch hs ty wy wd li pl iw g v) (cwV 1 X.1.2.2.2.2 (lw_V q1984 q1986 qs36 q80 q1987) rfl rfl rfl (by decide +kernel) ⟨Nat.le_of_ble_eq_true rfl, Nat.le_of_ble_eq_true rfl⟩) (g_preV hE X.2 hw 0 rfl rfl) rfl rfl hl.1 rfl (lv_room (Nat.le_of_ble_eq_true rfl)) dX4_wrong_2 ⟨Nat.le_of_ble_eq_true rfl, Nat.le_of_ble_eq_true rfl⟩) hw.2.2 (fun q _ h => h) (fun q h => h) (fun r_2 u t H locs ht hvm h_1 hB hz9 hk9 hS => ?_)
  have hw : gW D A ((mo, .inr (4, [.ref ag, .ref ab, .ref ah, .int ch, .ref asv, .int hs, .ref ai, .int ty, .int wy, .int wd, .ref al, .int li, .int pl, .int iw, .ref at_])) :: (ag, .inl (dA 0, 310, .inl g)) :: R) s H locs := g_aft ht hB hS
  obtain rfl : r_2 = bZ (inR v 0 (g 212 - 1)) := h_1
  refine lv_if_ne (tgt := 11) hx hb dX4_wrong_5 (by decide) (fun c_3 => ?_) (fun c_3 => ?_)
  · skip
    have c_3 := bZ_1 c_3
    obtain ⟨j, hj, ej⟩ := hI.inK c_3
    subst ej
    have kj : (nI j).toNatClampNeg = j := nI_clamp (by omega)
    refine lv_iconst (v := 0) hx hb dX4_wrong_11 (by decide) ?_
    refine lv_istore_n (lv' := [(2, .int 0), (0, .ref mo), (1, .int (nI j))]) hx hb dX4_wrong_12 rfl hl (by decide) rfl (fun ls hl => ?_)
    refine lv_iconst (v := 0) hx hb dX4_wrong_13 (by decide) ?_
    refine lv_istore_n (lv' := [(3, .int 0), (2, .int 0), (0, .ref mo), (1, .int (nI j))]) hx hb dX4_wrong_14 rfl hl (by decide) rfl (fun ls hl => ?_)
    have loop_4 : ∀ (fuel : Nat) (i : Nat), ∀ (hi : i ≤ 10), (10 - i) < fuel → ∀ (H : Heap) (locs : List Loc) (hw : gW D A ((mo, .inr (4, [.ref ag, .ref ab, .ref ah, .int ch, .ref asv, .int hs, .ref ai, .int ty, .int wy, .int wd, .ref al, .int li, .int pl, .int iw, .ref at_])) :: (ag, .inl (dA 0, 310, .inl g)) :: R) s H locs) (ls : Array Slot) (hl : lv_has ls 5 [(3, .int (nI i)), (2, .int (wrongL g j i)), (0, .ref mo), (1, .int (nI j))]), W p l e ({ frames := 2, cells := 0, slots := 0, locals := 43 }) s m args below meth c H locs (0) (0) (MQ below (va_Qi (fun (r : Int32) (_ : Unit) => r = q_wrong g (nI j)) (fun _ => gE D A ((mo, .inr (4, [.ref ag, .ref ab, .ref ah, .int ch, .ref asv, .int hs, .ref ai, .int ty, .int wy, .int wd, .ref al, .int li, .int pl, .int iw, .ref at_])) :: (ag, .inl (dA 0, 310, .inl g)) :: R)) A) args s (0) (0) A) (F0 m 15 ls []) := by
      intro fuel
      induction fuel with
      | zero => intro i hi hf; exact absurd hf (Nat.not_lt_zero _)
      | succ fuel ih_loop_4 =>
        intro i hi hfuel_loop_4 H locs hw ls hl
        refine lv_iload_n hx hb dX4_wrong_15 rfl (lv_at hl 0 rfl) ?_
        refine lv_bipush (v := 10) hx hb dX4_wrong_16 (by decide) ?_
        refine lv_icmp_ge (tgt := 67) hx hb dX4_wrong_18 (by decide) (fun c_5 => ?_) (fun c_5 => ?_)
        · skip
          have c_5 := Int32.not_lt.mpr c_5
          have c_5 : ¬ (i < 10) := fun q => c_5 ((nI_ltI (a := i) (b := 10) (by omega) (by omega)).mpr q)
          obtain rfl : i = 10 := by omega
          refine lv_iload_n hx hb dX4_wrong_67 rfl (lv_at hl 1 rfl) ?_
          exact g_iret (v := wrongL g j 10) () X hw hr hlocks  (by simp [q_wrong, c_3, kj, c_5]) rfl dX4_wrong_68
        · skip
          have c_5 := Int32.not_le.mp c_5
          have c_5 : i < 10 := (nI_ltI (a := i) (b := 10) (by omega) (by omega)).mp c_5
          refine lv_aload_n hx hb dX4_wrong_21 rfl (lv_at hl 2 rfl) ?_
          refine g_get X cfX4 hw 0 0 rfl rfl q1834 rfl rfl dX4_wrong_22 ?_
          refine lv_sipush (v := 229) hx hb dX4_wrong_25 (by decide) ?_
          refine lv_bipush (v := 10) hx hb dX4_wrong_28 (by decide) ?_
          refine lv_iload_n hx hb dX4_wrong_30 rfl (lv_at hl 3 rfl) ?_
          refine lv_imul hx hb dX4_wrong_31 ?_
          refine g_mulN (a := 10) (b := j) ?_
          refine lv_iadd hx hb dX4_wrong_32 ?_
          refine g_addN (a := 229) (b := 10 * j) ?_
          refine lv_iload_n hx hb dX4_wrong_33 rfl (lv_at hl 0 rfl) ?_
          refine lv_iadd hx hb dX4_wrong_34 ?_
          refine g_addN (a := 229 + 10 * j) (b := i) ?_
          refine g_iald X hw 1 rfl (i := 229 + 10 * j + i) (by omega) (by first | decide | omega) dX4_wrong_35 ?_
          refine lv_istore (lv' := [(4, .int (g (229 + 10 * j + i))), (3, .int (nI i)), (2, .int (wrongL g j i)), (0, .ref mo), (1, .int (nI j))]) hx hb dX4_wrong_36 hl (by decide) rfl (fun ls hl => ?_)
          refine lv_iload_n hx hb dX4_wrong_38 rfl (lv_at hl 2 rfl) ?_
          refine lv_iload hx hb dX4_wrong_39 (lv_at hl 0 rfl) ?_
          refine lv_if_ge (tgt := 48) hx hb dX4_wrong_41 (by decide) (fun c_6 => ?_) (fun c_6 => ?_)
          · skip
            have c_6 := Int32.not_lt.mpr c_6
            refine lv_iload hx hb dX4_wrong_48 (lv_at hl 0 rfl) ?_
            refine lv_aload_n hx hb dX4_wrong_50 rfl (lv_at hl 3 rfl) ?_
            refine lv_iload_n hx hb dX4_wrong_51 rfl (lv_at hl 4 rfl) ?_
            refine lv_iload_n hx hb dX4_wrong_52 rfl (lv_at hl 1 rfl) ?_
            refine va_calli (va_runV (As := [.int (nI j), .int (nI i)]) (rest := [.int (g (229 + 10 * j + i)), .int (wrongL g j i)]) X.1 (m_X4_dueAt l D dA A E hE R mo ag ab ah asv ai al at_ ch hs ty wy wd li pl iw g (by first | assumption | omega) j i (by first | assumption | omega) (by first | assumption | omega)) (cwV 2 X.1.2.2.2.2 (lw_V q1992 q1994 qs38 q80 q1995) rfl rfl rfl (by decide +kernel) ⟨Nat.le_of_ble_eq_true rfl, Nat.le_of_ble_eq_true rfl⟩) (g_preV hE X.2 hw 0 rfl rfl) rfl rfl hl.1 rfl (lv_room (Nat.le_of_ble_eq_true rfl)) dX4_wrong_53 ⟨Nat.le_of_ble_eq_true rfl, Nat.le_of_ble_eq_true rfl⟩) hw.2.2 (fun q _ h => h) (fun q h => h) (fun r_8 u t H locs ht hvm h_7 hB hz9 hk9 hS => ?_)
            have hw : gW D A ((mo, .inr (4, [.ref ag, .ref ab, .ref ah, .int ch, .ref asv, .int hs, .ref ai, .int ty, .int wy, .int wd, .ref al, .int li, .int pl, .int iw, .ref at_])) :: (ag, .inl (dA 0, 310, .inl g)) :: R) s H locs := g_aft ht hB hS
            obtain rfl : r_8 = g (91 + 10 * nn g (213 + j) + i) := h_7
            refine va_calli (va_runS (As := [.int (g (229 + 10 * j + i)), .int (g (91 + 10 * nn g (213 + j) + i))]) (rest := [.int (wrongL g j i)]) X.1 (m_X4_apart l D dA A E hE ((mo, .inr (4, [.ref ag, .ref ab, .ref ah, .int ch, .ref asv, .int hs, .ref ai, .int ty, .int wy, .int wd, .ref al, .int li, .int pl, .int iw, .ref at_])) :: (ag, .inl (dA 0, 310, .inl g)) :: R) (g (229 + 10 * j + i)) (g (91 + 10 * nn g (213 + j) + i))) (va_cwS 2 X.1.2.2.2.2 (lw_S q2000 q2001 q80 q2002) rfl rfl rfl (by decide +kernel) ⟨Nat.le_of_ble_eq_true rfl, Nat.le_of_ble_eq_true rfl⟩) (g_preS hE X.2 hw) rfl rfl hl.1 rfl (lv_room (Nat.le_of_ble_eq_true rfl)) dX4_wrong_56 ⟨Nat.le_of_ble_eq_true rfl, Nat.le_of_ble_eq_true rfl⟩) hw.2.2 (fun q _ h => h) (fun q h => h) (fun r_10 u t H locs ht hvm h_9 hB hz9 hk9 hS => ?_)
            have hw : gW D A ((mo, .inr (4, [.ref ag, .ref ab, .ref ah, .int ch, .ref asv, .int hs, .ref ai, .int ty, .int wy, .int wd, .ref al, .int li, .int pl, .int iw, .ref at_])) :: (ag, .inl (dA 0, 310, .inl g)) :: R) s H locs := g_aft ht hB hS
            obtain rfl : r_10 = apartI (g (229 + 10 * j + i)) (g (91 + 10 * nn g (213 + j) + i)) := h_9
            refine lv_iadd hx hb dX4_wrong_59 ?_
            refine lv_istore_n (lv' := [(2, .int ((wrongL g j i) + (apartI (g (229 + 10 * j + i)) (g (91 + 10 * nn g (213 + j) + i))))), (4, .int (g (229 + 10 * j + i))), (3, .int (nI i)), (0, .ref mo), (1, .int (nI j))]) hx hb dX4_wrong_60 rfl hl (by decide) rfl (fun ls hl => ?_)
            refine lv_iinc (v := nI (i + 1)) (lv' := [(3, .int (nI (i + 1))), (2, .int ((wrongL g j i) + (apartI (g (229 + 10 * j + i)) (g (91 + 10 * nn g (213 + j) + i))))), (4, .int (g (229 + 10 * j + i))), (0, .ref mo), (1, .int (nI j))]) hx hb dX4_wrong_61 hl (k := 2) rfl (nI_add i 1) (by decide) rfl (fun ls hl => ?_)
            refine lv_goto (tgt := 15) hx hb dX4_wrong_64 (by decide) ?_
            have hl : lv_has ls 5 [(3, .int (nI (i + 1))), (2, .int ((wrongL g j i) + (apartI (g (229 + 10 * j + i)) (g (91 + 10 * nn g (213 + j) + i))))), (0, .ref mo), (1, .int (nI j))] := (lv_sub hl [0, 1, 3, 4] rfl)
            rw [show (wrongL g j i) + (apartI (g (229 + 10 * j + i)) (g (91 + 10 * nn g (213 + j) + i))) = wrongL g j (i + 1) from by simp [wrongL, c_3, kj, c_5, c_6]] at hl
            have hl : lv_has ls 5 [(3, .int (nI (i + 1))), (2, .int (wrongL g j (i + 1))), (0, .ref mo), (1, .int (nI j))] := hl
            exact ih_loop_4 (i + 1) (by first | assumption | omega) (by omega) _ _ hw _ (hl)
          · skip
            have c_6 := Int32.not_le.mp c_6
            refine lv_iconst (v := 0) hx hb dX4_wrong_44 (by decide) ?_
            refine lv_goto (tgt := 59) hx hb dX4_wrong_45 (by decide) ?_
            refine lv_iadd hx hb dX4_wrong_59 ?_
            refine lv_istore_n (lv' := [(2, .int ((wrongL g j i) + 0)), (4, .int (g (229 + 10 * j + i))), (3, .int (nI i)), (0, .ref mo), (1, .int (nI j))]) hx hb dX4_wrong_60 rfl hl (by decide) rfl (fun ls hl => ?_)
            refine lv_iinc (v := nI (i + 1)) (lv' := [(3, .int (nI (i + 1))), (2, .int ((wrongL g j i) + 0)), (4, .int (g (229 + 10 * j + i))), (0, .ref mo), (1, .int (nI j))]) hx hb dX4_wrong_61 hl (k := 2) rfl (nI_add i 1) (by decide) rfl (fun ls hl => ?_)
            refine lv_goto (tgt := 15) hx hb dX4_wrong_64 (by decide) ?_
            have hl : lv_has ls 5 [(3, .int (nI (i + 1))), (2, .int ((wrongL g j i) + 0)), (0, .ref mo), (1, .int (nI j))] := (lv_sub hl [0, 1, 3, 4] rfl)
            rw [show (wrongL g j i) + 0 = wrongL g j (i + 1) from by simp [wrongL, c_3, kj, c_5, c_6]] at hl
            have hl : lv_has ls 5 [(3, .int (nI (i + 1))), (2, .int (wrongL g j (i + 1))), (0, .ref mo), (1, .int (nI j))] := hl
            exact ih_loop_4 (i + 1) (by first | assumption | omega) (by omega) _ _ hw _ (hl)
    have hl : lv_has ls 5 [(3, .int 0), (2, .int 0), (0, .ref mo), (1, .int (nI j))] := (lv_sub hl [0, 1, 2, 3] rfl)
    have hl : lv_has ls 5 [(3, .int 0), (2, .int (wrongL g j 0)), (0, .ref mo), (1, .int (nI j))] := by exact hl
    exact loop_4 ((10 - 0) + 1) 0 (by first | assumption | omega) (Nat.lt_succ_self _) _ _ hw _ (hl)
  · skip
    have c_3 := bZ_0.mp c_3
    refine lv_bipush (v := (-11)) hx hb dX4_wrong_8 (by decide) ?_
    exact g_iret (v := (-11)) () X hw hr hlocks  (by simp [q_wrong, c_3]) rfl dX4_wrong_10

set_option maxHeartbeats 4000000 in
theorem m_X4_wrongAgain (l : Launch) (D : va_G) (dA : Nat → ClassId) (A : Nat → Prop) (E : State → Prop) (hE : gSt A E) (R : va_W) (mo ag ab ah asv ai al at_ : Nat) (ch hs ty wy wd li pl iw : Int32) (g : gG) (hI : gInv g) (v : Int32) : Met l yX4_wrongAgain (ws_ yX4_wrongAgain cX4_wrongAgain 2 (Option.some FieldType.int)) ({ frames := 2, cells := 0, slots := 0, locals := 48 }) (va_Pc [.ref mo, .int v] (gB D dA A E ((mo, .inr (4, [.ref ag, .ref ab, .ref ah, .int ch, .ref asv, .int hs, .ref ai, .int ty, .int wy, .int wd, .ref al, .int li, .int pl, .int iw, .ref at_])) :: (ag, .inl (dA 0, 310, .inl g)) :: R))) (va_Qi (fun (r : Int32) (_ : Unit) => r = q_wrongAgain g v) (fun _ => gE D A ((mo, .inr (4, [.ref ag, .ref ab, .ref ah, .int ch, .ref asv, .int hs, .ref ai, .int ty, .int wy, .int wd, .ref al, .int li, .int pl, .int iw, .ref at_])) :: (ag, .inl (dA 0, 310, .inl g)) :: R)) A) (0) (0) A := by
  refine g_start rfl rfl ?_
  intro p e s m args below meth c ls X hr hlocks hin hw hl
  have hx := X.1.1
  have hb := X.1.2.1
  have hl : lv_has ls 2 [(0, .ref mo), (1, .int v)] := hl
  have hI2 := hI.c.2
  have hI4 := hI.m.2
  have hI6 := hI.k.2
  refine lv_aload_n hx hb dX4_wrongAgain_0 rfl (lv_at hl 0 rfl) ?_
  refine lv_iload_n hx hb dX4_wrongAgain_1 rfl (lv_at hl 1 rfl) ?_
  refine va_calli (va_runV (As := [.int v]) (rest := []) X.1 (m_X4_isCopy l D dA A E hE R mo ag ab ah asv ai al at_ ch hs ty wy wd li pl iw g v) (cwV 1 X.1.2.2.2.2 (lw_V q1984 q1986 qs36 q80 q1987) rfl rfl rfl (by decide +kernel) ⟨Nat.le_of_ble_eq_true rfl, Nat.le_of_ble_eq_true rfl⟩) (g_preV hE X.2 hw 0 rfl rfl) rfl rfl hl.1 rfl (lv_room (Nat.le_of_ble_eq_true rfl)) dX4_wrongAgain_2 ⟨Nat.le_of_ble_eq_true rfl, Nat.le_of_ble_eq_true rfl⟩) hw.2.2 (fun q _ h => h) (fun q h => h) (fun r_2 u t H locs ht hvm h_1 hB hz9 hk9 hS => ?_)
  have hw : gW D A ((mo, .inr (4, [.ref ag, .ref ab, .ref ah, .int ch, .ref asv, .int hs, .ref ai, .int ty, .int wy, .int wd, .ref al, .int li, .int pl, .int iw, .ref at_])) :: (ag, .inl (dA 0, 310, .inl g)) :: R) s H locs := g_aft ht hB hS
  obtain rfl : r_2 = bZ (inR v 0 (g 212 - 1)) := h_1
  refine lv_if_eq (tgt := 24) hx hb dX4_wrongAgain_5 (by decide) (fun c_3 => ?_) (fun c_3 => ?_)
  · skip
    have c_3 := bZ_0.mp c_3
    refine lv_bipush (v := (-11)) hx hb dX4_wrongAgain_24 (by decide) ?_
    exact g_iret (v := (-11)) () X hw hr hlocks  (by simp [q_wrongAgain, c_3]) rfl dX4_wrongAgain_26
  · skip
    have c_3 := bZ_1 c_3
    obtain ⟨j, hj, ej⟩ := hI.inK c_3
    subst ej
    have kj : (nI j).toNatClampNeg = j := nI_clamp (by omega)
    refine lv_aload_n hx hb dX4_wrongAgain_8 rfl (lv_at hl 0 rfl) ?_
    refine lv_iload_n hx hb dX4_wrongAgain_9 rfl (lv_at hl 1 rfl) ?_
    refine lv_iconst (v := 3) hx hb dX4_wrongAgain_10 (by decide) ?_
    refine va_calli (va_runV (As := [.int (nI j), .int 3]) (rest := []) X.1 (m_X4_ofPoints l D dA A E hE R mo ag ab ah asv ai al at_ ch hs ty wy wd li pl iw g (by first | assumption | omega) j 3 (by first | assumption | omega)) (cwV 2 X.1.2.2.2.2 (lw_V q2019 q2021 qs40 q80 q2022) rfl rfl rfl (by decide +kernel) ⟨Nat.le_of_ble_eq_true rfl, Nat.le_of_ble_eq_true rfl⟩) (g_preV hE X.2 hw 0 rfl rfl) rfl rfl hl.1 rfl (lv_room (Nat.le_of_ble_eq_true rfl)) dX4_wrongAgain_11 ⟨Nat.le_of_ble_eq_true rfl, Nat.le_of_ble_eq_true rfl⟩) hw.2.2 (fun q _ h => h) (fun q h => h) (fun r_5 u t H locs ht hvm h_4 hB hz9 hk9 hS => ?_)
    have hw : gW D A ((mo, .inr (4, [.ref ag, .ref ab, .ref ah, .int ch, .ref asv, .int hs, .ref ai, .int ty, .int wy, .int wd, .ref al, .int li, .int pl, .int iw, .ref at_])) :: (ag, .inl (dA 0, 310, .inl g)) :: R) s H locs := g_aft ht hB hS
    obtain rfl : r_5 = ofPoints g j 3 := h_4
    refine lv_aload_n hx hb dX4_wrongAgain_14 rfl (lv_at hl 0 rfl) ?_
    refine lv_iload_n hx hb dX4_wrongAgain_15 rfl (lv_at hl 1 rfl) ?_
    refine lv_iconst (v := 4) hx hb dX4_wrongAgain_16 (by decide) ?_
    refine va_calli (va_runV (As := [.int (nI j), .int 4]) (rest := [.int (ofPoints g j 3)]) X.1 (m_X4_ofPoints l D dA A E hE R mo ag ab ah asv ai al at_ ch hs ty wy wd li pl iw g (by first | assumption | omega) j 4 (by first | assumption | omega)) (cwV 2 X.1.2.2.2.2 (lw_V q2019 q2021 qs40 q80 q2022) rfl rfl rfl (by decide +kernel) ⟨Nat.le_of_ble_eq_true rfl, Nat.le_of_ble_eq_true rfl⟩) (g_preV hE X.2 hw 0 rfl rfl) rfl rfl hl.1 rfl (lv_room (Nat.le_of_ble_eq_true rfl)) dX4_wrongAgain_17 ⟨Nat.le_of_ble_eq_true rfl, Nat.le_of_ble_eq_true rfl⟩) hw.2.2 (fun q _ h => h) (fun q h => h) (fun r_7 u t H locs ht hvm h_6 hB hz9 hk9 hS => ?_)
    have hw : gW D A ((mo, .inr (4, [.ref ag, .ref ab, .ref ah, .int ch, .ref asv, .int hs, .ref ai, .int ty, .int wy, .int wd, .ref al, .int li, .int pl, .int iw, .ref at_])) :: (ag, .inl (dA 0, 310, .inl g)) :: R) s H locs := g_aft ht hB hS
    obtain rfl : r_7 = ofPoints g j 4 := h_6
    refine lv_iadd hx hb dX4_wrongAgain_20 ?_
    refine lv_goto (tgt := 26) hx hb dX4_wrongAgain_21 (by decide) ?_
    exact g_iret (v := (ofPoints g j 3) + (ofPoints g j 4)) () X hw hr hlocks  (by simp [q_wrongAgain, c_3, kj]) rfl dX4_wrongAgain_26

set_option maxHeartbeats 4000000 in
theorem m_X4_bestCopyist (l : Launch) (D : va_G) (dA : Nat → ClassId) (A : Nat → Prop) (E : State → Prop) (hE : gSt A E) (R : va_W) (mo ag ab ah asv ai al at_ : Nat) (ch hs ty wy wd li pl iw : Int32) (g : gG) (hI : gInv g) (v w : Int32) : Met l yX4_bestCopyist (ws_ yX4_bestCopyist cX4_bestCopyist 9 (Option.some FieldType.int)) ({ frames := 2, cells := 0, slots := 0, locals := 43 }) (va_Pc [.ref mo, .int v, .int w] (gB D dA A E ((mo, .inr (4, [.ref ag, .ref ab, .ref ah, .int ch, .ref asv, .int hs, .ref ai, .int ty, .int wy, .int wd, .ref al, .int li, .int pl, .int iw, .ref at_])) :: (ag, .inl (dA 0, 310, .inl g)) :: R))) (va_Qi (fun (r : Int32) (_ : Unit) => r = q_best g v w) (fun _ => gE D A ((mo, .inr (4, [.ref ag, .ref ab, .ref ah, .int ch, .ref asv, .int hs, .ref ai, .int ty, .int wy, .int wd, .ref al, .int li, .int pl, .int iw, .ref at_])) :: (ag, .inl (dA 0, 310, .inl g)) :: R)) A) (0) (0) A := by
  refine g_start rfl rfl ?_
  intro p e s m args below meth c ls X hr hlocks hin hw hl
  have hx := X.1.1
  have hb := X.1.2.1
  have hl : lv_has ls 9 [(0, .ref mo), (1, .int v), (2, .int w)] := hl
  have hI2 := hI.c.2
  have hI4 := hI.m.2
  have hI6 := hI.k.2
  refine lv_aload_n hx hb dX4_bestCopyist_0 rfl (lv_at hl 0 rfl) ?_
  refine lv_iload_n hx hb dX4_bestCopyist_1 rfl (lv_at hl 1 rfl) ?_
  refine va_calli (va_runV (As := [.int v]) (rest := []) X.1 (m_X4_isCast l D dA A E hE R mo ag ab ah asv ai al at_ ch hs ty wy wd li pl iw g v) (cwV 1 X.1.2.2.2.2 (lw_V q1944 q1946 qs31 q80 q1947) rfl rfl rfl (by decide +kernel) ⟨Nat.le_of_ble_eq_true rfl, Nat.le_of_ble_eq_true rfl⟩) (g_preV hE X.2 hw 0 rfl rfl) rfl rfl hl.1 rfl (lv_room (Nat.le_of_ble_eq_true rfl)) dX4_bestCopyist_2 ⟨Nat.le_of_ble_eq_true rfl, Nat.le_of_ble_eq_true rfl⟩) hw.2.2 (fun q _ h => h) (fun q h => h) (fun r_2 u t H locs ht hvm h_1 hB hz9 hk9 hS => ?_)
  have hw : gW D A ((mo, .inr (4, [.ref ag, .ref ab, .ref ah, .int ch, .ref asv, .int hs, .ref ai, .int ty, .int wy, .int wd, .ref al, .int li, .int pl, .int iw, .ref at_])) :: (ag, .inl (dA 0, 310, .inl g)) :: R) s H locs := g_aft ht hB hS
  obtain rfl : r_2 = bZ (inR v 0 (g 50 - 1)) := h_1
  refine lv_if_eq (tgt := 15) hx hb dX4_bestCopyist_5 (by decide) (fun c_3 => ?_) (fun c_3 => ?_)
  · skip
    have c_3 := bZ_0.mp c_3
    refine lv_bipush (v := (-11)) hx hb dX4_bestCopyist_15 (by decide) ?_
    exact g_iret (v := (-11)) () X hw hr hlocks  (by simp [q_best, c_3]) rfl dX4_bestCopyist_17
  · skip
    have c_3 := bZ_1 c_3
    obtain ⟨j, hj, ej⟩ := hI.inC c_3
    subst ej
    have kj : (nI j).toNatClampNeg = j := nI_clamp (by omega)
    refine lv_iload_n hx hb dX4_bestCopyist_8 rfl (lv_at hl 2 rfl) ?_
    refine va_calli (va_runS (As := [.int w]) (rest := []) X.1 (m_X4_isPoint l D dA A E hE ((mo, .inr (4, [.ref ag, .ref ab, .ref ah, .int ch, .ref asv, .int hs, .ref ai, .int ty, .int wy, .int wd, .ref al, .int li, .int pl, .int iw, .ref at_])) :: (ag, .inl (dA 0, 310, .inl g)) :: R) w) (va_cwS 1 X.1.2.2.2.2 (lw_S q1898 q1899 q80 q1900) rfl rfl rfl (by decide +kernel) ⟨Nat.le_of_ble_eq_true rfl, Nat.le_of_ble_eq_true rfl⟩) (g_preS hE X.2 hw) rfl rfl hl.1 rfl (lv_room (Nat.le_of_ble_eq_true rfl)) dX4_bestCopyist_9 ⟨Nat.le_of_ble_eq_true rfl, Nat.le_of_ble_eq_true rfl⟩) hw.2.2 (fun q _ h => h) (fun q h => h) (fun r_5 u t H locs ht hvm h_4 hB hz9 hk9 hS => ?_)
    have hw : gW D A ((mo, .inr (4, [.ref ag, .ref ab, .ref ah, .int ch, .ref asv, .int hs, .ref ai, .int ty, .int wy, .int wd, .ref al, .int li, .int pl, .int iw, .ref at_])) :: (ag, .inl (dA 0, 310, .inl g)) :: R) s H locs := g_aft ht hB hS
    obtain rfl : r_5 = bZ (inR w 0 9) := h_4
    refine lv_if_ne (tgt := 18) hx hb dX4_bestCopyist_12 (by decide) (fun c_6 => ?_) (fun c_6 => ?_)
    · skip
      have c_6 := bZ_1 c_6
      obtain ⟨q, hq, eq⟩ := inR10 c_6
      subst eq
      have kq : (nI q).toNatClampNeg = q := nI_clamp (by omega)
      refine lv_aload_n hx hb dX4_bestCopyist_18 rfl (lv_at hl 0 rfl) ?_
      refine g_get X cfX4 hw 0 0 rfl rfl q1834 rfl rfl dX4_bestCopyist_19 ?_
      refine lv_bipush (v := 91) hx hb dX4_bestCopyist_22 (by decide) ?_
      refine lv_bipush (v := 10) hx hb dX4_bestCopyist_24 (by decide) ?_
      refine lv_iload_n hx hb dX4_bestCopyist_26 rfl (lv_at hl 1 rfl) ?_
      refine lv_imul hx hb dX4_bestCopyist_27 ?_
      refine g_mulN (a := 10) (b := j) ?_
      refine lv_iadd hx hb dX4_bestCopyist_28 ?_
      refine g_addN (a := 91) (b := 10 * j) ?_
      refine lv_iload_n hx hb dX4_bestCopyist_29 rfl (lv_at hl 2 rfl) ?_
      refine lv_iadd hx hb dX4_bestCopyist_30 ?_
      refine g_addN (a := 91 + 10 * j) (b := q) ?_
      refine g_iald X hw 1 rfl (i := 91 + 10 * j + q) (by omega) (by first | decide | omega) dX4_bestCopyist_31 ?_
      refine lv_istore_n (lv' := [(3, .int (g (91 + 10 * j + q))), (0, .ref mo), (1, .int (nI j)), (2, .int (nI q))]) hx hb dX4_bestCopyist_32 rfl hl (by decide) rfl (fun ls hl => ?_)
      refine lv_bipush (v := (-15)) hx hb dX4_bestCopyist_33 (by decide) ?_
      refine lv_istore (lv' := [(4, .int (-15)), (3, .int (g (91 + 10 * j + q))), (0, .ref mo), (1, .int (nI j)), (2, .int (nI q))]) hx hb dX4_bestCopyist_35 hl (by decide) rfl (fun ls hl => ?_)
      refine lv_iconst (v := 0) hx hb dX4_bestCopyist_37 (by decide) ?_
      refine lv_istore (lv' := [(5, .int 0), (4, .int (-15)), (3, .int (g (91 + 10 * j + q))), (0, .ref mo), (1, .int (nI j)), (2, .int (nI q))]) hx hb dX4_bestCopyist_38 hl (by decide) rfl (fun ls hl => ?_)
      refine lv_iconst (v := 0) hx hb dX4_bestCopyist_40 (by decide) ?_
      refine lv_istore (lv' := [(6, .int 0), (5, .int 0), (4, .int (-15)), (3, .int (g (91 + 10 * j + q))), (0, .ref mo), (1, .int (nI j)), (2, .int (nI q))]) hx hb dX4_bestCopyist_41 hl (by decide) rfl (fun ls hl => ?_)
      have loop_7 : ∀ (fuel : Nat) (i : Nat), ∀ (hi : i ≤ nn g 191), (nn g 191 - i) < fuel → ∀ (H : Heap) (locs : List Loc) (hw : gW D A ((mo, .inr (4, [.ref ag, .ref ab, .ref ah, .int ch, .ref asv, .int hs, .ref ai, .int ty, .int wy, .int wd, .ref al, .int li, .int pl, .int iw, .ref at_])) :: (ag, .inl (dA 0, 310, .inl g)) :: R) s H locs) (ls : Array Slot) (hl : lv_has ls 9 [(6, .int (nI i)), (5, .int ((bestL g j q i).2)), (4, .int ((bestL g j q i).1)), (3, .int (g (91 + 10 * j + q))), (0, .ref mo), (1, .int (nI j)), (2, .int (nI q))]), W p l e ({ frames := 2, cells := 0, slots := 0, locals := 43 }) s m args below meth c H locs (0) (0) (MQ below (va_Qi (fun (r : Int32) (_ : Unit) => r = q_best g (nI j) (nI q)) (fun _ => gE D A ((mo, .inr (4, [.ref ag, .ref ab, .ref ah, .int ch, .ref asv, .int hs, .ref ai, .int ty, .int wy, .int wd, .ref al, .int li, .int pl, .int iw, .ref at_])) :: (ag, .inl (dA 0, 310, .inl g)) :: R)) A) args s (0) (0) A) (F0 m 43 ls []) := by
        intro fuel
        induction fuel with
        | zero => intro i hi hf; exact absurd hf (Nat.not_lt_zero _)
        | succ fuel ih_loop_7 =>
          intro i hi hfuel_loop_7 H locs hw ls hl
          refine lv_iload hx hb dX4_bestCopyist_43 (lv_at hl 0 rfl) ?_
          refine lv_aload_n hx hb dX4_bestCopyist_45 rfl (lv_at hl 4 rfl) ?_
          refine g_get X cfX4 hw 0 0 rfl rfl q1834 rfl rfl dX4_bestCopyist_46 ?_
          refine lv_sipush (v := 191) hx hb dX4_bestCopyist_49 (by decide) ?_
          refine g_iald X hw 1 rfl (i := 191) (by decide) (by decide) dX4_bestCopyist_52 ?_
          refine lv_icmp_ge (tgt := 157) hx hb dX4_bestCopyist_53 (by decide) (fun c_8 => ?_) (fun c_8 => ?_)
          · skip
            have c_8 := Int32.not_lt.mpr c_8
            have c_8n := c_8
            rw [hI.m.1] at c_8n
            have c_8n : ¬ (i < nn g 191) := fun q => c_8n ((nI_ltI (a := i) (b := nn g 191) (by omega) (by omega)).mpr q)
            obtain rfl : i = nn g 191 := by omega
            refine lv_iload hx hb dX4_bestCopyist_157 (lv_at hl 2 rfl) ?_
            exact g_iret (v := (bestL g j q (nn g 191)).1) () X hw hr hlocks  (by simp [q_best, c_3, kj, c_6, kq, c_8]) rfl dX4_bestCopyist_159
          · skip
            have c_8 := Int32.not_le.mp c_8
            have c_8n := c_8
            rw [hI.m.1] at c_8n
            have c_8n : i < nn g 191 := (nI_ltI (a := i) (b := nn g 191) (by omega) (by omega)).mp c_8n
            refine lv_aload_n hx hb dX4_bestCopyist_56 rfl (lv_at hl 4 rfl) ?_
            refine lv_iload hx hb dX4_bestCopyist_57 (lv_at hl 0 rfl) ?_
            refine lv_iload_n hx hb dX4_bestCopyist_59 rfl (lv_at hl 5 rfl) ?_
            refine lv_iload_n hx hb dX4_bestCopyist_60 rfl (lv_at hl 6 rfl) ?_
            refine va_calli (va_runV (As := [.int (nI i), .int (nI j), .int (nI q)]) (rest := []) X.1 (m_X4_wouldBe l D dA A E hE R mo ag ab ah asv ai al at_ ch hs ty wy wd li pl iw g i j q (by first | assumption | omega) (by first | assumption | omega) (by first | assumption | omega)) (cwV 3 X.1.2.2.2.2 (lw_V q1972 q1974 qs34 q80 q1975) rfl rfl rfl (by decide +kernel) ⟨Nat.le_of_ble_eq_true rfl, Nat.le_of_ble_eq_true rfl⟩) (g_preV hE X.2 hw 0 rfl rfl) rfl rfl hl.1 rfl (lv_room (Nat.le_of_ble_eq_true rfl)) dX4_bestCopyist_61 ⟨Nat.le_of_ble_eq_true rfl, Nat.le_of_ble_eq_true rfl⟩) hw.2.2 (fun q _ h => h) (fun q h => h) (fun r_10 u t H locs ht hvm h_9 hB hz9 hk9 hS => ?_)
            have hw : gW D A ((mo, .inr (4, [.ref ag, .ref ab, .ref ah, .int ch, .ref asv, .int hs, .ref ai, .int ty, .int wy, .int wd, .ref al, .int li, .int pl, .int iw, .ref at_])) :: (ag, .inl (dA 0, 310, .inl g)) :: R) s H locs := g_aft ht hB hS
            obtain rfl : r_10 = wouldBe g i j q := h_9
            refine lv_iload_n hx hb dX4_bestCopyist_64 rfl (lv_at hl 3 rfl) ?_
            refine va_calli (va_runS (As := [.int (wouldBe g i j q), .int (g (91 + 10 * j + q))]) (rest := []) X.1 (m_X4_apart l D dA A E hE ((mo, .inr (4, [.ref ag, .ref ab, .ref ah, .int ch, .ref asv, .int hs, .ref ai, .int ty, .int wy, .int wd, .ref al, .int li, .int pl, .int iw, .ref at_])) :: (ag, .inl (dA 0, 310, .inl g)) :: R) (wouldBe g i j q) (g (91 + 10 * j + q))) (va_cwS 2 X.1.2.2.2.2 (lw_S q2000 q2001 q80 q2002) rfl rfl rfl (by decide +kernel) ⟨Nat.le_of_ble_eq_true rfl, Nat.le_of_ble_eq_true rfl⟩) (g_preS hE X.2 hw) rfl rfl hl.1 rfl (lv_room (Nat.le_of_ble_eq_true rfl)) dX4_bestCopyist_65 ⟨Nat.le_of_ble_eq_true rfl, Nat.le_of_ble_eq_true rfl⟩) hw.2.2 (fun q _ h => h) (fun q h => h) (fun r_12 u t H locs ht hvm h_11 hB hz9 hk9 hS => ?_)
            have hw : gW D A ((mo, .inr (4, [.ref ag, .ref ab, .ref ah, .int ch, .ref asv, .int hs, .ref ai, .int ty, .int wy, .int wd, .ref al, .int li, .int pl, .int iw, .ref at_])) :: (ag, .inl (dA 0, 310, .inl g)) :: R) s H locs := g_aft ht hB hS
            obtain rfl : r_12 = apartI (wouldBe g i j q) (g (91 + 10 * j + q)) := h_11
            refine lv_istore (lv' := [(7, .int (apartI (wouldBe g i j q) (g (91 + 10 * j + q)))), (6, .int (nI i)), (5, .int ((bestL g j q i).2)), (4, .int ((bestL g j q i).1)), (3, .int (g (91 + 10 * j + q))), (0, .ref mo), (1, .int (nI j)), (2, .int (nI q))]) hx hb dX4_bestCopyist_68 hl (by decide) rfl (fun ls hl => ?_)
            refine lv_iload hx hb dX4_bestCopyist_70 (lv_at hl 3 rfl) ?_
            refine lv_bipush (v := (-15)) hx hb dX4_bestCopyist_72 (by decide) ?_
            refine lv_icmp_eq (tgt := 116) hx hb dX4_bestCopyist_74 (by decide) (fun c_13 => ?_) (fun c_13 => ?_)
            · skip
              refine lv_iconst (v := 1) hx hb dX4_bestCopyist_116 (by decide) ?_
              refine lv_goto (tgt := 121) hx hb dX4_bestCopyist_117 (by decide) ?_
              refine lv_istore (lv' := [(8, .int 1), (7, .int (apartI (wouldBe g i j q) (g (91 + 10 * j + q)))), (6, .int (nI i)), (5, .int ((bestL g j q i).2)), (4, .int ((bestL g j q i).1)), (3, .int (g (91 + 10 * j + q))), (0, .ref mo), (1, .int (nI j)), (2, .int (nI q))]) hx hb dX4_bestCopyist_121 hl (by decide) rfl (fun ls hl => ?_)
              refine lv_iload hx hb dX4_bestCopyist_123 (lv_at hl 0 rfl) ?_
              refine lv_if_eq (tgt := 133) hx hb dX4_bestCopyist_125 (by decide) (fun c_14 => absurd c_14 (by decide)) (fun c_14 => ?_)
              refine lv_iload hx hb dX4_bestCopyist_128 (lv_at hl 2 rfl) ?_
              refine lv_goto (tgt := 135) hx hb dX4_bestCopyist_130 (by decide) ?_
              refine lv_istore (lv' := [(4, .int (nI i)), (8, .int 1), (7, .int (apartI (wouldBe g i j q) (g (91 + 10 * j + q)))), (6, .int (nI i)), (5, .int ((bestL g j q i).2)), (3, .int (g (91 + 10 * j + q))), (0, .ref mo), (1, .int (nI j)), (2, .int (nI q))]) hx hb dX4_bestCopyist_135 hl (by decide) rfl (fun ls hl => ?_)
              refine lv_iload hx hb dX4_bestCopyist_137 (lv_at hl 1 rfl) ?_
              refine lv_if_eq (tgt := 147) hx hb dX4_bestCopyist_139 (by decide) (fun c_15 => absurd c_15 (by decide)) (fun c_15 => ?_)
              refine lv_iload hx hb dX4_bestCopyist_142 (lv_at hl 2 rfl) ?_
              refine lv_goto (tgt := 149) hx hb dX4_bestCopyist_144 (by decide) ?_
              refine lv_istore (lv' := [(5, .int (apartI (wouldBe g i j q) (g (91 + 10 * j + q)))), (4, .int (nI i)), (8, .int 1), (7, .int (apartI (wouldBe g i j q) (g (91 + 10 * j + q)))), (6, .int (nI i)), (3, .int (g (91 + 10 * j + q))), (0, .ref mo), (1, .int (nI j)), (2, .int (nI q))]) hx hb dX4_bestCopyist_149 hl (by decide) rfl (fun ls hl => ?_)
              refine lv_iinc (v := nI (i + 1)) (lv' := [(6, .int (nI (i + 1))), (5, .int (apartI (wouldBe g i j q) (g (91 + 10 * j + q)))), (4, .int (nI i)), (8, .int 1), (7, .int (apartI (wouldBe g i j q) (g (91 + 10 * j + q)))), (3, .int (g (91 + 10 * j + q))), (0, .ref mo), (1, .int (nI j)), (2, .int (nI q))]) hx hb dX4_bestCopyist_151 hl (k := 4) rfl (nI_add i 1) (by decide) rfl (fun ls hl => ?_)
              refine lv_goto (tgt := 43) hx hb dX4_bestCopyist_154 (by decide) ?_
              have hl : lv_has ls 9 [(6, .int (nI (i + 1))), (5, .int (apartI (wouldBe g i j q) (g (91 + 10 * j + q)))), (4, .int (nI i)), (3, .int (g (91 + 10 * j + q))), (0, .ref mo), (1, .int (nI j)), (2, .int (nI q))] := (lv_sub hl [0, 1, 2, 5, 6, 7, 8] rfl)
              rw [show apartI (wouldBe g i j q) (g (91 + 10 * j + q)) = (bestL g j q (i + 1)).2 from by simp [bestL, bestStep, c_3, kj, c_6, kq, c_8, c_13]] at hl
              rw [show nI i = (bestL g j q (i + 1)).1 from by simp [bestL, bestStep, c_3, kj, c_6, kq, c_8, c_13]] at hl
              have hl : lv_has ls 9 [(6, .int (nI (i + 1))), (5, .int ((bestL g j q (i + 1)).2)), (4, .int ((bestL g j q (i + 1)).1)), (3, .int (g (91 + 10 * j + q))), (0, .ref mo), (1, .int (nI j)), (2, .int (nI q))] := hl
              exact ih_loop_7 (i + 1) (by first | assumption | omega) (by omega) _ _ hw _ (hl)
            · skip
              refine lv_iload hx hb dX4_bestCopyist_77 (lv_at hl 0 rfl) ?_
              refine lv_iload hx hb dX4_bestCopyist_79 (lv_at hl 2 rfl) ?_
              refine lv_icmp_lt (tgt := 116) hx hb dX4_bestCopyist_81 (by decide) (fun c_16 => ?_) (fun c_16 => ?_)
              · skip
                refine lv_iconst (v := 1) hx hb dX4_bestCopyist_116 (by decide) ?_
                refine lv_goto (tgt := 121) hx hb dX4_bestCopyist_117 (by decide) ?_
                refine lv_istore (lv' := [(8, .int 1), (7, .int (apartI (wouldBe g i j q) (g (91 + 10 * j + q)))), (6, .int (nI i)), (5, .int ((bestL g j q i).2)), (4, .int ((bestL g j q i).1)), (3, .int (g (91 + 10 * j + q))), (0, .ref mo), (1, .int (nI j)), (2, .int (nI q))]) hx hb dX4_bestCopyist_121 hl (by decide) rfl (fun ls hl => ?_)
                refine lv_iload hx hb dX4_bestCopyist_123 (lv_at hl 0 rfl) ?_
                refine lv_if_eq (tgt := 133) hx hb dX4_bestCopyist_125 (by decide) (fun c_17 => absurd c_17 (by decide)) (fun c_17 => ?_)
                refine lv_iload hx hb dX4_bestCopyist_128 (lv_at hl 2 rfl) ?_
                refine lv_goto (tgt := 135) hx hb dX4_bestCopyist_130 (by decide) ?_
                refine lv_istore (lv' := [(4, .int (nI i)), (8, .int 1), (7, .int (apartI (wouldBe g i j q) (g (91 + 10 * j + q)))), (6, .int (nI i)), (5, .int ((bestL g j q i).2)), (3, .int (g (91 + 10 * j + q))), (0, .ref mo), (1, .int (nI j)), (2, .int (nI q))]) hx hb dX4_bestCopyist_135 hl (by decide) rfl (fun ls hl => ?_)
                refine lv_iload hx hb dX4_bestCopyist_137 (lv_at hl 1 rfl) ?_
                refine lv_if_eq (tgt := 147) hx hb dX4_bestCopyist_139 (by decide) (fun c_18 => absurd c_18 (by decide)) (fun c_18 => ?_)
                refine lv_iload hx hb dX4_bestCopyist_142 (lv_at hl 2 rfl) ?_
                refine lv_goto (tgt := 149) hx hb dX4_bestCopyist_144 (by decide) ?_
                refine lv_istore (lv' := [(5, .int (apartI (wouldBe g i j q) (g (91 + 10 * j + q)))), (4, .int (nI i)), (8, .int 1), (7, .int (apartI (wouldBe g i j q) (g (91 + 10 * j + q)))), (6, .int (nI i)), (3, .int (g (91 + 10 * j + q))), (0, .ref mo), (1, .int (nI j)), (2, .int (nI q))]) hx hb dX4_bestCopyist_149 hl (by decide) rfl (fun ls hl => ?_)
                refine lv_iinc (v := nI (i + 1)) (lv' := [(6, .int (nI (i + 1))), (5, .int (apartI (wouldBe g i j q) (g (91 + 10 * j + q)))), (4, .int (nI i)), (8, .int 1), (7, .int (apartI (wouldBe g i j q) (g (91 + 10 * j + q)))), (3, .int (g (91 + 10 * j + q))), (0, .ref mo), (1, .int (nI j)), (2, .int (nI q))]) hx hb dX4_bestCopyist_151 hl (k := 4) rfl (nI_add i 1) (by decide) rfl (fun ls hl => ?_)
                refine lv_goto (tgt := 43) hx hb dX4_bestCopyist_154 (by decide) ?_
                have hl : lv_has ls 9 [(6, .int (nI (i + 1))), (5, .int (apartI (wouldBe g i j q) (g (91 + 10 * j + q)))), (4, .int (nI i)), (3, .int (g (91 + 10 * j + q))), (0, .ref mo), (1, .int (nI j)), (2, .int (nI q))] := (lv_sub hl [0, 1, 2, 5, 6, 7, 8] rfl)
                rw [show apartI (wouldBe g i j q) (g (91 + 10 * j + q)) = (bestL g j q (i + 1)).2 from by simp [bestL, bestStep, c_3, kj, c_6, kq, c_8, c_13, c_16]] at hl
                rw [show nI i = (bestL g j q (i + 1)).1 from by simp [bestL, bestStep, c_3, kj, c_6, kq, c_8, c_13, c_16]] at hl
                have hl : lv_has ls 9 [(6, .int (nI (i + 1))), (5, .int ((bestL g j q (i + 1)).2)), (4, .int ((bestL g j q (i + 1)).1)), (3, .int (g (91 + 10 * j + q))), (0, .ref mo), (1, .int (nI j)), (2, .int (nI q))] := hl
                exact ih_loop_7 (i + 1) (by first | assumption | omega) (by omega) _ _ hw _ (hl)
              · skip
                refine lv_iload hx hb dX4_bestCopyist_84 (lv_at hl 0 rfl) ?_
                refine lv_iload hx hb dX4_bestCopyist_86 (lv_at hl 2 rfl) ?_
                refine lv_icmp_ne (tgt := 120) hx hb dX4_bestCopyist_88 (by decide) (fun c_19 => ?_) (fun c_19 => ?_)
                · skip
                  refine lv_iconst (v := 0) hx hb dX4_bestCopyist_120 (by decide) ?_
                  refine lv_istore (lv' := [(8, .int 0), (7, .int (apartI (wouldBe g i j q) (g (91 + 10 * j + q)))), (6, .int (nI i)), (5, .int ((bestL g j q i).2)), (4, .int ((bestL g j q i).1)), (3, .int (g (91 + 10 * j + q))), (0, .ref mo), (1, .int (nI j)), (2, .int (nI q))]) hx hb dX4_bestCopyist_121 hl (by decide) rfl (fun ls hl => ?_)
                  refine lv_iload hx hb dX4_bestCopyist_123 (lv_at hl 0 rfl) ?_
                  refine lv_if_eq (tgt := 133) hx hb dX4_bestCopyist_125 (by decide) (fun c_20 => ?_) (fun c_20 => absurd (by decide) c_20)
                  refine lv_iload hx hb dX4_bestCopyist_133 (lv_at hl 4 rfl) ?_
                  refine lv_istore (lv' := [(4, .int ((bestL g j q i).1)), (8, .int 0), (7, .int (apartI (wouldBe g i j q) (g (91 + 10 * j + q)))), (6, .int (nI i)), (5, .int ((bestL g j q i).2)), (3, .int (g (91 + 10 * j + q))), (0, .ref mo), (1, .int (nI j)), (2, .int (nI q))]) hx hb dX4_bestCopyist_135 hl (by decide) rfl (fun ls hl => ?_)
                  refine lv_iload hx hb dX4_bestCopyist_137 (lv_at hl 1 rfl) ?_
                  refine lv_if_eq (tgt := 147) hx hb dX4_bestCopyist_139 (by decide) (fun c_21 => ?_) (fun c_21 => absurd (by decide) c_21)
                  refine lv_iload hx hb dX4_bestCopyist_147 (lv_at hl 4 rfl) ?_
                  refine lv_istore (lv' := [(5, .int ((bestL g j q i).2)), (4, .int ((bestL g j q i).1)), (8, .int 0), (7, .int (apartI (wouldBe g i j q) (g (91 + 10 * j + q)))), (6, .int (nI i)), (3, .int (g (91 + 10 * j + q))), (0, .ref mo), (1, .int (nI j)), (2, .int (nI q))]) hx hb dX4_bestCopyist_149 hl (by decide) rfl (fun ls hl => ?_)
                  refine lv_iinc (v := nI (i + 1)) (lv' := [(6, .int (nI (i + 1))), (5, .int ((bestL g j q i).2)), (4, .int ((bestL g j q i).1)), (8, .int 0), (7, .int (apartI (wouldBe g i j q) (g (91 + 10 * j + q)))), (3, .int (g (91 + 10 * j + q))), (0, .ref mo), (1, .int (nI j)), (2, .int (nI q))]) hx hb dX4_bestCopyist_151 hl (k := 4) rfl (nI_add i 1) (by decide) rfl (fun ls hl => ?_)
                  refine lv_goto (tgt := 43) hx hb dX4_bestCopyist_154 (by decide) ?_
                  have hl : lv_has ls 9 [(6, .int (nI (i + 1))), (5, .int ((bestL g j q i).2)), (4, .int ((bestL g j q i).1)), (3, .int (g (91 + 10 * j + q))), (0, .ref mo), (1, .int (nI j)), (2, .int (nI q))] := (lv_sub hl [0, 1, 2, 5, 6, 7, 8] rfl)
                  rw [show (bestL g j q i).2 = (bestL g j q (i + 1)).2 from by simp [bestL, bestStep, c_3, kj, c_6, kq, c_8, c_13, c_16, c_19]] at hl
                  rw [show (bestL g j q i).1 = (bestL g j q (i + 1)).1 from by simp [bestL, bestStep, c_3, kj, c_6, kq, c_8, c_13, c_16, c_19]] at hl
                  have hl : lv_has ls 9 [(6, .int (nI (i + 1))), (5, .int ((bestL g j q (i + 1)).2)), (4, .int ((bestL g j q (i + 1)).1)), (3, .int (g (91 + 10 * j + q))), (0, .ref mo), (1, .int (nI j)), (2, .int (nI q))] := hl
                  exact ih_loop_7 (i + 1) (by first | assumption | omega) (by omega) _ _ hw _ (hl)
                · skip
                  obtain hbe | ⟨b, hb4, hbe⟩ := best_in (g := g) (c := j) (q := q) i (by omega)
                  · exact absurd hbe c_13
                  have hbk : (bestL g j q i).1.toNatClampNeg = b := by rw [hbe]; exact nI_clamp (by omega)
                  refine lv_aload_n hx hb dX4_bestCopyist_91 rfl (lv_at hl 5 rfl) ?_
                  refine g_get X cfX4 hw 0 0 rfl rfl q1834 rfl rfl dX4_bestCopyist_92 ?_
                  refine lv_sipush (v := 200) hx hb dX4_bestCopyist_95 (by decide) ?_
                  refine lv_iload hx hb dX4_bestCopyist_98 (lv_at hl 1 rfl) ?_
                  refine lv_iadd hx hb dX4_bestCopyist_100 ?_
                  refine g_addN (a := 200) (b := i) ?_
                  refine g_iald X hw 1 rfl (i := 200 + i) (by omega) (by first | decide | omega) dX4_bestCopyist_101 ?_
                  refine lv_aload_n hx hb dX4_bestCopyist_102 rfl (lv_at hl 5 rfl) ?_
                  refine g_get X cfX4 hw 0 0 rfl rfl q1834 rfl rfl dX4_bestCopyist_103 ?_
                  refine lv_sipush (v := 200) hx hb dX4_bestCopyist_106 (by decide) ?_
                  refine lv_iload hx hb dX4_bestCopyist_109 (lv_at hl 3 rfl) ?_
                  refine lv_iadd hx hb dX4_bestCopyist_111 ?_
                  refine g_addE (a := 200) (b := b) rfl hbe ?_
                  refine g_iald X hw 1 rfl (i := 200 + b) (by omega) (by first | decide | omega) dX4_bestCopyist_112 ?_
                  refine lv_icmp_le (tgt := 120) hx hb dX4_bestCopyist_113 (by decide) (fun c_22 => ?_) (fun c_22 => ?_)
                  · skip
                    have c_22 := Int32.not_lt.mpr c_22
                    refine lv_iconst (v := 0) hx hb dX4_bestCopyist_120 (by decide) ?_
                    refine lv_istore (lv' := [(8, .int 0), (7, .int (apartI (wouldBe g i j q) (g (91 + 10 * j + q)))), (6, .int (nI i)), (5, .int ((bestL g j q i).2)), (4, .int ((bestL g j q i).1)), (3, .int (g (91 + 10 * j + q))), (0, .ref mo), (1, .int (nI j)), (2, .int (nI q))]) hx hb dX4_bestCopyist_121 hl (by decide) rfl (fun ls hl => ?_)
                    refine lv_iload hx hb dX4_bestCopyist_123 (lv_at hl 0 rfl) ?_
                    refine lv_if_eq (tgt := 133) hx hb dX4_bestCopyist_125 (by decide) (fun c_23 => ?_) (fun c_23 => absurd (by decide) c_23)
                    refine lv_iload hx hb dX4_bestCopyist_133 (lv_at hl 4 rfl) ?_
                    refine lv_istore (lv' := [(4, .int ((bestL g j q i).1)), (8, .int 0), (7, .int (apartI (wouldBe g i j q) (g (91 + 10 * j + q)))), (6, .int (nI i)), (5, .int ((bestL g j q i).2)), (3, .int (g (91 + 10 * j + q))), (0, .ref mo), (1, .int (nI j)), (2, .int (nI q))]) hx hb dX4_bestCopyist_135 hl (by decide) rfl (fun ls hl => ?_)
                    refine lv_iload hx hb dX4_bestCopyist_137 (lv_at hl 1 rfl) ?_
                    refine lv_if_eq (tgt := 147) hx hb dX4_bestCopyist_139 (by decide) (fun c_24 => ?_) (fun c_24 => absurd (by decide) c_24)
                    refine lv_iload hx hb dX4_bestCopyist_147 (lv_at hl 4 rfl) ?_
                    refine lv_istore (lv' := [(5, .int ((bestL g j q i).2)), (4, .int ((bestL g j q i).1)), (8, .int 0), (7, .int (apartI (wouldBe g i j q) (g (91 + 10 * j + q)))), (6, .int (nI i)), (3, .int (g (91 + 10 * j + q))), (0, .ref mo), (1, .int (nI j)), (2, .int (nI q))]) hx hb dX4_bestCopyist_149 hl (by decide) rfl (fun ls hl => ?_)
                    refine lv_iinc (v := nI (i + 1)) (lv' := [(6, .int (nI (i + 1))), (5, .int ((bestL g j q i).2)), (4, .int ((bestL g j q i).1)), (8, .int 0), (7, .int (apartI (wouldBe g i j q) (g (91 + 10 * j + q)))), (3, .int (g (91 + 10 * j + q))), (0, .ref mo), (1, .int (nI j)), (2, .int (nI q))]) hx hb dX4_bestCopyist_151 hl (k := 4) rfl (nI_add i 1) (by decide) rfl (fun ls hl => ?_)
                    refine lv_goto (tgt := 43) hx hb dX4_bestCopyist_154 (by decide) ?_
                    have hl : lv_has ls 9 [(6, .int (nI (i + 1))), (5, .int ((bestL g j q i).2)), (4, .int ((bestL g j q i).1)), (3, .int (g (91 + 10 * j + q))), (0, .ref mo), (1, .int (nI j)), (2, .int (nI q))] := (lv_sub hl [0, 1, 2, 5, 6, 7, 8] rfl)
                    rw [show (bestL g j q i).2 = (bestL g j q (i + 1)).2 from by simp [bestL, bestStep, c_3, kj, c_6, kq, c_8, c_13, c_16, c_19, hbk, c_22]] at hl
                    rw [show (bestL g j q i).1 = (bestL g j q (i + 1)).1 from by simp [bestL, bestStep, c_3, kj, c_6, kq, c_8, c_13, c_16, c_19, hbk, c_22]] at hl
                    have hl : lv_has ls 9 [(6, .int (nI (i + 1))), (5, .int ((bestL g j q (i + 1)).2)), (4, .int ((bestL g j q (i + 1)).1)), (3, .int (g (91 + 10 * j + q))), (0, .ref mo), (1, .int (nI j)), (2, .int (nI q))] := hl
                    exact ih_loop_7 (i + 1) (by first | assumption | omega) (by omega) _ _ hw _ (hl)
                  · skip
                    have c_22 := Int32.not_le.mp c_22
                    refine lv_iconst (v := 1) hx hb dX4_bestCopyist_116 (by decide) ?_
                    refine lv_goto (tgt := 121) hx hb dX4_bestCopyist_117 (by decide) ?_
                    refine lv_istore (lv' := [(8, .int 1), (7, .int (apartI (wouldBe g i j q) (g (91 + 10 * j + q)))), (6, .int (nI i)), (5, .int ((bestL g j q i).2)), (4, .int ((bestL g j q i).1)), (3, .int (g (91 + 10 * j + q))), (0, .ref mo), (1, .int (nI j)), (2, .int (nI q))]) hx hb dX4_bestCopyist_121 hl (by decide) rfl (fun ls hl => ?_)
                    refine lv_iload hx hb dX4_bestCopyist_123 (lv_at hl 0 rfl) ?_
                    refine lv_if_eq (tgt := 133) hx hb dX4_bestCopyist_125 (by decide) (fun c_25 => absurd c_25 (by decide)) (fun c_25 => ?_)
                    refine lv_iload hx hb dX4_bestCopyist_128 (lv_at hl 2 rfl) ?_
                    refine lv_goto (tgt := 135) hx hb dX4_bestCopyist_130 (by decide) ?_
                    refine lv_istore (lv' := [(4, .int (nI i)), (8, .int 1), (7, .int (apartI (wouldBe g i j q) (g (91 + 10 * j + q)))), (6, .int (nI i)), (5, .int ((bestL g j q i).2)), (3, .int (g (91 + 10 * j + q))), (0, .ref mo), (1, .int (nI j)), (2, .int (nI q))]) hx hb dX4_bestCopyist_135 hl (by decide) rfl (fun ls hl => ?_)
                    refine lv_iload hx hb dX4_bestCopyist_137 (lv_at hl 1 rfl) ?_
                    refine lv_if_eq (tgt := 147) hx hb dX4_bestCopyist_139 (by decide) (fun c_26 => absurd c_26 (by decide)) (fun c_26 => ?_)
                    refine lv_iload hx hb dX4_bestCopyist_142 (lv_at hl 2 rfl) ?_
                    refine lv_goto (tgt := 149) hx hb dX4_bestCopyist_144 (by decide) ?_
                    refine lv_istore (lv' := [(5, .int (apartI (wouldBe g i j q) (g (91 + 10 * j + q)))), (4, .int (nI i)), (8, .int 1), (7, .int (apartI (wouldBe g i j q) (g (91 + 10 * j + q)))), (6, .int (nI i)), (3, .int (g (91 + 10 * j + q))), (0, .ref mo), (1, .int (nI j)), (2, .int (nI q))]) hx hb dX4_bestCopyist_149 hl (by decide) rfl (fun ls hl => ?_)
                    refine lv_iinc (v := nI (i + 1)) (lv' := [(6, .int (nI (i + 1))), (5, .int (apartI (wouldBe g i j q) (g (91 + 10 * j + q)))), (4, .int (nI i)), (8, .int 1), (7, .int (apartI (wouldBe g i j q) (g (91 + 10 * j + q)))), (3, .int (g (91 + 10 * j + q))), (0, .ref mo), (1, .int (nI j)), (2, .int (nI q))]) hx hb dX4_bestCopyist_151 hl (k := 4) rfl (nI_add i 1) (by decide) rfl (fun ls hl => ?_)
                    refine lv_goto (tgt := 43) hx hb dX4_bestCopyist_154 (by decide) ?_
                    have hl : lv_has ls 9 [(6, .int (nI (i + 1))), (5, .int (apartI (wouldBe g i j q) (g (91 + 10 * j + q)))), (4, .int (nI i)), (3, .int (g (91 + 10 * j + q))), (0, .ref mo), (1, .int (nI j)), (2, .int (nI q))] := (lv_sub hl [0, 1, 2, 5, 6, 7, 8] rfl)
                    rw [show apartI (wouldBe g i j q) (g (91 + 10 * j + q)) = (bestL g j q (i + 1)).2 from by simp [bestL, bestStep, c_3, kj, c_6, kq, c_8, c_13, c_16, c_19, hbk, c_22]] at hl
                    rw [show nI i = (bestL g j q (i + 1)).1 from by simp [bestL, bestStep, c_3, kj, c_6, kq, c_8, c_13, c_16, c_19, hbk, c_22]] at hl
                    have hl : lv_has ls 9 [(6, .int (nI (i + 1))), (5, .int ((bestL g j q (i + 1)).2)), (4, .int ((bestL g j q (i + 1)).1)), (3, .int (g (91 + 10 * j + q))), (0, .ref mo), (1, .int (nI j)), (2, .int (nI q))] := hl
                    exact ih_loop_7 (i + 1) (by first | assumption | omega) (by omega) _ _ hw _ (hl)
      have hl : lv_has ls 9 [(6, .int 0), (5, .int 0), (4, .int (-15)), (3, .int (g (91 + 10 * j + q))), (0, .ref mo), (1, .int (nI j)), (2, .int (nI q))] := (lv_sub hl [0, 1, 2, 3, 4, 5, 6] rfl)
      have hl : lv_has ls 9 [(6, .int 0), (5, .int ((bestL g j q 0).2)), (4, .int ((bestL g j q 0).1)), (3, .int (g (91 + 10 * j + q))), (0, .ref mo), (1, .int (nI j)), (2, .int (nI q))] := by exact hl
      exact loop_7 ((nn g 191 - 0) + 1) 0 (by first | assumption | omega) (Nat.lt_succ_self _) _ _ hw _ (hl)
    · skip
      have c_6 := bZ_0.mp c_6
      refine lv_bipush (v := (-11)) hx hb dX4_bestCopyist_15 (by decide) ?_
      exact g_iret (v := (-11)) () X hw hr hlocks  (by simp [q_best, c_3, kj, c_6]) rfl dX4_bestCopyist_17

set_option maxHeartbeats 4000000 in
theorem m_X4_copyistOf (l : Launch) (D : va_G) (dA : Nat → ClassId) (A : Nat → Prop) (E : State → Prop) (hE : gSt A E) (R : va_W) (mo ag ab ah asv ai al at_ : Nat) (ch hs ty wy wd li pl iw : Int32) (g : gG) (hI : gInv g) (v w : Int32) : Met l yX4_copyistOf (ws_ yX4_copyistOf cX4_copyistOf 3 (Option.some FieldType.int)) ({ frames := 2, cells := 0, slots := 0, locals := 43 }) (va_Pc [.ref mo, .int v, .int w] (gB D dA A E ((mo, .inr (4, [.ref ag, .ref ab, .ref ah, .int ch, .ref asv, .int hs, .ref ai, .int ty, .int wy, .int wd, .ref al, .int li, .int pl, .int iw, .ref at_])) :: (ag, .inl (dA 0, 310, .inl g)) :: R))) (va_Qi (fun (r : Int32) (_ : Unit) => r = q_copyistOf g v w) (fun _ => gE D A ((mo, .inr (4, [.ref ag, .ref ab, .ref ah, .int ch, .ref asv, .int hs, .ref ai, .int ty, .int wy, .int wd, .ref al, .int li, .int pl, .int iw, .ref at_])) :: (ag, .inl (dA 0, 310, .inl g)) :: R)) A) (0) (0) A := by
  refine g_start rfl rfl ?_
  intro p e s m args below meth c ls X hr hlocks hin hw hl
  have hx := X.1.1
  have hb := X.1.2.1
  have hl : lv_has ls 3 [(0, .ref mo), (1, .int v), (2, .int w)] := hl
  have hI2 := hI.c.2
  have hI4 := hI.m.2
  have hI6 := hI.k.2
  refine lv_aload_n hx hb dX4_copyistOf_0 rfl (lv_at hl 0 rfl) ?_
  refine lv_iload_n hx hb dX4_copyistOf_1 rfl (lv_at hl 1 rfl) ?_
  refine va_calli (va_runV (As := [.int v]) (rest := []) X.1 (m_X4_isCopyist l D dA A E hE R mo ag ab ah asv ai al at_ ch hs ty wy wd li pl iw g v) (cwV 1 X.1.2.2.2.2 (lw_V q1968 q1970 qs33 q80 q1971) rfl rfl rfl (by decide +kernel) ⟨Nat.le_of_ble_eq_true rfl, Nat.le_of_ble_eq_true rfl⟩) (g_preV hE X.2 hw 0 rfl rfl) rfl rfl hl.1 rfl (lv_room (Nat.le_of_ble_eq_true rfl)) dX4_copyistOf_2 ⟨Nat.le_of_ble_eq_true rfl, Nat.le_of_ble_eq_true rfl⟩) hw.2.2 (fun q _ h => h) (fun q h => h) (fun r_2 u t H locs ht hvm h_1 hB hz9 hk9 hS => ?_)
  have hw : gW D A ((mo, .inr (4, [.ref ag, .ref ab, .ref ah, .int ch, .ref asv, .int hs, .ref ai, .int ty, .int wy, .int wd, .ref al, .int li, .int pl, .int iw, .ref at_])) :: (ag, .inl (dA 0, 310, .inl g)) :: R) s H locs := g_aft ht hB hS
  obtain rfl : r_2 = bZ (inR v 0 (g 191 - 1)) := h_1
  refine lv_if_ne (tgt := 11) hx hb dX4_copyistOf_5 (by decide) (fun c_3 => ?_) (fun c_3 => ?_)
  · skip
    have c_3 := bZ_1 c_3
    obtain ⟨j, hj, ej⟩ := hI.inM c_3
    subst ej
    have kj : (nI j).toNatClampNeg = j := nI_clamp (by omega)
    refine lv_iload_n hx hb dX4_copyistOf_11 rfl (lv_at hl 2 rfl) ?_
    refine lv_iconst (v := 0) hx hb dX4_copyistOf_12 (by decide) ?_
    refine lv_iconst (v := 4) hx hb dX4_copyistOf_13 (by decide) ?_
    refine va_calli (va_runS (As := [.int w, .int 0, .int 4]) (rest := []) X.1 (m_X4_in l D dA A E hE ((mo, .inr (4, [.ref ag, .ref ab, .ref ah, .int ch, .ref asv, .int hs, .ref ai, .int ty, .int wy, .int wd, .ref al, .int li, .int pl, .int iw, .ref at_])) :: (ag, .inl (dA 0, 310, .inl g)) :: R) w 0 4) (va_cwS 3 X.1.2.2.2.2 (lw_S q1888 q1889 q80 q1890) rfl rfl rfl (by decide +kernel) ⟨Nat.le_of_ble_eq_true rfl, Nat.le_of_ble_eq_true rfl⟩) (g_preS hE X.2 hw) rfl rfl hl.1 rfl (lv_room (Nat.le_of_ble_eq_true rfl)) dX4_copyistOf_14 ⟨Nat.le_of_ble_eq_true rfl, Nat.le_of_ble_eq_true rfl⟩) hw.2.2 (fun q _ h => h) (fun q h => h) (fun r_5 u t H locs ht hvm h_4 hB hz9 hk9 hS => ?_)
    have hw : gW D A ((mo, .inr (4, [.ref ag, .ref ab, .ref ah, .int ch, .ref asv, .int hs, .ref ai, .int ty, .int wy, .int wd, .ref al, .int li, .int pl, .int iw, .ref at_])) :: (ag, .inl (dA 0, 310, .inl g)) :: R) s H locs := g_aft ht hB hS
    obtain rfl : r_5 = bZ (inR w 0 4) := h_4
    refine lv_if_eq (tgt := 37) hx hb dX4_copyistOf_17 (by decide) (fun c_6 => ?_) (fun c_6 => ?_)
    · skip
      have c_6 := bZ_0.mp c_6
      refine lv_bipush (v := (-12)) hx hb dX4_copyistOf_37 (by decide) ?_
      exact g_iret (v := (-12)) () X hw hr hlocks  (by simp [q_copyistOf, c_3, kj, c_6]) rfl dX4_copyistOf_39
    · skip
      have c_6 := bZ_1 c_6
      obtain ⟨q, hq, eq⟩ := inR5 c_6
      subst eq
      have kq : (nI q).toNatClampNeg = q := nI_clamp (by omega)
      refine lv_aload_n hx hb dX4_copyistOf_20 rfl (lv_at hl 0 rfl) ?_
      refine g_get X cfX4 hw 0 0 rfl rfl q1834 rfl rfl dX4_copyistOf_21 ?_
      refine lv_sipush (v := 192) hx hb dX4_copyistOf_24 (by decide) ?_
      refine lv_iconst (v := 4) hx hb dX4_copyistOf_27 (by decide) ?_
      refine lv_iload_n hx hb dX4_copyistOf_28 rfl (lv_at hl 2 rfl) ?_
      refine lv_imul hx hb dX4_copyistOf_29 ?_
      refine g_mulN (a := 4) (b := q) ?_
      refine lv_iadd hx hb dX4_copyistOf_30 ?_
      refine g_addN (a := 192) (b := 4 * q) ?_
      refine lv_iload_n hx hb dX4_copyistOf_31 rfl (lv_at hl 1 rfl) ?_
      refine lv_iadd hx hb dX4_copyistOf_32 ?_
      refine g_addN (a := 192 + 4 * q) (b := j) ?_
      refine g_iald X hw 1 rfl (i := 192 + 4 * q + j) (by omega) (by first | decide | omega) dX4_copyistOf_33 ?_
      refine lv_goto (tgt := 39) hx hb dX4_copyistOf_34 (by decide) ?_
      exact g_iret (v := g (192 + 4 * q + j)) () X hw hr hlocks  (by simp [q_copyistOf, c_3, kj, c_6, kq]) rfl dX4_copyistOf_39
  · skip
    have c_3 := bZ_0.mp c_3
    refine lv_bipush (v := (-11)) hx hb dX4_copyistOf_8 (by decide) ?_
    exact g_iret (v := (-11)) () X hw hr hlocks  (by simp [q_copyistOf, c_3]) rfl dX4_copyistOf_10

set_option maxHeartbeats 4000000 in
theorem m_X4_wornIn (l : Launch) (D : va_G) (dA : Nat → ClassId) (A : Nat → Prop) (E : State → Prop) (hE : gSt A E) (R : va_W) (mo ag ab ah asv ai al at_ : Nat) (ch hs ty wy wd li pl iw : Int32) (g : gG) (hI : gInv g) (v : Int32) : Met l yX4_wornIn (ws_ yX4_wornIn cX4_wornIn 3 (Option.some FieldType.int)) ({ frames := 2, cells := 0, slots := 0, locals := 42 }) (va_Pc [.ref mo, .int v] (gB D dA A E ((mo, .inr (4, [.ref ag, .ref ab, .ref ah, .int ch, .ref asv, .int hs, .ref ai, .int ty, .int wy, .int wd, .ref al, .int li, .int pl, .int iw, .ref at_])) :: (ag, .inl (dA 0, 310, .inl g)) :: R))) (va_Qi (fun (r : Int32) (_ : Unit) => r = q_wornIn g v) (fun _ => gE D A ((mo, .inr (4, [.ref ag, .ref ab, .ref ah, .int ch, .ref asv, .int hs, .ref ai, .int ty, .int wy, .int wd, .ref al, .int li, .int pl, .int iw, .ref at_])) :: (ag, .inl (dA 0, 310, .inl g)) :: R)) A) (0) (0) A := by
  refine g_start rfl rfl ?_
  intro p e s m args below meth c ls X hr hlocks hin hw hl
  have hx := X.1.1
  have hb := X.1.2.1
  have hl : lv_has ls 3 [(0, .ref mo), (1, .int v)] := hl
  have hI2 := hI.c.2
  have hI4 := hI.m.2
  have hI6 := hI.k.2
  refine lv_iload_n hx hb dX4_wornIn_0 rfl (lv_at hl 1 rfl) ?_
  refine va_calli (va_runS (As := [.int v]) (rest := []) X.1 (m_X4_isLedge l D dA A E hE ((mo, .inr (4, [.ref ag, .ref ab, .ref ah, .int ch, .ref asv, .int hs, .ref ai, .int ty, .int wy, .int wd, .ref al, .int li, .int pl, .int iw, .ref at_])) :: (ag, .inl (dA 0, 310, .inl g)) :: R) v) (va_cwS 1 X.1.2.2.2.2 (lw_S q1885 q1886 q80 q1887) rfl rfl rfl (by decide +kernel) ⟨Nat.le_of_ble_eq_true rfl, Nat.le_of_ble_eq_true rfl⟩) (g_preS hE X.2 hw) rfl rfl hl.1 rfl (lv_room (Nat.le_of_ble_eq_true rfl)) dX4_wornIn_1 ⟨Nat.le_of_ble_eq_true rfl, Nat.le_of_ble_eq_true rfl⟩) hw.2.2 (fun q _ h => h) (fun q h => h) (fun r_2 u t H locs ht hvm h_1 hB hz9 hk9 hS => ?_)
  have hw : gW D A ((mo, .inr (4, [.ref ag, .ref ab, .ref ah, .int ch, .ref asv, .int hs, .ref ai, .int ty, .int wy, .int wd, .ref al, .int li, .int pl, .int iw, .ref at_])) :: (ag, .inl (dA 0, 310, .inl g)) :: R) s H locs := g_aft ht hB hS
  obtain rfl : r_2 = bZ (inR v 0 5) := h_1
  refine lv_if_ne (tgt := 10) hx hb dX4_wornIn_4 (by decide) (fun c_3 => ?_) (fun c_3 => ?_)
  · skip
    have c_3 := bZ_1 c_3
    obtain ⟨j, hj, ej⟩ := inR6 c_3
    subst ej
    have kj : (nI j).toNatClampNeg = j := nI_clamp (by omega)
    refine lv_aload_n hx hb dX4_wornIn_10 rfl (lv_at hl 0 rfl) ?_
    refine g_get X cfX4 hw 0 0 rfl rfl q1834 rfl rfl dX4_wornIn_11 ?_
    refine lv_bipush (v := 14) hx hb dX4_wornIn_14 (by decide) ?_
    refine lv_iload_n hx hb dX4_wornIn_16 rfl (lv_at hl 1 rfl) ?_
    refine lv_iadd hx hb dX4_wornIn_17 ?_
    refine g_addN (a := 14) (b := j) ?_
    refine g_iald X hw 1 rfl (i := 14 + j) (by omega) (by first | decide | omega) dX4_wornIn_18 ?_
    refine lv_if_ne (tgt := 50) hx hb dX4_wornIn_19 (by decide) (fun c_4 => ?_) (fun c_4 => ?_)
    · skip
      refine lv_iconst (v := 0) hx hb dX4_wornIn_50 (by decide) ?_
      refine lv_istore_n (lv' := [(2, .int 0), (0, .ref mo), (1, .int (nI j))]) hx hb dX4_wornIn_51 rfl hl (by decide) rfl (fun ls hl => ?_)
      refine lv_iload_n hx hb dX4_wornIn_52 rfl (lv_at hl 0 rfl) ?_
      refine lv_if_eq (tgt := 71) hx hb dX4_wornIn_53 (by decide) (fun c_5 => ?_) (fun c_5 => absurd (by decide) c_5)
      refine lv_bipush (v := (-15)) hx hb dX4_wornIn_71 (by decide) ?_
      exact g_iret (v := (-15)) () X hw hr hlocks  (by simp [q_wornIn, c_3, kj, c_4]) rfl dX4_wornIn_73
    · skip
      refine lv_aload_n hx hb dX4_wornIn_22 rfl (lv_at hl 0 rfl) ?_
      refine g_get X cfX4 hw 0 0 rfl rfl q1834 rfl rfl dX4_wornIn_23 ?_
      refine lv_iconst (v := 1) hx hb dX4_wornIn_26 (by decide) ?_
      refine g_iald X hw 1 rfl (i := 1) (by decide) (by decide) dX4_wornIn_27 ?_
      refine lv_iconst (v := 5) hx hb dX4_wornIn_28 (by decide) ?_
      refine lv_icmp_lt (tgt := 50) hx hb dX4_wornIn_29 (by decide) (fun c_6 => ?_) (fun c_6 => ?_)
      · skip
        refine lv_iconst (v := 0) hx hb dX4_wornIn_50 (by decide) ?_
        refine lv_istore_n (lv' := [(2, .int 0), (0, .ref mo), (1, .int (nI j))]) hx hb dX4_wornIn_51 rfl hl (by decide) rfl (fun ls hl => ?_)
        refine lv_iload_n hx hb dX4_wornIn_52 rfl (lv_at hl 0 rfl) ?_
        refine lv_if_eq (tgt := 71) hx hb dX4_wornIn_53 (by decide) (fun c_7 => ?_) (fun c_7 => absurd (by decide) c_7)
        refine lv_bipush (v := (-15)) hx hb dX4_wornIn_71 (by decide) ?_
        exact g_iret (v := (-15)) () X hw hr hlocks  (by simp [q_wornIn, c_3, kj, c_4, c_6]) rfl dX4_wornIn_73
      · skip
        refine lv_aload_n hx hb dX4_wornIn_32 rfl (lv_at hl 0 rfl) ?_
        refine g_get X cfX4 hw 0 0 rfl rfl q1834 rfl rfl dX4_wornIn_33 ?_
        refine lv_bipush (v := 20) hx hb dX4_wornIn_36 (by decide) ?_
        refine lv_iload_n hx hb dX4_wornIn_38 rfl (lv_at hl 1 rfl) ?_
        refine lv_iadd hx hb dX4_wornIn_39 ?_
        refine g_addN (a := 20) (b := j) ?_
        refine g_iald X hw 1 rfl (i := 20 + j) (by omega) (by first | decide | omega) dX4_wornIn_40 ?_
        refine lv_bipush (v := 9) hx hb dX4_wornIn_41 (by decide) ?_
        refine lv_icmp_ge (tgt := 50) hx hb dX4_wornIn_43 (by decide) (fun c_8 => ?_) (fun c_8 => ?_)
        · skip
          have c_8 := Int32.not_lt.mpr c_8
          refine lv_iconst (v := 0) hx hb dX4_wornIn_50 (by decide) ?_
          refine lv_istore_n (lv' := [(2, .int 0), (0, .ref mo), (1, .int (nI j))]) hx hb dX4_wornIn_51 rfl hl (by decide) rfl (fun ls hl => ?_)
          refine lv_iload_n hx hb dX4_wornIn_52 rfl (lv_at hl 0 rfl) ?_
          refine lv_if_eq (tgt := 71) hx hb dX4_wornIn_53 (by decide) (fun c_9 => ?_) (fun c_9 => absurd (by decide) c_9)
          refine lv_bipush (v := (-15)) hx hb dX4_wornIn_71 (by decide) ?_
          exact g_iret (v := (-15)) () X hw hr hlocks  (by simp [q_wornIn, c_3, kj, c_4, c_6, c_8]) rfl dX4_wornIn_73
        · skip
          have c_8 := Int32.not_le.mp c_8
          refine lv_iconst (v := 1) hx hb dX4_wornIn_46 (by decide) ?_
          refine lv_goto (tgt := 51) hx hb dX4_wornIn_47 (by decide) ?_
          refine lv_istore_n (lv' := [(2, .int 1), (0, .ref mo), (1, .int (nI j))]) hx hb dX4_wornIn_51 rfl hl (by decide) rfl (fun ls hl => ?_)
          refine lv_iload_n hx hb dX4_wornIn_52 rfl (lv_at hl 0 rfl) ?_
          refine lv_if_eq (tgt := 71) hx hb dX4_wornIn_53 (by decide) (fun c_10 => absurd c_10 (by decide)) (fun c_10 => ?_)
          refine lv_bipush (v := 8) hx hb dX4_wornIn_56 (by decide) ?_
          refine lv_aload_n hx hb dX4_wornIn_58 rfl (lv_at hl 1 rfl) ?_
          refine g_get X cfX4 hw 0 0 rfl rfl q1834 rfl rfl dX4_wornIn_59 ?_
          refine lv_bipush (v := 26) hx hb dX4_wornIn_62 (by decide) ?_
          refine lv_iload_n hx hb dX4_wornIn_64 rfl (lv_at hl 2 rfl) ?_
          refine lv_iadd hx hb dX4_wornIn_65 ?_
          refine g_addN (a := 26) (b := j) ?_
          refine g_iald X hw 1 rfl (i := 26 + j) (by omega) (by first | decide | omega) dX4_wornIn_66 ?_
          refine lv_isub hx hb dX4_wornIn_67 ?_
          refine lv_goto (tgt := 73) hx hb dX4_wornIn_68 (by decide) ?_
          exact g_iret (v := 8 - (g (26 + j))) () X hw hr hlocks  (by simp [q_wornIn, c_3, kj, c_4, c_6, c_8]) rfl dX4_wornIn_73
  · skip
    have c_3 := bZ_0.mp c_3
    refine lv_bipush (v := (-11)) hx hb dX4_wornIn_7 (by decide) ?_
    exact g_iret (v := (-11)) () X hw hr hlocks  (by simp [q_wornIn, c_3]) rfl dX4_wornIn_9
