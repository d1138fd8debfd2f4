set_option maxHeartbeats 4000000 in
theorem m_X4_rainsOn (l : Launch) (D : va_G) (dA : Nat → ClassId) (A : Nat → Prop) (E : State → Prop) (hE : gSt A E) (R : va_W) (mo ag ab ah asv ai al at_ : Nat) (ch hs ty wy wd li pl iw : Int32) (g : gG) (hI : gInv g) (j : Nat) (hj : j < 6) : Met l yX4_rainsOn (ws_ yX4_rainsOn cX4_rainsOn 5 (Option.some FieldType.int)) ({ frames := 1, cells := 0, slots := 0, locals := 22 }) (va_Pc [.ref mo, .int (nI j)] (gB D dA A E ((mo, .inr (4, [.ref ag, .ref ab, .ref ah, .int ch, .ref asv, .int hs, .ref ai, .int ty, .int wy, .int wd, .ref al, .int li, .int pl, .int iw, .ref at_])) :: (ag, .inl (dA 0, 310, .inl g)) :: R))) (va_Qi (fun (r : Int32) (_ : Unit) => r = wallI g j) (fun _ => gE D A ((mo, .inr (4, [.ref ag, .ref ab, .ref ah, .int ch, .ref asv, .int hs, .ref ai, .int ty, .int wy, .int wd, .ref al, .int li, .int pl, .int iw, .ref at_])) :: (ag, .inl (dA 0, 310, .inl (p_rainsOn g j))) :: R)) A) (0) (0) A := by
  refine g_start rfl rfl ?_
  intro p e s m args below meth c ls X hr hlocks hin hw hl
  have hx := X.1.1
  have hb := X.1.2.1
  have hl : lv_has ls 5 [(0, .ref mo), (1, .int (nI j))] := hl
  have hI2 := hI.c.2
  have hI4 := hI.m.2
  have hI6 := hI.k.2
  refine lv_bipush (v := 10) hx hb dX4_rainsOn_0 (by decide) ?_
  refine lv_aload_n hx hb dX4_rainsOn_2 rfl (lv_at hl 0 rfl) ?_
  refine g_get X cfX4 hw 0 0 rfl rfl q1834 rfl rfl dX4_rainsOn_3 ?_
  refine lv_iconst (v := 1) hx hb dX4_rainsOn_6 (by decide) ?_
  refine g_iald X hw 1 rfl (i := 1) (by decide) (by decide) dX4_rainsOn_7 ?_
  refine lv_imul hx hb dX4_rainsOn_8 ?_
  refine lv_istore_n (lv' := [(2, .int (10 * (g 1))), (0, .ref mo), (1, .int (nI j))]) hx hb dX4_rainsOn_9 rfl hl (by decide) rfl (fun ls hl => ?_)
  refine lv_aload_n hx hb dX4_rainsOn_10 rfl (lv_at hl 1 rfl) ?_
  refine g_get X cfX4 hw 0 0 rfl rfl q1834 rfl rfl dX4_rainsOn_11 ?_
  refine lv_bipush (v := 14) hx hb dX4_rainsOn_14 (by decide) ?_
  refine lv_iload_n hx hb dX4_rainsOn_16 rfl (lv_at hl 2 rfl) ?_
  refine lv_iadd hx hb dX4_rainsOn_17 ?_
  refine g_addN (a := 14) (b := j) ?_
  refine g_iald X hw 1 rfl (i := 14 + j) (by omega) (by first | decide | omega) dX4_rainsOn_18 ?_
  refine lv_if_ne (tgt := 31) hx hb dX4_rainsOn_19 (by decide) (fun c_1 => ?_) (fun c_1 => ?_)
  · skip
    refine lv_aload_n hx hb dX4_rainsOn_31 rfl (lv_at hl 1 rfl) ?_
    refine g_get X cfX4 hw 0 0 rfl rfl q1834 rfl rfl dX4_rainsOn_32 ?_
    refine lv_bipush (v := 14) hx hb dX4_rainsOn_35 (by decide) ?_
    refine lv_iload_n hx hb dX4_rainsOn_37 rfl (lv_at hl 2 rfl) ?_
    refine lv_iadd hx hb dX4_rainsOn_38 ?_
    refine g_addN (a := 14) (b := j) ?_
    refine g_iald X hw 1 rfl (i := 14 + j) (by omega) (by first | decide | omega) dX4_rainsOn_39 ?_
    refine lv_iconst (v := 1) hx hb dX4_rainsOn_40 (by decide) ?_
    refine lv_icmp_ne (tgt := 48) hx hb dX4_rainsOn_41 (by decide) (fun c_2 => ?_) (fun c_2 => ?_)
    · skip
      obtain ⟨-, h44, h44k⟩ := ((hI.st hj).resolve_left c_1).resolve_left c_2
      refine lv_aload_n hx hb dX4_rainsOn_48 rfl (lv_at hl 1 rfl) ?_
      refine g_get X cfX4 hw 0 0 rfl rfl q1834 rfl rfl dX4_rainsOn_49 ?_
      refine lv_sipush (v := 229) hx hb dX4_rainsOn_52 (by decide) ?_
      refine lv_bipush (v := 10) hx hb dX4_rainsOn_55 (by decide) ?_
      refine lv_aload_n hx hb dX4_rainsOn_57 rfl (lv_at hl 1 rfl) ?_
      refine g_get X cfX4 hw 0 0 rfl rfl q1834 rfl rfl dX4_rainsOn_58 ?_
      refine lv_bipush (v := 44) hx hb dX4_rainsOn_61 (by decide) ?_
      refine lv_iload_n hx hb dX4_rainsOn_63 rfl (lv_at hl 2 rfl) ?_
      refine lv_iadd hx hb dX4_rainsOn_64 ?_
      refine g_addN (a := 44) (b := j) ?_
      refine g_iald X hw 1 rfl (i := 44 + j) (by omega) (by first | decide | omega) dX4_rainsOn_65 ?_
      refine lv_imul hx hb dX4_rainsOn_66 ?_
      refine g_mulE (a := 10) (b := nn g (44 + j)) rfl h44 ?_
      refine lv_iadd hx hb dX4_rainsOn_67 ?_
      refine g_addN (a := 229) (b := 10 * (nn g (44 + j))) ?_
      refine g_iald X hw 1 rfl (i := 229 + (10 * (nn g (44 + j)))) (by omega) (by first | decide | omega) dX4_rainsOn_68 ?_
      refine lv_istore_n (lv' := [(3, .int (g (229 + (10 * (nn g (44 + j)))))), (2, .int (10 * (g 1))), (0, .ref mo), (1, .int (nI j))]) hx hb dX4_rainsOn_69 rfl hl (by decide) rfl (fun ls hl => ?_)
      refine lv_iconst (v := 3) hx hb dX4_rainsOn_70 (by decide) ?_
      refine lv_iload_n hx hb dX4_rainsOn_71 rfl (lv_at hl 0 rfl) ?_
      refine lv_imul hx hb dX4_rainsOn_72 ?_
      refine lv_iload_n hx hb dX4_rainsOn_73 rfl (lv_at hl 1 rfl) ?_
      refine lv_icmp_ge (tgt := 83) hx hb dX4_rainsOn_74 (by decide) (fun c_3 => ?_) (fun c_3 => ?_)
      · skip
        have c_3 := Int32.not_lt.mpr c_3
        refine lv_iload_n hx hb dX4_rainsOn_83 rfl (lv_at hl 1 rfl) ?_
        refine lv_istore (lv' := [(4, .int (10 * (g 1))), (3, .int (g (229 + (10 * (nn g (44 + j)))))), (2, .int (10 * (g 1))), (0, .ref mo), (1, .int (nI j))]) hx hb dX4_rainsOn_84 hl (by decide) rfl (fun ls hl => ?_)
        refine lv_aload_n hx hb dX4_rainsOn_86 rfl (lv_at hl 3 rfl) ?_
        refine g_get X cfX4 hw 0 0 rfl rfl q1834 rfl rfl dX4_rainsOn_87 ?_
        refine lv_bipush (v := 7) hx hb dX4_rainsOn_90 (by decide) ?_
        refine lv_dup2_11 hx hb dX4_rainsOn_92 rfl rfl ?_
        refine g_iald X hw 1 rfl (i := 7) (by decide) (by decide) dX4_rainsOn_93 ?_
        refine lv_iload_n hx hb dX4_rainsOn_94 rfl (lv_at hl 2 rfl) ?_
        refine lv_iadd hx hb dX4_rainsOn_95 ?_
        refine g_iast (ws' := (mo, .inr (4, [.ref ag, .ref ab, .ref ah, .int ch, .ref asv, .int hs, .ref ai, .int ty, .int wy, .int wd, .ref al, .int li, .int pl, .int iw, .ref at_])) :: (ag, .inl (dA 0, 310, .inl (upd g 7 ((g 7) + (10 * (g 1)))))) :: R) X hw 1 rfl (i := 7) (by decide) (by decide) rfl dX4_rainsOn_96 (fun H locs hw => ?_)
        refine lv_aload_n hx hb dX4_rainsOn_97 rfl (lv_at hl 3 rfl) ?_
        refine g_get X cfX4 hw 0 0 rfl rfl q1834 rfl rfl dX4_rainsOn_98 ?_
        refine lv_bipush (v := 32) hx hb dX4_rainsOn_101 (by decide) ?_
        refine lv_iload_n hx hb dX4_rainsOn_103 rfl (lv_at hl 4 rfl) ?_
        refine lv_iadd hx hb dX4_rainsOn_104 ?_
        refine g_addN (a := 32) (b := j) ?_
        refine lv_dup2_11 hx hb dX4_rainsOn_105 rfl rfl ?_
        refine g_iald X hw 1 rfl (i := 32 + j) (by omega) (by first | decide | omega) dX4_rainsOn_106 ?_
        refine g_top (y := g (32 + j)) (upd_n (by omega)) ?_
        refine lv_iload hx hb dX4_rainsOn_107 (lv_at hl 0 rfl) ?_
        refine lv_iadd hx hb dX4_rainsOn_109 ?_
        refine g_iast (ws' := (mo, .inr (4, [.ref ag, .ref ab, .ref ah, .int ch, .ref asv, .int hs, .ref ai, .int ty, .int wy, .int wd, .ref al, .int li, .int pl, .int iw, .ref at_])) :: (ag, .inl (dA 0, 310, .inl (upd (upd g 7 ((g 7) + (10 * (g 1)))) (32 + j) ((g (32 + j)) + (10 * (g 1)))))) :: R) X hw 1 rfl (i := 32 + j) (by omega) (by first | decide | omega) rfl dX4_rainsOn_110 (fun H locs hw => ?_)
        refine lv_aload_n hx hb dX4_rainsOn_111 rfl (lv_at hl 3 rfl) ?_
        refine g_get X cfX4 hw 0 0 rfl rfl q1834 rfl rfl dX4_rainsOn_112 ?_
        refine lv_bipush (v := 38) hx hb dX4_rainsOn_115 (by decide) ?_
        refine lv_iload_n hx hb dX4_rainsOn_117 rfl (lv_at hl 4 rfl) ?_
        refine lv_iadd hx hb dX4_rainsOn_118 ?_
        refine g_addN (a := 38) (b := j) ?_
        refine lv_dup2_11 hx hb dX4_rainsOn_119 rfl rfl ?_
        refine g_iald X hw 1 rfl (i := 38 + j) (by omega) (by first | decide | omega) dX4_rainsOn_120 ?_
        refine g_top (y := g (38 + j)) ((upd_n (by omega)).trans (upd_n (by omega))) ?_
        refine lv_iload_n hx hb dX4_rainsOn_121 rfl (lv_at hl 2 rfl) ?_
        refine lv_iload hx hb dX4_rainsOn_122 (lv_at hl 0 rfl) ?_
        refine lv_isub hx hb dX4_rainsOn_124 ?_
        refine lv_iadd hx hb dX4_rainsOn_125 ?_
        refine g_iast (ws' := (mo, .inr (4, [.ref ag, .ref ab, .ref ah, .int ch, .ref asv, .int hs, .ref ai, .int ty, .int wy, .int wd, .ref al, .int li, .int pl, .int iw, .ref at_])) :: (ag, .inl (dA 0, 310, .inl (upd (upd (upd g 7 ((g 7) + (10 * (g 1)))) (32 + j) ((g (32 + j)) + (10 * (g 1)))) (38 + j) ((g (38 + j)) + ((10 * (g 1)) - (10 * (g 1))))))) :: R) X hw 1 rfl (i := 38 + j) (by omega) (by first | decide | omega) rfl dX4_rainsOn_126 (fun H locs hw => ?_)
        refine lv_aload_n hx hb dX4_rainsOn_127 rfl (lv_at hl 3 rfl) ?_
        refine g_get X cfX4 hw 0 0 rfl rfl q1834 rfl rfl dX4_rainsOn_128 ?_
        refine lv_iconst (v := 1) hx hb dX4_rainsOn_131 (by decide) ?_
        refine g_iald X hw 1 rfl (i := 1) (by decide) (by decide) dX4_rainsOn_132 ?_
        refine g_top (y := g 1) ((upd_n (by omega)).trans ((upd_n (by omega)).trans (upd_n (by omega)))) ?_
        refine lv_iconst (v := 5) hx hb dX4_rainsOn_133 (by decide) ?_
        refine lv_icmp_lt (tgt := 217) hx hb dX4_rainsOn_134 (by decide) (fun c_4 => ?_) (fun c_4 => ?_)
        · skip
          refine lv_iload_n hx hb dX4_rainsOn_217 rfl (lv_at hl 2 rfl) ?_
          refine lv_iload hx hb dX4_rainsOn_218 (lv_at hl 0 rfl) ?_
          refine lv_isub hx hb dX4_rainsOn_220 ?_
          have hop0 : (10 * (g 1)) - (10 * (g 1)) = wallI g j := by simp [p_rainsOn, rain1, wallI, throughI, pointAt, c_1, c_2, c_3, c_4]
          have hop1 : upd (upd (upd g 7 ((g 7) + (10 * (g 1)))) (32 + j) ((g (32 + j)) + (10 * (g 1)))) (38 + j) ((g (38 + j)) + ((10 * (g 1)) - (10 * (g 1)))) = p_rainsOn g j := by simp [p_rainsOn, rain1, wallI, throughI, pointAt, c_1, c_2, c_3, c_4]
          exact g_iret (v := (10 * (g 1)) - (10 * (g 1))) () X hw hr hlocks  (by exact hop0) (by rw [← hop1]) dX4_rainsOn_221
        · skip
          refine lv_aload_n hx hb dX4_rainsOn_137 rfl (lv_at hl 3 rfl) ?_
          refine g_get X cfX4 hw 0 0 rfl rfl q1834 rfl rfl dX4_rainsOn_138 ?_
          refine lv_bipush (v := 14) hx hb dX4_rainsOn_141 (by decide) ?_
          refine lv_iload_n hx hb dX4_rainsOn_143 rfl (lv_at hl 4 rfl) ?_
          refine lv_iadd hx hb dX4_rainsOn_144 ?_
          refine g_addN (a := 14) (b := j) ?_
          refine g_iald X hw 1 rfl (i := 14 + j) (by omega) (by first | decide | omega) dX4_rainsOn_145 ?_
          refine g_top (y := g (14 + j)) ((upd_n (by omega)).trans ((upd_n (by omega)).trans (upd_n (by omega)))) ?_
          refine lv_if_ne (tgt := 217) hx hb dX4_rainsOn_146 (by decide) (fun c_5 => ?_) (fun c_5 => absurd c_5 (c_1))
          refine lv_iload_n hx hb dX4_rainsOn_217 rfl (lv_at hl 2 rfl) ?_
          refine lv_iload hx hb dX4_rainsOn_218 (lv_at hl 0 rfl) ?_
          refine lv_isub hx hb dX4_rainsOn_220 ?_
          have hop0 : (10 * (g 1)) - (10 * (g 1)) = wallI g j := by simp [p_rainsOn, rain1, wallI, throughI, pointAt, c_1, c_2, c_3, c_4]
          have hop1 : upd (upd (upd g 7 ((g 7) + (10 * (g 1)))) (32 + j) ((g (32 + j)) + (10 * (g 1)))) (38 + j) ((g (38 + j)) + ((10 * (g 1)) - (10 * (g 1)))) = p_rainsOn g j := by simp [p_rainsOn, rain1, wallI, throughI, pointAt, c_1, c_2, c_3, c_4]
          exact g_iret (v := (10 * (g 1)) - (10 * (g 1))) () X hw hr hlocks  (by exact hop0) (by rw [← hop1]) dX4_rainsOn_221
      · skip
        have c_3 := Int32.not_le.mp c_3
        refine lv_iconst (v := 3) hx hb dX4_rainsOn_77 (by decide) ?_
        refine lv_iload_n hx hb dX4_rainsOn_78 rfl (lv_at hl 0 rfl) ?_
        refine lv_imul hx hb dX4_rainsOn_79 ?_
        refine lv_goto (tgt := 84) hx hb dX4_rainsOn_80 (by decide) ?_
        refine lv_istore (lv' := [(4, .int (3 * (g (229 + (10 * (nn g (44 + j))))))), (3, .int (g (229 + (10 * (nn g (44 + j)))))), (2, .int (10 * (g 1))), (0, .ref mo), (1, .int (nI j))]) hx hb dX4_rainsOn_84 hl (by decide) rfl (fun ls hl => ?_)
        refine lv_aload_n hx hb dX4_rainsOn_86 rfl (lv_at hl 3 rfl) ?_
        refine g_get X cfX4 hw 0 0 rfl rfl q1834 rfl rfl dX4_rainsOn_87 ?_
        refine lv_bipush (v := 7) hx hb dX4_rainsOn_90 (by decide) ?_
        refine lv_dup2_11 hx hb dX4_rainsOn_92 rfl rfl ?_
        refine g_iald X hw 1 rfl (i := 7) (by decide) (by decide) dX4_rainsOn_93 ?_
        refine lv_iload_n hx hb dX4_rainsOn_94 rfl (lv_at hl 2 rfl) ?_
        refine lv_iadd hx hb dX4_rainsOn_95 ?_
        refine g_iast (ws' := (mo, .inr (4, [.ref ag, .ref ab, .ref ah, .int ch, .ref asv, .int hs, .ref ai, .int ty, .int wy, .int wd, .ref al, .int li, .int pl, .int iw, .ref at_])) :: (ag, .inl (dA 0, 310, .inl (upd g 7 ((g 7) + (10 * (g 1)))))) :: R) X hw 1 rfl (i := 7) (by decide) (by decide) rfl dX4_rainsOn_96 (fun H locs hw => ?_)
        refine lv_aload_n hx hb dX4_rainsOn_97 rfl (lv_at hl 3 rfl) ?_
        refine g_get X cfX4 hw 0 0 rfl rfl q1834 rfl rfl dX4_rainsOn_98 ?_
        refine lv_bipush (v := 32) hx hb dX4_rainsOn_101 (by decide) ?_
        refine lv_iload_n hx hb dX4_rainsOn_103 rfl (lv_at hl 4 rfl) ?_
        refine lv_iadd hx hb dX4_rainsOn_104 ?_
        refine g_addN (a := 32) (b := j) ?_
        refine lv_dup2_11 hx hb dX4_rainsOn_105 rfl rfl ?_
        refine g_iald X hw 1 rfl (i := 32 + j) (by omega) (by first | decide | omega) dX4_rainsOn_106 ?_
        refine g_top (y := g (32 + j)) (upd_n (by omega)) ?_
        refine lv_iload hx hb dX4_rainsOn_107 (lv_at hl 0 rfl) ?_
        refine lv_iadd hx hb dX4_rainsOn_109 ?_
        refine g_iast (ws' := (mo, .inr (4, [.ref ag, .ref ab, .ref ah, .int ch, .ref asv, .int hs, .ref ai, .int ty, .int wy, .int wd, .ref al, .int li, .int pl, .int iw, .ref at_])) :: (ag, .inl (dA 0, 310, .inl (upd (upd g 7 ((g 7) + (10 * (g 1)))) (32 + j) ((g (32 + j)) + (3 * (g (229 + (10 * (nn g (44 + j)))))))))) :: R) X hw 1 rfl (i := 32 + j) (by omega) (by first | decide | omega) rfl dX4_rainsOn_110 (fun H locs hw => ?_)
        refine lv_aload_n hx hb dX4_rainsOn_111 rfl (lv_at hl 3 rfl) ?_
        refine g_get X cfX4 hw 0 0 rfl rfl q1834 rfl rfl dX4_rainsOn_112 ?_
        refine lv_bipush (v := 38) hx hb dX4_rainsOn_115 (by decide) ?_
        refine lv_iload_n hx hb dX4_rainsOn_117 rfl (lv_at hl 4 rfl) ?_
        refine lv_iadd hx hb dX4_rainsOn_118 ?_
        refine g_addN (a := 38) (b := j) ?_
        refine lv_dup2_11 hx hb dX4_rainsOn_119 rfl rfl ?_
        refine g_iald X hw 1 rfl (i := 38 + j) (by omega) (by first | decide | omega) dX4_rainsOn_120 ?_
        refine g_top (y := g (38 + j)) ((upd_n (by omega)).trans (upd_n (by omega))) ?_
        refine lv_iload_n hx hb dX4_rainsOn_121 rfl (lv_at hl 2 rfl) ?_
        refine lv_iload hx hb dX4_rainsOn_122 (lv_at hl 0 rfl) ?_
        refine lv_isub hx hb dX4_rainsOn_124 ?_
        refine lv_iadd hx hb dX4_rainsOn_125 ?_
        refine g_iast (ws' := (mo, .inr (4, [.ref ag, .ref ab, .ref ah, .int ch, .ref asv, .int hs, .ref ai, .int ty, .int wy, .int wd, .ref al, .int li, .int pl, .int iw, .ref at_])) :: (ag, .inl (dA 0, 310, .inl (upd (upd (upd g 7 ((g 7) + (10 * (g 1)))) (32 + j) ((g (32 + j)) + (3 * (g (229 + (10 * (nn g (44 + j)))))))) (38 + j) ((g (38 + j)) + ((10 * (g 1)) - (3 * (g (229 + (10 * (nn g (44 + j))))))))))) :: R) X hw 1 rfl (i := 38 + j) (by omega) (by first | decide | omega) rfl dX4_rainsOn_126 (fun H locs hw => ?_)
        refine lv_aload_n hx hb dX4_rainsOn_127 rfl (lv_at hl 3 rfl) ?_
        refine g_get X cfX4 hw 0 0 rfl rfl q1834 rfl rfl dX4_rainsOn_128 ?_
        refine lv_iconst (v := 1) hx hb dX4_rainsOn_131 (by decide) ?_
        refine g_iald X hw 1 rfl (i := 1) (by decide) (by decide) dX4_rainsOn_132 ?_
        refine g_top (y := g 1) ((upd_n (by omega)).trans ((upd_n (by omega)).trans (upd_n (by omega)))) ?_
        refine lv_iconst (v := 5) hx hb dX4_rainsOn_133 (by decide) ?_
        refine lv_icmp_lt (tgt := 217) hx hb dX4_rainsOn_134 (by decide) (fun c_6 => ?_) (fun c_6 => ?_)
        · skip
          refine lv_iload_n hx hb dX4_rainsOn_217 rfl (lv_at hl 2 rfl) ?_
          refine lv_iload hx hb dX4_rainsOn_218 (lv_at hl 0 rfl) ?_
          refine lv_isub hx hb dX4_rainsOn_220 ?_
          have hop0 : (10 * (g 1)) - (3 * (g (229 + (10 * (nn g (44 + j)))))) = wallI g j := by simp [p_rainsOn, rain1, wallI, throughI, pointAt, c_1, c_2, c_3, c_6]
          have hop1 : upd (upd (upd g 7 ((g 7) + (10 * (g 1)))) (32 + j) ((g (32 + j)) + (3 * (g (229 + (10 * (nn g (44 + j)))))))) (38 + j) ((g (38 + j)) + ((10 * (g 1)) - (3 * (g (229 + (10 * (nn g (44 + j)))))))) = p_rainsOn g j := by simp [p_rainsOn, rain1, wallI, throughI, pointAt, c_1, c_2, c_3, c_6]
          exact g_iret (v := (10 * (g 1)) - (3 * (g (229 + (10 * (nn g (44 + j))))))) () X hw hr hlocks  (by exact hop0) (by rw [← hop1]) dX4_rainsOn_221
        · skip
          refine lv_aload_n hx hb dX4_rainsOn_137 rfl (lv_at hl 3 rfl) ?_
          refine g_get X cfX4 hw 0 0 rfl rfl q1834 rfl rfl dX4_rainsOn_138 ?_
          refine lv_bipush (v := 14) hx hb dX4_rainsOn_141 (by decide) ?_
          refine lv_iload_n hx hb dX4_rainsOn_143 rfl (lv_at hl 4 rfl) ?_
          refine lv_iadd hx hb dX4_rainsOn_144 ?_
          refine g_addN (a := 14) (b := j) ?_
          refine g_iald X hw 1 rfl (i := 14 + j) (by omega) (by first | decide | omega) dX4_rainsOn_145 ?_
          refine g_top (y := g (14 + j)) ((upd_n (by omega)).trans ((upd_n (by omega)).trans (upd_n (by omega)))) ?_
          refine lv_if_ne (tgt := 217) hx hb dX4_rainsOn_146 (by decide) (fun c_7 => ?_) (fun c_7 => absurd c_7 (c_1))
          refine lv_iload_n hx hb dX4_rainsOn_217 rfl (lv_at hl 2 rfl) ?_
          refine lv_iload hx hb dX4_rainsOn_218 (lv_at hl 0 rfl) ?_
          refine lv_isub hx hb dX4_rainsOn_220 ?_
          have hop0 : (10 * (g 1)) - (3 * (g (229 + (10 * (nn g (44 + j)))))) = wallI g j := by simp [p_rainsOn, rain1, wallI, throughI, pointAt, c_1, c_2, c_3, c_6]
          have hop1 : upd (upd (upd g 7 ((g 7) + (10 * (g 1)))) (32 + j) ((g (32 + j)) + (3 * (g (229 + (10 * (nn g (44 + j)))))))) (38 + j) ((g (38 + j)) + ((10 * (g 1)) - (3 * (g (229 + (10 * (nn g (44 + j)))))))) = p_rainsOn g j := by simp [p_rainsOn, rain1, wallI, throughI, pointAt, c_1, c_2, c_3, c_6]
          exact g_iret (v := (10 * (g 1)) - (3 * (g (229 + (10 * (nn g (44 + j))))))) () X hw hr hlocks  (by exact hop0) (by rw [← hop1]) dX4_rainsOn_221
    · skip
      refine lv_iconst (v := 0) hx hb dX4_rainsOn_44 (by decide) ?_
      refine lv_goto (tgt := 69) hx hb dX4_rainsOn_45 (by decide) ?_
      refine lv_istore_n (lv' := [(3, .int 0), (2, .int (10 * (g 1))), (0, .ref mo), (1, .int (nI j))]) hx hb dX4_rainsOn_69 rfl hl (by decide) rfl (fun ls hl => ?_)
      refine lv_iconst (v := 3) hx hb dX4_rainsOn_70 (by decide) ?_
      refine lv_iload_n hx hb dX4_rainsOn_71 rfl (lv_at hl 0 rfl) ?_
      refine lv_imul hx hb dX4_rainsOn_72 ?_
      refine g_top (y := 0) (by decide) ?_
      refine lv_iload_n hx hb dX4_rainsOn_73 rfl (lv_at hl 1 rfl) ?_
      refine lv_icmp_ge (tgt := 83) hx hb dX4_rainsOn_74 (by decide) (fun c_8 => ?_) (fun c_8 => ?_)
      · skip
        have c_8 := Int32.not_lt.mpr c_8
        refine lv_iload_n hx hb dX4_rainsOn_83 rfl (lv_at hl 1 rfl) ?_
        refine lv_istore (lv' := [(4, .int (10 * (g 1))), (3, .int 0), (2, .int (10 * (g 1))), (0, .ref mo), (1, .int (nI j))]) hx hb dX4_rainsOn_84 hl (by decide) rfl (fun ls hl => ?_)
        refine lv_aload_n hx hb dX4_rainsOn_86 rfl (lv_at hl 3 rfl) ?_
        refine g_get X cfX4 hw 0 0 rfl rfl q1834 rfl rfl dX4_rainsOn_87 ?_
        refine lv_bipush (v := 7) hx hb dX4_rainsOn_90 (by decide) ?_
        refine lv_dup2_11 hx hb dX4_rainsOn_92 rfl rfl ?_
        refine g_iald X hw 1 rfl (i := 7) (by decide) (by decide) dX4_rainsOn_93 ?_
        refine lv_iload_n hx hb dX4_rainsOn_94 rfl (lv_at hl 2 rfl) ?_
        refine lv_iadd hx hb dX4_rainsOn_95 ?_
        refine g_iast (ws' := (mo, .inr (4, [.ref ag, .ref ab, .ref ah, .int ch, .ref asv, .int hs, .ref ai, .int ty, .int wy, .int wd, .ref al, .int li, .int pl, .int iw, .ref at_])) :: (ag, .inl (dA 0, 310, .inl (upd g 7 ((g 7) + (10 * (g 1)))))) :: R) X hw 1 rfl (i := 7) (by decide) (by decide) rfl dX4_rainsOn_96 (fun H locs hw => ?_)
        refine lv_aload_n hx hb dX4_rainsOn_97 rfl (lv_at hl 3 rfl) ?_
        refine g_get X cfX4 hw 0 0 rfl rfl q1834 rfl rfl dX4_rainsOn_98 ?_
        refine lv_bipush (v := 32) hx hb dX4_rainsOn_101 (by decide) ?_
        refine lv_iload_n hx hb dX4_rainsOn_103 rfl (lv_at hl 4 rfl) ?_
        refine lv_iadd hx hb dX4_rainsOn_104 ?_
        refine g_addN (a := 32) (b := j) ?_
        refine lv_dup2_11 hx hb dX4_rainsOn_105 rfl rfl ?_
        refine g_iald X hw 1 rfl (i := 32 + j) (by omega) (by first | decide | omega) dX4_rainsOn_106 ?_
        refine g_top (y := g (32 + j)) (upd_n (by omega)) ?_
        refine lv_iload hx hb dX4_rainsOn_107 (lv_at hl 0 rfl) ?_
        refine lv_iadd hx hb dX4_rainsOn_109 ?_
        refine g_iast (ws' := (mo, .inr (4, [.ref ag, .ref ab, .ref ah, .int ch, .ref asv, .int hs, .ref ai, .int ty, .int wy, .int wd, .ref al, .int li, .int pl, .int iw, .ref at_])) :: (ag, .inl (dA 0, 310, .inl (upd (upd g 7 ((g 7) + (10 * (g 1)))) (32 + j) ((g (32 + j)) + (10 * (g 1)))))) :: R) X hw 1 rfl (i := 32 + j) (by omega) (by first | decide | omega) rfl dX4_rainsOn_110 (fun H locs hw => ?_)
        refine lv_aload_n hx hb dX4_rainsOn_111 rfl (lv_at hl 3 rfl) ?_
        refine g_get X cfX4 hw 0 0 rfl rfl q1834 rfl rfl dX4_rainsOn_112 ?_
        refine lv_bipush (v := 38) hx hb dX4_rainsOn_115 (by decide) ?_
        refine lv_iload_n hx hb dX4_rainsOn_117 rfl (lv_at hl 4 rfl) ?_
        refine lv_iadd hx hb dX4_rainsOn_118 ?_
        refine g_addN (a := 38) (b := j) ?_
        refine lv_dup2_11 hx hb dX4_rainsOn_119 rfl rfl ?_
        refine g_iald X hw 1 rfl (i := 38 + j) (by omega) (by first | decide | omega) dX4_rainsOn_120 ?_
        refine g_top (y := g (38 + j)) ((upd_n (by omega)).trans (upd_n (by omega))) ?_
        refine lv_iload_n hx hb dX4_rainsOn_121 rfl (lv_at hl 2 rfl) ?_
        refine lv_iload hx hb dX4_rainsOn_122 (lv_at hl 0 rfl) ?_
        refine lv_isub hx hb dX4_rainsOn_124 ?_
        refine lv_iadd hx hb dX4_rainsOn_125 ?_
        refine g_iast (ws' := (mo, .inr (4, [.ref ag, .ref ab, .ref ah, .int ch, .ref asv, .int hs, .ref ai, .int ty, .int wy, .int wd, .ref al, .int li, .int pl, .int iw, .ref at_])) :: (ag, .inl (dA 0, 310, .inl (upd (upd (upd g 7 ((g 7) + (10 * (g 1)))) (32 + j) ((g (32 + j)) + (10 * (g 1)))) (38 + j) ((g (38 + j)) + ((10 * (g 1)) - (10 * (g 1))))))) :: R) X hw 1 rfl (i := 38 + j) (by omega) (by first | decide | omega) rfl dX4_rainsOn_126 (fun H locs hw => ?_)
        refine lv_aload_n hx hb dX4_rainsOn_127 rfl (lv_at hl 3 rfl) ?_
        refine g_get X cfX4 hw 0 0 rfl rfl q1834 rfl rfl dX4_rainsOn_128 ?_
        refine lv_iconst (v := 1) hx hb dX4_rainsOn_131 (by decide) ?_
        refine g_iald X hw 1 rfl (i := 1) (by decide) (by decide) dX4_rainsOn_132 ?_
        refine g_top (y := g 1) ((upd_n (by omega)).trans ((upd_n (by omega)).trans (upd_n (by omega)))) ?_
        refine lv_iconst (v := 5) hx hb dX4_rainsOn_133 (by decide) ?_
        refine lv_icmp_lt (tgt := 217) hx hb dX4_rainsOn_134 (by decide) (fun c_9 => ?_) (fun c_9 => ?_)
        · skip
          refine lv_iload_n hx hb dX4_rainsOn_217 rfl (lv_at hl 2 rfl) ?_
          refine lv_iload hx hb dX4_rainsOn_218 (lv_at hl 0 rfl) ?_
          refine lv_isub hx hb dX4_rainsOn_220 ?_
          have hop0 : (10 * (g 1)) - (10 * (g 1)) = wallI g j := by simp [p_rainsOn, rain1, wallI, throughI, pointAt, c_1, c_2, c_8, c_9]
          have hop1 : upd (upd (upd g 7 ((g 7) + (10 * (g 1)))) (32 + j) ((g (32 + j)) + (10 * (g 1)))) (38 + j) ((g (38 + j)) + ((10 * (g 1)) - (10 * (g 1)))) = p_rainsOn g j := by simp [p_rainsOn, rain1, wallI, throughI, pointAt, c_1, c_2, c_8, c_9]
          exact g_iret (v := (10 * (g 1)) - (10 * (g 1))) () X hw hr hlocks  (by exact hop0) (by rw [← hop1]) dX4_rainsOn_221
        · skip
          refine lv_aload_n hx hb dX4_rainsOn_137 rfl (lv_at hl 3 rfl) ?_
          refine g_get X cfX4 hw 0 0 rfl rfl q1834 rfl rfl dX4_rainsOn_138 ?_
          refine lv_bipush (v := 14) hx hb dX4_rainsOn_141 (by decide) ?_
          refine lv_iload_n hx hb dX4_rainsOn_143 rfl (lv_at hl 4 rfl) ?_
          refine lv_iadd hx hb dX4_rainsOn_144 ?_
          refine g_addN (a := 14) (b := j) ?_
          refine g_iald X hw 1 rfl (i := 14 + j) (by omega) (by first | decide | omega) dX4_rainsOn_145 ?_
          refine g_top (y := g (14 + j)) ((upd_n (by omega)).trans ((upd_n (by omega)).trans (upd_n (by omega)))) ?_
          refine lv_if_ne (tgt := 217) hx hb dX4_rainsOn_146 (by decide) (fun c_10 => ?_) (fun c_10 => absurd c_10 (c_1))
          refine lv_iload_n hx hb dX4_rainsOn_217 rfl (lv_at hl 2 rfl) ?_
          refine lv_iload hx hb dX4_rainsOn_218 (lv_at hl 0 rfl) ?_
          refine lv_isub hx hb dX4_rainsOn_220 ?_
          have hop0 : (10 * (g 1)) - (10 * (g 1)) = wallI g j := by simp [p_rainsOn, rain1, wallI, throughI, pointAt, c_1, c_2, c_8, c_9]
          have hop1 : upd (upd (upd g 7 ((g 7) + (10 * (g 1)))) (32 + j) ((g (32 + j)) + (10 * (g 1)))) (38 + j) ((g (38 + j)) + ((10 * (g 1)) - (10 * (g 1)))) = p_rainsOn g j := by simp [p_rainsOn, rain1, wallI, throughI, pointAt, c_1, c_2, c_8, c_9]
          exact g_iret (v := (10 * (g 1)) - (10 * (g 1))) () X hw hr hlocks  (by exact hop0) (by rw [← hop1]) dX4_rainsOn_221
      · skip
        have c_8 := Int32.not_le.mp c_8
        refine lv_iconst (v := 3) hx hb dX4_rainsOn_77 (by decide) ?_
        refine lv_iload_n hx hb dX4_rainsOn_78 rfl (lv_at hl 0 rfl) ?_
        refine lv_imul hx hb dX4_rainsOn_79 ?_
        refine g_top (y := 0) (by decide) ?_
        refine lv_goto (tgt := 84) hx hb dX4_rainsOn_80 (by decide) ?_
        refine lv_istore (lv' := [(4, .int 0), (3, .int 0), (2, .int (10 * (g 1))), (0, .ref mo), (1, .int (nI j))]) hx hb dX4_rainsOn_84 hl (by decide) rfl (fun ls hl => ?_)
        refine lv_aload_n hx hb dX4_rainsOn_86 rfl (lv_at hl 3 rfl) ?_
        refine g_get X cfX4 hw 0 0 rfl rfl q1834 rfl rfl dX4_rainsOn_87 ?_
        refine lv_bipush (v := 7) hx hb dX4_rainsOn_90 (by decide) ?_
        refine lv_dup2_11 hx hb dX4_rainsOn_92 rfl rfl ?_
        refine g_iald X hw 1 rfl (i := 7) (by decide) (by decide) dX4_rainsOn_93 ?_
        refine lv_iload_n hx hb dX4_rainsOn_94 rfl (lv_at hl 2 rfl) ?_
        refine lv_iadd hx hb dX4_rainsOn_95 ?_
        refine g_iast (ws' := (mo, .inr (4, [.ref ag, .ref ab, .ref ah, .int ch, .ref asv, .int hs, .ref ai, .int ty, .int wy, .int wd, .ref al, .int li, .int pl, .int iw, .ref at_])) :: (ag, .inl (dA 0, 310, .inl (upd g 7 ((g 7) + (10 * (g 1)))))) :: R) X hw 1 rfl (i := 7) (by decide) (by decide) rfl dX4_rainsOn_96 (fun H locs hw => ?_)
        refine lv_aload_n hx hb dX4_rainsOn_97 rfl (lv_at hl 3 rfl) ?_
        refine g_get X cfX4 hw 0 0 rfl rfl q1834 rfl rfl dX4_rainsOn_98 ?_
        refine lv_bipush (v := 32) hx hb dX4_rainsOn_101 (by decide) ?_
        refine lv_iload_n hx hb dX4_rainsOn_103 rfl (lv_at hl 4 rfl) ?_
        refine lv_iadd hx hb dX4_rainsOn_104 ?_
        refine g_addN (a := 32) (b := j) ?_
        refine lv_dup2_11 hx hb dX4_rainsOn_105 rfl rfl ?_
        refine g_iald X hw 1 rfl (i := 32 + j) (by omega) (by first | decide | omega) dX4_rainsOn_106 ?_
        refine g_top (y := g (32 + j)) (upd_n (by omega)) ?_
        refine lv_iload hx hb dX4_rainsOn_107 (lv_at hl 0 rfl) ?_
        refine lv_iadd hx hb dX4_rainsOn_109 ?_
        refine g_iast (ws' := (mo, .inr (4, [.ref ag, .ref ab, .ref ah, .int ch, .ref asv, .int hs, .ref ai, .int ty, .int wy, .int wd, .ref al, .int li, .int pl, .int iw, .ref at_])) :: (ag, .inl (dA 0, 310, .inl (upd (upd g 7 ((g 7) + (10 * (g 1)))) (32 + j) ((g (32 + j)) + 0)))) :: R) X hw 1 rfl (i := 32 + j) (by omega) (by first | decide | omega) rfl dX4_rainsOn_110 (fun H locs hw => ?_)
        refine lv_aload_n hx hb dX4_rainsOn_111 rfl (lv_at hl 3 rfl) ?_
        refine g_get X cfX4 hw 0 0 rfl rfl q1834 rfl rfl dX4_rainsOn_112 ?_
        refine lv_bipush (v := 38) hx hb dX4_rainsOn_115 (by decide) ?_
        refine lv_iload_n hx hb dX4_rainsOn_117 rfl (lv_at hl 4 rfl) ?_
        refine lv_iadd hx hb dX4_rainsOn_118 ?_
        refine g_addN (a := 38) (b := j) ?_
        refine lv_dup2_11 hx hb dX4_rainsOn_119 rfl rfl ?_
        refine g_iald X hw 1 rfl (i := 38 + j) (by omega) (by first | decide | omega) dX4_rainsOn_120 ?_
        refine g_top (y := g (38 + j)) ((upd_n (by omega)).trans (upd_n (by omega))) ?_
        refine lv_iload_n hx hb dX4_rainsOn_121 rfl (lv_at hl 2 rfl) ?_
        refine lv_iload hx hb dX4_rainsOn_122 (lv_at hl 0 rfl) ?_
        refine lv_isub hx hb dX4_rainsOn_124 ?_
        refine lv_iadd hx hb dX4_rainsOn_125 ?_
        refine g_iast (ws' := (mo, .inr (4, [.ref ag, .ref ab, .ref ah, .int ch, .ref asv, .int hs, .ref ai, .int ty, .int wy, .int wd, .ref al, .int li, .int pl, .int iw, .ref at_])) :: (ag, .inl (dA 0, 310, .inl (upd (upd (upd g 7 ((g 7) + (10 * (g 1)))) (32 + j) ((g (32 + j)) + 0)) (38 + j) ((g (38 + j)) + ((10 * (g 1)) - 0))))) :: R) X hw 1 rfl (i := 38 + j) (by omega) (by first | decide | omega) rfl dX4_rainsOn_126 (fun H locs hw => ?_)
        refine lv_aload_n hx hb dX4_rainsOn_127 rfl (lv_at hl 3 rfl) ?_
        refine g_get X cfX4 hw 0 0 rfl rfl q1834 rfl rfl dX4_rainsOn_128 ?_
        refine lv_iconst (v := 1) hx hb dX4_rainsOn_131 (by decide) ?_
        refine g_iald X hw 1 rfl (i := 1) (by decide) (by decide) dX4_rainsOn_132 ?_
        refine g_top (y := g 1) ((upd_n (by omega)).trans ((upd_n (by omega)).trans (upd_n (by omega)))) ?_
        refine lv_iconst (v := 5) hx hb dX4_rainsOn_133 (by decide) ?_
        refine lv_icmp_lt (tgt := 217) hx hb dX4_rainsOn_134 (by decide) (fun c_11 => ?_) (fun c_11 => ?_)
        · skip
          refine lv_iload_n hx hb dX4_rainsOn_217 rfl (lv_at hl 2 rfl) ?_
          refine lv_iload hx hb dX4_rainsOn_218 (lv_at hl 0 rfl) ?_
          refine lv_isub hx hb dX4_rainsOn_220 ?_
          have hop0 : (10 * (g 1)) - 0 = wallI g j := by simp [p_rainsOn, rain1, wallI, throughI, pointAt, c_1, c_2, c_8, c_11]
          have hop1 : upd (upd (upd g 7 ((g 7) + (10 * (g 1)))) (32 + j) ((g (32 + j)) + 0)) (38 + j) ((g (38 + j)) + ((10 * (g 1)) - 0)) = p_rainsOn g j := by simp [p_rainsOn, rain1, wallI, throughI, pointAt, c_1, c_2, c_8, c_11]
          exact g_iret (v := (10 * (g 1)) - 0) () X hw hr hlocks  (by exact hop0) (by rw [← hop1]) dX4_rainsOn_221
        · skip
          refine lv_aload_n hx hb dX4_rainsOn_137 rfl (lv_at hl 3 rfl) ?_
          refine g_get X cfX4 hw 0 0 rfl rfl q1834 rfl rfl dX4_rainsOn_138 ?_
          refine lv_bipush (v := 14) hx hb dX4_rainsOn_141 (by decide) ?_
          refine lv_iload_n hx hb dX4_rainsOn_143 rfl (lv_at hl 4 rfl) ?_
          refine lv_iadd hx hb dX4_rainsOn_144 ?_
          refine g_addN (a := 14) (b := j) ?_
          refine g_iald X hw 1 rfl (i := 14 + j) (by omega) (by first | decide | omega) dX4_rainsOn_145 ?_
          refine g_top (y := g (14 + j)) ((upd_n (by omega)).trans ((upd_n (by omega)).trans (upd_n (by omega)))) ?_
          refine lv_if_ne (tgt := 217) hx hb dX4_rainsOn_146 (by decide) (fun c_12 => ?_) (fun c_12 => absurd c_12 (c_1))
          refine lv_iload_n hx hb dX4_rainsOn_217 rfl (lv_at hl 2 rfl) ?_
          refine lv_iload hx hb dX4_rainsOn_218 (lv_at hl 0 rfl) ?_
          refine lv_isub hx hb dX4_rainsOn_220 ?_
          have hop0 : (10 * (g 1)) - 0 = wallI g j := by simp [p_rainsOn, rain1, wallI, throughI, pointAt, c_1, c_2, c_8, c_11]
          have hop1 : upd (upd (upd g 7 ((g 7) + (10 * (g 1)))) (32 + j) ((g (32 + j)) + 0)) (38 + j) ((g (38 + j)) + ((10 * (g 1)) - 0)) = p_rainsOn g j := by simp [p_rainsOn, rain1, wallI, throughI, pointAt, c_1, c_2, c_8, c_11]
          exact g_iret (v := (10 * (g 1)) - 0) () X hw hr hlocks  (by exact hop0) (by rw [← hop1]) dX4_rainsOn_221
  · skip
    refine lv_aload_n hx hb dX4_rainsOn_22 rfl (lv_at hl 1 rfl) ?_
    refine lv_iload_n hx hb dX4_rainsOn_23 rfl (lv_at hl 2 rfl) ?_
    refine lv_iconst (v := 0) hx hb dX4_rainsOn_24 (by decide) ?_
    refine va_calli (va_runV (As := [.int (nI j), .int 0]) (rest := []) X.1 (m_X4_depthOf l D dA A E hE R mo ag ab ah asv ai al at_ ch hs ty wy wd li pl iw g j 0 (by first | assumption | omega) (by first | assumption | omega)) (cwV 2 X.1.2.2.2.2 (lw_V q1901 q1903 qs24 q80 q1904) rfl rfl rfl (by decide +kernel) ⟨Nat.le_of_ble_eq_true rfl, Nat.le_of_ble_eq_true rfl⟩) (g_preV hE X.2 hw 0 rfl rfl) rfl rfl hl.1 rfl (lv_room (Nat.le_of_ble_eq_true rfl)) dX4_rainsOn_25 ⟨Nat.le_of_ble_eq_true rfl, Nat.le_of_ble_eq_true rfl⟩) hw.2.2 (fun q _ h => h) (fun q h => h) (fun r_14 u t H locs ht hvm h_13 hB hz9 hk9 hS => ?_)
    have hw : gW D A ((mo, .inr (4, [.ref ag, .ref ab, .ref ah, .int ch, .ref asv, .int hs, .ref ai, .int ty, .int wy, .int wd, .ref al, .int li, .int pl, .int iw, .ref at_])) :: (ag, .inl (dA 0, 310, .inl g)) :: R) s H locs := g_aft ht hB hS
    obtain rfl : r_14 = depthI g j 0 := h_13
    refine lv_goto (tgt := 69) hx hb dX4_rainsOn_28 (by decide) ?_
    refine lv_istore_n (lv' := [(3, .int (depthI g j 0)), (2, .int (10 * (g 1))), (0, .ref mo), (1, .int (nI j))]) hx hb dX4_rainsOn_69 rfl hl (by decide) rfl (fun ls hl => ?_)
    refine lv_iconst (v := 3) hx hb dX4_rainsOn_70 (by decide) ?_
    refine lv_iload_n hx hb dX4_rainsOn_71 rfl (lv_at hl 0 rfl) ?_
    refine lv_imul hx hb dX4_rainsOn_72 ?_
    refine lv_iload_n hx hb dX4_rainsOn_73 rfl (lv_at hl 1 rfl) ?_
    refine lv_icmp_ge (tgt := 83) hx hb dX4_rainsOn_74 (by decide) (fun c_15 => ?_) (fun c_15 => ?_)
    · skip
      have c_15 := Int32.not_lt.mpr c_15
      refine lv_iload_n hx hb dX4_rainsOn_83 rfl (lv_at hl 1 rfl) ?_
      refine lv_istore (lv' := [(4, .int (10 * (g 1))), (3, .int (depthI g j 0)), (2, .int (10 * (g 1))), (0, .ref mo), (1, .int (nI j))]) hx hb dX4_rainsOn_84 hl (by decide) rfl (fun ls hl => ?_)
      refine lv_aload_n hx hb dX4_rainsOn_86 rfl (lv_at hl 3 rfl) ?_
      refine g_get X cfX4 hw 0 0 rfl rfl q1834 rfl rfl dX4_rainsOn_87 ?_
      refine lv_bipush (v := 7) hx hb dX4_rainsOn_90 (by decide) ?_
      refine lv_dup2_11 hx hb dX4_rainsOn_92 rfl rfl ?_
      refine g_iald X hw 1 rfl (i := 7) (by decide) (by decide) dX4_rainsOn_93 ?_
      refine lv_iload_n hx hb dX4_rainsOn_94 rfl (lv_at hl 2 rfl) ?_
      refine lv_iadd hx hb dX4_rainsOn_95 ?_
      refine g_iast (ws' := (mo, .inr (4, [.ref ag, .ref ab, .ref ah, .int ch, .ref asv, .int hs, .ref ai, .int ty, .int wy, .int wd, .ref al, .int li, .int pl, .int iw, .ref at_])) :: (ag, .inl (dA 0, 310, .inl (upd g 7 ((g 7) + (10 * (g 1)))))) :: R) X hw 1 rfl (i := 7) (by decide) (by decide) rfl dX4_rainsOn_96 (fun H locs hw => ?_)
      refine lv_aload_n hx hb dX4_rainsOn_97 rfl (lv_at hl 3 rfl) ?_
      refine g_get X cfX4 hw 0 0 rfl rfl q1834 rfl rfl dX4_rainsOn_98 ?_
      refine lv_bipush (v := 32) hx hb dX4_rainsOn_101 (by decide) ?_
      refine lv_iload_n hx hb dX4_rainsOn_103 rfl (lv_at hl 4 rfl) ?_
      refine lv_iadd hx hb dX4_rainsOn_104 ?_
      refine g_addN (a := 32) (b := j) ?_
      refine lv_dup2_11 hx hb dX4_rainsOn_105 rfl rfl ?_
      refine g_iald X hw 1 rfl (i := 32 + j) (by omega) (by first | decide | omega) dX4_rainsOn_106 ?_
      refine g_top (y := g (32 + j)) (upd_n (by omega)) ?_
      refine lv_iload hx hb dX4_rainsOn_107 (lv_at hl 0 rfl) ?_
      refine lv_iadd hx hb dX4_rainsOn_109 ?_
      refine g_iast (ws' := (mo, .inr (4, [.ref ag, .ref ab, .ref ah, .int ch, .ref asv, .int hs, .ref ai, .int ty, .int wy, .int wd, .ref al, .int li, .int pl, .int iw, .ref at_])) :: (ag, .inl (dA 0, 310, .inl (upd (upd g 7 ((g 7) + (10 * (g 1)))) (32 + j) ((g (32 + j)) + (10 * (g 1)))))) :: R) X hw 1 rfl (i := 32 + j) (by omega) (by first | decide | omega) rfl dX4_rainsOn_110 (fun H locs hw => ?_)
      refine lv_aload_n hx hb dX4_rainsOn_111 rfl (lv_at hl 3 rfl) ?_
      refine g_get X cfX4 hw 0 0 rfl rfl q1834 rfl rfl dX4_rainsOn_112 ?_
      refine lv_bipush (v := 38) hx hb dX4_rainsOn_115 (by decide) ?_
      refine lv_iload_n hx hb dX4_rainsOn_117 rfl (lv_at hl 4 rfl) ?_
      refine lv_iadd hx hb dX4_rainsOn_118 ?_
      refine g_addN (a := 38) (b := j) ?_
      refine lv_dup2_11 hx hb dX4_rainsOn_119 rfl rfl ?_
      refine g_iald X hw 1 rfl (i := 38 + j) (by omega) (by first | decide | omega) dX4_rainsOn_120 ?_
      refine g_top (y := g (38 + j)) ((upd_n (by omega)).trans (upd_n (by omega))) ?_
      refine lv_iload_n hx hb dX4_rainsOn_121 rfl (lv_at hl 2 rfl) ?_
      refine lv_iload hx hb dX4_rainsOn_122 (lv_at hl 0 rfl) ?_
      refine lv_isub hx hb dX4_rainsOn_124 ?_
      refine lv_iadd hx hb dX4_rainsOn_125 ?_
      refine g_iast (ws' := (mo, .inr (4, [.ref ag, .ref ab, .ref ah, .int ch, .ref asv, .int hs, .ref ai, .int ty, .int wy, .int wd, .ref al, .int li, .int pl, .int iw, .ref at_])) :: (ag, .inl (dA 0, 310, .inl (upd (upd (upd g 7 ((g 7) + (10 * (g 1)))) (32 + j) ((g (32 + j)) + (10 * (g 1)))) (38 + j) ((g (38 + j)) + ((10 * (g 1)) - (10 * (g 1))))))) :: R) X hw 1 rfl (i := 38 + j) (by omega) (by first | decide | omega) rfl dX4_rainsOn_126 (fun H locs hw => ?_)
      refine lv_aload_n hx hb dX4_rainsOn_127 rfl (lv_at hl 3 rfl) ?_
      refine g_get X cfX4 hw 0 0 rfl rfl q1834 rfl rfl dX4_rainsOn_128 ?_
      refine lv_iconst (v := 1) hx hb dX4_rainsOn_131 (by decide) ?_
      refine g_iald X hw 1 rfl (i := 1) (by decide) (by decide) dX4_rainsOn_132 ?_
      refine g_top (y := g 1) ((upd_n (by omega)).trans ((upd_n (by omega)).trans (upd_n (by omega)))) ?_
      refine lv_iconst (v := 5) hx hb dX4_rainsOn_133 (by decide) ?_
      refine lv_icmp_lt (tgt := 217) hx hb dX4_rainsOn_134 (by decide) (fun c_16 => ?_) (fun c_16 => ?_)
      · skip
        refine lv_iload_n hx hb dX4_rainsOn_217 rfl (lv_at hl 2 rfl) ?_
        refine lv_iload hx hb dX4_rainsOn_218 (lv_at hl 0 rfl) ?_
        refine lv_isub hx hb dX4_rainsOn_220 ?_
        have hop0 : (10 * (g 1)) - (10 * (g 1)) = wallI g j := by simp [p_rainsOn, rain1, wallI, throughI, pointAt, c_1, c_15, c_16]
        have hop1 : upd (upd (upd g 7 ((g 7) + (10 * (g 1)))) (32 + j) ((g (32 + j)) + (10 * (g 1)))) (38 + j) ((g (38 + j)) + ((10 * (g 1)) - (10 * (g 1)))) = p_rainsOn g j := by simp [p_rainsOn, rain1, wallI, throughI, pointAt, c_1, c_15, c_16]
        exact g_iret (v := (10 * (g 1)) - (10 * (g 1))) () X hw hr hlocks  (by exact hop0) (by rw [← hop1]) dX4_rainsOn_221
      · skip
        refine lv_aload_n hx hb dX4_rainsOn_137 rfl (lv_at hl 3 rfl) ?_
        refine g_get X cfX4 hw 0 0 rfl rfl q1834 rfl rfl dX4_rainsOn_138 ?_
        refine lv_bipush (v := 14) hx hb dX4_rainsOn_141 (by decide) ?_
        refine lv_iload_n hx hb dX4_rainsOn_143 rfl (lv_at hl 4 rfl) ?_
        refine lv_iadd hx hb dX4_rainsOn_144 ?_
        refine g_addN (a := 14) (b := j) ?_
        refine g_iald X hw 1 rfl (i := 14 + j) (by omega) (by first | decide | omega) dX4_rainsOn_145 ?_
        refine g_top (y := g (14 + j)) ((upd_n (by omega)).trans ((upd_n (by omega)).trans (upd_n (by omega)))) ?_
        refine lv_if_ne (tgt := 217) hx hb dX4_rainsOn_146 (by decide) (fun c_17 => absurd (c_1) c_17) (fun c_17 => ?_)
        refine lv_aload_n hx hb dX4_rainsOn_149 rfl (lv_at hl 3 rfl) ?_
        refine g_get X cfX4 hw 0 0 rfl rfl q1834 rfl rfl dX4_rainsOn_150 ?_
        refine lv_bipush (v := 26) hx hb dX4_rainsOn_153 (by decide) ?_
        refine lv_iload_n hx hb dX4_rainsOn_155 rfl (lv_at hl 4 rfl) ?_
        refine lv_iadd hx hb dX4_rainsOn_156 ?_
        refine g_addN (a := 26) (b := j) ?_
        refine lv_dup2_11 hx hb dX4_rainsOn_157 rfl rfl ?_
        refine g_iald X hw 1 rfl (i := 26 + j) (by omega) (by first | decide | omega) dX4_rainsOn_158 ?_
        refine g_top (y := g (26 + j)) ((upd_n (by omega)).trans ((upd_n (by omega)).trans (upd_n (by omega)))) ?_
        refine lv_iconst (v := 1) hx hb dX4_rainsOn_159 (by decide) ?_
        refine lv_iadd hx hb dX4_rainsOn_160 ?_
        refine g_iast (ws' := (mo, .inr (4, [.ref ag, .ref ab, .ref ah, .int ch, .ref asv, .int hs, .ref ai, .int ty, .int wy, .int wd, .ref al, .int li, .int pl, .int iw, .ref at_])) :: (ag, .inl (dA 0, 310, .inl (upd (upd (upd (upd g 7 ((g 7) + (10 * (g 1)))) (32 + j) ((g (32 + j)) + (10 * (g 1)))) (38 + j) ((g (38 + j)) + ((10 * (g 1)) - (10 * (g 1))))) (26 + j) ((g (26 + j)) + 1)))) :: R) X hw 1 rfl (i := 26 + j) (by omega) (by first | decide | omega) rfl dX4_rainsOn_161 (fun H locs hw => ?_)
        refine lv_aload_n hx hb dX4_rainsOn_162 rfl (lv_at hl 3 rfl) ?_
        refine g_get X cfX4 hw 0 0 rfl rfl q1834 rfl rfl dX4_rainsOn_163 ?_
        refine lv_bipush (v := 26) hx hb dX4_rainsOn_166 (by decide) ?_
        refine lv_iload_n hx hb dX4_rainsOn_168 rfl (lv_at hl 4 rfl) ?_
        refine lv_iadd hx hb dX4_rainsOn_169 ?_
        refine g_addN (a := 26) (b := j) ?_
        refine g_iald X hw 1 rfl (i := 26 + j) (by omega) (by first | decide | omega) dX4_rainsOn_170 ?_
        refine g_top (y := (g (26 + j)) + 1) (upd_s) ?_
        refine lv_bipush (v := 8) hx hb dX4_rainsOn_171 (by decide) ?_
        refine lv_icmp_ne (tgt := 217) hx hb dX4_rainsOn_173 (by decide) (fun c_18 => ?_) (fun c_18 => ?_)
        · skip
          refine lv_iload_n hx hb dX4_rainsOn_217 rfl (lv_at hl 2 rfl) ?_
          refine lv_iload hx hb dX4_rainsOn_218 (lv_at hl 0 rfl) ?_
          refine lv_isub hx hb dX4_rainsOn_220 ?_
          have hop0 : (10 * (g 1)) - (10 * (g 1)) = wallI g j := by simp [p_rainsOn, rain1, wallI, throughI, pointAt, c_1, c_15, c_16, c_18]
          have hop1 : upd (upd (upd (upd g 7 ((g 7) + (10 * (g 1)))) (32 + j) ((g (32 + j)) + (10 * (g 1)))) (38 + j) ((g (38 + j)) + ((10 * (g 1)) - (10 * (g 1))))) (26 + j) ((g (26 + j)) + 1) = p_rainsOn g j := by simp [p_rainsOn, rain1, wallI, throughI, pointAt, c_1, c_15, c_16, c_18]
          exact g_iret (v := (10 * (g 1)) - (10 * (g 1))) () X hw hr hlocks  (by exact hop0) (by rw [← hop1]) dX4_rainsOn_221
        · skip
          refine lv_aload_n hx hb dX4_rainsOn_176 rfl (lv_at hl 3 rfl) ?_
          refine g_get X cfX4 hw 0 0 rfl rfl q1834 rfl rfl dX4_rainsOn_177 ?_
          refine lv_bipush (v := 26) hx hb dX4_rainsOn_180 (by decide) ?_
          refine lv_iload_n hx hb dX4_rainsOn_182 rfl (lv_at hl 4 rfl) ?_
          refine lv_iadd hx hb dX4_rainsOn_183 ?_
          refine g_addN (a := 26) (b := j) ?_
          refine lv_iconst (v := 0) hx hb dX4_rainsOn_184 (by decide) ?_
          refine g_iast (ws' := (mo, .inr (4, [.ref ag, .ref ab, .ref ah, .int ch, .ref asv, .int hs, .ref ai, .int ty, .int wy, .int wd, .ref al, .int li, .int pl, .int iw, .ref at_])) :: (ag, .inl (dA 0, 310, .inl (upd (upd (upd (upd (upd g 7 ((g 7) + (10 * (g 1)))) (32 + j) ((g (32 + j)) + (10 * (g 1)))) (38 + j) ((g (38 + j)) + ((10 * (g 1)) - (10 * (g 1))))) (26 + j) ((g (26 + j)) + 1)) (26 + j) 0))) :: R) X hw 1 rfl (i := 26 + j) (by omega) (by first | decide | omega) rfl dX4_rainsOn_185 (fun H locs hw => ?_)
          refine lv_aload_n hx hb dX4_rainsOn_186 rfl (lv_at hl 3 rfl) ?_
          refine g_get X cfX4 hw 0 0 rfl rfl q1834 rfl rfl dX4_rainsOn_187 ?_
          refine lv_bipush (v := 20) hx hb dX4_rainsOn_190 (by decide) ?_
          refine lv_iload_n hx hb dX4_rainsOn_192 rfl (lv_at hl 4 rfl) ?_
          refine lv_iadd hx hb dX4_rainsOn_193 ?_
          refine g_addN (a := 20) (b := j) ?_
          refine lv_dup2_11 hx hb dX4_rainsOn_194 rfl rfl ?_
          refine g_iald X hw 1 rfl (i := 20 + j) (by omega) (by first | decide | omega) dX4_rainsOn_195 ?_
          refine g_top (y := g (20 + j)) ((upd_n (by omega)).trans ((upd_n (by omega)).trans ((upd_n (by omega)).trans ((upd_n (by omega)).trans (upd_n (by omega)))))) ?_
          refine lv_aload_n hx hb dX4_rainsOn_196 rfl (lv_at hl 3 rfl) ?_
          refine g_get X cfX4 hw 0 0 rfl rfl q1834 rfl rfl dX4_rainsOn_197 ?_
          refine lv_bipush (v := 20) hx hb dX4_rainsOn_200 (by decide) ?_
          refine lv_iload_n hx hb dX4_rainsOn_202 rfl (lv_at hl 4 rfl) ?_
          refine lv_iadd hx hb dX4_rainsOn_203 ?_
          refine g_addN (a := 20) (b := j) ?_
          refine g_iald X hw 1 rfl (i := 20 + j) (by omega) (by first | decide | omega) dX4_rainsOn_204 ?_
          refine g_top (y := g (20 + j)) ((upd_n (by omega)).trans ((upd_n (by omega)).trans ((upd_n (by omega)).trans ((upd_n (by omega)).trans (upd_n (by omega)))))) ?_
          refine lv_bipush (v := 9) hx hb dX4_rainsOn_205 (by decide) ?_
          refine lv_icmp_ge (tgt := 214) hx hb dX4_rainsOn_207 (by decide) (fun c_19 => ?_) (fun c_19 => ?_)
          · skip
            have c_19 := Int32.not_lt.mpr c_19
            refine lv_iconst (v := 0) hx hb dX4_rainsOn_214 (by decide) ?_
            refine lv_iadd hx hb dX4_rainsOn_215 ?_
            refine g_iast (ws' := (mo, .inr (4, [.ref ag, .ref ab, .ref ah, .int ch, .ref asv, .int hs, .ref ai, .int ty, .int wy, .int wd, .ref al, .int li, .int pl, .int iw, .ref at_])) :: (ag, .inl (dA 0, 310, .inl (upd (upd (upd (upd (upd (upd g 7 ((g 7) + (10 * (g 1)))) (32 + j) ((g (32 + j)) + (10 * (g 1)))) (38 + j) ((g (38 + j)) + ((10 * (g 1)) - (10 * (g 1))))) (26 + j) ((g (26 + j)) + 1)) (26 + j) 0) (20 + j) ((g (20 + j)) + 0)))) :: R) X hw 1 rfl (i := 20 + j) (by omega) (by first | decide | omega) rfl dX4_rainsOn_216 (fun H locs hw => ?_)
            refine lv_iload_n hx hb dX4_rainsOn_217 rfl (lv_at hl 2 rfl) ?_
            refine lv_iload hx hb dX4_rainsOn_218 (lv_at hl 0 rfl) ?_
            refine lv_isub hx hb dX4_rainsOn_220 ?_
            have hop0 : (10 * (g 1)) - (10 * (g 1)) = wallI g j := by simp [p_rainsOn, rain1, wallI, throughI, pointAt, c_1, c_15, c_16, c_18, c_19]
            have hop1 : upd (upd (upd (upd (upd (upd g 7 ((g 7) + (10 * (g 1)))) (32 + j) ((g (32 + j)) + (10 * (g 1)))) (38 + j) ((g (38 + j)) + ((10 * (g 1)) - (10 * (g 1))))) (26 + j) ((g (26 + j)) + 1)) (26 + j) 0) (20 + j) ((g (20 + j)) + 0) = p_rainsOn g j := by simp [p_rainsOn, rain1, wallI, throughI, pointAt, c_1, c_15, c_16, c_18, c_19]
            exact g_iret (v := (10 * (g 1)) - (10 * (g 1))) () X hw hr hlocks  (by exact hop0) (by rw [← hop1]) dX4_rainsOn_221
          · skip
            have c_19 := Int32.not_le.mp c_19
            refine lv_iconst (v := 1) hx hb dX4_rainsOn_210 (by decide) ?_
            refine lv_goto (tgt := 215) hx hb dX4_rainsOn_211 (by decide) ?_
            refine lv_iadd hx hb dX4_rainsOn_215 ?_
            refine g_iast (ws' := (mo, .inr (4, [.ref ag, .ref ab, .ref ah, .int ch, .ref asv, .int hs, .ref ai, .int ty, .int wy, .int wd, .ref al, .int li, .int pl, .int iw, .ref at_])) :: (ag, .inl (dA 0, 310, .inl (upd (upd (upd (upd (upd (upd g 7 ((g 7) + (10 * (g 1)))) (32 + j) ((g (32 + j)) + (10 * (g 1)))) (38 + j) ((g (38 + j)) + ((10 * (g 1)) - (10 * (g 1))))) (26 + j) ((g (26 + j)) + 1)) (26 + j) 0) (20 + j) ((g (20 + j)) + 1)))) :: R) X hw 1 rfl (i := 20 + j) (by omega) (by first | decide | omega) rfl dX4_rainsOn_216 (fun H locs hw => ?_)
            refine lv_iload_n hx hb dX4_rainsOn_217 rfl (lv_at hl 2 rfl) ?_
            refine lv_iload hx hb dX4_rainsOn_218 (lv_at hl 0 rfl) ?_
            refine lv_isub hx hb dX4_rainsOn_220 ?_
            have hop0 : (10 * (g 1)) - (10 * (g 1)) = wallI g j := by simp [p_rainsOn, rain1, wallI, throughI, pointAt, c_1, c_15, c_16, c_18, c_19]
            have hop1 : upd (upd (upd (upd (upd (upd g 7 ((g 7) + (10 * (g 1)))) (32 + j) ((g (32 + j)) + (10 * (g 1)))) (38 + j) ((g (38 + j)) + ((10 * (g 1)) - (10 * (g 1))))) (26 + j) ((g (26 + j)) + 1)) (26 + j) 0) (20 + j) ((g (20 + j)) + 1) = p_rainsOn g j := by simp [p_rainsOn, rain1, wallI, throughI, pointAt, c_1, c_15, c_16, c_18, c_19]
            exact g_iret (v := (10 * (g 1)) - (10 * (g 1))) () X hw hr hlocks  (by exact hop0) (by rw [← hop1]) dX4_rainsOn_221
    · skip
      have c_15 := Int32.not_le.mp c_15
      refine lv_iconst (v := 3) hx hb dX4_rainsOn_77 (by decide) ?_
      refine lv_iload_n hx hb dX4_rainsOn_78 rfl (lv_at hl 0 rfl) ?_
      refine lv_imul hx hb dX4_rainsOn_79 ?_
      refine lv_goto (tgt := 84) hx hb dX4_rainsOn_80 (by decide) ?_
      refine lv_istore (lv' := [(4, .int (3 * (depthI g j 0))), (3, .int (depthI g j 0)), (2, .int (10 * (g 1))), (0, .ref mo), (1, .int (nI j))]) hx hb dX4_rainsOn_84 hl (by decide) rfl (fun ls hl => ?_)
      refine lv_aload_n hx hb dX4_rainsOn_86 rfl (lv_at hl 3 rfl) ?_
      refine g_get X cfX4 hw 0 0 rfl rfl q1834 rfl rfl dX4_rainsOn_87 ?_
      refine lv_bipush (v := 7) hx hb dX4_rainsOn_90 (by decide) ?_
      refine lv_dup2_11 hx hb dX4_rainsOn_92 rfl rfl ?_
      refine g_iald X hw 1 rfl (i := 7) (by decide) (by decide) dX4_rainsOn_93 ?_
      refine lv_iload_n hx hb dX4_rainsOn_94 rfl (lv_at hl 2 rfl) ?_
      refine lv_iadd hx hb dX4_rainsOn_95 ?_
      refine g_iast (ws' := (mo, .inr (4, [.ref ag, .ref ab, .ref ah, .int ch, .ref asv, .int hs, .ref ai, .int ty, .int wy, .int wd, .ref al, .int li, .int pl, .int iw, .ref at_])) :: (ag, .inl (dA 0, 310, .inl (upd g 7 ((g 7) + (10 * (g 1)))))) :: R) X hw 1 rfl (i := 7) (by decide) (by decide) rfl dX4_rainsOn_96 (fun H locs hw => ?_)
      refine lv_aload_n hx hb dX4_rainsOn_97 rfl (lv_at hl 3 rfl) ?_
      refine g_get X cfX4 hw 0 0 rfl rfl q1834 rfl rfl dX4_rainsOn_98 ?_
      refine lv_bipush (v := 32) hx hb dX4_rainsOn_101 (by decide) ?_
      refine lv_iload_n hx hb dX4_rainsOn_103 rfl (lv_at hl 4 rfl) ?_
      refine lv_iadd hx hb dX4_rainsOn_104 ?_
      refine g_addN (a := 32) (b := j) ?_
      refine lv_dup2_11 hx hb dX4_rainsOn_105 rfl rfl ?_
      refine g_iald X hw 1 rfl (i := 32 + j) (by omega) (by first | decide | omega) dX4_rainsOn_106 ?_
      refine g_top (y := g (32 + j)) (upd_n (by omega)) ?_
      refine lv_iload hx hb dX4_rainsOn_107 (lv_at hl 0 rfl) ?_
      refine lv_iadd hx hb dX4_rainsOn_109 ?_
      refine g_iast (ws' := (mo, .inr (4, [.ref ag, .ref ab, .ref ah, .int ch, .ref asv, .int hs, .ref ai, .int ty, .int wy, .int wd, .ref al, .int li, .int pl, .int iw, .ref at_])) :: (ag, .inl (dA 0, 310, .inl (upd (upd g 7 ((g 7) + (10 * (g 1)))) (32 + j) ((g (32 + j)) + (3 * (depthI g j 0)))))) :: R) X hw 1 rfl (i := 32 + j) (by omega) (by first | decide | omega) rfl dX4_rainsOn_110 (fun H locs hw => ?_)
      refine lv_aload_n hx hb dX4_rainsOn_111 rfl (lv_at hl 3 rfl) ?_
      refine g_get X cfX4 hw 0 0 rfl rfl q1834 rfl rfl dX4_rainsOn_112 ?_
      refine lv_bipush (v := 38) hx hb dX4_rainsOn_115 (by decide) ?_
      refine lv_iload_n hx hb dX4_rainsOn_117 rfl (lv_at hl 4 rfl) ?_
      refine lv_iadd hx hb dX4_rainsOn_118 ?_
      refine g_addN (a := 38) (b := j) ?_
      refine lv_dup2_11 hx hb dX4_rainsOn_119 rfl rfl ?_
      refine g_iald X hw 1 rfl (i := 38 + j) (by omega) (by first | decide | omega) dX4_rainsOn_120 ?_
      refine g_top (y := g (38 + j)) ((upd_n (by omega)).trans (upd_n (by omega))) ?_
      refine lv_iload_n hx hb dX4_rainsOn_121 rfl (lv_at hl 2 rfl) ?_
      refine lv_iload hx hb dX4_rainsOn_122 (lv_at hl 0 rfl) ?_
      refine lv_isub hx hb dX4_rainsOn_124 ?_
      refine lv_iadd hx hb dX4_rainsOn_125 ?_
      refine g_iast (ws' := (mo, .inr (4, [.ref ag, .ref ab, .ref ah, .int ch, .ref asv, .int hs, .ref ai, .int ty, .int wy, .int wd, .ref al, .int li, .int pl, .int iw, .ref at_])) :: (ag, .inl (dA 0, 310, .inl (upd (upd (upd g 7 ((g 7) + (10 * (g 1)))) (32 + j) ((g (32 + j)) + (3 * (depthI g j 0)))) (38 + j) ((g (38 + j)) + ((10 * (g 1)) - (3 * (depthI g j 0))))))) :: R) X hw 1 rfl (i := 38 + j) (by omega) (by first | decide | omega) rfl dX4_rainsOn_126 (fun H locs hw => ?_)
      refine lv_aload_n hx hb dX4_rainsOn_127 rfl (lv_at hl 3 rfl) ?_
      refine g_get X cfX4 hw 0 0 rfl rfl q1834 rfl rfl dX4_rainsOn_128 ?_
      refine lv_iconst (v := 1) hx hb dX4_rainsOn_131 (by decide) ?_
      refine g_iald X hw 1 rfl (i := 1) (by decide) (by decide) dX4_rainsOn_132 ?_
      refine g_top (y := g 1) ((upd_n (by omega)).trans ((upd_n (by omega)).trans (upd_n (by omega)))) ?_
      refine lv_iconst (v := 5) hx hb dX4_rainsOn_133 (by decide) ?_
      refine lv_icmp_lt (tgt := 217) hx hb dX4_rainsOn_134 (by decide) (fun c_20 => ?_) (fun c_20 => ?_)
      · skip
        refine lv_iload_n hx hb dX4_rainsOn_217 rfl (lv_at hl 2 rfl) ?_
        refine lv_iload hx hb dX4_rainsOn_218 (lv_at hl 0 rfl) ?_
        refine lv_isub hx hb dX4_rainsOn_220 ?_
        have hop0 : (10 * (g 1)) - (3 * (depthI g j 0)) = wallI g j := by simp [p_rainsOn, rain1, wallI, throughI, pointAt, c_1, c_15, c_20]
        have hop1 : upd (upd (upd g 7 ((g 7) + (10 * (g 1)))) (32 + j) ((g (32 + j)) + (3 * (depthI g j 0)))) (38 + j) ((g (38 + j)) + ((10 * (g 1)) - (3 * (depthI g j 0)))) = p_rainsOn g j := by simp [p_rainsOn, rain1, wallI, throughI, pointAt, c_1, c_15, c_20]
        exact g_iret (v := (10 * (g 1)) - (3 * (depthI g j 0))) () X hw hr hlocks  (by exact hop0) (by rw [← hop1]) dX4_rainsOn_221
      · skip
        refine lv_aload_n hx hb dX4_rainsOn_137 rfl (lv_at hl 3 rfl) ?_
        refine g_get X cfX4 hw 0 0 rfl rfl q1834 rfl rfl dX4_rainsOn_138 ?_
        refine lv_bipush (v := 14) hx hb dX4_rainsOn_141 (by decide) ?_
        refine lv_iload_n hx hb dX4_rainsOn_143 rfl (lv_at hl 4 rfl) ?_
        refine lv_iadd hx hb dX4_rainsOn_144 ?_
        refine g_addN (a := 14) (b := j) ?_
        refine g_iald X hw 1 rfl (i := 14 + j) (by omega) (by first | decide | omega) dX4_rainsOn_145 ?_
        refine g_top (y := g (14 + j)) ((upd_n (by omega)).trans ((upd_n (by omega)).trans (upd_n (by omega)))) ?_
        refine lv_if_ne (tgt := 217) hx hb dX4_rainsOn_146 (by decide) (fun c_21 => absurd (c_1) c_21) (fun c_21 => ?_)
        refine lv_aload_n hx hb dX4_rainsOn_149 rfl (lv_at hl 3 rfl) ?_
        refine g_get X cfX4 hw 0 0 rfl rfl q1834 rfl rfl dX4_rainsOn_150 ?_
        refine lv_bipush (v := 26) hx hb dX4_rainsOn_153 (by decide) ?_
        refine lv_iload_n hx hb dX4_rainsOn_155 rfl (lv_at hl 4 rfl) ?_
        refine lv_iadd hx hb dX4_rainsOn_156 ?_
        refine g_addN (a := 26) (b := j) ?_
        refine lv_dup2_11 hx hb dX4_rainsOn_157 rfl rfl ?_
        refine g_iald X hw 1 rfl (i := 26 + j) (by omega) (by first | decide | omega) dX4_rainsOn_158 ?_
        refine g_top (y := g (26 + j)) ((upd_n (by omega)).trans ((upd_n (by omega)).trans (upd_n (by omega)))) ?_
        refine lv_iconst (v := 1) hx hb dX4_rainsOn_159 (by decide) ?_
        refine lv_iadd hx hb dX4_rainsOn_160 ?_
        refine g_iast (ws' := (mo, .inr (4, [.ref ag, .ref ab, .ref ah, .int ch, .ref asv, .int hs, .ref ai, .int ty, .int wy, .int wd, .ref al, .int li, .int pl, .int iw, .ref at_])) :: (ag, .inl (dA 0, 310, .inl (upd (upd (upd (upd g 7 ((g 7) + (10 * (g 1)))) (32 + j) ((g (32 + j)) + (3 * (depthI g j 0)))) (38 + j) ((g (38 + j)) + ((10 * (g 1)) - (3 * (depthI g j 0))))) (26 + j) ((g (26 + j)) + 1)))) :: R) X hw 1 rfl (i := 26 + j) (by omega) (by first | decide | omega) rfl dX4_rainsOn_161 (fun H locs hw => ?_)
        refine lv_aload_n hx hb dX4_rainsOn_162 rfl (lv_at hl 3 rfl) ?_
        refine g_get X cfX4 hw 0 0 rfl rfl q1834 rfl rfl dX4_rainsOn_163 ?_
        refine lv_bipush (v := 26) hx hb dX4_rainsOn_166 (by decide) ?_
        refine lv_iload_n hx hb dX4_rainsOn_168 rfl (lv_at hl 4 rfl) ?_
        refine lv_iadd hx hb dX4_rainsOn_169 ?_
        refine g_addN (a := 26) (b := j) ?_
        refine g_iald X hw 1 rfl (i := 26 + j) (by omega) (by first | decide | omega) dX4_rainsOn_170 ?_
        refine g_top (y := (g (26 + j)) + 1) (upd_s) ?_
        refine lv_bipush (v := 8) hx hb dX4_rainsOn_171 (by decide) ?_
        refine lv_icmp_ne (tgt := 217) hx hb dX4_rainsOn_173 (by decide) (fun c_22 => ?_) (fun c_22 => ?_)
        · skip
          refine lv_iload_n hx hb dX4_rainsOn_217 rfl (lv_at hl 2 rfl) ?_
          refine lv_iload hx hb dX4_rainsOn_218 (lv_at hl 0 rfl) ?_
          refine lv_isub hx hb dX4_rainsOn_220 ?_
          have hop0 : (10 * (g 1)) - (3 * (depthI g j 0)) = wallI g j := by simp [p_rainsOn, rain1, wallI, throughI, pointAt, c_1, c_15, c_20, c_22]
          have hop1 : upd (upd (upd (upd g 7 ((g 7) + (10 * (g 1)))) (32 + j) ((g (32 + j)) + (3 * (depthI g j 0)))) (38 + j) ((g (38 + j)) + ((10 * (g 1)) - (3 * (depthI g j 0))))) (26 + j) ((g (26 + j)) + 1) = p_rainsOn g j := by simp [p_rainsOn, rain1, wallI, throughI, pointAt, c_1, c_15, c_20, c_22]
          exact g_iret (v := (10 * (g 1)) - (3 * (depthI g j 0))) () X hw hr hlocks  (by exact hop0) (by rw [← hop1]) dX4_rainsOn_221
        · skip
          refine lv_aload_n hx hb dX4_rainsOn_176 rfl (lv_at hl 3 rfl) ?_
          refine g_get X cfX4 hw 0 0 rfl rfl q1834 rfl rfl dX4_rainsOn_177 ?_
          refine lv_bipush (v := 26) hx hb dX4_rainsOn_180 (by decide) ?_
          refine lv_iload_n hx hb dX4_rainsOn_182 rfl (lv_at hl 4 rfl) ?_
          refine lv_iadd hx hb dX4_rainsOn_183 ?_
          refine g_addN (a := 26) (b := j) ?_
          refine lv_iconst (v := 0) hx hb dX4_rainsOn_184 (by decide) ?_
          refine g_iast (ws' := (mo, .inr (4, [.ref ag, .ref ab, .ref ah, .int ch, .ref asv, .int hs, .ref ai, .int ty, .int wy, .int wd, .ref al, .int li, .int pl, .int iw, .ref at_])) :: (ag, .inl (dA 0, 310, .inl (upd (upd (upd (upd (upd g 7 ((g 7) + (10 * (g 1)))) (32 + j) ((g (32 + j)) + (3 * (depthI g j 0)))) (38 + j) ((g (38 + j)) + ((10 * (g 1)) - (3 * (depthI g j 0))))) (26 + j) ((g (26 + j)) + 1)) (26 + j) 0))) :: R) X hw 1 rfl (i := 26 + j) (by omega) (by first | decide | omega) rfl dX4_rainsOn_185 (fun H locs hw => ?_)
          refine lv_aload_n hx hb dX4_rainsOn_186 rfl (lv_at hl 3 rfl) ?_
          refine g_get X cfX4 hw 0 0 rfl rfl q1834 rfl rfl dX4_rainsOn_187 ?_
          refine lv_bipush (v := 20) hx hb dX4_rainsOn_190 (by decide) ?_
          refine lv_iload_n hx hb dX4_rainsOn_192 rfl (lv_at hl 4 rfl) ?_
          refine lv_iadd hx hb dX4_rainsOn_193 ?_
          refine g_addN (a := 20) (b := j) ?_
          refine lv_dup2_11 hx hb dX4_rainsOn_194 rfl rfl ?_
          refine g_iald X hw 1 rfl (i := 20 + j) (by omega) (by first | decide | omega) dX4_rainsOn_195 ?_
          refine g_top (y := g (20 + j)) ((upd_n (by omega)).trans ((upd_n (by omega)).trans ((upd_n (by omega)).trans ((upd_n (by omega)).trans (upd_n (by omega)))))) ?_
          refine lv_aload_n hx hb dX4_rainsOn_196 rfl (lv_at hl 3 rfl) ?_
          refine g_get X cfX4 hw 0 0 rfl rfl q1834 rfl rfl dX4_rainsOn_197 ?_
          refine lv_bipush (v := 20) hx hb dX4_rainsOn_200 (by decide) ?_
          refine lv_iload_n hx hb dX4_rainsOn_202 rfl (lv_at hl 4 rfl) ?_
          refine lv_iadd hx hb dX4_rainsOn_203 ?_
          refine g_addN (a := 20) (b := j) ?_
          refine g_iald X hw 1 rfl (i := 20 + j) (by omega) (by first | decide | omega) dX4_rainsOn_204 ?_
          refine g_top (y := g (20 + j)) ((upd_n (by omega)).trans ((upd_n (by omega)).trans ((upd_n (by omega)).trans ((upd_n (by omega)).trans (upd_n (by omega)))))) ?_
          refine lv_bipush (v := 9) hx hb dX4_rainsOn_205 (by decide) ?_
          refine lv_icmp_ge (tgt := 214) hx hb dX4_rainsOn_207 (by decide) (fun c_23 => ?_) (fun c_23 => ?_)
          · skip
            have c_23 := Int32.not_lt.mpr c_23
            refine lv_iconst (v := 0) hx hb dX4_rainsOn_214 (by decide) ?_
            refine lv_iadd hx hb dX4_rainsOn_215 ?_
            refine g_iast (ws' := (mo, .inr (4, [.ref ag, .ref ab, .ref ah, .int ch, .ref asv, .int hs, .ref ai, .int ty, .int wy, .int wd, .ref al, .int li, .int pl, .int iw, .ref at_])) :: (ag, .inl (dA 0, 310, .inl (upd (upd (upd (upd (upd (upd g 7 ((g 7) + (10 * (g 1)))) (32 + j) ((g (32 + j)) + (3 * (depthI g j 0)))) (38 + j) ((g (38 + j)) + ((10 * (g 1)) - (3 * (depthI g j 0))))) (26 + j) ((g (26 + j)) + 1)) (26 + j) 0) (20 + j) ((g (20 + j)) + 0)))) :: R) X hw 1 rfl (i := 20 + j) (by omega) (by first | decide | omega) rfl dX4_rainsOn_216 (fun H locs hw => ?_)
            refine lv_iload_n hx hb dX4_rainsOn_217 rfl (lv_at hl 2 rfl) ?_
            refine lv_iload hx hb dX4_rainsOn_218 (lv_at hl 0 rfl) ?_
            refine lv_isub hx hb dX4_rainsOn_220 ?_
            have hop0 : (10 * (g 1)) - (3 * (depthI g j 0)) = wallI g j := by simp [p_rainsOn, rain1, wallI, throughI, pointAt, c_1, c_15, c_20, c_22, c_23]
            have hop1 : upd (upd (upd (upd (upd (upd g 7 ((g 7) + (10 * (g 1)))) (32 + j) ((g (32 + j)) + (3 * (depthI g j 0)))) (38 + j) ((g (38 + j)) + ((10 * (g 1)) - (3 * (depthI g j 0))))) (26 + j) ((g (26 + j)) + 1)) (26 + j) 0) (20 + j) ((g (20 + j)) + 0) = p_rainsOn g j := by simp [p_rainsOn, rain1, wallI, throughI, pointAt, c_1, c_15, c_20, c_22, c_23]
            exact g_iret (v := (10 * (g 1)) - (3 * (depthI g j 0))) () X hw hr hlocks  (by exact hop0) (by rw [← hop1]) dX4_rainsOn_221
          · skip
            have c_23 := Int32.not_le.mp c_23
            refine lv_iconst (v := 1) hx hb dX4_rainsOn_210 (by decide) ?_
            refine lv_goto (tgt := 215) hx hb dX4_rainsOn_211 (by decide) ?_
            refine lv_iadd hx hb dX4_rainsOn_215 ?_
            refine g_iast (ws' := (mo, .inr (4, [.ref ag, .ref ab, .ref ah, .int ch, .ref asv, .int hs, .ref ai, .int ty, .int wy, .int wd, .ref al, .int li, .int pl, .int iw, .ref at_])) :: (ag, .inl (dA 0, 310, .inl (upd (upd (upd (upd (upd (upd g 7 ((g 7) + (10 * (g 1)))) (32 + j) ((g (32 + j)) + (3 * (depthI g j 0)))) (38 + j) ((g (38 + j)) + ((10 * (g 1)) - (3 * (depthI g j 0))))) (26 + j) ((g (26 + j)) + 1)) (26 + j) 0) (20 + j) ((g (20 + j)) + 1)))) :: R) X hw 1 rfl (i := 20 + j) (by omega) (by first | decide | omega) rfl dX4_rainsOn_216 (fun H locs hw => ?_)
            refine lv_iload_n hx hb dX4_rainsOn_217 rfl (lv_at hl 2 rfl) ?_
            refine lv_iload hx hb dX4_rainsOn_218 (lv_at hl 0 rfl) ?_
            refine lv_isub hx hb dX4_rainsOn_220 ?_
            have hop0 : (10 * (g 1)) - (3 * (depthI g j 0)) = wallI g j := by simp [p_rainsOn, rain1, wallI, throughI, pointAt, c_1, c_15, c_20, c_22, c_23]
            have hop1 : upd (upd (upd (upd (upd (upd g 7 ((g 7) + (10 * (g 1)))) (32 + j) ((g (32 + j)) + (3 * (depthI g j 0)))) (38 + j) ((g (38 + j)) + ((10 * (g 1)) - (3 * (depthI g j 0))))) (26 + j) ((g (26 + j)) + 1)) (26 + j) 0) (20 + j) ((g (20 + j)) + 1) = p_rainsOn g j := by simp [p_rainsOn, rain1, wallI, throughI, pointAt, c_1, c_15, c_20, c_22, c_23]
            exact g_iret (v := (10 * (g 1)) - (3 * (depthI g j 0))) () X hw hr hlocks  (by exact hop0) (by rw [← hop1]) dX4_rainsOn_221

set_option maxHeartbeats 4000000 in
theorem m_X4_sets (l : Launch) (D : va_G) (dA : Nat → ClassId) (A : Nat → Prop) (E : State → Prop) (hE : gSt A E) (R : va_W) (mo ag ab ah asv ai al at_ : Nat) (ch hs ty wy wd li pl iw : Int32) (g : gG) (j : Nat) (hj : j < 10) : Met l yX4_sets (ws_ yX4_sets cX4_sets 2 (Option.none : Option FieldType)) ({ frames := 0, cells := 0, slots := 0, locals := 0 }) (va_Pc [.ref mo, .int (nI j)] (gB D dA A E ((mo, .inr (4, [.ref ag, .ref ab, .ref ah, .int ch, .ref asv, .int hs, .ref ai, .int ty, .int wy, .int wd, .ref al, .int li, .int pl, .int iw, .ref at_])) :: (ag, .inl (dA 0, 310, .inl g)) :: R))) (va_Qv (fun (_ : Unit) => True) (fun _ => gE D A ((mo, .inr (4, [.ref ag, .ref ab, .ref ah, .int ch, .ref asv, .int hs, .ref ai, .int ty, .int wy, .int wd, .ref al, .int li, .int pl, .int iw, .ref at_])) :: (ag, .inl (dA 0, 310, .inl (p_sets g j))) :: R)) A) (0) (0) A := by
  refine g_start rfl rfl ?_
  intro p e s m args below meth c ls X hr hlocks hin hw hl
  have hx := X.1.1
  have hb := X.1.2.1
  have hl : lv_has ls 2 [(0, .ref mo), (1, .int (nI j))] := hl
  refine lv_aload_n hx hb dX4_sets_0 rfl (lv_at hl 0 rfl) ?_
  refine g_get X cfX4 hw 0 0 rfl rfl q1834 rfl rfl dX4_sets_1 ?_
  refine lv_bipush (v := 71) hx hb dX4_sets_4 (by decide) ?_
  refine lv_iload_n hx hb dX4_sets_6 rfl (lv_at hl 1 rfl) ?_
  refine lv_iadd hx hb dX4_sets_7 ?_
  refine g_addN (a := 71) (b := j) ?_
  refine g_iald X hw 1 rfl (i := 71 + j) (by omega) (by first | decide | omega) dX4_sets_8 ?_
  refine lv_if_ne (tgt := 72) hx hb dX4_sets_9 (by decide) (fun c_1 => ?_) (fun c_1 => ?_)
  · skip
    have hop0 : g = p_sets g j := by simp [p_sets, c_1]
    exact g_vret () X hw hr hlocks trivial (by rw [← hop0]) dX4_sets_72
  · skip
    refine lv_aload_n hx hb dX4_sets_12 rfl (lv_at hl 0 rfl) ?_
    refine g_get X cfX4 hw 0 0 rfl rfl q1834 rfl rfl dX4_sets_13 ?_
    refine lv_bipush (v := 61) hx hb dX4_sets_16 (by decide) ?_
    refine lv_iload_n hx hb dX4_sets_18 rfl (lv_at hl 1 rfl) ?_
    refine lv_iadd hx hb dX4_sets_19 ?_
    refine g_addN (a := 61) (b := j) ?_
    refine lv_aload_n hx hb dX4_sets_20 rfl (lv_at hl 0 rfl) ?_
    refine g_get X cfX4 hw 0 0 rfl rfl q1834 rfl rfl dX4_sets_21 ?_
    refine lv_iconst (v := 1) hx hb dX4_sets_24 (by decide) ?_
    refine g_iald X hw 1 rfl (i := 1) (by decide) (by decide) dX4_sets_25 ?_
    refine lv_if_le (tgt := 33) hx hb dX4_sets_26 (by decide) (fun c_2 => ?_) (fun c_2 => ?_)
    · skip
      have c_2 := Int32.not_lt.mpr c_2
      refine lv_aload_n hx hb dX4_sets_33 rfl (lv_at hl 0 rfl) ?_
      refine g_get X cfX4 hw 0 0 rfl rfl q1834 rfl rfl dX4_sets_34 ?_
      refine lv_bipush (v := 61) hx hb dX4_sets_37 (by decide) ?_
      refine lv_iload_n hx hb dX4_sets_39 rfl (lv_at hl 1 rfl) ?_
      refine lv_iadd hx hb dX4_sets_40 ?_
      refine g_addN (a := 61) (b := j) ?_
      refine g_iald X hw 1 rfl (i := 61 + j) (by omega) (by first | decide | omega) dX4_sets_41 ?_
      refine lv_iconst (v := 1) hx hb dX4_sets_42 (by decide) ?_
      refine lv_iadd hx hb dX4_sets_43 ?_
      refine g_iast (ws' := (mo, .inr (4, [.ref ag, .ref ab, .ref ah, .int ch, .ref asv, .int hs, .ref ai, .int ty, .int wy, .int wd, .ref al, .int li, .int pl, .int iw, .ref at_])) :: (ag, .inl (dA 0, 310, .inl (upd g (61 + j) ((g (61 + j)) + 1)))) :: R) X hw 1 rfl (i := 61 + j) (by omega) (by first | decide | omega) rfl dX4_sets_44 (fun H locs hw => ?_)
      refine lv_aload_n hx hb dX4_sets_45 rfl (lv_at hl 0 rfl) ?_
      refine g_get X cfX4 hw 0 0 rfl rfl q1834 rfl rfl dX4_sets_46 ?_
      refine lv_bipush (v := 71) hx hb dX4_sets_49 (by decide) ?_
      refine lv_iload_n hx hb dX4_sets_51 rfl (lv_at hl 1 rfl) ?_
      refine lv_iadd hx hb dX4_sets_52 ?_
      refine g_addN (a := 71) (b := j) ?_
      refine lv_aload_n hx hb dX4_sets_53 rfl (lv_at hl 0 rfl) ?_
      refine g_get X cfX4 hw 0 0 rfl rfl q1834 rfl rfl dX4_sets_54 ?_
      refine lv_bipush (v := 61) hx hb dX4_sets_57 (by decide) ?_
      refine lv_iload_n hx hb dX4_sets_59 rfl (lv_at hl 1 rfl) ?_
      refine lv_iadd hx hb dX4_sets_60 ?_
      refine g_addN (a := 61) (b := j) ?_
      refine g_iald X hw 1 rfl (i := 61 + j) (by omega) (by first | decide | omega) dX4_sets_61 ?_
      refine g_top (y := (g (61 + j)) + 1) (upd_s) ?_
      refine lv_iconst (v := 4) hx hb dX4_sets_62 (by decide) ?_
      refine lv_icmp_ne (tgt := 70) hx hb dX4_sets_63 (by decide) (fun c_3 => ?_) (fun c_3 => ?_)
      · skip
        refine lv_iconst (v := 0) hx hb dX4_sets_70 (by decide) ?_
        refine g_iast (ws' := (mo, .inr (4, [.ref ag, .ref ab, .ref ah, .int ch, .ref asv, .int hs, .ref ai, .int ty, .int wy, .int wd, .ref al, .int li, .int pl, .int iw, .ref at_])) :: (ag, .inl (dA 0, 310, .inl (upd (upd g (61 + j) ((g (61 + j)) + 1)) (71 + j) 0))) :: R) X hw 1 rfl (i := 71 + j) (by omega) (by first | decide | omega) rfl dX4_sets_71 (fun H locs hw => ?_)
        have hop0 : upd (upd g (61 + j) ((g (61 + j)) + 1)) (71 + j) 0 = p_sets g j := by simp [p_sets, c_1, c_2, c_3]
        exact g_vret () X hw hr hlocks trivial (by rw [← hop0]) dX4_sets_72
      · skip
        refine lv_iconst (v := 1) hx hb dX4_sets_66 (by decide) ?_
        refine lv_goto (tgt := 71) hx hb dX4_sets_67 (by decide) ?_
        refine g_iast (ws' := (mo, .inr (4, [.ref ag, .ref ab, .ref ah, .int ch, .ref asv, .int hs, .ref ai, .int ty, .int wy, .int wd, .ref al, .int li, .int pl, .int iw, .ref at_])) :: (ag, .inl (dA 0, 310, .inl (upd (upd g (61 + j) ((g (61 + j)) + 1)) (71 + j) 1))) :: R) X hw 1 rfl (i := 71 + j) (by omega) (by first | decide | omega) rfl dX4_sets_71 (fun H locs hw => ?_)
        have hop0 : upd (upd g (61 + j) ((g (61 + j)) + 1)) (71 + j) 1 = p_sets g j := by simp [p_sets, c_1, c_2, c_3]
        exact g_vret () X hw hr hlocks trivial (by rw [← hop0]) dX4_sets_72
    · skip
      have c_2 := Int32.not_le.mp c_2
      refine lv_iconst (v := 0) hx hb dX4_sets_29 (by decide) ?_
      refine lv_goto (tgt := 44) hx hb dX4_sets_30 (by decide) ?_
      refine g_iast (ws' := (mo, .inr (4, [.ref ag, .ref ab, .ref ah, .int ch, .ref asv, .int hs, .ref ai, .int ty, .int wy, .int wd, .ref al, .int li, .int pl, .int iw, .ref at_])) :: (ag, .inl (dA 0, 310, .inl (upd g (61 + j) 0))) :: R) X hw 1 rfl (i := 61 + j) (by omega) (by first | decide | omega) rfl dX4_sets_44 (fun H locs hw => ?_)
      refine lv_aload_n hx hb dX4_sets_45 rfl (lv_at hl 0 rfl) ?_
      refine g_get X cfX4 hw 0 0 rfl rfl q1834 rfl rfl dX4_sets_46 ?_
      refine lv_bipush (v := 71) hx hb dX4_sets_49 (by decide) ?_
      refine lv_iload_n hx hb dX4_sets_51 rfl (lv_at hl 1 rfl) ?_
      refine lv_iadd hx hb dX4_sets_52 ?_
      refine g_addN (a := 71) (b := j) ?_
      refine lv_aload_n hx hb dX4_sets_53 rfl (lv_at hl 0 rfl) ?_
      refine g_get X cfX4 hw 0 0 rfl rfl q1834 rfl rfl dX4_sets_54 ?_
      refine lv_bipush (v := 61) hx hb dX4_sets_57 (by decide) ?_
      refine lv_iload_n hx hb dX4_sets_59 rfl (lv_at hl 1 rfl) ?_
      refine lv_iadd hx hb dX4_sets_60 ?_
      refine g_addN (a := 61) (b := j) ?_
      refine g_iald X hw 1 rfl (i := 61 + j) (by omega) (by first | decide | omega) dX4_sets_61 ?_
      refine g_top (y := 0) (upd_s) ?_
      refine lv_iconst (v := 4) hx hb dX4_sets_62 (by decide) ?_
      refine lv_icmp_ne (tgt := 70) hx hb dX4_sets_63 (by decide) (fun c_4 => ?_) (fun c_4 => absurd c_4 (by decide))
      refine lv_iconst (v := 0) hx hb dX4_sets_70 (by decide) ?_
      refine g_iast (ws' := (mo, .inr (4, [.ref ag, .ref ab, .ref ah, .int ch, .ref asv, .int hs, .ref ai, .int ty, .int wy, .int wd, .ref al, .int li, .int pl, .int iw, .ref at_])) :: (ag, .inl (dA 0, 310, .inl (upd (upd g (61 + j) 0) (71 + j) 0))) :: R) X hw 1 rfl (i := 71 + j) (by omega) (by first | decide | omega) rfl dX4_sets_71 (fun H locs hw => ?_)
      have hop0 : upd (upd g (61 + j) 0) (71 + j) 0 = p_sets g j := by simp [p_sets, c_1, c_2]
      exact g_vret () X hw hr hlocks trivial (by rw [← hop0]) dX4_sets_72

set_option maxHeartbeats 4000000 in
theorem m_X4_endsDay (l : Launch) (D : va_G) (dA : Nat → ClassId) (A : Nat → Prop) (E : State → Prop) (hE : gSt A E) (R : va_W) (mo ag ab ah asv ai al at_ : Nat) (ch hs ty wy wd li pl iw : Int32) (g : gG) (hI : gInv g) : Met l yX4_endsDay (ws_ yX4_endsDay cX4_endsDay 3 (Option.none : Option FieldType)) ({ frames := 0, cells := 0, slots := 0, locals := 0 }) (va_Pc [.ref mo] (gB D dA A E ((mo, .inr (4, [.ref ag, .ref ab, .ref ah, .int ch, .ref asv, .int hs, .ref ai, .int ty, .int wy, .int wd, .ref al, .int li, .int pl, .int iw, .ref at_])) :: (ag, .inl (dA 0, 310, .inl g)) :: R))) (va_Qv (fun (_ : Unit) => True) (fun _ => gE D A ((mo, .inr (4, [.ref ag, .ref ab, .ref ah, .int ch, .ref asv, .int hs, .ref ai, .int ty, .int wy, .int wd, .ref al, .int li, .int pl, .int iw, .ref at_])) :: (ag, .inl (dA 0, 310, .inl (p_endsDay g))) :: R)) A) (0) (0) A := by
  refine g_start rfl rfl ?_
  intro p e s m args below meth c ls X hr hlocks hin hw hl
  have hx := X.1.1
  have hb := X.1.2.1
  have hl : lv_has ls 3 [(0, .ref mo)] := hl
  have hI2 := hI.c.2
  have hI4 := hI.m.2
  have hI6 := hI.k.2
  refine lv_iconst (v := 0) hx hb dX4_endsDay_0 (by decide) ?_
  refine lv_istore_n (lv' := [(1, .int 0), (0, .ref mo)]) hx hb dX4_endsDay_1 rfl hl (by decide) rfl (fun ls hl => ?_)
  have loop_1 : ∀ (fuel : Nat) (i : Nat), ∀ (hi : i ≤ 6), (6 - i) < fuel → ∀ (H : Heap) (locs : List Loc) (hw : gW D A ((mo, .inr (4, [.ref ag, .ref ab, .ref ah, .int ch, .ref asv, .int hs, .ref ai, .int ty, .int wy, .int wd, .ref al, .int li, .int pl, .int iw, .ref at_])) :: (ag, .inl (dA 0, 310, .inl (dayP g i))) :: R) s H locs) (ls : Array Slot) (hl : lv_has ls 3 [(1, .int (nI i)), (0, .ref mo)]), W p l e ({ frames := 0, cells := 0, slots := 0, locals := 0 }) s m args below meth c H locs (0) (0) (MQ below (va_Qv (fun (_ : Unit) => True) (fun _ => gE D A ((mo, .inr (4, [.ref ag, .ref ab, .ref ah, .int ch, .ref asv, .int hs, .ref ai, .int ty, .int wy, .int wd, .ref al, .int li, .int pl, .int iw, .ref at_])) :: (ag, .inl (dA 0, 310, .inl (p_endsDay g))) :: R)) A) args s (0) (0) A) (F0 m 2 ls []) := by
    intro fuel
    induction fuel with
    | zero => intro i hi hf; exact absurd hf (Nat.not_lt_zero _)
    | succ fuel ih_loop_1 =>
      intro i hi hfuel_loop_1 H locs hw ls hl
      refine lv_iload_n hx hb dX4_endsDay_2 rfl (lv_at hl 0 rfl) ?_
      refine lv_bipush (v := 6) hx hb dX4_endsDay_3 (by decide) ?_
      refine lv_icmp_ge (tgt := 64) hx hb dX4_endsDay_5 (by decide) (fun c_2 => ?_) (fun c_2 => ?_)
      · skip
        have c_2 := Int32.not_lt.mpr c_2
        have c_2 : ¬ (i < 6) := fun q => c_2 ((nI_ltI (a := i) (b := 6) (by omega) (by omega)).mpr q)
        obtain rfl : i = 6 := by omega
        refine lv_iconst (v := 0) hx hb dX4_endsDay_64 (by decide) ?_
        refine lv_istore_n (lv' := [(1, .int 0), (0, .ref mo)]) hx hb dX4_endsDay_65 rfl hl (by decide) rfl (fun ls hl => ?_)
        have loop_3 : ∀ (fuel : Nat) (i : Nat), ∀ (hi : i ≤ nn g 191), (nn g 191 - i) < fuel → ∀ (H : Heap) (locs : List Loc) (hw : gW D A ((mo, .inr (4, [.ref ag, .ref ab, .ref ah, .int ch, .ref asv, .int hs, .ref ai, .int ty, .int wy, .int wd, .ref al, .int li, .int pl, .int iw, .ref at_])) :: (ag, .inl (dA 0, 310, .inl (dayM (dayP g 6) i))) :: R) s H locs) (ls : Array Slot) (hl : lv_has ls 3 [(1, .int (nI i)), (0, .ref mo)]), W p l e ({ frames := 0, cells := 0, slots := 0, locals := 0 }) s m args below meth c H locs (0) (0) (MQ below (va_Qv (fun (_ : Unit) => True) (fun _ => gE D A ((mo, .inr (4, [.ref ag, .ref ab, .ref ah, .int ch, .ref asv, .int hs, .ref ai, .int ty, .int wy, .int wd, .ref al, .int li, .int pl, .int iw, .ref at_])) :: (ag, .inl (dA 0, 310, .inl (p_endsDay g))) :: R)) A) args s (0) (0) A) (F0 m 66 ls []) := by
          intro fuel
          induction fuel with
          | zero => intro i hi hf; exact absurd hf (Nat.not_lt_zero _)
          | succ fuel ih_loop_3 =>
            intro i hi hfuel_loop_3 H locs hw ls hl
            refine lv_iload_n hx hb dX4_endsDay_66 rfl (lv_at hl 0 rfl) ?_
            refine lv_aload_n hx hb dX4_endsDay_67 rfl (lv_at hl 1 rfl) ?_
            refine g_get X cfX4 hw 0 0 rfl rfl q1834 rfl rfl dX4_endsDay_68 ?_
            refine lv_sipush (v := 191) hx hb dX4_endsDay_71 (by decide) ?_
            refine g_iald X hw 1 rfl (i := 191) (by decide) (by decide) dX4_endsDay_74 ?_
            refine g_top (y := g 191) ((dayM_n i (by omega) (by omega)).trans (dayP_n 6 (by omega) (by omega))) ?_
            refine lv_icmp_ge (tgt := 97) hx hb dX4_endsDay_75 (by decide) (fun c_4 => ?_) (fun c_4 => ?_)
            · skip
              have c_4 := Int32.not_lt.mpr c_4
              have c_4n := c_4
              rw [hI.m.1] at c_4n
              have c_4n : ¬ (i < nn g 191) := fun q => c_4n ((nI_ltI (a := i) (b := nn g 191) (by omega) (by omega)).mpr q)
              obtain rfl : i = nn g 191 := by omega
              exact g_vret () X hw hr hlocks trivial rfl dX4_endsDay_97
            · skip
              have c_4 := Int32.not_le.mp c_4
              have c_4n := c_4
              rw [hI.m.1] at c_4n
              have c_4n : i < nn g 191 := (nI_ltI (a := i) (b := nn g 191) (by omega) (by omega)).mp c_4n
              refine lv_aload_n hx hb dX4_endsDay_78 rfl (lv_at hl 1 rfl) ?_
              refine g_get X cfX4 hw 0 0 rfl rfl q1834 rfl rfl dX4_endsDay_79 ?_
              refine lv_sipush (v := 200) hx hb dX4_endsDay_82 (by decide) ?_
              refine lv_iload_n hx hb dX4_endsDay_85 rfl (lv_at hl 0 rfl) ?_
              refine lv_iadd hx hb dX4_endsDay_86 ?_
              refine g_addN (a := 200) (b := i) ?_
              refine lv_sipush (v := 600) hx hb dX4_endsDay_87 (by decide) ?_
              refine g_iast (ws' := (mo, .inr (4, [.ref ag, .ref ab, .ref ah, .int ch, .ref asv, .int hs, .ref ai, .int ty, .int wy, .int wd, .ref al, .int li, .int pl, .int iw, .ref at_])) :: (ag, .inl (dA 0, 310, .inl (upd (dayM (dayP g 6) i) (200 + i) 600))) :: R) X hw 1 rfl (i := 200 + i) (by omega) (by first | decide | omega) rfl dX4_endsDay_90 (fun H locs hw => ?_)
              refine lv_iinc (v := nI (i + 1)) (lv' := [(1, .int (nI (i + 1))), (0, .ref mo)]) hx hb dX4_endsDay_91 hl (k := 0) rfl (nI_add i 1) (by decide) rfl (fun ls hl => ?_)
              refine lv_goto (tgt := 66) hx hb dX4_endsDay_94 (by decide) ?_
              have hw : gW D A ((mo, .inr (4, [.ref ag, .ref ab, .ref ah, .int ch, .ref asv, .int hs, .ref ai, .int ty, .int wy, .int wd, .ref al, .int li, .int pl, .int iw, .ref at_])) :: (ag, .inl (dA 0, 310, .inl (dayM (dayP g 6) (i + 1)))) :: R) s _ _ := g_ws hw (by rfl)
              exact ih_loop_3 (i + 1) (by first | assumption | omega) (by omega) _ _ hw _ (lv_sub hl [0, 1] rfl)
        have hw : gW D A ((mo, .inr (4, [.ref ag, .ref ab, .ref ah, .int ch, .ref asv, .int hs, .ref ai, .int ty, .int wy, .int wd, .ref al, .int li, .int pl, .int iw, .ref at_])) :: (ag, .inl (dA 0, 310, .inl (dayM (dayP g 6) 0))) :: R) s _ _ := g_ws hw (by rfl)
        exact loop_3 ((nn g 191 - 0) + 1) 0 (by first | assumption | omega) (Nat.lt_succ_self _) _ _ hw _ (lv_sub hl [0, 1] rfl)
      · skip
        have c_2 := Int32.not_le.mp c_2
        have c_2 : i < 6 := (nI_ltI (a := i) (b := 6) (by omega) (by omega)).mp c_2
        refine lv_aload_n hx hb dX4_endsDay_8 rfl (lv_at hl 1 rfl) ?_
        refine g_get X cfX4 hw 0 0 rfl rfl q1834 rfl rfl dX4_endsDay_9 ?_
        refine lv_bipush (v := 8) hx hb dX4_endsDay_12 (by decide) ?_
        refine lv_iload_n hx hb dX4_endsDay_14 rfl (lv_at hl 0 rfl) ?_
        refine lv_iadd hx hb dX4_endsDay_15 ?_
        refine g_addN (a := 8) (b := i) ?_
        refine g_iald X hw 1 rfl (i := 8 + i) (by omega) (by first | decide | omega) dX4_endsDay_16 ?_
        refine lv_aload_n hx hb dX4_endsDay_17 rfl (lv_at hl 1 rfl) ?_
        refine g_get X cfX4 hw 0 0 rfl rfl q1834 rfl rfl dX4_endsDay_18 ?_
        refine lv_bipush (v := 14) hx hb dX4_endsDay_21 (by decide) ?_
        refine lv_iload_n hx hb dX4_endsDay_23 rfl (lv_at hl 0 rfl) ?_
        refine lv_iadd hx hb dX4_endsDay_24 ?_
        refine g_addN (a := 14) (b := i) ?_
        refine g_iald X hw 1 rfl (i := 14 + i) (by omega) (by first | decide | omega) dX4_endsDay_25 ?_
        refine lv_iconst (v := 1) hx hb dX4_endsDay_26 (by decide) ?_
        refine lv_icmp_ne (tgt := 34) hx hb dX4_endsDay_27 (by decide) (fun c_5 => ?_) (fun c_5 => ?_)
        · skip
          refine lv_iconst (v := 1) hx hb dX4_endsDay_34 (by decide) ?_
          refine lv_iadd hx hb dX4_endsDay_35 ?_
          refine lv_istore_n (lv' := [(2, .int (((dayP g i) (8 + i)) + 1)), (1, .int (nI i)), (0, .ref mo)]) hx hb dX4_endsDay_36 rfl hl (by decide) rfl (fun ls hl => ?_)
          refine lv_aload_n hx hb dX4_endsDay_37 rfl (lv_at hl 2 rfl) ?_
          refine g_get X cfX4 hw 0 0 rfl rfl q1834 rfl rfl dX4_endsDay_38 ?_
          refine lv_bipush (v := 8) hx hb dX4_endsDay_41 (by decide) ?_
          refine lv_iload_n hx hb dX4_endsDay_43 rfl (lv_at hl 1 rfl) ?_
          refine lv_iadd hx hb dX4_endsDay_44 ?_
          refine g_addN (a := 8) (b := i) ?_
          refine lv_iload_n hx hb dX4_endsDay_45 rfl (lv_at hl 0 rfl) ?_
          refine lv_bipush (v := 9) hx hb dX4_endsDay_46 (by decide) ?_
          refine lv_icmp_le (tgt := 56) hx hb dX4_endsDay_48 (by decide) (fun c_6 => ?_) (fun c_6 => ?_)
          · skip
            have c_6 := Int32.not_lt.mpr c_6
            refine lv_iload_n hx hb dX4_endsDay_56 rfl (lv_at hl 0 rfl) ?_
            refine g_iast (ws' := (mo, .inr (4, [.ref ag, .ref ab, .ref ah, .int ch, .ref asv, .int hs, .ref ai, .int ty, .int wy, .int wd, .ref al, .int li, .int pl, .int iw, .ref at_])) :: (ag, .inl (dA 0, 310, .inl (upd (dayP g i) (8 + i) (((dayP g i) (8 + i)) + 1)))) :: R) X hw 1 rfl (i := 8 + i) (by omega) (by first | decide | omega) rfl dX4_endsDay_57 (fun H locs hw => ?_)
            refine lv_iinc (v := nI (i + 1)) (lv' := [(1, .int (nI (i + 1))), (2, .int (((dayP g i) (8 + i)) + 1)), (0, .ref mo)]) hx hb dX4_endsDay_58 hl (k := 1) rfl (nI_add i 1) (by decide) rfl (fun ls hl => ?_)
            refine lv_goto (tgt := 2) hx hb dX4_endsDay_61 (by decide) ?_
            have hw : gW D A ((mo, .inr (4, [.ref ag, .ref ab, .ref ah, .int ch, .ref asv, .int hs, .ref ai, .int ty, .int wy, .int wd, .ref al, .int li, .int pl, .int iw, .ref at_])) :: (ag, .inl (dA 0, 310, .inl (dayP g (i + 1)))) :: R) s _ _ := g_ws hw (by simp only [dayP, c_2, c_5, c_6, if_true, if_false])
            exact ih_loop_1 (i + 1) (by first | assumption | omega) (by omega) _ _ hw _ (lv_sub hl [0, 2] rfl)
          · skip
            have c_6 := Int32.not_le.mp c_6
            refine lv_bipush (v := 9) hx hb dX4_endsDay_51 (by decide) ?_
            refine lv_goto (tgt := 57) hx hb dX4_endsDay_53 (by decide) ?_
            refine g_iast (ws' := (mo, .inr (4, [.ref ag, .ref ab, .ref ah, .int ch, .ref asv, .int hs, .ref ai, .int ty, .int wy, .int wd, .ref al, .int li, .int pl, .int iw, .ref at_])) :: (ag, .inl (dA 0, 310, .inl (upd (dayP g i) (8 + i) 9))) :: R) X hw 1 rfl (i := 8 + i) (by omega) (by first | decide | omega) rfl dX4_endsDay_57 (fun H locs hw => ?_)
            refine lv_iinc (v := nI (i + 1)) (lv' := [(1, .int (nI (i + 1))), (2, .int (((dayP g i) (8 + i)) + 1)), (0, .ref mo)]) hx hb dX4_endsDay_58 hl (k := 1) rfl (nI_add i 1) (by decide) rfl (fun ls hl => ?_)
            refine lv_goto (tgt := 2) hx hb dX4_endsDay_61 (by decide) ?_
            have hw : gW D A ((mo, .inr (4, [.ref ag, .ref ab, .ref ah, .int ch, .ref asv, .int hs, .ref ai, .int ty, .int wy, .int wd, .ref al, .int li, .int pl, .int iw, .ref at_])) :: (ag, .inl (dA 0, 310, .inl (dayP g (i + 1)))) :: R) s _ _ := g_ws hw (by simp only [dayP, c_2, c_5, c_6, if_true, if_false])
            exact ih_loop_1 (i + 1) (by first | assumption | omega) (by omega) _ _ hw _ (lv_sub hl [0, 2] rfl)
        · skip
          refine lv_iconst (v := 2) hx hb dX4_endsDay_30 (by decide) ?_
          refine lv_goto (tgt := 35) hx hb dX4_endsDay_31 (by decide) ?_
          refine lv_iadd hx hb dX4_endsDay_35 ?_
          refine lv_istore_n (lv' := [(2, .int (((dayP g i) (8 + i)) + 2)), (1, .int (nI i)), (0, .ref mo)]) hx hb dX4_endsDay_36 rfl hl (by decide) rfl (fun ls hl => ?_)
          refine lv_aload_n hx hb dX4_endsDay_37 rfl (lv_at hl 2 rfl) ?_
          refine g_get X cfX4 hw 0 0 rfl rfl q1834 rfl rfl dX4_endsDay_38 ?_
          refine lv_bipush (v := 8) hx hb dX4_endsDay_41 (by decide) ?_
          refine lv_iload_n hx hb dX4_endsDay_43 rfl (lv_at hl 1 rfl) ?_
          refine lv_iadd hx hb dX4_endsDay_44 ?_
          refine g_addN (a := 8) (b := i) ?_
          refine lv_iload_n hx hb dX4_endsDay_45 rfl (lv_at hl 0 rfl) ?_
          refine lv_bipush (v := 9) hx hb dX4_endsDay_46 (by decide) ?_
          refine lv_icmp_le (tgt := 56) hx hb dX4_endsDay_48 (by decide) (fun c_7 => ?_) (fun c_7 => ?_)
          · skip
            have c_7 := Int32.not_lt.mpr c_7
            refine lv_iload_n hx hb dX4_endsDay_56 rfl (lv_at hl 0 rfl) ?_
            refine g_iast (ws' := (mo, .inr (4, [.ref ag, .ref ab, .ref ah, .int ch, .ref asv, .int hs, .ref ai, .int ty, .int wy, .int wd, .ref al, .int li, .int pl, .int iw, .ref at_])) :: (ag, .inl (dA 0, 310, .inl (upd (dayP g i) (8 + i) (((dayP g i) (8 + i)) + 2)))) :: R) X hw 1 rfl (i := 8 + i) (by omega) (by first | decide | omega) rfl dX4_endsDay_57 (fun H locs hw => ?_)
            refine lv_iinc (v := nI (i + 1)) (lv' := [(1, .int (nI (i + 1))), (2, .int (((dayP g i) (8 + i)) + 2)), (0, .ref mo)]) hx hb dX4_endsDay_58 hl (k := 1) rfl (nI_add i 1) (by decide) rfl (fun ls hl => ?_)
            refine lv_goto (tgt := 2) hx hb dX4_endsDay_61 (by decide) ?_
            have hw : gW D A ((mo, .inr (4, [.ref ag, .ref ab, .ref ah, .int ch, .ref asv, .int hs, .ref ai, .int ty, .int wy, .int wd, .ref al, .int li, .int pl, .int iw, .ref at_])) :: (ag, .inl (dA 0, 310, .inl (dayP g (i + 1)))) :: R) s _ _ := g_ws hw (by simp only [dayP, c_2, c_5, c_7, if_true, if_false])
            exact ih_loop_1 (i + 1) (by first | assumption | omega) (by omega) _ _ hw _ (lv_sub hl [0, 2] rfl)
          · skip
            have c_7 := Int32.not_le.mp c_7
            refine lv_bipush (v := 9) hx hb dX4_endsDay_51 (by decide) ?_
            refine lv_goto (tgt := 57) hx hb dX4_endsDay_53 (by decide) ?_
            refine g_iast (ws' := (mo, .inr (4, [.ref ag, .ref ab, .ref ah, .int ch, .ref asv, .int hs, .ref ai, .int ty, .int wy, .int wd, .ref al, .int li, .int pl, .int iw, .ref at_])) :: (ag, .inl (dA 0, 310, .inl (upd (dayP g i) (8 + i) 9))) :: R) X hw 1 rfl (i := 8 + i) (by omega) (by first | decide | omega) rfl dX4_endsDay_57 (fun H locs hw => ?_)
            refine lv_iinc (v := nI (i + 1)) (lv' := [(1, .int (nI (i + 1))), (2, .int (((dayP g i) (8 + i)) + 2)), (0, .ref mo)]) hx hb dX4_endsDay_58 hl (k := 1) rfl (nI_add i 1) (by decide) rfl (fun ls hl => ?_)
            refine lv_goto (tgt := 2) hx hb dX4_endsDay_61 (by decide) ?_
            have hw : gW D A ((mo, .inr (4, [.ref ag, .ref ab, .ref ah, .int ch, .ref asv, .int hs, .ref ai, .int ty, .int wy, .int wd, .ref al, .int li, .int pl, .int iw, .ref at_])) :: (ag, .inl (dA 0, 310, .inl (dayP g (i + 1)))) :: R) s _ _ := g_ws hw (by simp only [dayP, c_2, c_5, c_7, if_true, if_false])
            exact ih_loop_1 (i + 1) (by first | assumption | omega) (by omega) _ _ hw _ (lv_sub hl [0, 2] rfl)
  have hw : gW D A ((mo, .inr (4, [.ref ag, .ref ab, .ref ah, .int ch, .ref asv, .int hs, .ref ai, .int ty, .int wy, .int wd, .ref al, .int li, .int pl, .int iw, .ref at_])) :: (ag, .inl (dA 0, 310, .inl (dayP g 0))) :: R) s _ _ := g_ws hw (by rfl)
  exact loop_1 ((6 - 0) + 1) 0 (by first | assumption | omega) (Nat.lt_succ_self _) _ _ hw _ (lv_sub hl [0, 1] rfl)

set_option maxHeartbeats 4000000 in
theorem m_X4_passes (l : Launch) (D : va_G) (dA : Nat → ClassId) (A : Nat → Prop) (E : State → Prop) (hE : gSt A E) (R : va_W) (mo ag ab ah asv ai al at_ : Nat) (ch hs ty wy wd li pl iw : Int32) (g : gG) (hI : gInv g) (v : Int32) : Met l yX4_passes (ws_ yX4_passes cX4_passes 5 (Option.some FieldType.int)) ({ frames := 2, cells := 0, slots := 0, locals := 46 }) (va_Pc [.ref mo, .int v] (gB D dA A E ((mo, .inr (4, [.ref ag, .ref ab, .ref ah, .int ch, .ref asv, .int hs, .ref ai, .int ty, .int wy, .int wd, .ref al, .int li, .int pl, .int iw, .ref at_])) :: (ag, .inl (dA 0, 310, .inl g)) :: R))) (va_Qi (fun (r : Int32) (_ : Unit) => r = gr_v (p_passesI g v)) (fun _ => gE D A ((mo, .inr (4, [.ref ag, .ref ab, .ref ah, .int ch, .ref asv, .int hs, .ref ai, .int ty, .int wy, .int wd, .ref al, .int li, .int pl, .int iw, .ref at_])) :: (ag, .inl (dA 0, 310, .inl (gr_g g (p_passesI g v)))) :: R)) A) (0) (0) A := by
  refine g_start rfl rfl ?_
  intro p e s m args below meth c ls X hr hlocks hin hw hl
  have hx := X.1.1
  have hb := X.1.2.1
  have hl : lv_has ls 5 [(0, .ref mo), (1, .int v)] := hl
  have hI2 := hI.c.2
  have hI4 := hI.m.2
  have hI6 := hI.k.2
  refine lv_iload_n hx hb dX4_passes_0 rfl (lv_at hl 1 rfl) ?_
  refine lv_iconst (v := 1) hx hb dX4_passes_1 (by decide) ?_
  refine lv_bipush (v := 72) hx hb dX4_passes_2 (by decide) ?_
  refine va_calli (va_runS (As := [.int v, .int 1, .int 72]) (rest := []) X.1 (m_X4_in l D dA A E hE ((mo, .inr (4, [.ref ag, .ref ab, .ref ah, .int ch, .ref asv, .int hs, .ref ai, .int ty, .int wy, .int wd, .ref al, .int li, .int pl, .int iw, .ref at_])) :: (ag, .inl (dA 0, 310, .inl g)) :: R) v 1 72) (va_cwS 3 X.1.2.2.2.2 (lw_S q1888 q1889 q80 q1890) rfl rfl rfl (by decide +kernel) ⟨Nat.le_of_ble_eq_true rfl, Nat.le_of_ble_eq_true rfl⟩) (g_preS hE X.2 hw) rfl rfl hl.1 rfl (lv_room (Nat.le_of_ble_eq_true rfl)) dX4_passes_4 ⟨Nat.le_of_ble_eq_true rfl, Nat.le_of_ble_eq_true rfl⟩) hw.2.2 (fun q _ h => h) (fun q h => h) (fun r_2 u t H locs ht hvm h_1 hB hz9 hk9 hS => ?_)
  have hw : gW D A ((mo, .inr (4, [.ref ag, .ref ab, .ref ah, .int ch, .ref asv, .int hs, .ref ai, .int ty, .int wy, .int wd, .ref al, .int li, .int pl, .int iw, .ref at_])) :: (ag, .inl (dA 0, 310, .inl g)) :: R) s H locs := g_aft ht hB hS
  obtain rfl : r_2 = bZ (inR v 1 72) := h_1
  refine lv_if_ne (tgt := 13) hx hb dX4_passes_7 (by decide) (fun c_3 => ?_) (fun c_3 => ?_)
  · skip
    have c_3 := bZ_1 c_3
    obtain ⟨j, hj, ej⟩ := inR72 c_3
    subst ej
    have kj : (nI j).toNatClampNeg = j := nI_clamp (by omega)
    refine lv_iconst (v := 0) hx hb dX4_passes_13 (by decide) ?_
    refine lv_istore_n (lv' := [(2, .int 0), (0, .ref mo), (1, .int (nI j))]) hx hb dX4_passes_14 rfl hl (by decide) rfl (fun ls hl => ?_)
    refine lv_iconst (v := 0) hx hb dX4_passes_15 (by decide) ?_
    refine lv_istore_n (lv' := [(3, .int 0), (2, .int 0), (0, .ref mo), (1, .int (nI j))]) hx hb dX4_passes_16 rfl hl (by decide) rfl (fun ls hl => ?_)
    have loop_4 : ∀ (fuel : Nat) (i : Nat), ∀ (hi : i ≤ j), (j - i) < fuel → ∀ (H : Heap) (locs : List Loc) (hw : gW D A ((mo, .inr (4, [.ref ag, .ref ab, .ref ah, .int ch, .ref asv, .int hs, .ref ai, .int ty, .int wy, .int wd, .ref al, .int li, .int pl, .int iw, .ref at_])) :: (ag, .inl (dA 0, 310, .inl (hoursG g i))) :: R) s H locs) (ls : Array Slot) (hl : lv_has ls 5 [(3, .int (nI i)), (2, .int (hoursW g i)), (0, .ref mo), (1, .int (nI j))]), W p l e ({ frames := 2, cells := 0, slots := 0, locals := 46 }) s m args below meth c H locs (0) (0) (MQ below (va_Qi (fun (r : Int32) (_ : Unit) => r = gr_v (p_passesI g (nI j))) (fun _ => gE D A ((mo, .inr (4, [.ref ag, .ref ab, .ref ah, .int ch, .ref asv, .int hs, .ref ai, .int ty, .int wy, .int wd, .ref al, .int li, .int pl, .int iw, .ref at_])) :: (ag, .inl (dA 0, 310, .inl (gr_g g (p_passesI g (nI j))))) :: R)) A) args s (0) (0) A) (F0 m 17 ls []) := by
      intro fuel
      induction fuel with
      | zero => intro i hi hf; exact absurd hf (Nat.not_lt_zero _)
      | succ fuel ih_loop_4 =>
        intro i hi hfuel_loop_4 H locs hw ls hl
        have hIi := hI.l_hours i
        have hc10 := hIi.c.2
        refine lv_iload_n hx hb dX4_passes_17 rfl (lv_at hl 0 rfl) ?_
        refine lv_iload_n hx hb dX4_passes_18 rfl (lv_at hl 3 rfl) ?_
        refine lv_icmp_ge (tgt := 115) hx hb dX4_passes_19 (by decide) (fun c_5 => ?_) (fun c_5 => ?_)
        · skip
          have c_5 := Int32.not_lt.mpr c_5
          have c_5 : ¬ (i < j) := fun q => c_5 ((nI_ltI (a := i) (b := j) (by omega) (by omega)).mpr q)
          obtain rfl : j = i := by omega
          refine lv_iload_n hx hb dX4_passes_115 rfl (lv_at hl 1 rfl) ?_
          have hop : p_passesI g (nI j) = .inr (hoursW g j, hoursG g j) := by simp [p_passesI, c_3, kj, c_5]
          exact g_iret (v := hoursW g j) () X hw hr hlocks  (by rw [hop]; rfl) (by rw [hop]; rfl) dX4_passes_116
        · skip
          have c_5 := Int32.not_le.mp c_5
          have c_5 : i < j := (nI_ltI (a := i) (b := j) (by omega) (by omega)).mp c_5
          refine lv_iconst (v := 0) hx hb dX4_passes_22 (by decide) ?_
          refine lv_istore (lv' := [(4, .int 0), (3, .int (nI i)), (2, .int (hoursW g i)), (0, .ref mo), (1, .int (nI j))]) hx hb dX4_passes_23 hl (by decide) rfl (fun ls hl => ?_)
          have loop_6 : ∀ (fuel : Nat) (b : Nat), ∀ (hb6 : b ≤ 6), ∀ (hb0 : b = 0 ∨ 0 < hoursG g i 1), (6 - b) < fuel → ∀ (H : Heap) (locs : List Loc) (hw : gW D A ((mo, .inr (4, [.ref ag, .ref ab, .ref ah, .int ch, .ref asv, .int hs, .ref ai, .int ty, .int wy, .int wd, .ref al, .int li, .int pl, .int iw, .ref at_])) :: (ag, .inl (dA 0, 310, .inl (rainL (hoursG g i) b))) :: R) s H locs) (ls : Array Slot) (hl : lv_has ls 5 [(4, .int (nI b)), (3, .int (nI i)), (2, .int (hoursW g i + wallL (hoursG g i) b)), (0, .ref mo), (1, .int (nI j))]), W p l e ({ frames := 2, cells := 0, slots := 0, locals := 46 }) s m args below meth c H locs (0) (0) (MQ below (va_Qi (fun (r : Int32) (_ : Unit) => r = gr_v (p_passesI g (nI j))) (fun _ => gE D A ((mo, .inr (4, [.ref ag, .ref ab, .ref ah, .int ch, .ref asv, .int hs, .ref ai, .int ty, .int wy, .int wd, .ref al, .int li, .int pl, .int iw, .ref at_])) :: (ag, .inl (dA 0, 310, .inl (gr_g g (p_passesI g (nI j))))) :: R)) A) args s (0) (0) A) (F0 m 25 ls []) := by
            intro fuel
            induction fuel with
            | zero => intro b hb6 hb0 hf; exact absurd hf (Nat.not_lt_zero _)
            | succ fuel ih_loop_6 =>
              intro b hb6 hb0 hfuel_loop_6 H locs hw ls hl
              refine lv_iload hx hb dX4_passes_25 (lv_at hl 0 rfl) ?_
              refine lv_bipush (v := 6) hx hb dX4_passes_27 (by decide) ?_
              refine lv_icmp_ge (tgt := 56) hx hb dX4_passes_29 (by decide) (fun c_7 => ?_) (fun c_7 => ?_)
              · skip
                have c_7 := Int32.not_lt.mpr c_7
                have c_7 : ¬ (b < 6) := fun q => c_7 ((nI_ltI (a := b) (b := 6) (by omega) (by omega)).mpr q)
                obtain ⟨er1, er2⟩ := rain_done hb6 hb0 (Or.inl (by omega))
                have hw : gW D A ((mo, .inr (4, [.ref ag, .ref ab, .ref ah, .int ch, .ref asv, .int hs, .ref ai, .int ty, .int wy, .int wd, .ref al, .int li, .int pl, .int iw, .ref at_])) :: (ag, .inl (dA 0, 310, .inl (hourRain (hoursG g i)))) :: R) s _ _ := g_ws hw (by rw [er1])
                rw [er2] at hl
                have hl : lv_has ls 5 [(4, .int (nI b)), (3, .int (nI i)), (2, .int (hoursW g i + hourWall (hoursG g i))), (0, .ref mo), (1, .int (nI j))] := hl
                refine lv_iconst (v := 0) hx hb dX4_passes_56 (by decide) ?_
                refine lv_istore (lv' := [(4, .int 0), (3, .int (nI i)), (2, .int (hoursW g i + hourWall (hoursG g i))), (0, .ref mo), (1, .int (nI j))]) hx hb dX4_passes_57 hl (by decide) rfl (fun ls hl => ?_)
                have loop_8 : ∀ (fuel : Nat) (b : Nat), ∀ (hbb : b ≤ nn (hoursG g i) 50), (nn (hoursG g i) 50 - b) < fuel → ∀ (H : Heap) (locs : List Loc) (hw : gW D A ((mo, .inr (4, [.ref ag, .ref ab, .ref ah, .int ch, .ref asv, .int hs, .ref ai, .int ty, .int wy, .int wd, .ref al, .int li, .int pl, .int iw, .ref at_])) :: (ag, .inl (dA 0, 310, .inl (setsL (hourRain (hoursG g i)) b))) :: R) s H locs) (ls : Array Slot) (hl : lv_has ls 5 [(4, .int (nI b)), (3, .int (nI i)), (2, .int (hoursW g i + hourWall (hoursG g i))), (0, .ref mo), (1, .int (nI j))]), W p l e ({ frames := 2, cells := 0, slots := 0, locals := 46 }) s m args below meth c H locs (0) (0) (MQ below (va_Qi (fun (r : Int32) (_ : Unit) => r = gr_v (p_passesI g (nI j))) (fun _ => gE D A ((mo, .inr (4, [.ref ag, .ref ab, .ref ah, .int ch, .ref asv, .int hs, .ref ai, .int ty, .int wy, .int wd, .ref al, .int li, .int pl, .int iw, .ref at_])) :: (ag, .inl (dA 0, 310, .inl (gr_g g (p_passesI g (nI j))))) :: R)) A) args s (0) (0) A) (F0 m 59 ls []) := by
                  intro fuel
                  induction fuel with
                  | zero => intro b hbb hf; exact absurd hf (Nat.not_lt_zero _)
                  | succ fuel ih_loop_8 =>
                    intro b hbb hfuel_loop_8 H locs hw ls hl
                    refine lv_iload hx hb dX4_passes_59 (lv_at hl 0 rfl) ?_
                    refine lv_aload_n hx hb dX4_passes_61 rfl (lv_at hl 3 rfl) ?_
                    refine g_get X cfX4 hw 0 0 rfl rfl q1834 rfl rfl dX4_passes_62 ?_
                    refine lv_bipush (v := 50) hx hb dX4_passes_65 (by decide) ?_
                    refine g_iald X hw 1 rfl (i := 50) (by decide) (by decide) dX4_passes_67 ?_
                    refine g_top (y := hoursG g i 50) ((setsL_n b (by omega) (by omega)).trans (hourRain_n (by omega))) ?_
                    refine lv_icmp_ge (tgt := 83) hx hb dX4_passes_68 (by decide) (fun c_9 => ?_) (fun c_9 => ?_)
                    · skip
                      have c_9 := Int32.not_lt.mpr c_9
                      have c_9n := c_9
                      rw [hIi.c.1] at c_9n
                      have c_9n : ¬ (b < nn (hoursG g i) 50) := fun q => c_9n ((nI_ltI (a := b) (b := nn (hoursG g i) 50) (by omega) (by omega)).mpr q)
                      obtain rfl : b = nn (hoursG g i) 50 := by omega
                      refine lv_aload_n hx hb dX4_passes_83 rfl (lv_at hl 3 rfl) ?_
                      refine g_get X cfX4 hw 0 0 rfl rfl q1834 rfl rfl dX4_passes_84 ?_
                      refine lv_iconst (v := 0) hx hb dX4_passes_87 (by decide) ?_
                      refine lv_dup2_11 hx hb dX4_passes_88 rfl rfl ?_
                      refine g_iald X hw 1 rfl (i := 0) (by decide) (by decide) dX4_passes_89 ?_
                      refine lv_iconst (v := 1) hx hb dX4_passes_90 (by decide) ?_
                      refine lv_iadd hx hb dX4_passes_91 ?_
                      refine g_iast (ws' := (mo, .inr (4, [.ref ag, .ref ab, .ref ah, .int ch, .ref asv, .int hs, .ref ai, .int ty, .int wy, .int wd, .ref al, .int li, .int pl, .int iw, .ref at_])) :: (ag, .inl (dA 0, 310, .inl (upd (setsL (hourRain (hoursG g i)) (nn (hoursG g i) 50)) 0 (((setsL (hourRain (hoursG g i)) (nn (hoursG g i) 50)) 0) + 1)))) :: R) X hw 1 rfl (i := 0) (by decide) (by decide) rfl dX4_passes_92 (fun H locs hw => ?_)
                      refine lv_aload_n hx hb dX4_passes_93 rfl (lv_at hl 3 rfl) ?_
                      refine g_get X cfX4 hw 0 0 rfl rfl q1834 rfl rfl dX4_passes_94 ?_
                      refine lv_iconst (v := 0) hx hb dX4_passes_97 (by decide) ?_
                      refine g_iald X hw 1 rfl (i := 0) (by decide) (by decide) dX4_passes_98 ?_
                      refine g_top (y := ((setsL (hourRain (hoursG g i)) (nn (hoursG g i) 50)) 0) + 1) (upd_s) ?_
                      refine lv_bipush (v := 24) hx hb dX4_passes_99 (by decide) ?_
                      refine lv_irem hx hb dX4_passes_101 (by decide) ?_
                      refine lv_if_ne (tgt := 109) hx hb dX4_passes_102 (by decide) (fun c_10 => ?_) (fun c_10 => ?_)
                      · skip
                        refine lv_iinc (v := nI (i + 1)) (lv' := [(3, .int (nI (i + 1))), (4, .int (nI (nn (hoursG g i) 50))), (2, .int (hoursW g i + hourWall (hoursG g i))), (0, .ref mo), (1, .int (nI j))]) hx hb dX4_passes_109 hl (k := 1) rfl (nI_add i 1) (by decide) rfl (fun ls hl => ?_)
                        refine lv_goto (tgt := 17) hx hb dX4_passes_112 (by decide) ?_
                        have hw : gW D A ((mo, .inr (4, [.ref ag, .ref ab, .ref ah, .int ch, .ref asv, .int hs, .ref ai, .int ty, .int wy, .int wd, .ref al, .int li, .int pl, .int iw, .ref at_])) :: (ag, .inl (dA 0, 310, .inl (hoursG g (i + 1)))) :: R) s _ _ := g_ws hw (by rw [show hoursG g (i + 1) = p_hour (hoursG g i) from rfl, ← hour_f c_10]; rfl)
                        have hl : lv_has ls 5 [(3, .int (nI (i + 1))), (2, .int (hoursW g i + hourWall (hoursG g i))), (0, .ref mo), (1, .int (nI j))] := (lv_sub hl [0, 2, 3, 4] rfl)
                        have hl : lv_has ls 5 [(3, .int (nI (i + 1))), (2, .int (hoursW g (i + 1))), (0, .ref mo), (1, .int (nI j))] := by exact hl
                        exact ih_loop_4 (i + 1) (by first | assumption | omega) (by omega) _ _ hw _ (hl)
                      · skip
                        refine lv_aload_n hx hb dX4_passes_105 rfl (lv_at hl 3 rfl) ?_
                        refine va_callv (va_runV (As := []) (rest := []) X.1 (m_X4_endsDay l D dA A E hE R mo ag ab ah asv ai al at_ ch hs ty wy wd li pl iw (upd (setsL (hourRain (hoursG g i)) (nn (hoursG g i) 50)) 0 (((setsL (hourRain (hoursG g i)) (nn (hoursG g i) 50)) 0) + 1)) ((hIi.l_hrain.l_sets hc10).l_tick)) (cwV 0 X.1.2.2.2.2 (lw_V q2091 q2093 qs50 q80 q2094) rfl rfl rfl (by decide +kernel) ⟨Nat.le_of_ble_eq_true rfl, Nat.le_of_ble_eq_true rfl⟩) (g_preV hE X.2 hw 0 rfl rfl) rfl rfl hl.1 rfl (lv_room (Nat.le_of_ble_eq_true rfl)) dX4_passes_106 ⟨Nat.le_of_ble_eq_true rfl, Nat.le_of_ble_eq_true rfl⟩) hw.2.2 (fun q _ h => h) (fun q h => h) (fun u t H locs ht hvm h_11 hB hz9 hk9 hS => ?_)
                        have hw : gW D A ((mo, .inr (4, [.ref ag, .ref ab, .ref ah, .int ch, .ref asv, .int hs, .ref ai, .int ty, .int wy, .int wd, .ref al, .int li, .int pl, .int iw, .ref at_])) :: (ag, .inl (dA 0, 310, .inl (p_endsDay (upd (setsL (hourRain (hoursG g i)) (nn (hoursG g i) 50)) 0 (((setsL (hourRain (hoursG g i)) (nn (hoursG g i) 50)) 0) + 1))))) :: R) s H locs := g_aft ht hB hS
                        refine lv_iinc (v := nI (i + 1)) (lv' := [(3, .int (nI (i + 1))), (4, .int (nI (nn (hoursG g i) 50))), (2, .int (hoursW g i + hourWall (hoursG g i))), (0, .ref mo), (1, .int (nI j))]) hx hb dX4_passes_109 hl (k := 1) rfl (nI_add i 1) (by decide) rfl (fun ls hl => ?_)
                        refine lv_goto (tgt := 17) hx hb dX4_passes_112 (by decide) ?_
                        have hw : gW D A ((mo, .inr (4, [.ref ag, .ref ab, .ref ah, .int ch, .ref asv, .int hs, .ref ai, .int ty, .int wy, .int wd, .ref al, .int li, .int pl, .int iw, .ref at_])) :: (ag, .inl (dA 0, 310, .inl (hoursG g (i + 1)))) :: R) s _ _ := g_ws hw (by rw [show hoursG g (i + 1) = p_hour (hoursG g i) from rfl, ← hour_t c_10]; rfl)
                        have hl : lv_has ls 5 [(3, .int (nI (i + 1))), (2, .int (hoursW g i + hourWall (hoursG g i))), (0, .ref mo), (1, .int (nI j))] := (lv_sub hl [0, 2, 3, 4] rfl)
                        have hl : lv_has ls 5 [(3, .int (nI (i + 1))), (2, .int (hoursW g (i + 1))), (0, .ref mo), (1, .int (nI j))] := by exact hl
                        exact ih_loop_4 (i + 1) (by first | assumption | omega) (by omega) _ _ hw _ (hl)
                    · skip
                      have c_9 := Int32.not_le.mp c_9
                      have c_9n := c_9
                      rw [hIi.c.1] at c_9n
                      have c_9n : b < nn (hoursG g i) 50 := (nI_ltI (a := b) (b := nn (hoursG g i) 50) (by omega) (by omega)).mp c_9n
                      refine lv_aload_n hx hb dX4_passes_71 rfl (lv_at hl 3 rfl) ?_
                      refine lv_iload hx hb dX4_passes_72 (lv_at hl 0 rfl) ?_
                      refine va_callv (va_runV (As := [.int (nI b)]) (rest := []) X.1 (m_X4_sets l D dA A E hE R mo ag ab ah asv ai al at_ ch hs ty wy wd li pl iw (setsL (hourRain (hoursG g i)) b) b (by first | assumption | omega)) (cwV 1 X.1.2.2.2.2 (lw_V q2087 q2089 qs49 q80 q2090) rfl rfl rfl (by decide +kernel) ⟨Nat.le_of_ble_eq_true rfl, Nat.le_of_ble_eq_true rfl⟩) (g_preV hE X.2 hw 0 rfl rfl) rfl rfl hl.1 rfl (lv_room (Nat.le_of_ble_eq_true rfl)) dX4_passes_74 ⟨Nat.le_of_ble_eq_true rfl, Nat.le_of_ble_eq_true rfl⟩) hw.2.2 (fun q _ h => h) (fun q h => h) (fun u t H locs ht hvm h_12 hB hz9 hk9 hS => ?_)
                      have hw : gW D A ((mo, .inr (4, [.ref ag, .ref ab, .ref ah, .int ch, .ref asv, .int hs, .ref ai, .int ty, .int wy, .int wd, .ref al, .int li, .int pl, .int iw, .ref at_])) :: (ag, .inl (dA 0, 310, .inl (p_sets (setsL (hourRain (hoursG g i)) b) b))) :: R) s H locs := g_aft ht hB hS
                      refine lv_iinc (v := nI (b + 1)) (lv' := [(4, .int (nI (b + 1))), (3, .int (nI i)), (2, .int (hoursW g i + hourWall (hoursG g i))), (0, .ref mo), (1, .int (nI j))]) hx hb dX4_passes_77 hl (k := 0) rfl (nI_add b 1) (by decide) rfl (fun ls hl => ?_)
                      refine lv_goto (tgt := 59) hx hb dX4_passes_80 (by decide) ?_
                      have hw : gW D A ((mo, .inr (4, [.ref ag, .ref ab, .ref ah, .int ch, .ref asv, .int hs, .ref ai, .int ty, .int wy, .int wd, .ref al, .int li, .int pl, .int iw, .ref at_])) :: (ag, .inl (dA 0, 310, .inl (setsL (hourRain (hoursG g i)) (b + 1)))) :: R) s _ _ := g_ws hw (by rfl)
                      exact ih_loop_8 (b + 1) (by first | assumption | omega) (by omega) _ _ hw _ (lv_sub hl [0, 1, 2, 3, 4] rfl)
                have hw : gW D A ((mo, .inr (4, [.ref ag, .ref ab, .ref ah, .int ch, .ref asv, .int hs, .ref ai, .int ty, .int wy, .int wd, .ref al, .int li, .int pl, .int iw, .ref at_])) :: (ag, .inl (dA 0, 310, .inl (setsL (hourRain (hoursG g i)) 0))) :: R) s _ _ := g_ws hw (by rfl)
                exact loop_8 ((nn (hoursG g i) 50 - 0) + 1) 0 (by first | assumption | omega) (Nat.lt_succ_self _) _ _ hw _ (lv_sub hl [0, 1, 2, 3, 4] rfl)
              · skip
                have c_7 := Int32.not_le.mp c_7
                have c_7 : b < 6 := (nI_ltI (a := b) (b := 6) (by omega) (by omega)).mp c_7
                refine lv_aload_n hx hb dX4_passes_32 rfl (lv_at hl 3 rfl) ?_
                refine g_get X cfX4 hw 0 0 rfl rfl q1834 rfl rfl dX4_passes_33 ?_
                refine lv_iconst (v := 1) hx hb dX4_passes_36 (by decide) ?_
                refine g_iald X hw 1 rfl (i := 1) (by decide) (by decide) dX4_passes_37 ?_
                refine g_top (y := hoursG g i 1) (rainL_n b (by omega) (by omega)) ?_
                refine lv_if_le (tgt := 56) hx hb dX4_passes_38 (by decide) (fun c_13 => ?_) (fun c_13 => ?_)
                · skip
                  have c_13 := Int32.not_lt.mpr c_13
                  obtain ⟨er1, er2⟩ := rain_done hb6 hb0 (Or.inr c_13)
                  have hw : gW D A ((mo, .inr (4, [.ref ag, .ref ab, .ref ah, .int ch, .ref asv, .int hs, .ref ai, .int ty, .int wy, .int wd, .ref al, .int li, .int pl, .int iw, .ref at_])) :: (ag, .inl (dA 0, 310, .inl (hourRain (hoursG g i)))) :: R) s _ _ := g_ws hw (by rw [er1])
                  rw [er2] at hl
                  have hl : lv_has ls 5 [(4, .int (nI b)), (3, .int (nI i)), (2, .int (hoursW g i + hourWall (hoursG g i))), (0, .ref mo), (1, .int (nI j))] := hl
                  refine lv_iconst (v := 0) hx hb dX4_passes_56 (by decide) ?_
                  refine lv_istore (lv' := [(4, .int 0), (3, .int (nI i)), (2, .int (hoursW g i + hourWall (hoursG g i))), (0, .ref mo), (1, .int (nI j))]) hx hb dX4_passes_57 hl (by decide) rfl (fun ls hl => ?_)
                  have loop_14 : ∀ (fuel : Nat) (b : Nat), ∀ (hbb : b ≤ nn (hoursG g i) 50), (nn (hoursG g i) 50 - b) < fuel → ∀ (H : Heap) (locs : List Loc) (hw : gW D A ((mo, .inr (4, [.ref ag, .ref ab, .ref ah, .int ch, .ref asv, .int hs, .ref ai, .int ty, .int wy, .int wd, .ref al, .int li, .int pl, .int iw, .ref at_])) :: (ag, .inl (dA 0, 310, .inl (setsL (hourRain (hoursG g i)) b))) :: R) s H locs) (ls : Array Slot) (hl : lv_has ls 5 [(4, .int (nI b)), (3, .int (nI i)), (2, .int (hoursW g i + hourWall (hoursG g i))), (0, .ref mo), (1, .int (nI j))]), W p l e ({ frames := 2, cells := 0, slots := 0, locals := 46 }) s m args below meth c H locs (0) (0) (MQ below (va_Qi (fun (r : Int32) (_ : Unit) => r = gr_v (p_passesI g (nI j))) (fun _ => gE D A ((mo, .inr (4, [.ref ag, .ref ab, .ref ah, .int ch, .ref asv, .int hs, .ref ai, .int ty, .int wy, .int wd, .ref al, .int li, .int pl, .int iw, .ref at_])) :: (ag, .inl (dA 0, 310, .inl (gr_g g (p_passesI g (nI j))))) :: R)) A) args s (0) (0) A) (F0 m 59 ls []) := by
                    intro fuel
                    induction fuel with
                    | zero => intro b hbb hf; exact absurd hf (Nat.not_lt_zero _)
                    | succ fuel ih_loop_14 =>
                      intro b hbb hfuel_loop_14 H locs hw ls hl
                      refine lv_iload hx hb dX4_passes_59 (lv_at hl 0 rfl) ?_
                      refine lv_aload_n hx hb dX4_passes_61 rfl (lv_at hl 3 rfl) ?_
                      refine g_get X cfX4 hw 0 0 rfl rfl q1834 rfl rfl dX4_passes_62 ?_
                      refine lv_bipush (v := 50) hx hb dX4_passes_65 (by decide) ?_
                      refine g_iald X hw 1 rfl (i := 50) (by decide) (by decide) dX4_passes_67 ?_
                      refine g_top (y := hoursG g i 50) ((setsL_n b (by omega) (by omega)).trans (hourRain_n (by omega))) ?_
                      refine lv_icmp_ge (tgt := 83) hx hb dX4_passes_68 (by decide) (fun c_15 => ?_) (fun c_15 => ?_)
                      · skip
                        have c_15 := Int32.not_lt.mpr c_15
                        have c_15n := c_15
                        rw [hIi.c.1] at c_15n
                        have c_15n : ¬ (b < nn (hoursG g i) 50) := fun q => c_15n ((nI_ltI (a := b) (b := nn (hoursG g i) 50) (by omega) (by omega)).mpr q)
                        obtain rfl : b = nn (hoursG g i) 50 := by omega
                        refine lv_aload_n hx hb dX4_passes_83 rfl (lv_at hl 3 rfl) ?_
                        refine g_get X cfX4 hw 0 0 rfl rfl q1834 rfl rfl dX4_passes_84 ?_
                        refine lv_iconst (v := 0) hx hb dX4_passes_87 (by decide) ?_
                        refine lv_dup2_11 hx hb dX4_passes_88 rfl rfl ?_
                        refine g_iald X hw 1 rfl (i := 0) (by decide) (by decide) dX4_passes_89 ?_
                        refine lv_iconst (v := 1) hx hb dX4_passes_90 (by decide) ?_
                        refine lv_iadd hx hb dX4_passes_91 ?_
                        refine g_iast (ws' := (mo, .inr (4, [.ref ag, .ref ab, .ref ah, .int ch, .ref asv, .int hs, .ref ai, .int ty, .int wy, .int wd, .ref al, .int li, .int pl, .int iw, .ref at_])) :: (ag, .inl (dA 0, 310, .inl (upd (setsL (hourRain (hoursG g i)) (nn (hoursG g i) 50)) 0 (((setsL (hourRain (hoursG g i)) (nn (hoursG g i) 50)) 0) + 1)))) :: R) X hw 1 rfl (i := 0) (by decide) (by decide) rfl dX4_passes_92 (fun H locs hw => ?_)
                        refine lv_aload_n hx hb dX4_passes_93 rfl (lv_at hl 3 rfl) ?_
                        refine g_get X cfX4 hw 0 0 rfl rfl q1834 rfl rfl dX4_passes_94 ?_
                        refine lv_iconst (v := 0) hx hb dX4_passes_97 (by decide) ?_
                        refine g_iald X hw 1 rfl (i := 0) (by decide) (by decide) dX4_passes_98 ?_
                        refine g_top (y := ((setsL (hourRain (hoursG g i)) (nn (hoursG g i) 50)) 0) + 1) (upd_s) ?_
                        refine lv_bipush (v := 24) hx hb dX4_passes_99 (by decide) ?_
                        refine lv_irem hx hb dX4_passes_101 (by decide) ?_
                        refine lv_if_ne (tgt := 109) hx hb dX4_passes_102 (by decide) (fun c_16 => ?_) (fun c_16 => ?_)
                        · skip
                          refine lv_iinc (v := nI (i + 1)) (lv' := [(3, .int (nI (i + 1))), (4, .int (nI (nn (hoursG g i) 50))), (2, .int (hoursW g i + hourWall (hoursG g i))), (0, .ref mo), (1, .int (nI j))]) hx hb dX4_passes_109 hl (k := 1) rfl (nI_add i 1) (by decide) rfl (fun ls hl => ?_)
                          refine lv_goto (tgt := 17) hx hb dX4_passes_112 (by decide) ?_
                          have hw : gW D A ((mo, .inr (4, [.ref ag, .ref ab, .ref ah, .int ch, .ref asv, .int hs, .ref ai, .int ty, .int wy, .int wd, .ref al, .int li, .int pl, .int iw, .ref at_])) :: (ag, .inl (dA 0, 310, .inl (hoursG g (i + 1)))) :: R) s _ _ := g_ws hw (by rw [show hoursG g (i + 1) = p_hour (hoursG g i) from rfl, ← hour_f c_16]; rfl)
                          have hl : lv_has ls 5 [(3, .int (nI (i + 1))), (2, .int (hoursW g i + hourWall (hoursG g i))), (0, .ref mo), (1, .int (nI j))] := (lv_sub hl [0, 2, 3, 4] rfl)
                          have hl : lv_has ls 5 [(3, .int (nI (i + 1))), (2, .int (hoursW g (i + 1))), (0, .ref mo), (1, .int (nI j))] := by exact hl
                          exact ih_loop_4 (i + 1) (by first | assumption | omega) (by omega) _ _ hw _ (hl)
                        · skip
                          refine lv_aload_n hx hb dX4_passes_105 rfl (lv_at hl 3 rfl) ?_
                          refine va_callv (va_runV (As := []) (rest := []) X.1 (m_X4_endsDay l D dA A E hE R mo ag ab ah asv ai al at_ ch hs ty wy wd li pl iw (upd (setsL (hourRain (hoursG g i)) (nn (hoursG g i) 50)) 0 (((setsL (hourRain (hoursG g i)) (nn (hoursG g i) 50)) 0) + 1)) ((hIi.l_hrain.l_sets hc10).l_tick)) (cwV 0 X.1.2.2.2.2 (lw_V q2091 q2093 qs50 q80 q2094) rfl rfl rfl (by decide +kernel) ⟨Nat.le_of_ble_eq_true rfl, Nat.le_of_ble_eq_true rfl⟩) (g_preV hE X.2 hw 0 rfl rfl) rfl rfl hl.1 rfl (lv_room (Nat.le_of_ble_eq_true rfl)) dX4_passes_106 ⟨Nat.le_of_ble_eq_true rfl, Nat.le_of_ble_eq_true rfl⟩) hw.2.2 (fun q _ h => h) (fun q h => h) (fun u t H locs ht hvm h_17 hB hz9 hk9 hS => ?_)
                          have hw : gW D A ((mo, .inr (4, [.ref ag, .ref ab, .ref ah, .int ch, .ref asv, .int hs, .ref ai, .int ty, .int wy, .int wd, .ref al, .int li, .int pl, .int iw, .ref at_])) :: (ag, .inl (dA 0, 310, .inl (p_endsDay (upd (setsL (hourRain (hoursG g i)) (nn (hoursG g i) 50)) 0 (((setsL (hourRain (hoursG g i)) (nn (hoursG g i) 50)) 0) + 1))))) :: R) s H locs := g_aft ht hB hS
                          refine lv_iinc (v := nI (i + 1)) (lv' := [(3, .int (nI (i + 1))), (4, .int (nI (nn (hoursG g i) 50))), (2, .int (hoursW g i + hourWall (hoursG g i))), (0, .ref mo), (1, .int (nI j))]) hx hb dX4_passes_109 hl (k := 1) rfl (nI_add i 1) (by decide) rfl (fun ls hl => ?_)
                          refine lv_goto (tgt := 17) hx hb dX4_passes_112 (by decide) ?_
                          have hw : gW D A ((mo, .inr (4, [.ref ag, .ref ab, .ref ah, .int ch, .ref asv, .int hs, .ref ai, .int ty, .int wy, .int wd, .ref al, .int li, .int pl, .int iw, .ref at_])) :: (ag, .inl (dA 0, 310, .inl (hoursG g (i + 1)))) :: R) s _ _ := g_ws hw (by rw [show hoursG g (i + 1) = p_hour (hoursG g i) from rfl, ← hour_t c_16]; rfl)
                          have hl : lv_has ls 5 [(3, .int (nI (i + 1))), (2, .int (hoursW g i + hourWall (hoursG g i))), (0, .ref mo), (1, .int (nI j))] := (lv_sub hl [0, 2, 3, 4] rfl)
                          have hl : lv_has ls 5 [(3, .int (nI (i + 1))), (2, .int (hoursW g (i + 1))), (0, .ref mo), (1, .int (nI j))] := by exact hl
                          exact ih_loop_4 (i + 1) (by first | assumption | omega) (by omega) _ _ hw _ (hl)
                      · skip
                        have c_15 := Int32.not_le.mp c_15
                        have c_15n := c_15
                        rw [hIi.c.1] at c_15n
                        have c_15n : b < nn (hoursG g i) 50 := (nI_ltI (a := b) (b := nn (hoursG g i) 50) (by omega) (by omega)).mp c_15n
                        refine lv_aload_n hx hb dX4_passes_71 rfl (lv_at hl 3 rfl) ?_
                        refine lv_iload hx hb dX4_passes_72 (lv_at hl 0 rfl) ?_
                        refine va_callv (va_runV (As := [.int (nI b)]) (rest := []) X.1 (m_X4_sets l D dA A E hE R mo ag ab ah asv ai al at_ ch hs ty wy wd li pl iw (setsL (hourRain (hoursG g i)) b) b (by first | assumption | omega)) (cwV 1 X.1.2.2.2.2 (lw_V q2087 q2089 qs49 q80 q2090) rfl rfl rfl (by decide +kernel) ⟨Nat.le_of_ble_eq_true rfl, Nat.le_of_ble_eq_true rfl⟩) (g_preV hE X.2 hw 0 rfl rfl) rfl rfl hl.1 rfl (lv_room (Nat.le_of_ble_eq_true rfl)) dX4_passes_74 ⟨Nat.le_of_ble_eq_true rfl, Nat.le_of_ble_eq_true rfl⟩) hw.2.2 (fun q _ h => h) (fun q h => h) (fun u t H locs ht hvm h_18 hB hz9 hk9 hS => ?_)
                        have hw : gW D A ((mo, .inr (4, [.ref ag, .ref ab, .ref ah, .int ch, .ref asv, .int hs, .ref ai, .int ty, .int wy, .int wd, .ref al, .int li, .int pl, .int iw, .ref at_])) :: (ag, .inl (dA 0, 310, .inl (p_sets (setsL (hourRain (hoursG g i)) b) b))) :: R) s H locs := g_aft ht hB hS
                        refine lv_iinc (v := nI (b + 1)) (lv' := [(4, .int (nI (b + 1))), (3, .int (nI i)), (2, .int (hoursW g i + hourWall (hoursG g i))), (0, .ref mo), (1, .int (nI j))]) hx hb dX4_passes_77 hl (k := 0) rfl (nI_add b 1) (by decide) rfl (fun ls hl => ?_)
                        refine lv_goto (tgt := 59) hx hb dX4_passes_80 (by decide) ?_
                        have hw : gW D A ((mo, .inr (4, [.ref ag, .ref ab, .ref ah, .int ch, .ref asv, .int hs, .ref ai, .int ty, .int wy, .int wd, .ref al, .int li, .int pl, .int iw, .ref at_])) :: (ag, .inl (dA 0, 310, .inl (setsL (hourRain (hoursG g i)) (b + 1)))) :: R) s _ _ := g_ws hw (by rfl)
                        exact ih_loop_14 (b + 1) (by first | assumption | omega) (by omega) _ _ hw _ (lv_sub hl [0, 1, 2, 3, 4] rfl)
                  have hw : gW D A ((mo, .inr (4, [.ref ag, .ref ab, .ref ah, .int ch, .ref asv, .int hs, .ref ai, .int ty, .int wy, .int wd, .ref al, .int li, .int pl, .int iw, .ref at_])) :: (ag, .inl (dA 0, 310, .inl (setsL (hourRain (hoursG g i)) 0))) :: R) s _ _ := g_ws hw (by rfl)
                  exact loop_14 ((nn (hoursG g i) 50 - 0) + 1) 0 (by first | assumption | omega) (Nat.lt_succ_self _) _ _ hw _ (lv_sub hl [0, 1, 2, 3, 4] rfl)
                · skip
                  have c_13 := Int32.not_le.mp c_13
                  refine lv_iload_n hx hb dX4_passes_41 rfl (lv_at hl 2 rfl) ?_
                  refine lv_aload_n hx hb dX4_passes_42 rfl (lv_at hl 3 rfl) ?_
                  refine lv_iload hx hb dX4_passes_43 (lv_at hl 0 rfl) ?_
                  refine va_calli (va_runV (As := [.int (nI b)]) (rest := [.int (hoursW g i + wallL (hoursG g i) b)]) X.1 (m_X4_rainsOn l D dA A E hE R mo ag ab ah asv ai al at_ ch hs ty wy wd li pl iw (rainL (hoursG g i) b) (hIi.l_rain hb6) b (by first | assumption | omega)) (cwV 1 X.1.2.2.2.2 (lw_V q2083 q2085 qs48 q80 q2086) rfl rfl rfl (by decide +kernel) ⟨Nat.le_of_ble_eq_true rfl, Nat.le_of_ble_eq_true rfl⟩) (g_preV hE X.2 hw 0 rfl rfl) rfl rfl hl.1 rfl (lv_room (Nat.le_of_ble_eq_true rfl)) dX4_passes_45 ⟨Nat.le_of_ble_eq_true rfl, Nat.le_of_ble_eq_true rfl⟩) hw.2.2 (fun q _ h => h) (fun q h => h) (fun r_20 u t H locs ht hvm h_19 hB hz9 hk9 hS => ?_)
                  have hw : gW D A ((mo, .inr (4, [.ref ag, .ref ab, .ref ah, .int ch, .ref asv, .int hs, .ref ai, .int ty, .int wy, .int wd, .ref al, .int li, .int pl, .int iw, .ref at_])) :: (ag, .inl (dA 0, 310, .inl (p_rainsOn (rainL (hoursG g i) b) b))) :: R) s H locs := g_aft ht hB hS
                  obtain rfl : r_20 = wallI (rainL (hoursG g i) b) b := h_19
                  refine lv_iadd hx hb dX4_passes_48 ?_
                  refine lv_istore_n (lv' := [(2, .int ((hoursW g i + wallL (hoursG g i) b) + (wallI (rainL (hoursG g i) b) b))), (4, .int (nI b)), (3, .int (nI i)), (0, .ref mo), (1, .int (nI j))]) hx hb dX4_passes_49 rfl hl (by decide) rfl (fun ls hl => ?_)
                  refine lv_iinc (v := nI (b + 1)) (lv' := [(4, .int (nI (b + 1))), (2, .int ((hoursW g i + wallL (hoursG g i) b) + (wallI (rainL (hoursG g i) b) b))), (3, .int (nI i)), (0, .ref mo), (1, .int (nI j))]) hx hb dX4_passes_50 hl (k := 1) rfl (nI_add b 1) (by decide) rfl (fun ls hl => ?_)
                  refine lv_goto (tgt := 25) hx hb dX4_passes_53 (by decide) ?_
                  have hw : gW D A ((mo, .inr (4, [.ref ag, .ref ab, .ref ah, .int ch, .ref asv, .int hs, .ref ai, .int ty, .int wy, .int wd, .ref al, .int li, .int pl, .int iw, .ref at_])) :: (ag, .inl (dA 0, 310, .inl (rainL (hoursG g i) (b + 1)))) :: R) s _ _ := g_ws hw (by rfl)
                  have hl : lv_has ls 5 [(4, .int (nI (b + 1))), (3, .int (nI i)), (2, .int ((hoursW g i + wallL (hoursG g i) b) + (wallI (rainL (hoursG g i) b) b))), (0, .ref mo), (1, .int (nI j))] := (lv_sub hl [0, 2, 1, 3, 4] rfl)
                  rw [show (hoursW g i + wallL (hoursG g i) b) + (wallI (rainL (hoursG g i) b) b) = hoursW g i + wallL (hoursG g i) (b + 1) from by rw [Int32.add_assoc]; rfl] at hl
                  have hl : lv_has ls 5 [(4, .int (nI (b + 1))), (3, .int (nI i)), (2, .int (hoursW g i + wallL (hoursG g i) (b + 1))), (0, .ref mo), (1, .int (nI j))] := hl
                  exact ih_loop_6 (b + 1) (by first | assumption | omega) (Or.inr c_13) (by omega) _ _ hw _ (hl)
          have hw : gW D A ((mo, .inr (4, [.ref ag, .ref ab, .ref ah, .int ch, .ref asv, .int hs, .ref ai, .int ty, .int wy, .int wd, .ref al, .int li, .int pl, .int iw, .ref at_])) :: (ag, .inl (dA 0, 310, .inl (rainL (hoursG g i) 0))) :: R) s _ _ := g_ws hw (by rfl)
          have hl : lv_has ls 5 [(4, .int 0), (3, .int (nI i)), (2, .int (hoursW g i)), (0, .ref mo), (1, .int (nI j))] := (lv_sub hl [0, 1, 2, 3, 4] rfl)
          have hl : lv_has ls 5 [(4, .int 0), (3, .int (nI i)), (2, .int (hoursW g i + wallL (hoursG g i) 0)), (0, .ref mo), (1, .int (nI j))] := by rw [show wallL (hoursG g i) 0 = 0 from rfl, Int32.add_zero]; exact hl
          exact loop_6 ((6 - 0) + 1) 0 (by first | assumption | omega) (Or.inl rfl) (Nat.lt_succ_self _) _ _ hw _ (hl)
    have hw : gW D A ((mo, .inr (4, [.ref ag, .ref ab, .ref ah, .int ch, .ref asv, .int hs, .ref ai, .int ty, .int wy, .int wd, .ref al, .int li, .int pl, .int iw, .ref at_])) :: (ag, .inl (dA 0, 310, .inl (hoursG g 0))) :: R) s _ _ := g_ws hw (by rfl)
    have hl : lv_has ls 5 [(3, .int 0), (2, .int 0), (0, .ref mo), (1, .int (nI j))] := (lv_sub hl [0, 1, 2, 3] rfl)
    have hl : lv_has ls 5 [(3, .int 0), (2, .int (hoursW g 0)), (0, .ref mo), (1, .int (nI j))] := by exact hl
    exact loop_4 ((j - 0) + 1) 0 (by first | assumption | omega) (Nat.lt_succ_self _) _ _ hw _ (hl)
  · skip
    have c_3 := bZ_0.mp c_3
    refine lv_bipush (v := (-12)) hx hb dX4_passes_10 (by decide) ?_
    have hop : p_passesI g v = .inr ((-12), g) := by simp [p_passesI, c_3]
    exact g_iret (v := (-12)) () X hw hr hlocks  (by rw [hop]; rfl) (by rw [hop]; rfl) dX4_passes_12
