-- ===== PART A: goes FIRST, ahead of the names: the tables' words, and 'selects' of the private methods out of them =====
/-- a private method of a class that the tables say can be made, by its rows of tables_1 -/
def lw_okq (q : MethodName × Nat) : Prop := (q.1.cls ≠ "java/lang/invoke/MethodHandle" ∧ q.1.cls ≠ "java/lang/invoke/VarHandle") ∧ Cond.instantiable q.1.cls q.2 ∈ tables_1 ∧ Cond.privateMethod q.1 ∈ tables_1 ∧ Cond.instanceMethod q.1 ∈ tables_1
set_option maxRecDepth 100000
theorem lw_t1 {w : Cond} (h : w ∈ tables_1_1) : w ∈ tables_1 := List.mem_append_left _ h
theorem lw_t2 {w : Cond} (h : w ∈ tables_1_2) : w ∈ tables_1 := List.mem_append_right _ (List.mem_append_left _ h)
theorem lw_t3 {w : Cond} (h : w ∈ tables_1_3) : w ∈ tables_1 := List.mem_append_right _ (List.mem_append_right _ (List.mem_append_left _ h))
theorem lw_t4 {w : Cond} (h : w ∈ tables_1_4) : w ∈ tables_1 := List.mem_append_right _ (List.mem_append_right _ (List.mem_append_right _ (List.mem_append_left _ h)))
theorem lw_t5 {w : Cond} (h : w ∈ tables_1_5) : w ∈ tables_1 := List.mem_append_right _ (List.mem_append_right _ (List.mem_append_right _ (List.mem_append_right _ (List.mem_append_left _ h))))
theorem lw_t6 {w : Cond} (h : w ∈ tables_1_6) : w ∈ tables_1 := List.mem_append_right _ (List.mem_append_right _ (List.mem_append_right _ (List.mem_append_right _ (List.mem_append_right _ (List.mem_append_left _ h)))))
theorem lw_t7 {w : Cond} (h : w ∈ tables_1_7) : w ∈ tables_1 := List.mem_append_right _ (List.mem_append_right _ (List.mem_append_right _ (List.mem_append_right _ (List.mem_append_right _ (List.mem_append_right _ (List.mem_append_left _ h))))))
theorem lw_t8 {w : Cond} (h : w ∈ tables_1_8) : w ∈ tables_1 := List.mem_append_right _ (List.mem_append_right _ (List.mem_append_right _ (List.mem_append_right _ (List.mem_append_right _ (List.mem_append_right _ (List.mem_append_right _ (List.mem_append_left _ h)))))))
theorem lw_t9 {w : Cond} (h : w ∈ tables_1_9) : w ∈ tables_1 := List.mem_append_right _ (List.mem_append_right _ (List.mem_append_right _ (List.mem_append_right _ (List.mem_append_right _ (List.mem_append_right _ (List.mem_append_right _ (List.mem_append_right _ (List.mem_append_left _ h))))))))
theorem lw_t10 {w : Cond} (h : w ∈ tables_1_10) : w ∈ tables_1 := List.mem_append_right _ (List.mem_append_right _ (List.mem_append_right _ (List.mem_append_right _ (List.mem_append_right _ (List.mem_append_right _ (List.mem_append_right _ (List.mem_append_right _ (List.mem_append_right _ h))))))))
theorem lw_p0 : lw_okq (⟨"java/util/ArrayList", "add", "(Ljava/lang/Object;[Ljava/lang/Object;I)V"⟩, 3) := ⟨⟨by decide +kernel, by decide +kernel⟩, lw_t1 (List.mem_of_getElem? (i := 64) rfl), lw_t1 (List.mem_of_getElem? (i := 144) rfl), lw_t1 (List.mem_of_getElem? (i := 145) rfl)⟩
theorem lw_p1 : lw_okq (⟨"java/util/ArrayList", "grow", "()[Ljava/lang/Object;"⟩, 3) := ⟨⟨by decide +kernel, by decide +kernel⟩, lw_t1 (List.mem_of_getElem? (i := 64) rfl), lw_t1 (List.mem_of_getElem? (i := 148) rfl), lw_t1 (List.mem_of_getElem? (i := 149) rfl)⟩
theorem lw_p2 : lw_okq (⟨"java/util/ArrayList", "grow", "(I)[Ljava/lang/Object;"⟩, 3) := ⟨⟨by decide +kernel, by decide +kernel⟩, lw_t1 (List.mem_of_getElem? (i := 64) rfl), lw_t1 (List.mem_of_getElem? (i := 152) rfl), lw_t1 (List.mem_of_getElem? (i := 153) rfl)⟩
theorem lw_p3 : lw_okq (⟨"java/lang/Throwable", "fillInStackTrace", "(I)Ljava/lang/Throwable;"⟩, 6) := ⟨⟨by decide +kernel, by decide +kernel⟩, lw_t3 (List.mem_of_getElem? (i := 1) rfl), lw_t2 (List.mem_of_getElem? (i := 239) rfl), lw_t3 (List.mem_of_getElem? (i := 0) rfl)⟩
theorem lw_p4 : lw_okq (⟨"GargoyleCopyists$Church", "takesNumbers", "(LGargoyleCopyists$Church;)V"⟩, 12) := ⟨⟨by decide +kernel, by decide +kernel⟩, lw_t1 (List.mem_of_getElem? (i := 49) rfl), lw_t3 (List.mem_of_getElem? (i := 142) rfl), lw_t3 (List.mem_of_getElem? (i := 143) rfl)⟩
theorem lw_p5 : lw_okq (⟨"GargoyleCopyists$Church", "pays", "(I)V"⟩, 12) := ⟨⟨by decide +kernel, by decide +kernel⟩, lw_t1 (List.mem_of_getElem? (i := 49) rfl), lw_t3 (List.mem_of_getElem? (i := 150) rfl), lw_t3 (List.mem_of_getElem? (i := 151) rfl)⟩
theorem lw_p6 : lw_okq (⟨"GargoyleCopyists", "changed", "(LGargoyleCopyists$Church;I)I"⟩, 8) := ⟨⟨by decide +kernel, by decide +kernel⟩, lw_t1 (List.mem_of_getElem? (i := 41) rfl), lw_t3 (List.mem_of_getElem? (i := 185) rfl), lw_t3 (List.mem_of_getElem? (i := 186) rfl)⟩
theorem lw_p7 : lw_okq (⟨"java/util/ArrayDeque", "grow", "(I)V"⟩, 3) := ⟨⟨by decide +kernel, by decide +kernel⟩, lw_t2 (List.mem_of_getElem? (i := 24) rfl), lw_t3 (List.mem_of_getElem? (i := 196) rfl), lw_t3 (List.mem_of_getElem? (i := 197) rfl)⟩
theorem lw_p8 : lw_okq (⟨"java/util/ArrayDeque", "newCapacity", "(II)I"⟩, 3) := ⟨⟨by decide +kernel, by decide +kernel⟩, lw_t2 (List.mem_of_getElem? (i := 24) rfl), lw_t3 (List.mem_of_getElem? (i := 201) rfl), lw_t3 (List.mem_of_getElem? (i := 202) rfl)⟩
theorem lw_p9 : lw_okq (⟨"GargoyleCopyists", "refused", "(LGargoyleCopyists$Refused;)I"⟩, 8) := ⟨⟨by decide +kernel, by decide +kernel⟩, lw_t1 (List.mem_of_getElem? (i := 41) rfl), lw_t3 (List.mem_of_getElem? (i := 226) rfl), lw_t3 (List.mem_of_getElem? (i := 227) rfl)⟩
theorem lw_p10 : lw_okq (⟨"GargoyleCopyists$Church", "isBetter", "(LGargoyleCopyists$Copyist;LGargoyleCopyists$Copyist;I[LGargoyleCopyists$Cut;)Z"⟩, 12) := ⟨⟨by decide +kernel, by decide +kernel⟩, lw_t1 (List.mem_of_getElem? (i := 49) rfl), lw_t4 (List.mem_of_getElem? (i := 105) rfl), lw_t4 (List.mem_of_getElem? (i := 106) rfl)⟩
theorem lw_p11 : lw_okq (⟨"GargoyleCopyists$Church", "hourGoes", "()I"⟩, 12) := ⟨⟨by decide +kernel, by decide +kernel⟩, lw_t1 (List.mem_of_getElem? (i := 49) rfl), lw_t5 (List.mem_of_getElem? (i := 23) rfl), lw_t5 (List.mem_of_getElem? (i := 24) rfl)⟩
theorem lw_p12 : lw_okq (⟨"GargoyleCopyists$Church", "spout", "(LGargoyleCopyists$Ledge;)I"⟩, 12) := ⟨⟨by decide +kernel, by decide +kernel⟩, lw_t1 (List.mem_of_getElem? (i := 49) rfl), lw_t5 (List.mem_of_getElem? (i := 27) rfl), lw_t5 (List.mem_of_getElem? (i := 28) rfl)⟩
theorem lw_p13 : lw_okq (⟨"GargoyleCopyists$Church", "dayEnds", "()V"⟩, 12) := ⟨⟨by decide +kernel, by decide +kernel⟩, lw_t1 (List.mem_of_getElem? (i := 49) rfl), lw_t5 (List.mem_of_getElem? (i := 45) rfl), lw_t5 (List.mem_of_getElem? (i := 46) rfl)⟩
theorem lw_p14 : lw_okq (⟨"GargoyleCopyists$Reader", "order", "()LGargoyleCopyists$Order;"⟩, 3) := ⟨⟨by decide +kernel, by decide +kernel⟩, lw_t5 (List.mem_of_getElem? (i := 155) rfl), lw_t5 (List.mem_of_getElem? (i := 190) rfl), lw_t5 (List.mem_of_getElem? (i := 191) rfl)⟩
theorem lw_p15 : lw_okq (⟨"GargoyleCopyists$Reader", "word", "()Ljava/lang/String;"⟩, 3) := ⟨⟨by decide +kernel, by decide +kernel⟩, lw_t5 (List.mem_of_getElem? (i := 155) rfl), lw_t5 (List.mem_of_getElem? (i := 196) rfl), lw_t5 (List.mem_of_getElem? (i := 197) rfl)⟩
def lw_privs_1 : List (MethodName × Nat) := [(⟨"java/util/ArrayList", "add", "(Ljava/lang/Object;[Ljava/lang/Object;I)V"⟩, 3), (⟨"java/util/ArrayList", "grow", "()[Ljava/lang/Object;"⟩, 3), (⟨"java/util/ArrayList", "grow", "(I)[Ljava/lang/Object;"⟩, 3), (⟨"java/lang/Throwable", "fillInStackTrace", "(I)Ljava/lang/Throwable;"⟩, 6), (⟨"GargoyleCopyists$Church", "takesNumbers", "(LGargoyleCopyists$Church;)V"⟩, 12), (⟨"GargoyleCopyists$Church", "pays", "(I)V"⟩, 12), (⟨"GargoyleCopyists", "changed", "(LGargoyleCopyists$Church;I)I"⟩, 8), (⟨"java/util/ArrayDeque", "grow", "(I)V"⟩, 3), (⟨"java/util/ArrayDeque", "newCapacity", "(II)I"⟩, 3), (⟨"GargoyleCopyists", "refused", "(LGargoyleCopyists$Refused;)I"⟩, 8), (⟨"GargoyleCopyists$Church", "isBetter", "(LGargoyleCopyists$Copyist;LGargoyleCopyists$Copyist;I[LGargoyleCopyists$Cut;)Z"⟩, 12), (⟨"GargoyleCopyists$Church", "hourGoes", "()I"⟩, 12), (⟨"GargoyleCopyists$Church", "spout", "(LGargoyleCopyists$Ledge;)I"⟩, 12), (⟨"GargoyleCopyists$Church", "dayEnds", "()V"⟩, 12), (⟨"GargoyleCopyists$Reader", "order", "()LGargoyleCopyists$Order;"⟩, 3), (⟨"GargoyleCopyists$Reader", "word", "()Ljava/lang/String;"⟩, 3)]
theorem lw_r1 : ∀ q ∈ lw_privs_1, lw_okq q := List.forall_mem_cons.mpr ⟨lw_p0, List.forall_mem_cons.mpr ⟨lw_p1, List.forall_mem_cons.mpr ⟨lw_p2, List.forall_mem_cons.mpr ⟨lw_p3, List.forall_mem_cons.mpr ⟨lw_p4, List.forall_mem_cons.mpr ⟨lw_p5, List.forall_mem_cons.mpr ⟨lw_p6, List.forall_mem_cons.mpr ⟨lw_p7, List.forall_mem_cons.mpr ⟨lw_p8, List.forall_mem_cons.mpr ⟨lw_p9, List.forall_mem_cons.mpr ⟨lw_p10, List.forall_mem_cons.mpr ⟨lw_p11, List.forall_mem_cons.mpr ⟨lw_p12, List.forall_mem_cons.mpr ⟨lw_p13, List.forall_mem_cons.mpr ⟨lw_p14, List.forall_mem_cons.mpr ⟨lw_p15, fun _ h => absurd h List.not_mem_nil⟩⟩⟩⟩⟩⟩⟩⟩⟩⟩⟩⟩⟩⟩⟩⟩
theorem lw_p16 : lw_okq (⟨"GargoyleCopyists$Reader", "isWord", "(Ljava/lang/String;)Z"⟩, 3) := ⟨⟨by decide +kernel, by decide +kernel⟩, lw_t5 (List.mem_of_getElem? (i := 155) rfl), lw_t5 (List.mem_of_getElem? (i := 201) rfl), lw_t5 (List.mem_of_getElem? (i := 202) rfl)⟩
theorem lw_p17 : lw_okq (⟨"GargoyleCopyists$Reader", "here", "()I"⟩, 3) := ⟨⟨by decide +kernel, by decide +kernel⟩, lw_t5 (List.mem_of_getElem? (i := 155) rfl), lw_t5 (List.mem_of_getElem? (i := 214) rfl), lw_t5 (List.mem_of_getElem? (i := 215) rfl)⟩
theorem lw_p18 : lw_okq (⟨"GargoyleCopyists$Reader", "isBeginning", "(Ljava/lang/String;)Z"⟩, 3) := ⟨⟨by decide +kernel, by decide +kernel⟩, lw_t5 (List.mem_of_getElem? (i := 155) rfl), lw_t6 (List.mem_of_getElem? (i := 124) rfl), lw_t6 (List.mem_of_getElem? (i := 125) rfl)⟩
theorem lw_p19 : lw_okq (⟨"GargoyleCopyists$Reader", "needs", "(Z)V"⟩, 3) := ⟨⟨by decide +kernel, by decide +kernel⟩, lw_t5 (List.mem_of_getElem? (i := 155) rfl), lw_t7 (List.mem_of_getElem? (i := 2) rfl), lw_t7 (List.mem_of_getElem? (i := 3) rfl)⟩
theorem lw_p20 : lw_okq (⟨"GargoyleCopyists$Reader", "number", "(I)I"⟩, 3) := ⟨⟨by decide +kernel, by decide +kernel⟩, lw_t5 (List.mem_of_getElem? (i := 155) rfl), lw_t7 (List.mem_of_getElem? (i := 46) rfl), lw_t7 (List.mem_of_getElem? (i := 47) rfl)⟩
theorem lw_p21 : lw_okq (⟨"GargoyleCopyists$Reader", "behind", "(C)I"⟩, 3) := ⟨⟨by decide +kernel, by decide +kernel⟩, lw_t5 (List.mem_of_getElem? (i := 155) rfl), lw_t7 (List.mem_of_getElem? (i := 100) rfl), lw_t7 (List.mem_of_getElem? (i := 101) rfl)⟩
theorem lw_p22 : lw_okq (⟨"GargoyleCopyists$Reader", "takes", "(I)Z"⟩, 3) := ⟨⟨by decide +kernel, by decide +kernel⟩, lw_t5 (List.mem_of_getElem? (i := 155) rfl), lw_t7 (List.mem_of_getElem? (i := 104) rfl), lw_t7 (List.mem_of_getElem? (i := 105) rfl)⟩
theorem lw_p23 : lw_okq (⟨"GargoyleCopyists$Order", "does", "(LGargoyleCopyists$Church;[LGargoyleCopyists$Cut;)I"⟩, 4) := ⟨⟨by decide +kernel, by decide +kernel⟩, lw_t5 (List.mem_of_getElem? (i := 194) rfl), lw_t7 (List.mem_of_getElem? (i := 117) rfl), lw_t7 (List.mem_of_getElem? (i := 118) rfl)⟩
theorem lw_p24 : lw_okq (⟨"GargoyleCopyistsModel", "depthOf", "(II)I"⟩, 15) := ⟨⟨by decide +kernel, by decide +kernel⟩, lw_t8 (List.mem_of_getElem? (i := 86) rfl), lw_t8 (List.mem_of_getElem? (i := 159) rfl), lw_t8 (List.mem_of_getElem? (i := 160) rfl)⟩
theorem lw_p25 : lw_okq (⟨"GargoyleCopyistsModel", "looksBack", "()V"⟩, 15) := ⟨⟨by decide +kernel, by decide +kernel⟩, lw_t8 (List.mem_of_getElem? (i := 86) rfl), lw_t8 (List.mem_of_getElem? (i := 167) rfl), lw_t8 (List.mem_of_getElem? (i := 168) rfl)⟩
theorem lw_p26 : lw_okq (⟨"GargoyleCopyistsModel", "pays", "(I)Z"⟩, 15) := ⟨⟨by decide +kernel, by decide +kernel⟩, lw_t8 (List.mem_of_getElem? (i := 86) rfl), lw_t8 (List.mem_of_getElem? (i := 174) rfl), lw_t8 (List.mem_of_getElem? (i := 175) rfl)⟩
theorem lw_p27 : lw_okq (⟨"GargoyleCopyistsModel", "tooFew", "(I)I"⟩, 15) := ⟨⟨by decide +kernel, by decide +kernel⟩, lw_t8 (List.mem_of_getElem? (i := 86) rfl), lw_t8 (List.mem_of_getElem? (i := 178) rfl), lw_t8 (List.mem_of_getElem? (i := 179) rfl)⟩
theorem lw_p28 : lw_okq (⟨"GargoyleCopyistsModel", "refused", "(II)I"⟩, 15) := ⟨⟨by decide +kernel, by decide +kernel⟩, lw_t8 (List.mem_of_getElem? (i := 86) rfl), lw_t8 (List.mem_of_getElem? (i := 182) rfl), lw_t8 (List.mem_of_getElem? (i := 183) rfl)⟩
theorem lw_p29 : lw_okq (⟨"GargoyleCopyistsModel", "kept", "(I)I"⟩, 15) := ⟨⟨by decide +kernel, by decide +kernel⟩, lw_t8 (List.mem_of_getElem? (i := 86) rfl), lw_t8 (List.mem_of_getElem? (i := 186) rfl), lw_t8 (List.mem_of_getElem? (i := 187) rfl)⟩
theorem lw_p30 : lw_okq (⟨"GargoyleCopyistsModel", "casts", "(I)I"⟩, 15) := ⟨⟨by decide +kernel, by decide +kernel⟩, lw_t8 (List.mem_of_getElem? (i := 86) rfl), lw_t8 (List.mem_of_getElem? (i := 194) rfl), lw_t8 (List.mem_of_getElem? (i := 195) rfl)⟩
theorem lw_p31 : lw_okq (⟨"GargoyleCopyistsModel", "isCast", "(I)Z"⟩, 15) := ⟨⟨by decide +kernel, by decide +kernel⟩, lw_t8 (List.mem_of_getElem? (i := 86) rfl), lw_t8 (List.mem_of_getElem? (i := 202) rfl), lw_t8 (List.mem_of_getElem? (i := 203) rfl)⟩
def lw_privs_2 : List (MethodName × Nat) := [(⟨"GargoyleCopyists$Reader", "isWord", "(Ljava/lang/String;)Z"⟩, 3), (⟨"GargoyleCopyists$Reader", "here", "()I"⟩, 3), (⟨"GargoyleCopyists$Reader", "isBeginning", "(Ljava/lang/String;)Z"⟩, 3), (⟨"GargoyleCopyists$Reader", "needs", "(Z)V"⟩, 3), (⟨"GargoyleCopyists$Reader", "number", "(I)I"⟩, 3), (⟨"GargoyleCopyists$Reader", "behind", "(C)I"⟩, 3), (⟨"GargoyleCopyists$Reader", "takes", "(I)Z"⟩, 3), (⟨"GargoyleCopyists$Order", "does", "(LGargoyleCopyists$Church;[LGargoyleCopyists$Cut;)I"⟩, 4), (⟨"GargoyleCopyistsModel", "depthOf", "(II)I"⟩, 15), (⟨"GargoyleCopyistsModel", "looksBack", "()V"⟩, 15), (⟨"GargoyleCopyistsModel", "pays", "(I)Z"⟩, 15), (⟨"GargoyleCopyistsModel", "tooFew", "(I)I"⟩, 15), (⟨"GargoyleCopyistsModel", "refused", "(II)I"⟩, 15), (⟨"GargoyleCopyistsModel", "kept", "(I)I"⟩, 15), (⟨"GargoyleCopyistsModel", "casts", "(I)I"⟩, 15), (⟨"GargoyleCopyistsModel", "isCast", "(I)Z"⟩, 15)]
theorem lw_r2 : ∀ q ∈ lw_privs_2, lw_okq q := List.forall_mem_cons.mpr ⟨lw_p16, List.forall_mem_cons.mpr ⟨lw_p17, List.forall_mem_cons.mpr ⟨lw_p18, List.forall_mem_cons.mpr ⟨lw_p19, List.forall_mem_cons.mpr ⟨lw_p20, List.forall_mem_cons.mpr ⟨lw_p21, List.forall_mem_cons.mpr ⟨lw_p22, List.forall_mem_cons.mpr ⟨lw_p23, List.forall_mem_cons.mpr ⟨lw_p24, List.forall_mem_cons.mpr ⟨lw_p25, List.forall_mem_cons.mpr ⟨lw_p26, List.forall_mem_cons.mpr ⟨lw_p27, List.forall_mem_cons.mpr ⟨lw_p28, List.forall_mem_cons.mpr ⟨lw_p29, List.forall_mem_cons.mpr ⟨lw_p30, List.forall_mem_cons.mpr ⟨lw_p31, fun _ h => absurd h List.not_mem_nil⟩⟩⟩⟩⟩⟩⟩⟩⟩⟩⟩⟩⟩⟩⟩⟩
theorem lw_p32 : lw_okq (⟨"GargoyleCopyistsModel", "begins", "(I)I"⟩, 15) := ⟨⟨by decide +kernel, by decide +kernel⟩, lw_t8 (List.mem_of_getElem? (i := 86) rfl), lw_t8 (List.mem_of_getElem? (i := 218) rfl), lw_t8 (List.mem_of_getElem? (i := 219) rfl)⟩
theorem lw_p33 : lw_okq (⟨"GargoyleCopyistsModel", "isCopyist", "(I)Z"⟩, 15) := ⟨⟨by decide +kernel, by decide +kernel⟩, lw_t8 (List.mem_of_getElem? (i := 86) rfl), lw_t8 (List.mem_of_getElem? (i := 226) rfl), lw_t8 (List.mem_of_getElem? (i := 227) rfl)⟩
theorem lw_p34 : lw_okq (⟨"GargoyleCopyistsModel", "wouldBe", "(III)I"⟩, 15) := ⟨⟨by decide +kernel, by decide +kernel⟩, lw_t8 (List.mem_of_getElem? (i := 86) rfl), lw_t8 (List.mem_of_getElem? (i := 230) rfl), lw_t8 (List.mem_of_getElem? (i := 231) rfl)⟩
theorem lw_p35 : lw_okq (⟨"GargoyleCopyistsModel", "cuts", "(III)I"⟩, 15) := ⟨⟨by decide +kernel, by decide +kernel⟩, lw_t8 (List.mem_of_getElem? (i := 86) rfl), lw_t8 (List.mem_of_getElem? (i := 238) rfl), lw_t8 (List.mem_of_getElem? (i := 239) rfl)⟩
theorem lw_p36 : lw_okq (⟨"GargoyleCopyistsModel", "isCopy", "(I)Z"⟩, 15) := ⟨⟨by decide +kernel, by decide +kernel⟩, lw_t8 (List.mem_of_getElem? (i := 86) rfl), lw_t9 (List.mem_of_getElem? (i := 2) rfl), lw_t9 (List.mem_of_getElem? (i := 3) rfl)⟩
theorem lw_p37 : lw_okq (⟨"GargoyleCopyistsModel", "ledgeFor", "(I)I"⟩, 15) := ⟨⟨by decide +kernel, by decide +kernel⟩, lw_t8 (List.mem_of_getElem? (i := 86) rfl), lw_t9 (List.mem_of_getElem? (i := 6) rfl), lw_t9 (List.mem_of_getElem? (i := 7) rfl)⟩
theorem lw_p38 : lw_okq (⟨"GargoyleCopyistsModel", "dueAt", "(II)I"⟩, 15) := ⟨⟨by decide +kernel, by decide +kernel⟩, lw_t8 (List.mem_of_getElem? (i := 86) rfl), lw_t9 (List.mem_of_getElem? (i := 10) rfl), lw_t9 (List.mem_of_getElem? (i := 11) rfl)⟩
theorem lw_p39 : lw_okq (⟨"GargoyleCopyistsModel", "renews", "(I)I"⟩, 15) := ⟨⟨by decide +kernel, by decide +kernel⟩, lw_t8 (List.mem_of_getElem? (i := 86) rfl), lw_t9 (List.mem_of_getElem? (i := 29) rfl), lw_t9 (List.mem_of_getElem? (i := 30) rfl)⟩
theorem lw_p40 : lw_okq (⟨"GargoyleCopyistsModel", "ofPoints", "(II)I"⟩, 15) := ⟨⟨by decide +kernel, by decide +kernel⟩, lw_t8 (List.mem_of_getElem? (i := 86) rfl), lw_t9 (List.mem_of_getElem? (i := 37) rfl), lw_t9 (List.mem_of_getElem? (i := 38) rfl)⟩
theorem lw_p41 : lw_okq (⟨"GargoyleCopyistsModel", "weightOf", "(I)I"⟩, 15) := ⟨⟨by decide +kernel, by decide +kernel⟩, lw_t8 (List.mem_of_getElem? (i := 86) rfl), lw_t9 (List.mem_of_getElem? (i := 41) rfl), lw_t9 (List.mem_of_getElem? (i := 42) rfl)⟩
theorem lw_p42 : lw_okq (⟨"GargoyleCopyistsModel", "takesDown", "(I)I"⟩, 15) := ⟨⟨by decide +kernel, by decide +kernel⟩, lw_t8 (List.mem_of_getElem? (i := 86) rfl), lw_t9 (List.mem_of_getElem? (i := 61) rfl), lw_t9 (List.mem_of_getElem? (i := 62) rfl)⟩
theorem lw_p43 : lw_okq (⟨"GargoyleCopyistsModel", "lifts", "(I)I"⟩, 15) := ⟨⟨by decide +kernel, by decide +kernel⟩, lw_t8 (List.mem_of_getElem? (i := 86) rfl), lw_t9 (List.mem_of_getElem? (i := 69) rfl), lw_t9 (List.mem_of_getElem? (i := 70) rfl)⟩
theorem lw_p44 : lw_okq (⟨"GargoyleCopyistsModel", "uncut", "(I)I"⟩, 15) := ⟨⟨by decide +kernel, by decide +kernel⟩, lw_t8 (List.mem_of_getElem? (i := 86) rfl), lw_t9 (List.mem_of_getElem? (i := 73) rfl), lw_t9 (List.mem_of_getElem? (i := 74) rfl)⟩
theorem lw_p45 : lw_okq (⟨"GargoyleCopyistsModel", "drives", "(I)I"⟩, 15) := ⟨⟨by decide +kernel, by decide +kernel⟩, lw_t8 (List.mem_of_getElem? (i := 86) rfl), lw_t9 (List.mem_of_getElem? (i := 81) rfl), lw_t9 (List.mem_of_getElem? (i := 82) rfl)⟩
theorem lw_p46 : lw_okq (⟨"GargoyleCopyistsModel", "tells", "(II)I"⟩, 15) := ⟨⟨by decide +kernel, by decide +kernel⟩, lw_t8 (List.mem_of_getElem? (i := 86) rfl), lw_t9 (List.mem_of_getElem? (i := 89) rfl), lw_t9 (List.mem_of_getElem? (i := 90) rfl)⟩
theorem lw_p47 : lw_okq (⟨"GargoyleCopyistsModel", "passes", "(I)I"⟩, 15) := ⟨⟨by decide +kernel, by decide +kernel⟩, lw_t8 (List.mem_of_getElem? (i := 86) rfl), lw_t9 (List.mem_of_getElem? (i := 97) rfl), lw_t9 (List.mem_of_getElem? (i := 98) rfl)⟩
def lw_privs_3 : List (MethodName × Nat) := [(⟨"GargoyleCopyistsModel", "begins", "(I)I"⟩, 15), (⟨"GargoyleCopyistsModel", "isCopyist", "(I)Z"⟩, 15), (⟨"GargoyleCopyistsModel", "wouldBe", "(III)I"⟩, 15), (⟨"GargoyleCopyistsModel", "cuts", "(III)I"⟩, 15), (⟨"GargoyleCopyistsModel", "isCopy", "(I)Z"⟩, 15), (⟨"GargoyleCopyistsModel", "ledgeFor", "(I)I"⟩, 15), (⟨"GargoyleCopyistsModel", "dueAt", "(II)I"⟩, 15), (⟨"GargoyleCopyistsModel", "renews", "(I)I"⟩, 15), (⟨"GargoyleCopyistsModel", "ofPoints", "(II)I"⟩, 15), (⟨"GargoyleCopyistsModel", "weightOf", "(I)I"⟩, 15), (⟨"GargoyleCopyistsModel", "takesDown", "(I)I"⟩, 15), (⟨"GargoyleCopyistsModel", "lifts", "(I)I"⟩, 15), (⟨"GargoyleCopyistsModel", "uncut", "(I)I"⟩, 15), (⟨"GargoyleCopyistsModel", "drives", "(I)I"⟩, 15), (⟨"GargoyleCopyistsModel", "tells", "(II)I"⟩, 15), (⟨"GargoyleCopyistsModel", "passes", "(I)I"⟩, 15)]
theorem lw_r3 : ∀ q ∈ lw_privs_3, lw_okq q := List.forall_mem_cons.mpr ⟨lw_p32, List.forall_mem_cons.mpr ⟨lw_p33, List.forall_mem_cons.mpr ⟨lw_p34, List.forall_mem_cons.mpr ⟨lw_p35, List.forall_mem_cons.mpr ⟨lw_p36, List.forall_mem_cons.mpr ⟨lw_p37, List.forall_mem_cons.mpr ⟨lw_p38, List.forall_mem_cons.mpr ⟨lw_p39, List.forall_mem_cons.mpr ⟨lw_p40, List.forall_mem_cons.mpr ⟨lw_p41, List.forall_mem_cons.mpr ⟨lw_p42, List.forall_mem_cons.mpr ⟨lw_p43, List.forall_mem_cons.mpr ⟨lw_p44, List.forall_mem_cons.mpr ⟨lw_p45, List.forall_mem_cons.mpr ⟨lw_p46, List.forall_mem_cons.mpr ⟨lw_p47, fun _ h => absurd h List.not_mem_nil⟩⟩⟩⟩⟩⟩⟩⟩⟩⟩⟩⟩⟩⟩⟩⟩
theorem lw_p48 : lw_okq (⟨"GargoyleCopyistsModel", "rainsOn", "(I)I"⟩, 15) := ⟨⟨by decide +kernel, by decide +kernel⟩, lw_t8 (List.mem_of_getElem? (i := 86) rfl), lw_t9 (List.mem_of_getElem? (i := 101) rfl), lw_t9 (List.mem_of_getElem? (i := 102) rfl)⟩
theorem lw_p49 : lw_okq (⟨"GargoyleCopyistsModel", "sets", "(I)V"⟩, 15) := ⟨⟨by decide +kernel, by decide +kernel⟩, lw_t8 (List.mem_of_getElem? (i := 86) rfl), lw_t9 (List.mem_of_getElem? (i := 105) rfl), lw_t9 (List.mem_of_getElem? (i := 106) rfl)⟩
theorem lw_p50 : lw_okq (⟨"GargoyleCopyistsModel", "endsDay", "()V"⟩, 15) := ⟨⟨by decide +kernel, by decide +kernel⟩, lw_t8 (List.mem_of_getElem? (i := 86) rfl), lw_t9 (List.mem_of_getElem? (i := 109) rfl), lw_t9 (List.mem_of_getElem? (i := 110) rfl)⟩
theorem lw_p51 : lw_okq (⟨"GargoyleCopyistsModel", "readsText", "()I"⟩, 15) := ⟨⟨by decide +kernel, by decide +kernel⟩, lw_t8 (List.mem_of_getElem? (i := 86) rfl), lw_t9 (List.mem_of_getElem? (i := 125) rfl), lw_t9 (List.mem_of_getElem? (i := 126) rfl)⟩
theorem lw_p52 : lw_okq (⟨"GargoyleCopyistsModel", "readsOrder", "(I)V"⟩, 15) := ⟨⟨by decide +kernel, by decide +kernel⟩, lw_t8 (List.mem_of_getElem? (i := 86) rfl), lw_t9 (List.mem_of_getElem? (i := 129) rfl), lw_t9 (List.mem_of_getElem? (i := 130) rfl)⟩
theorem lw_p53 : lw_okq (⟨"GargoyleCopyistsModel", "readsWord", "()I"⟩, 15) := ⟨⟨by decide +kernel, by decide +kernel⟩, lw_t8 (List.mem_of_getElem? (i := 86) rfl), lw_t9 (List.mem_of_getElem? (i := 133) rfl), lw_t9 (List.mem_of_getElem? (i := 134) rfl)⟩
theorem lw_p54 : lw_okq (⟨"GargoyleCopyistsModel", "isWord", "(I)Z"⟩, 15) := ⟨⟨by decide +kernel, by decide +kernel⟩, lw_t8 (List.mem_of_getElem? (i := 86) rfl), lw_t9 (List.mem_of_getElem? (i := 137) rfl), lw_t9 (List.mem_of_getElem? (i := 138) rfl)⟩
theorem lw_p55 : lw_okq (⟨"GargoyleCopyistsModel", "here", "()I"⟩, 15) := ⟨⟨by decide +kernel, by decide +kernel⟩, lw_t8 (List.mem_of_getElem? (i := 86) rfl), lw_t9 (List.mem_of_getElem? (i := 154) rfl), lw_t9 (List.mem_of_getElem? (i := 155) rfl)⟩
theorem lw_p56 : lw_okq (⟨"GargoyleCopyistsModel", "needs", "(I)V"⟩, 15) := ⟨⟨by decide +kernel, by decide +kernel⟩, lw_t8 (List.mem_of_getElem? (i := 86) rfl), lw_t9 (List.mem_of_getElem? (i := 159) rfl), lw_t9 (List.mem_of_getElem? (i := 160) rfl)⟩
theorem lw_p57 : lw_okq (⟨"GargoyleCopyistsModel", "number", "()I"⟩, 15) := ⟨⟨by decide +kernel, by decide +kernel⟩, lw_t8 (List.mem_of_getElem? (i := 86) rfl), lw_t9 (List.mem_of_getElem? (i := 163) rfl), lw_t9 (List.mem_of_getElem? (i := 164) rfl)⟩
theorem lw_p58 : lw_okq (⟨"GargoyleCopyistsModel", "digit", "()I"⟩, 15) := ⟨⟨by decide +kernel, by decide +kernel⟩, lw_t8 (List.mem_of_getElem? (i := 86) rfl), lw_t9 (List.mem_of_getElem? (i := 167) rfl), lw_t9 (List.mem_of_getElem? (i := 168) rfl)⟩
theorem lw_p59 : lw_okq (⟨"GargoyleCopyistsModel", "does", "(I)I"⟩, 15) := ⟨⟨by decide +kernel, by decide +kernel⟩, lw_t8 (List.mem_of_getElem? (i := 86) rfl), lw_t9 (List.mem_of_getElem? (i := 171) rfl), lw_t9 (List.mem_of_getElem? (i := 172) rfl)⟩
theorem lw_p60 : lw_okq (⟨"GargoyleCopyistsModel", "putsText", "(Ljava/lang/String;)V"⟩, 15) := ⟨⟨by decide +kernel, by decide +kernel⟩, lw_t8 (List.mem_of_getElem? (i := 86) rfl), lw_t9 (List.mem_of_getElem? (i := 180) rfl), lw_t9 (List.mem_of_getElem? (i := 181) rfl)⟩
theorem lw_p61 : lw_okq (⟨"GargoyleCopyistsModel", "puts", "(I)V"⟩, 15) := ⟨⟨by decide +kernel, by decide +kernel⟩, lw_t8 (List.mem_of_getElem? (i := 86) rfl), lw_t9 (List.mem_of_getElem? (i := 184) rfl), lw_t9 (List.mem_of_getElem? (i := 185) rfl)⟩
theorem lw_p62 : lw_okq (⟨"GargoyleCopyistsModel", "sum", "(II)I"⟩, 15) := ⟨⟨by decide +kernel, by decide +kernel⟩, lw_t8 (List.mem_of_getElem? (i := 86) rfl), lw_t9 (List.mem_of_getElem? (i := 207) rfl), lw_t9 (List.mem_of_getElem? (i := 208) rfl)⟩
def lw_privs_4 : List (MethodName × Nat) := [(⟨"GargoyleCopyistsModel", "rainsOn", "(I)I"⟩, 15), (⟨"GargoyleCopyistsModel", "sets", "(I)V"⟩, 15), (⟨"GargoyleCopyistsModel", "endsDay", "()V"⟩, 15), (⟨"GargoyleCopyistsModel", "readsText", "()I"⟩, 15), (⟨"GargoyleCopyistsModel", "readsOrder", "(I)V"⟩, 15), (⟨"GargoyleCopyistsModel", "readsWord", "()I"⟩, 15), (⟨"GargoyleCopyistsModel", "isWord", "(I)Z"⟩, 15), (⟨"GargoyleCopyistsModel", "here", "()I"⟩, 15), (⟨"GargoyleCopyistsModel", "needs", "(I)V"⟩, 15), (⟨"GargoyleCopyistsModel", "number", "()I"⟩, 15), (⟨"GargoyleCopyistsModel", "digit", "()I"⟩, 15), (⟨"GargoyleCopyistsModel", "does", "(I)I"⟩, 15), (⟨"GargoyleCopyistsModel", "putsText", "(Ljava/lang/String;)V"⟩, 15), (⟨"GargoyleCopyistsModel", "puts", "(I)V"⟩, 15), (⟨"GargoyleCopyistsModel", "sum", "(II)I"⟩, 15)]
theorem lw_r4 : ∀ q ∈ lw_privs_4, lw_okq q := List.forall_mem_cons.mpr ⟨lw_p48, List.forall_mem_cons.mpr ⟨lw_p49, List.forall_mem_cons.mpr ⟨lw_p50, List.forall_mem_cons.mpr ⟨lw_p51, List.forall_mem_cons.mpr ⟨lw_p52, List.forall_mem_cons.mpr ⟨lw_p53, List.forall_mem_cons.mpr ⟨lw_p54, List.forall_mem_cons.mpr ⟨lw_p55, List.forall_mem_cons.mpr ⟨lw_p56, List.forall_mem_cons.mpr ⟨lw_p57, List.forall_mem_cons.mpr ⟨lw_p58, List.forall_mem_cons.mpr ⟨lw_p59, List.forall_mem_cons.mpr ⟨lw_p60, List.forall_mem_cons.mpr ⟨lw_p61, List.forall_mem_cons.mpr ⟨lw_p62, fun _ h => absurd h List.not_mem_nil⟩⟩⟩⟩⟩⟩⟩⟩⟩⟩⟩⟩⟩⟩⟩
def lw_privs : List (MethodName × Nat) := lw_privs_1 ++ (lw_privs_2 ++ (lw_privs_3 ++ (lw_privs_4)))
def lw_tbl : List Cond := k2_sels lw_privs ++ tables_1
theorem lw_privs_ok : ∀ q ∈ lw_privs, lw_okq q := by
  show ∀ q ∈ lw_privs_1 ++ (lw_privs_2 ++ (lw_privs_3 ++ (lw_privs_4))), lw_okq q
  exact List.forall_mem_append.mpr ⟨lw_r1, List.forall_mem_append.mpr ⟨lw_r2, List.forall_mem_append.mpr ⟨lw_r3, lw_r4⟩⟩⟩
-- ===== ONE list of words for every method: the tables' words that hold all through a run =====
def lw_all : List Cond := lw_tbl.filter goodWord
/-- a word of the tables by its place: claim/WORDS.tsv -/
theorem lw_w {w : Cond} (i : Nat) (h : lw_tbl[i]? = some w) (g : goodWord w = true) : w ∈ lw_all := List.mem_filter.mpr ⟨List.mem_of_getElem? h, g⟩
theorem lw_all_tbl {w : Cond} (h : w ∈ lw_all) : w ∈ lw_tbl := (List.mem_filter.mp h).1
theorem lw_self : GoodIn lw_all lw_all := fun w h => ⟨h, good_of_word (List.mem_filter.mp h).2⟩
/-- a class's field words, by their places -/
theorem lw_in (ws : List Cond) (ps : List Nat) (hp : ws = ps.filterMap (fun i => lw_tbl[i]?)) (hg : ws.all goodWord = true) : ∀ w ∈ ws, w ∈ lw_all := by
  intro w h
  have h1 := List.all_eq_true.mp hg w h
  rw [hp] at h
  obtain ⟨i, -, hi⟩ := List.mem_filterMap.mp h
  exact lw_w i hi h1
/-- the words of a contract for the method y with code b, L locals, answer r -/
abbrev ws_ (y : MethodName) (b : ByteArray) (L : Nat) (r : Option FieldType) : List Cond := Cond.code y b L r :: lw_all
theorem lw_meth {y : MethodName} {b : ByteArray} {L : Nat} {r : Option FieldType} (h : Cond.code y b L r ∈ lw_all) : GoodIn lw_all (ws_ y b L r) := by
  intro w hw
  rcases List.mem_cons.mp hw with e | e
  · rw [e]
    exact lw_self _ h
  · exact lw_self _ e
theorem lw_app {a c : List Cond} (ha : ∀ w ∈ a, w ∈ lw_all) (hc : GoodIn lw_all c) : GoodIn lw_all (a ++ c) := by
  intro w hw
  rcases List.mem_append.mp hw with e | e
  · exact lw_self w (ha w e)
  · exact hc w e
/-- what a call through an object asks: cwV n hts (lw_V ..) -/
theorem lw_V {own : String} {idx : Nat} {C : String} {y : MethodName} {b : ByteArray} {L : Nat} {r : Option FieldType} (h1 : Cond.methodLink own idx y ∈ lw_all) (h2 : Cond.instanceMethod y ∈ lw_all) (h3 : Cond.selects C y y ∈ lw_all) (h4 : Cond.initialized C ∈ lw_all) (h5 : Cond.code y b L r ∈ lw_all) : GoodIn lw_all (wsV own idx C y (ws_ y b L r)) := by
  refine lw_app ?_ (lw_meth h5)
  intro w hw
  simp only [List.mem_cons, List.not_mem_nil, or_false] at hw
  rcases hw with e | e | e | e
  · rw [e]; exact h1
  · rw [e]; exact h2
  · rw [e]; exact h3
  · rw [e]; exact h4
/-- what a static call asks: va_cwS n hts (lw_S ..) -/
theorem lw_S {own : String} {idx : Nat} {y : MethodName} {b : ByteArray} {L : Nat} {r : Option FieldType} (h1 : Cond.methodLink own idx y ∈ lw_all) (h2 : Cond.static y ∈ lw_all) (h3 : Cond.initialized y.cls ∈ lw_all) (h4 : Cond.code y b L r ∈ lw_all) : GoodIn lw_all (va_wsS own idx y (ws_ y b L r)) := by
  refine lw_app ?_ (lw_meth h4)
  intro w hw
  simp only [List.mem_cons, List.not_mem_nil, or_false] at hw
  rcases hw with e | e | e
  · rw [e]; exact h1
  · rw [e]; exact h2
  · rw [e]; exact h3
/-- the words of a contract for a method WITH HANDLERS (hh: its table) -/
abbrev wsW_ (y : MethodName) (b : ByteArray) (L : Nat) (r : Option FieldType) (hh : List (Nat × Nat × Nat × Nat)) : List Cond := Cond.codeWith y b L r hh :: lw_all
theorem lw_methW {y : MethodName} {b : ByteArray} {L : Nat} {r : Option FieldType} {hh : List (Nat × Nat × Nat × Nat)} (h : Cond.codeWith y b L r hh ∈ lw_all) : GoodIn lw_all (wsW_ y b L r hh) := by
  intro w hw
  rcases List.mem_cons.mp hw with e | e
  · rw [e]
    exact lw_self _ h
  · exact lw_self _ e
/-- any list of words by their places (lw_in), good -/
theorem lw_good {ws : List Cond} (h : ∀ w ∈ ws, w ∈ lw_all) : GoodIn lw_all ws := fun w hw => lw_self w (h w hw)
/-- what a call of a method with handlers asks: vx_cwVW n hts (lw_VW ..), vx_cwSW n hts (lw_SW ..) -/
theorem lw_VW {own : String} {idx : Nat} {C : String} {y : MethodName} {b : ByteArray} {L : Nat} {r : Option FieldType} {hh : List (Nat × Nat × Nat × Nat)} (h1 : Cond.methodLink own idx y ∈ lw_all) (h2 : Cond.instanceMethod y ∈ lw_all) (h3 : Cond.selects C y y ∈ lw_all) (h4 : Cond.initialized C ∈ lw_all) (h5 : Cond.codeWith y b L r hh ∈ lw_all) : GoodIn lw_all (wsV own idx C y (wsW_ y b L r hh)) := by
  refine lw_app ?_ (lw_methW h5)
  intro w hw
  simp only [List.mem_cons, List.not_mem_nil, or_false] at hw
  rcases hw with e | e | e | e
  · rw [e]; exact h1
  · rw [e]; exact h2
  · rw [e]; exact h3
  · rw [e]; exact h4
theorem lw_SW {own : String} {idx : Nat} {y : MethodName} {b : ByteArray} {L : Nat} {r : Option FieldType} {hh : List (Nat × Nat × Nat × Nat)} (h1 : Cond.methodLink own idx y ∈ lw_all) (h2 : Cond.static y ∈ lw_all) (h3 : Cond.initialized y.cls ∈ lw_all) (h4 : Cond.codeWith y b L r hh ∈ lw_all) : GoodIn lw_all (va_wsS own idx y (wsW_ y b L r hh)) := by
  refine lw_app ?_ (lw_methW h4)
  intro w hw
  simp only [List.mem_cons, List.not_mem_nil, or_false] at hw
  rcases hw with e | e | e
  · rw [e]; exact h1
  · rw [e]; exact h2
  · rw [e]; exact h3
/-- a word by its place in its run of the tables -/
theorem lw_at {r : List Cond} (hr : ∀ w ∈ r, w ∈ lw_tbl) {w : Cond} (i : Nat) (h : r[i]? = some w) : w ∈ lw_tbl := hr w (List.mem_of_getElem? h)
theorem lw_g {w : Cond} (h : w ∈ lw_tbl) (g : goodWord w = true) : w ∈ lw_all := List.mem_filter.mpr ⟨h, g⟩
theorem lw_ms : ∀ w ∈ k2_sels lw_privs, w ∈ lw_tbl := fun w h => show w ∈ k2_sels lw_privs ++ tables_1 from List.mem_append_left _ h
theorem lw_m1 : ∀ w ∈ tables_1_1, w ∈ lw_tbl := fun w h => show w ∈ k2_sels lw_privs ++ tables_1 from List.mem_append_right (k2_sels lw_privs) (show w ∈ tables_1 from List.mem_append_left _ h)
theorem lw_m2 : ∀ w ∈ tables_1_2, w ∈ lw_tbl := fun w h => show w ∈ k2_sels lw_privs ++ tables_1 from List.mem_append_right (k2_sels lw_privs) (show w ∈ tables_1 from List.mem_append_right _ (List.mem_append_left _ h))
theorem lw_m3 : ∀ w ∈ tables_1_3, w ∈ lw_tbl := fun w h => show w ∈ k2_sels lw_privs ++ tables_1 from List.mem_append_right (k2_sels lw_privs) (show w ∈ tables_1 from List.mem_append_right _ (List.mem_append_right _ (List.mem_append_left _ h)))
theorem lw_m4 : ∀ w ∈ tables_1_4, w ∈ lw_tbl := fun w h => show w ∈ k2_sels lw_privs ++ tables_1 from List.mem_append_right (k2_sels lw_privs) (show w ∈ tables_1 from List.mem_append_right _ (List.mem_append_right _ (List.mem_append_right _ (List.mem_append_left _ h))))
theorem lw_m5 : ∀ w ∈ tables_1_5, w ∈ lw_tbl := fun w h => show w ∈ k2_sels lw_privs ++ tables_1 from List.mem_append_right (k2_sels lw_privs) (show w ∈ tables_1 from List.mem_append_right _ (List.mem_append_right _ (List.mem_append_right _ (List.mem_append_right _ (List.mem_append_left _ h)))))
theorem lw_m6 : ∀ w ∈ tables_1_6, w ∈ lw_tbl := fun w h => show w ∈ k2_sels lw_privs ++ tables_1 from List.mem_append_right (k2_sels lw_privs) (show w ∈ tables_1 from List.mem_append_right _ (List.mem_append_right _ (List.mem_append_right _ (List.mem_append_right _ (List.mem_append_right _ (List.mem_append_left _ h))))))
theorem lw_m7 : ∀ w ∈ tables_1_7, w ∈ lw_tbl := fun w h => show w ∈ k2_sels lw_privs ++ tables_1 from List.mem_append_right (k2_sels lw_privs) (show w ∈ tables_1 from List.mem_append_right _ (List.mem_append_right _ (List.mem_append_right _ (List.mem_append_right _ (List.mem_append_right _ (List.mem_append_right _ (List.mem_append_left _ h)))))))
theorem lw_m8 : ∀ w ∈ tables_1_8, w ∈ lw_tbl := fun w h => show w ∈ k2_sels lw_privs ++ tables_1 from List.mem_append_right (k2_sels lw_privs) (show w ∈ tables_1 from List.mem_append_right _ (List.mem_append_right _ (List.mem_append_right _ (List.mem_append_right _ (List.mem_append_right _ (List.mem_append_right _ (List.mem_append_right _ (List.mem_append_left _ h))))))))
theorem lw_m9 : ∀ w ∈ tables_1_9, w ∈ lw_tbl := fun w h => show w ∈ k2_sels lw_privs ++ tables_1 from List.mem_append_right (k2_sels lw_privs) (show w ∈ tables_1 from List.mem_append_right _ (List.mem_append_right _ (List.mem_append_right _ (List.mem_append_right _ (List.mem_append_right _ (List.mem_append_right _ (List.mem_append_right _ (List.mem_append_right _ (List.mem_append_left _ h)))))))))
theorem lw_m10 : ∀ w ∈ tables_1_10, w ∈ lw_tbl := fun w h => show w ∈ k2_sels lw_privs ++ tables_1 from List.mem_append_right (k2_sels lw_privs) (show w ∈ tables_1 from List.mem_append_right _ (List.mem_append_right _ (List.mem_append_right _ (List.mem_append_right _ (List.mem_append_right _ (List.mem_append_right _ (List.mem_append_right _ (List.mem_append_right _ (List.mem_append_right _ h)))))))))
theorem qs0 : (Cond.selects "java/util/ArrayList" ⟨"java/util/ArrayList", "add", "(Ljava/lang/Object;[Ljava/lang/Object;I)V"⟩ ⟨"java/util/ArrayList", "add", "(Ljava/lang/Object;[Ljava/lang/Object;I)V"⟩) ∈ lw_all := lw_g (lw_at lw_ms 0 rfl) rfl
theorem qs1 : (Cond.selects "java/util/ArrayList" ⟨"java/util/ArrayList", "grow", "()[Ljava/lang/Object;"⟩ ⟨"java/util/ArrayList", "grow", "()[Ljava/lang/Object;"⟩) ∈ lw_all := lw_g (lw_at lw_ms 1 rfl) rfl
theorem qs2 : (Cond.selects "java/util/ArrayList" ⟨"java/util/ArrayList", "grow", "(I)[Ljava/lang/Object;"⟩ ⟨"java/util/ArrayList", "grow", "(I)[Ljava/lang/Object;"⟩) ∈ lw_all := lw_g (lw_at lw_ms 2 rfl) rfl
theorem qs3 : (Cond.selects "java/lang/Throwable" ⟨"java/lang/Throwable", "fillInStackTrace", "(I)Ljava/lang/Throwable;"⟩ ⟨"java/lang/Throwable", "fillInStackTrace", "(I)Ljava/lang/Throwable;"⟩) ∈ lw_all := lw_g (lw_at lw_ms 3 rfl) rfl
theorem qs4 : (Cond.selects "GargoyleCopyists$Church" ⟨"GargoyleCopyists$Church", "takesNumbers", "(LGargoyleCopyists$Church;)V"⟩ ⟨"GargoyleCopyists$Church", "takesNumbers", "(LGargoyleCopyists$Church;)V"⟩) ∈ lw_all := lw_g (lw_at lw_ms 4 rfl) rfl
theorem qs5 : (Cond.selects "GargoyleCopyists$Church" ⟨"GargoyleCopyists$Church", "pays", "(I)V"⟩ ⟨"GargoyleCopyists$Church", "pays", "(I)V"⟩) ∈ lw_all := lw_g (lw_at lw_ms 5 rfl) rfl
theorem qs6 : (Cond.selects "GargoyleCopyists" ⟨"GargoyleCopyists", "changed", "(LGargoyleCopyists$Church;I)I"⟩ ⟨"GargoyleCopyists", "changed", "(LGargoyleCopyists$Church;I)I"⟩) ∈ lw_all := lw_g (lw_at lw_ms 6 rfl) rfl
theorem qs7 : (Cond.selects "java/util/ArrayDeque" ⟨"java/util/ArrayDeque", "grow", "(I)V"⟩ ⟨"java/util/ArrayDeque", "grow", "(I)V"⟩) ∈ lw_all := lw_g (lw_at lw_ms 7 rfl) rfl
theorem qs8 : (Cond.selects "java/util/ArrayDeque" ⟨"java/util/ArrayDeque", "newCapacity", "(II)I"⟩ ⟨"java/util/ArrayDeque", "newCapacity", "(II)I"⟩) ∈ lw_all := lw_g (lw_at lw_ms 8 rfl) rfl
theorem qs9 : (Cond.selects "GargoyleCopyists" ⟨"GargoyleCopyists", "refused", "(LGargoyleCopyists$Refused;)I"⟩ ⟨"GargoyleCopyists", "refused", "(LGargoyleCopyists$Refused;)I"⟩) ∈ lw_all := lw_g (lw_at lw_ms 9 rfl) rfl
theorem qs10 : (Cond.selects "GargoyleCopyists$Church" ⟨"GargoyleCopyists$Church", "isBetter", "(LGargoyleCopyists$Copyist;LGargoyleCopyists$Copyist;I[LGargoyleCopyists$Cut;)Z"⟩ ⟨"GargoyleCopyists$Church", "isBetter", "(LGargoyleCopyists$Copyist;LGargoyleCopyists$Copyist;I[LGargoyleCopyists$Cut;)Z"⟩) ∈ lw_all := lw_g (lw_at lw_ms 10 rfl) rfl
theorem qs11 : (Cond.selects "GargoyleCopyists$Church" ⟨"GargoyleCopyists$Church", "hourGoes", "()I"⟩ ⟨"GargoyleCopyists$Church", "hourGoes", "()I"⟩) ∈ lw_all := lw_g (lw_at lw_ms 11 rfl) rfl
theorem qs12 : (Cond.selects "GargoyleCopyists$Church" ⟨"GargoyleCopyists$Church", "spout", "(LGargoyleCopyists$Ledge;)I"⟩ ⟨"GargoyleCopyists$Church", "spout", "(LGargoyleCopyists$Ledge;)I"⟩) ∈ lw_all := lw_g (lw_at lw_ms 12 rfl) rfl
theorem qs13 : (Cond.selects "GargoyleCopyists$Church" ⟨"GargoyleCopyists$Church", "dayEnds", "()V"⟩ ⟨"GargoyleCopyists$Church", "dayEnds", "()V"⟩) ∈ lw_all := lw_g (lw_at lw_ms 13 rfl) rfl
theorem qs14 : (Cond.selects "GargoyleCopyists$Reader" ⟨"GargoyleCopyists$Reader", "order", "()LGargoyleCopyists$Order;"⟩ ⟨"GargoyleCopyists$Reader", "order", "()LGargoyleCopyists$Order;"⟩) ∈ lw_all := lw_g (lw_at lw_ms 14 rfl) rfl
theorem qs15 : (Cond.selects "GargoyleCopyists$Reader" ⟨"GargoyleCopyists$Reader", "word", "()Ljava/lang/String;"⟩ ⟨"GargoyleCopyists$Reader", "word", "()Ljava/lang/String;"⟩) ∈ lw_all := lw_g (lw_at lw_ms 15 rfl) rfl
theorem qs16 : (Cond.selects "GargoyleCopyists$Reader" ⟨"GargoyleCopyists$Reader", "isWord", "(Ljava/lang/String;)Z"⟩ ⟨"GargoyleCopyists$Reader", "isWord", "(Ljava/lang/String;)Z"⟩) ∈ lw_all := lw_g (lw_at lw_ms 16 rfl) rfl
theorem qs17 : (Cond.selects "GargoyleCopyists$Reader" ⟨"GargoyleCopyists$Reader", "here", "()I"⟩ ⟨"GargoyleCopyists$Reader", "here", "()I"⟩) ∈ lw_all := lw_g (lw_at lw_ms 17 rfl) rfl
theorem qs18 : (Cond.selects "GargoyleCopyists$Reader" ⟨"GargoyleCopyists$Reader", "isBeginning", "(Ljava/lang/String;)Z"⟩ ⟨"GargoyleCopyists$Reader", "isBeginning", "(Ljava/lang/String;)Z"⟩) ∈ lw_all := lw_g (lw_at lw_ms 18 rfl) rfl
theorem qs19 : (Cond.selects "GargoyleCopyists$Reader" ⟨"GargoyleCopyists$Reader", "needs", "(Z)V"⟩ ⟨"GargoyleCopyists$Reader", "needs", "(Z)V"⟩) ∈ lw_all := lw_g (lw_at lw_ms 19 rfl) rfl
theorem qs20 : (Cond.selects "GargoyleCopyists$Reader" ⟨"GargoyleCopyists$Reader", "number", "(I)I"⟩ ⟨"GargoyleCopyists$Reader", "number", "(I)I"⟩) ∈ lw_all := lw_g (lw_at lw_ms 20 rfl) rfl
theorem qs21 : (Cond.selects "GargoyleCopyists$Reader" ⟨"GargoyleCopyists$Reader", "behind", "(C)I"⟩ ⟨"GargoyleCopyists$Reader", "behind", "(C)I"⟩) ∈ lw_all := lw_g (lw_at lw_ms 21 rfl) rfl
theorem qs22 : (Cond.selects "GargoyleCopyists$Reader" ⟨"GargoyleCopyists$Reader", "takes", "(I)Z"⟩ ⟨"GargoyleCopyists$Reader", "takes", "(I)Z"⟩) ∈ lw_all := lw_g (lw_at lw_ms 22 rfl) rfl
theorem qs23 : (Cond.selects "GargoyleCopyists$Order" ⟨"GargoyleCopyists$Order", "does", "(LGargoyleCopyists$Church;[LGargoyleCopyists$Cut;)I"⟩ ⟨"GargoyleCopyists$Order", "does", "(LGargoyleCopyists$Church;[LGargoyleCopyists$Cut;)I"⟩) ∈ lw_all := lw_g (lw_at lw_ms 23 rfl) rfl
theorem qs24 : (Cond.selects "GargoyleCopyistsModel" ⟨"GargoyleCopyistsModel", "depthOf", "(II)I"⟩ ⟨"GargoyleCopyistsModel", "depthOf", "(II)I"⟩) ∈ lw_all := lw_g (lw_at lw_ms 24 rfl) rfl
theorem qs25 : (Cond.selects "GargoyleCopyistsModel" ⟨"GargoyleCopyistsModel", "looksBack", "()V"⟩ ⟨"GargoyleCopyistsModel", "looksBack", "()V"⟩) ∈ lw_all := lw_g (lw_at lw_ms 25 rfl) rfl
theorem qs26 : (Cond.selects "GargoyleCopyistsModel" ⟨"GargoyleCopyistsModel", "pays", "(I)Z"⟩ ⟨"GargoyleCopyistsModel", "pays", "(I)Z"⟩) ∈ lw_all := lw_g (lw_at lw_ms 26 rfl) rfl
theorem qs27 : (Cond.selects "GargoyleCopyistsModel" ⟨"GargoyleCopyistsModel", "tooFew", "(I)I"⟩ ⟨"GargoyleCopyistsModel", "tooFew", "(I)I"⟩) ∈ lw_all := lw_g (lw_at lw_ms 27 rfl) rfl
theorem qs28 : (Cond.selects "GargoyleCopyistsModel" ⟨"GargoyleCopyistsModel", "refused", "(II)I"⟩ ⟨"GargoyleCopyistsModel", "refused", "(II)I"⟩) ∈ lw_all := lw_g (lw_at lw_ms 28 rfl) rfl
theorem qs29 : (Cond.selects "GargoyleCopyistsModel" ⟨"GargoyleCopyistsModel", "kept", "(I)I"⟩ ⟨"GargoyleCopyistsModel", "kept", "(I)I"⟩) ∈ lw_all := lw_g (lw_at lw_ms 29 rfl) rfl
theorem qs30 : (Cond.selects "GargoyleCopyistsModel" ⟨"GargoyleCopyistsModel", "casts", "(I)I"⟩ ⟨"GargoyleCopyistsModel", "casts", "(I)I"⟩) ∈ lw_all := lw_g (lw_at lw_ms 30 rfl) rfl
theorem qs31 : (Cond.selects "GargoyleCopyistsModel" ⟨"GargoyleCopyistsModel", "isCast", "(I)Z"⟩ ⟨"GargoyleCopyistsModel", "isCast", "(I)Z"⟩) ∈ lw_all := lw_g (lw_at lw_ms 31 rfl) rfl
theorem qs32 : (Cond.selects "GargoyleCopyistsModel" ⟨"GargoyleCopyistsModel", "begins", "(I)I"⟩ ⟨"GargoyleCopyistsModel", "begins", "(I)I"⟩) ∈ lw_all := lw_g (lw_at lw_ms 32 rfl) rfl
theorem qs33 : (Cond.selects "GargoyleCopyistsModel" ⟨"GargoyleCopyistsModel", "isCopyist", "(I)Z"⟩ ⟨"GargoyleCopyistsModel", "isCopyist", "(I)Z"⟩) ∈ lw_all := lw_g (lw_at lw_ms 33 rfl) rfl
theorem qs34 : (Cond.selects "GargoyleCopyistsModel" ⟨"GargoyleCopyistsModel", "wouldBe", "(III)I"⟩ ⟨"GargoyleCopyistsModel", "wouldBe", "(III)I"⟩) ∈ lw_all := lw_g (lw_at lw_ms 34 rfl) rfl
theorem qs35 : (Cond.selects "GargoyleCopyistsModel" ⟨"GargoyleCopyistsModel", "cuts", "(III)I"⟩ ⟨"GargoyleCopyistsModel", "cuts", "(III)I"⟩) ∈ lw_all := lw_g (lw_at lw_ms 35 rfl) rfl
theorem qs36 : (Cond.selects "GargoyleCopyistsModel" ⟨"GargoyleCopyistsModel", "isCopy", "(I)Z"⟩ ⟨"GargoyleCopyistsModel", "isCopy", "(I)Z"⟩) ∈ lw_all := lw_g (lw_at lw_ms 36 rfl) rfl
theorem qs37 : (Cond.selects "GargoyleCopyistsModel" ⟨"GargoyleCopyistsModel", "ledgeFor", "(I)I"⟩ ⟨"GargoyleCopyistsModel", "ledgeFor", "(I)I"⟩) ∈ lw_all := lw_g (lw_at lw_ms 37 rfl) rfl
theorem qs38 : (Cond.selects "GargoyleCopyistsModel" ⟨"GargoyleCopyistsModel", "dueAt", "(II)I"⟩ ⟨"GargoyleCopyistsModel", "dueAt", "(II)I"⟩) ∈ lw_all := lw_g (lw_at lw_ms 38 rfl) rfl
theorem qs39 : (Cond.selects "GargoyleCopyistsModel" ⟨"GargoyleCopyistsModel", "renews", "(I)I"⟩ ⟨"GargoyleCopyistsModel", "renews", "(I)I"⟩) ∈ lw_all := lw_g (lw_at lw_ms 39 rfl) rfl
theorem qs40 : (Cond.selects "GargoyleCopyistsModel" ⟨"GargoyleCopyistsModel", "ofPoints", "(II)I"⟩ ⟨"GargoyleCopyistsModel", "ofPoints", "(II)I"⟩) ∈ lw_all := lw_g (lw_at lw_ms 40 rfl) rfl
theorem qs41 : (Cond.selects "GargoyleCopyistsModel" ⟨"GargoyleCopyistsModel", "weightOf", "(I)I"⟩ ⟨"GargoyleCopyistsModel", "weightOf", "(I)I"⟩) ∈ lw_all := lw_g (lw_at lw_ms 41 rfl) rfl
theorem qs42 : (Cond.selects "GargoyleCopyistsModel" ⟨"GargoyleCopyistsModel", "takesDown", "(I)I"⟩ ⟨"GargoyleCopyistsModel", "takesDown", "(I)I"⟩) ∈ lw_all := lw_g (lw_at lw_ms 42 rfl) rfl
theorem qs43 : (Cond.selects "GargoyleCopyistsModel" ⟨"GargoyleCopyistsModel", "lifts", "(I)I"⟩ ⟨"GargoyleCopyistsModel", "lifts", "(I)I"⟩) ∈ lw_all := lw_g (lw_at lw_ms 43 rfl) rfl
theorem qs44 : (Cond.selects "GargoyleCopyistsModel" ⟨"GargoyleCopyistsModel", "uncut", "(I)I"⟩ ⟨"GargoyleCopyistsModel", "uncut", "(I)I"⟩) ∈ lw_all := lw_g (lw_at lw_ms 44 rfl) rfl
theorem qs45 : (Cond.selects "GargoyleCopyistsModel" ⟨"GargoyleCopyistsModel", "drives", "(I)I"⟩ ⟨"GargoyleCopyistsModel", "drives", "(I)I"⟩) ∈ lw_all := lw_g (lw_at lw_ms 45 rfl) rfl
theorem qs46 : (Cond.selects "GargoyleCopyistsModel" ⟨"GargoyleCopyistsModel", "tells", "(II)I"⟩ ⟨"GargoyleCopyistsModel", "tells", "(II)I"⟩) ∈ lw_all := lw_g (lw_at lw_ms 46 rfl) rfl
theorem qs47 : (Cond.selects "GargoyleCopyistsModel" ⟨"GargoyleCopyistsModel", "passes", "(I)I"⟩ ⟨"GargoyleCopyistsModel", "passes", "(I)I"⟩) ∈ lw_all := lw_g (lw_at lw_ms 47 rfl) rfl
theorem qs48 : (Cond.selects "GargoyleCopyistsModel" ⟨"GargoyleCopyistsModel", "rainsOn", "(I)I"⟩ ⟨"GargoyleCopyistsModel", "rainsOn", "(I)I"⟩) ∈ lw_all := lw_g (lw_at lw_ms 48 rfl) rfl
theorem qs49 : (Cond.selects "GargoyleCopyistsModel" ⟨"GargoyleCopyistsModel", "sets", "(I)V"⟩ ⟨"GargoyleCopyistsModel", "sets", "(I)V"⟩) ∈ lw_all := lw_g (lw_at lw_ms 49 rfl) rfl
theorem qs50 : (Cond.selects "GargoyleCopyistsModel" ⟨"GargoyleCopyistsModel", "endsDay", "()V"⟩ ⟨"GargoyleCopyistsModel", "endsDay", "()V"⟩) ∈ lw_all := lw_g (lw_at lw_ms 50 rfl) rfl
theorem qs51 : (Cond.selects "GargoyleCopyistsModel" ⟨"GargoyleCopyistsModel", "readsText", "()I"⟩ ⟨"GargoyleCopyistsModel", "readsText", "()I"⟩) ∈ lw_all := lw_g (lw_at lw_ms 51 rfl) rfl
theorem qs52 : (Cond.selects "GargoyleCopyistsModel" ⟨"GargoyleCopyistsModel", "readsOrder", "(I)V"⟩ ⟨"GargoyleCopyistsModel", "readsOrder", "(I)V"⟩) ∈ lw_all := lw_g (lw_at lw_ms 52 rfl) rfl
theorem qs53 : (Cond.selects "GargoyleCopyistsModel" ⟨"GargoyleCopyistsModel", "readsWord", "()I"⟩ ⟨"GargoyleCopyistsModel", "readsWord", "()I"⟩) ∈ lw_all := lw_g (lw_at lw_ms 53 rfl) rfl
theorem qs54 : (Cond.selects "GargoyleCopyistsModel" ⟨"GargoyleCopyistsModel", "isWord", "(I)Z"⟩ ⟨"GargoyleCopyistsModel", "isWord", "(I)Z"⟩) ∈ lw_all := lw_g (lw_at lw_ms 54 rfl) rfl
theorem qs55 : (Cond.selects "GargoyleCopyistsModel" ⟨"GargoyleCopyistsModel", "here", "()I"⟩ ⟨"GargoyleCopyistsModel", "here", "()I"⟩) ∈ lw_all := lw_g (lw_at lw_ms 55 rfl) rfl
theorem qs56 : (Cond.selects "GargoyleCopyistsModel" ⟨"GargoyleCopyistsModel", "needs", "(I)V"⟩ ⟨"GargoyleCopyistsModel", "needs", "(I)V"⟩) ∈ lw_all := lw_g (lw_at lw_ms 56 rfl) rfl
theorem qs57 : (Cond.selects "GargoyleCopyistsModel" ⟨"GargoyleCopyistsModel", "number", "()I"⟩ ⟨"GargoyleCopyistsModel", "number", "()I"⟩) ∈ lw_all := lw_g (lw_at lw_ms 57 rfl) rfl
theorem qs58 : (Cond.selects "GargoyleCopyistsModel" ⟨"GargoyleCopyistsModel", "digit", "()I"⟩ ⟨"GargoyleCopyistsModel", "digit", "()I"⟩) ∈ lw_all := lw_g (lw_at lw_ms 58 rfl) rfl
theorem qs59 : (Cond.selects "GargoyleCopyistsModel" ⟨"GargoyleCopyistsModel", "does", "(I)I"⟩ ⟨"GargoyleCopyistsModel", "does", "(I)I"⟩) ∈ lw_all := lw_g (lw_at lw_ms 59 rfl) rfl
theorem qs60 : (Cond.selects "GargoyleCopyistsModel" ⟨"GargoyleCopyistsModel", "putsText", "(Ljava/lang/String;)V"⟩ ⟨"GargoyleCopyistsModel", "putsText", "(Ljava/lang/String;)V"⟩) ∈ lw_all := lw_g (lw_at lw_ms 60 rfl) rfl
theorem qs61 : (Cond.selects "GargoyleCopyistsModel" ⟨"GargoyleCopyistsModel", "puts", "(I)V"⟩ ⟨"GargoyleCopyistsModel", "puts", "(I)V"⟩) ∈ lw_all := lw_g (lw_at lw_ms 61 rfl) rfl
theorem qs62 : (Cond.selects "GargoyleCopyistsModel" ⟨"GargoyleCopyistsModel", "sum", "(II)I"⟩ ⟨"GargoyleCopyistsModel", "sum", "(II)I"⟩) ∈ lw_all := lw_g (lw_at lw_ms 62 rfl) rfl
