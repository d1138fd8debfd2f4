/-! STRINGS AND STATICS: what rides beside the tables; texts that are read, whoever owns them -/
def gF0 (o n d : String) (v : Value) (t : Nat) (U : State) (H : Heap) : Prop := ∃ (cf : ClassId) (k : Class) (i : Nat) (f : Field) (cell : Cell), U.fieldFound? o n d = some (cf, k, i, f) ∧ f.isStatic = false ∧ H[t]? = some cell ∧ cell.vm ≠ .unknown ∧ cell.slots[f.slot]? = some v
def gO0 (C : String) (t : Nat) (U : State) (H : Heap) : Prop := ∃ cell : Cell, H[t]? = some cell ∧ cell.vm.isStatics = false ∧ U.vm.findClass C = some cell.cls
def gT0 (ty : FieldType) (t N : Nat) (f : gG) (U : State) (H : Heap) : Prop := ∃ cell : Cell, H[t]? = some cell ∧ U.isArrayOf cell ty ∧ cell.vm ≠ .unknown ∧ N ≤ cell.slots.size ∧ cell.slots.size.toInt32 = Int32.ofNat N ∧ ∀ j : Nat, j < N → cell.slots[j]? = some (.int (f j))
def gL0 (ty : FieldType) (t N : Nat) (U : State) (H : Heap) : Prop := ∃ cell : Cell, H[t]? = some cell ∧ U.isArrayOf cell ty ∧ cell.vm ≠ .unknown ∧ cell.slots.size.toInt32 = Int32.ofNat N
def gS0 (a b n : Nat) (f : gG) (U : State) (H : Heap) : Prop := gO0 "java/lang/String" a U H ∧ gF0 "java/lang/String" "coder" "B" (.int 0) a U H ∧ gF0 "java/lang/String" "value" "[B" (.ref b) a U H ∧ gT0 .byte b n f U H
def gAsc (f : gG) (n : Nat) : Prop := ∀ k, k < n → ∃ c, c < 128 ∧ f k = nI c
abbrev gTx : List (List Int32) := [[], [99, 97, 115, 116, 32], [98, 101, 103, 105, 110, 32], [99, 117, 116, 32], [100, 111, 119, 110, 32], [108, 105, 102, 116, 32], [110, 101, 101, 100, 108, 101, 32], [100, 114, 105, 118, 101, 32], [115, 107, 121, 32], [119, 97, 105, 116, 32], [111], [46], [99], [99, 111, 112, 121, 32], [58, 32], [94]]
def gLen (i : Nat) : Nat := (gTx.getD i []).length
def gByt (i : Nat) : gG := fun k => (gTx.getD i []).getD k 0
abbrev gSites : List (String × Nat × String × Nat) := [("GargoyleCopyists", 36, "", 0), ("GargoyleCopyists$Church", 249, "", 0), ("GargoyleCopyists$Reader", 11, "cast ", 1), ("GargoyleCopyists$Reader", 13, "begin ", 2), ("GargoyleCopyists$Reader", 15, "cut ", 3), ("GargoyleCopyists$Reader", 17, "down ", 4), ("GargoyleCopyists$Reader", 19, "lift ", 5), ("GargoyleCopyists$Reader", 21, "needle ", 6), ("GargoyleCopyists$Reader", 23, "drive ", 7), ("GargoyleCopyists$Reader", 25, "sky ", 8), ("GargoyleCopyists$Reader", 27, "wait ", 9), ("GargoyleCopyists$Reader", 69, "", 0), ("GargoyleCopyists$Order", 21, "cast ", 1), ("GargoyleCopyists$Order", 27, "begin ", 2), ("GargoyleCopyists$Order", 29, "cut ", 3), ("GargoyleCopyists$Order", 31, "down ", 4), ("GargoyleCopyists$Order", 33, "lift ", 5), ("GargoyleCopyists$Order", 35, "needle ", 6), ("GargoyleCopyists$Order", 37, "drive ", 7), ("GargoyleCopyists$Order", 39, "sky ", 8), ("GargoyleCopyists$Ledge", 52, "o", 10), ("GargoyleCopyists$Ledge", 54, ".", 11), ("GargoyleCopyists$Ledge", 56, "c", 12), ("GargoyleCopyistsModel", 151, "cast ", 1), ("GargoyleCopyistsModel", 153, "begin ", 2), ("GargoyleCopyistsModel", 155, "cut ", 3), ("GargoyleCopyistsModel", 157, "down ", 4), ("GargoyleCopyistsModel", 159, "lift ", 5), ("GargoyleCopyistsModel", 161, "needle ", 6), ("GargoyleCopyistsModel", 163, "drive ", 7), ("GargoyleCopyistsModel", 165, "sky ", 8), ("GargoyleCopyistsModel", 167, "wait ", 9), ("GargoyleCopyistsModel", 223, "copy ", 13), ("GargoyleCopyistsModel", 229, ": ", 14), ("GargoyleCopyistsModel", 231, "^", 15), ("GargoyleCopyistsModel", 233, "", 0), ("GargoyleCopyists$Copy", 72, "copy ", 13), ("GargoyleCopyists$Copy", 84, ": ", 14), ("GargoyleCopyists$Copy", 89, "^", 15), ("GargoyleCopyists$Copy", 91, "", 0)]
abbrev gPriv : List MethodName := [yJ7_ensureCapacityInternal, yJ7_newCapacity, yJ7_putStringAt, yJ7_inflateIfNeededFor]
def gDig : gG := fun k => nI (48 + k % 10)
/-- the String constants, the statics: kA i, kA (16 + i): the i-th text and its bytes; kA 32: DigitOnes; kA 33: the empty list's array -/
def gKU (A : Nat → Prop) (kA : Nat → Nat) (U : State) : Prop :=
  (∀ q ∈ gSites, vk_R q.1 q.2.1 q.2.2.1 (kA q.2.2.2) U) ∧ (∀ i, i < 16 → gS0 (kA i) (kA (16 + i)) (gLen i) (gByt i) U U.heap) ∧
  va_Z "java/lang/String" "COMPACT_STRINGS" "Z" (.int 1) A U U.heap ∧ va_Zq "jdk/internal/util/Preconditions" "SIOOBE_FORMATTER" "Ljava/util/function/BiFunction;" A U U.heap ∧
  (va_Z "java/lang/Integer" "DigitOnes" "[B" (.ref (kA 32)) A U U.heap ∧ gT0 .byte (kA 32) 100 gDig U U.heap) ∧
  (va_Z "java/util/ArrayList" "DEFAULTCAPACITY_EMPTY_ELEMENTDATA" "[Ljava/lang/Object;" (.ref (kA 33)) A U U.heap ∧ gL0 (.object "java/lang/Object") (kA 33) 0 U U.heap) ∧
  vx_Zq "java/lang/Throwable" "UNASSIGNED_STACK" "[Ljava/lang/StackTraceElement;" A U U.heap ∧ vx_Zq "java/lang/Throwable" "SUPPRESSED_SENTINEL" "Ljava/util/List;" A U U.heap ∧
  ∀ y ∈ gPriv, (Cond.selects RJ8 y y).before #[] U = true
def gKE (A : Nat → Prop) (E : State → Prop) (kA : Nat → Nat) : Prop := ∀ U, E U → gKU A kA U
/-- a text: n letters f; the String at a, its bytes at b: in the world R, or a constant -/
def gTxt (dA : Nat → ClassId) (E : State → Prop) (R : va_W) (a b n : Nat) (f : gG) : Prop := n ≤ 1000 ∧ gAsc f n ∧ ((∃ h z : Value, (a, .inr (17, [.ref b, .int 0, h, z])) ∈ R ∧ (b, .inl (dA 2, n, .inl f)) ∈ R) ∨ ∀ U, E U → gS0 a b n f U U.heap)
theorem gTxt.mono {dA : Nat → ClassId} {E : State → Prop} {R R' : va_W} {a b n : Nat} {f : gG} (h : gTxt dA E R a b n f) (hR : ∀ q ∈ R, q ∈ R') : gTxt dA E R' a b n f :=
  ⟨h.1, h.2.1, h.2.2.imp (fun ⟨x, y, h1, h2⟩ => ⟨x, y, hR _ h1, hR _ h2⟩) id⟩
theorem gTxt.of {dA : Nat → ClassId} {E : State → Prop} {R : va_W} {a b n : Nat} {f : gG} {h z : Value} (i j : Nat) (hn : n ≤ 1000) (hf : gAsc f n) (h1 : R[i]? = some (a, .inr (17, [.ref b, .int 0, h, z]))) (h2 : R[j]? = some (b, .inl (dA 2, n, .inl f))) : gTxt dA E R a b n f :=
  ⟨hn, hf, Or.inl ⟨h, z, List.mem_of_getElem? h1, List.mem_of_getElem? h2⟩⟩
theorem gTx_ok : ∀ i, i < 16 → gLen i ≤ 1000 ∧ ∀ k, k < gLen i → 0 ≤ gByt i k ∧ gByt i k < 128 := by decide +kernel
theorem gByt_asc {i : Nat} (hi : i < 16) : gAsc (gByt i) (gLen i) := by
  intro k hk
  obtain ⟨h1, h2⟩ := (gTx_ok i hi).2 k hk
  obtain ⟨j, hj, e⟩ := nI_of (Int32.not_lt.mpr h1)
  refine ⟨j, ?_, e⟩
  rw [e] at h2
  exact (nI_ltI hj (by decide)).mp (show nI j < nI 128 from h2)
theorem gTxt.k {dA : Nat → ClassId} {A : Nat → Prop} {E : State → Prop} {kA : Nat → Nat} (hKE : gKE A E kA) {R : va_W} {i : Nat} (hi : i < 16) : gTxt dA E R (kA i) (kA (16 + i)) (gLen i) (gByt i) := ⟨(gTx_ok i hi).1, gByt_asc hi, Or.inr fun U hU => (hKE U hU).2.1 i hi⟩
theorem gF0.of {D : va_G} {dA : Nat → ClassId} {s : State} {args : Array Value} {H : Heap} {ci N a k : Nat} {C : String} {T : u_T} {ty : Nat → FieldType} {fs : List Value} {v : Value} (hK : va_K D gC (gT dA) s) (F : gCl ci C T N ty) (hts : ∀ w ∈ lw_all, w.before args s = true) (h : va_at D gC (a, .inr (ci, fs)) H) (hk : k < N) (hv : fs[k]? = some v) : gF0 (T k).1 (T k).2.1 (T k).2.2.1 v a s H := by
  obtain ⟨r, h1, cell, q1, q2, q3, q4⟩ := h
  have hr : r = (C, T, N) := Option.some.inj (h1.symm.trans F.1)
  subst hr
  obtain ⟨hS, hfc, kC, hkC, hkind⟩ := hK.1 ci _ F.1
  obtain ⟨cf, kf, fi, f, hi, hsl⟩ := hS k hk
  refine ⟨cf, kf, fi, f, cell, hi, (u_facts hfc hkC (u_lays hts F.2.1 hk) hi).1, q1, (by rw [q3]; exact fun h => by cases h), ?_⟩
  rw [hsl, q4 k hk]
  simp [vp_V, hv]
theorem gO0.of {D : va_G} {dA : Nat → ClassId} {s : State} {H : Heap} {ci a : Nat} {r : vw_C} {fs : List Value} (hK : va_K D gC (gT dA) s) (hc : gC[ci]? = some r) (h : va_at D gC (a, .inr (ci, fs)) H) : gO0 r.1 a s H := by
  obtain ⟨q', h1, cell, g1, g2, g3, -⟩ := h
  exact ⟨cell, g1, by rw [g3]; rfl, by rw [g2]; exact (hK.1 ci r hc).2.1⟩
theorem gT0.of {D : va_G} {dA : Nat → ClassId} {s : State} {H : Heap} {b n : Nat} {f : gG} {cA : ClassId} {ty : FieldType} (hK : va_K D gC (gT dA) s) (t0 : Nat) (ht : (gT dA)[t0]? = some (cA, ty)) (h : va_at D gC (b, .inl (cA, n, .inl f)) H) : gT0 ty b n f s H := by
  have h1 : H[b]? = some (arrV cA n (fun j => .int (f j))) := h
  refine ⟨_, h1, (hK.2 t0 _ ht).1 n (fun j => .int (f j)), (fun q => by cases q), (by rw [arrV_size]; exact Nat.le_refl _), (by rw [arrV_size]), fun j hj => ?_⟩
  exact arrV_read _ _ hj
section GR3
variable {p : Program} {l : Launch} {e : Env} {R : Room} {s : State} {m : MethodId} {args : Array Value} {below : List Frame} {meth : Method} {c : Code} {H : Heap} {locs : List Loc} {cells slots : Nat} {Q : State → Prop}
variable {cc : ByteArray} {nL : Nat} {own : String} {pc : Nat} {ls : Array Slot} {rest : List Value} {D : va_G} {dA : Nat → ClassId} {A : Nat → Prop} {E : State → Prop} {a : Nat} {ws ws' : va_W}
theorem gE.now (hE : gSt A E) (X : gX p s m args c cc nL own D dA A E) (hw : gW D A ws s H locs) : E ({ s with heap := H } : State) := hE.1 s ({ s with heap := H } : State) locs X.2.2.2.1 hw.2.2 (State.WarmedH.refl s)
theorem gTxt.at (hE : gSt A E) (X : gX p s m args c cc nL own D dA A E) (hw : gW D A ws s H locs) {R' : va_W} {b n : Nat} {f : gG} (h : gTxt dA E R' a b n f) (hR : ∀ q ∈ R', q ∈ ws) : gS0 a b n f s H := by
  rcases h.2.2 with ⟨x, y, h1, h2⟩ | h1
  · obtain ⟨i, hi⟩ := List.getElem?_of_mem (hR _ h1)
    obtain ⟨j, hj⟩ := List.getElem?_of_mem (hR _ h2)
    have g1 := hw.1 i _ hi
    have g2 := hw.1 j _ hj
    exact ⟨gO0.of X.2.1 cfJ9.1 g1, gF0.of (k := 1) X.2.1 cfJ9 X.1.2.2.2.2 g1 (by decide) rfl, gF0.of (k := 0) X.2.1 cfJ9 X.1.2.2.2.2 g1 (by decide) rfl, gT0.of X.2.1 2 rfl g2⟩
  · exact h1 ({ s with heap := H } : State) (gE.now hE X hw)
theorem g_getR (X : gX p s m args c cc nL own D dA A E) {o n d ref : String} {index : Nat} {v : Value} (hf : gF0 o n d v a s H) (hl : Cond.fieldLink own index ref n d ∈ lw_all) (hr : o = ref) (hdg : decode cc pc = .ok (.getfield index, 3))
    (kk : W p l e R s m args below meth c H locs cells slots Q (F0 m (pc + 3) ls (v :: rest))) : W p l e R s m args below meth c H locs cells slots Q (F0 m pc ls (.ref a :: rest)) := by
  subst hr
  obtain ⟨cf, k, i, f, cell, h1, h2, h3, h4, h5⟩ := hf
  exact W.getf X.1.1 X.1.2.1 X.1.2.2.2.1 (X.1.2.2.2.2 _ hl) h1 h2 h3 h4 (v := v) h5 rfl rfl hdg kk
theorem g_baldR (X : gX p s m args c cc nL own D dA A E) {n : Nat} {f : gG} (hT : gT0 .byte a n f s H) {i : Nat} (hi : i < n) (hn : n < 2 ^ 31) (hdg : decode cc pc = .ok (.baload, 1))
    (kk : W p l e R s m args below meth c H locs cells slots Q (F0 m (pc + 1) ls (.int (f i) :: rest))) : W p l e R s m args below meth c H locs cells slots Q (F0 m pc ls (.int (nI i) :: .ref a :: rest)) := by
  obtain ⟨cell, h1, h2, h3, h4, h5, h6⟩ := hT
  have hc : (nI i).toNatClampNeg = i := nI_clamp (by omega)
  exact W.bald (v := .int (f i)) X.1.1 X.1.2.1 h1 h2 h3 (by rw [hc]; intro q; rcases q with q | q; exact nI_pos (by omega) q; omega) (by rw [hc]; exact h6 i hi) rfl rfl hdg kk
theorem g_alenR (X : gX p s m args c cc nL own D dA A E) {ty : FieldType} {n : Nat} {f : gG} (hT : gT0 ty a n f s H) (hdg : decode cc pc = .ok (.arraylength, 1))
    (kk : W p l e R s m args below meth c H locs cells slots Q (F0 m (pc + 1) ls (.int (nI n) :: rest))) : W p l e R s m args below meth c H locs cells slots Q (F0 m pc ls (.ref a :: rest)) := by
  obtain ⟨cell, h1, h2, h3, h4, h5, h6⟩ := hT
  exact W.alen (n := nI n) X.1.1 X.1.2.1 h1 h2 h5 rfl rfl hdg kk
theorem g_alenL (X : gX p s m args c cc nL own D dA A E) {ty : FieldType} {n : Nat} (hT : gL0 ty a n s H) (hdg : decode cc pc = .ok (.arraylength, 1))
    (kk : W p l e R s m args below meth c H locs cells slots Q (F0 m (pc + 1) ls (.int (nI n) :: rest))) : W p l e R s m args below meth c H locs cells slots Q (F0 m pc ls (.ref a :: rest)) := by
  obtain ⟨cell, h1, h2, h3, h5⟩ := hT
  exact W.alen (n := nI n) X.1.1 X.1.2.1 h1 h2 h5 rfl rfl hdg kk
theorem g_gets (X : gX p s m args c cc nL own D dA A E) (hw : gW D A ws s H locs) {C n d ref : String} {v : Value} {index : Nat} (hZ : va_Z C n d v A s s.heap) (hl : Cond.fieldLink own index ref n d ∈ lw_all) (hr : C = ref) (hdg : decode cc pc = .ok (.getstatic index, 3))
    (kk : W p l e R s m args below meth c H locs cells slots Q (F0 m (pc + 3) ls (v :: rest))) : W p l e R s m args below meth c H locs cells slots Q (F0 m pc ls rest) := by
  subst hr
  exact va_gets X.1.1 X.1.2.1 hZ hw.2.2 X.1.2.2.2.1 (X.1.2.2.2.2 _ hl) (fun _ h => h) hdg kk
theorem g_instR (X : gX p s m args c cc nL own D dA A E) {C : String} {index : Nat} (hr : gO0 C a s H) (hl : Cond.classLink own index C ∈ lw_all) (hdg : decode cc pc = .ok (.instanceof index, 3))
    (kk : W p l e R s m args below meth c H locs cells slots Q (F0 m (pc + 3) ls (.int 1 :: rest))) : W p l e R s m args below meth c H locs cells slots Q (F0 m pc ls (.ref a :: rest)) :=
  va_instE X.1.1 X.1.2.1 X.1.2.2.2.1 (X.1.2.2.2.2 _ hl) hr hdg kk
theorem g_castR (X : gX p s m args c cc nL own D dA A E) {C : String} {index : Nat} (hr : gO0 C a s H) (hl : Cond.classLink own index C ∈ lw_all) (hdg : decode cc pc = .ok (.checkcast index, 3))
    (kk : W p l e R s m args below meth c H locs cells slots Q (F0 m (pc + 3) ls (.ref a :: rest))) : W p l e R s m args below meth c H locs cells slots Q (F0 m pc ls (.ref a :: rest)) :=
  va_castE X.1.1 X.1.2.1 X.1.2.2.2.1 (X.1.2.2.2.2 _ hl) hr hdg kk
theorem g_ldcS (X : gX p s m args c cc nL own D dA A E) {kA : Nat → Nat} (hKE : gKE A E kA) (j : Nat) {q : String × Nat × String × Nat} (hj : gSites[j]? = some q) (ho : q.1 = own) (hdg : decode cc pc = .ok (.ldc q.2.1, 2))
    (kk : W p l e R s m args below meth c H locs cells slots Q (F0 m (pc + 2) ls (.ref (kA q.2.2.2) :: rest))) : W p l e R s m args below meth c H locs cells slots Q (F0 m pc ls rest) := by
  subst ho
  exact va_ldcS X.1.1 X.1.2.1 X.1.2.2.2.1 ((hKE s X.2.2.2.1).1 q (List.mem_of_getElem? hj)) hdg kk
theorem g_preR {As : List Value} {b : Nat} {C : String} (hE : gSt A E) (hV : gV D dA A E s) (hw : gW D A ws s H locs) (hr : gO0 C b s H) : PreV s H C b (va_Pc (.ref b :: As) (gB D dA A E ws)) As := ⟨g_blind hE, hr, g_at hE hV hw⟩
theorem g_aretK {S : Type} {post : S → Prop} {w1 : S → va_W} {v : Nat} {rt : FieldType} {ad : S → Nat} (u : S) (X : gX p s m args c cc nL own D dA A E) (hw : gW D A ws s H locs) (hr : meth.sig.returnType = some rt) (hrt : (∃ n, rt = .object n) ∨ ∃ t, rt = .array t) (hlocks : meth.locks = false) (hp : post u) (ea : v = ad u) (e1 : ws = w1 u) (hdg : decode cc pc = .ok (.areturn, 1)) : W p l e R s m args below meth c H locs cells slots (MQ below (va_Qr post (fun u a t => a = ad u ∧ gE D A (w1 u) t) A) args s cells slots A) (F0 m pc ls [.ref v]) := by
  subst e1
  exact W.aret X.1.1 X.1.2.1 hr hrt (Or.inr ⟨v, rfl⟩) (fun t ht hW => ⟨⟨u, v, rfl, hp, ea, by rw [ht]; exact hw.1, hw.2.1⟩, hw.2.2.F ht⟩) hw.2.2.2.2 hdg hlocks
theorem g_copyR (X : gX p s m args c cc nL own D dA A E) (hsz : ls.size = nL) (hw : gW D A ws s H locs) {index : Nat} (hl : Cond.methodLink own index arraycopyName ∈ lw_all) (hnat : Cond.native arraycopyName ∈ lw_all) (hstat : Cond.static arraycopyName ∈ lw_all) (hini : Cond.initialized "java/lang/System" ∈ lw_all)
    {b0 n0 : Nat} {f : gG} (hX : gT0 .byte b0 n0 f s H) (q1 : Nat) {n1 : Nat} {g : gG} (ha1 : ws[q1]? = some (a, .inl (dA 2, n1, .inl g))) {sp dp n : Nat} (h4 : sp + n ≤ n0) (h5 : dp + n ≤ n1) (h6 : n0 < 2 ^ 31) (h7 : n1 < 2 ^ 31) (hfit : ∀ i : Nat, i < n → fits .byte (.int (f (sp + i))) = true)
    (hframes : 1 ≤ R.frames) (hlocals : (rest.map fun v => v.category).sum + (nativeFrameWords "java/lang/System" "arraycopy" 5 + 11) ≤ R.locals) (ew : ws.set q1 (a, .inl (dA 2, n1, .inl (va_cpy f g sp dp n))) = ws') (hdg : decode cc pc = .ok (.invokestatic index, 3))
    (kk : ∀ (H1 : Heap) (locs1 : List Loc), gW D A ws' s H1 locs1 → W p l e R s m args below meth c H1 locs1 cells slots Q (F0 m (pc + 3) ls rest)) : W p l e R s m args below meth c H locs cells slots Q (F0 m pc ls (.int (nI n) :: .int (nI dp) :: .ref a :: .int (nI sp) :: .ref b0 :: rest)) := by
  subst ew
  have cs : (nI sp).toNatClampNeg = sp := nI_clamp (by omega)
  have cd : (nI dp).toNatClampNeg = dp := nI_clamp (by omega)
  have cn : (nI n).toNatClampNeg = n := nI_clamp (by omega)
  intro T hT X1
  obtain ⟨scr, hc0, hs2, hs3, hs4, -, hs5⟩ := hX
  have hc1 : H[a]? = some (vp_cell (dA 2) (n1, .inl g)) := hw.1 q1 _ ha1
  obtain ⟨hs6, k0, hk0, cm0, hkk0⟩ := hs2
  obtain ⟨-, k1, hk1, cm1, hkk1⟩ := (X.2.1.2 2 (dA 2, .byte) rfl).1 n1 (fun j => .int (g j))
  obtain ⟨vm', X', step⟩ := X1.arraycopy X.1.1 X.1.2.2.2.1 (X.1.2.2.2.2 _ hl) (X.1.2.2.2.2 _ hnat) (X.1.2.2.2.2 _ hstat) (X.1.2.2.2.2 _ hini) (src := b0) (dst := a) (cs := scr) (cd := vp_cell (dA 2) (n1, .inl g)) (srcPos := nI sp) (destPos := nI dp) (n := nI n) (by rw [hT]; exact hc0) (by rw [hT]; exact hc1)
    hs6 (fun _ h => by cases h) hs3 (fun h => by cases h) hk0 hk1 hkk0 hkk1 (by simp [refKind]) (nI_pos (by omega)) (nI_pos (by omega)) (nI_pos (by omega))
    (by rw [nI_toInt (by omega), nI_toInt (by omega)]; omega)
    (by rw [nI_toInt (by omega), nI_toInt (by omega)]; show ¬ _ > ((arrV (dA 2) n1 (fun j => .int (g j))).slots.size : Int); rw [arrV_size]; omega)
    (fun vm₁ _ i hi => by
      rw [cn] at hi
      have e : scr.slots.getD ((nI sp).toNatClampNeg + i) .null = .int (f (sp + i)) := by
        rw [cs, Array.getD_eq_getD_getElem?, hs5 _ (by omega)]
        rfl
      refine ⟨?_, ?_⟩
      · rw [e]
        exact hfit i hi
      · rw [e]
        exact trivial)
    (g := F0 m pc ls (.int (nI n) :: .int (nI dp) :: .ref a :: .int (nI sp) :: .ref b0 :: rest)) rfl (by rw [X.1.2.2.1]; exact hsz) (rest := rest) rfl (by rw [X.1.2.1]; exact hdg) hframes (by show 2 * 0 + _ + _ ≤ _; omega)
  have e1 : copied scr (vp_cell (dA 2) (n1, .inl g)) (nI sp) (nI dp) (nI n) = vp_cell (dA 2) (n1, .inl (va_cpy f g (nI sp).toNatClampNeg (nI dp).toNatClampNeg (nI n).toNatClampNeg)) := va_copiedX (fun z => .int z) scr (dA 2) f g hs5 (by rw [cs, cn]; omega)
  rw [cs, cd, cn] at e1
  rw [e1] at X' step
  have hl' : a < H.size := (Array.getElem?_eq_some_iff.mp hc1).1
  have hheap : ((T.setVm vm').setCell a (vp_cell (dA 2) (n1, .inl (va_cpy f g sp dp n)))).heap = H.setIfInBounds a (vp_cell (dA 2) (n1, .inl (va_cpy f g sp dp n))) := by rw [← hT]; rfl
  have oq : ∀ q : Nat, q ≠ a → (H.setIfInBounds a (vp_cell (dA 2) (n1, .inl (va_cpy f g sp dp n))))[q]? = H[q]? := fun q hq => by simp [Array.getElem?_setIfInBounds, Ne.symm hq]
  obtain ⟨t, a1, b1⟩ := kk _ _ ⟨hw.1.set hw.2.1 ha1 (show (H.setIfInBounds a _)[a]? = some _ by simp [Array.getElem?_setIfInBounds, hl']) oq, hw.2.1.set ha1, ⟨by simp; exact hw.2.2.1, fun q g1 g2 => by
      rw [oq q (fun e => g2 (by rw [e]; exact hw.2.1.2 q1 _ ha1))]
      exact hw.2.2.2.1 q g1 g2, fun q hq => by
      rcases List.mem_append.mp hq with h | h
      · exact hw.2.2.2.2 q h
      · obtain ⟨z, -, hz⟩ := List.mem_map.mp h
        rw [← hz]
        exact hw.2.1.2 q1 _ ha1⟩⟩ _ hheap X'
  exact ⟨t, step t a1, b1⟩
/-- a private method of the superclass, called on an object of the subclass -/
theorem g_cwP {C : String} {index maxL mc ms : Nat} {y : MethodName} {bytes : ByteArray} {ret : Option FieldType} {rm : Room} (n : Nat) (ht : ∀ w ∈ lw_all, w.before args s = true) (hl : Cond.methodLink own index y ∈ lw_all) (hsm : Cond.sameMethod y.cls y.cls y.name y.desc ∈ lw_all) (hi : Cond.instanceMethod y ∈ lw_all) (hin : Cond.initialized y.cls ∈ lw_all) (hc : Cond.code y bytes maxL ret ∈ lw_all) (hsel : (Cond.selects C y y).before #[] s = true) (hrc : rm.cells = mc) (hrs : rm.slots = ms)
    (hd : y.cls ≠ "java/lang/invoke/MethodHandle" ∧ y.cls ≠ "java/lang/invoke/VarHandle" ∧ (parseMethodDescriptor y.desc).map (fun d => d.parameters.length) = some n) (hR : rm.frames + 1 ≤ R.frames ∧ 8 + (maxL + 11) + rm.locals ≤ R.locals) : va_CU R s args own C y.cls index y y bytes maxL ret (ws_ y bytes maxL ret) rm mc ms n := by
  refine ⟨⟨hrc, hrs, hR.1, hR.2, pay_in ht (lw_meth hc), List.mem_cons_self⟩, ht _ hc, ht _ hin, ⟨hd.1, hd.2.1⟩, fun sig h => ?_, ht _ hl, ht _ hsm, va_Decl.of (ht _ hi) (ht _ hc), va_any rfl hsel, ht _ hi⟩
  have h2 := hd.2.2
  rw [h] at h2
  exact (Option.some.inj h2).symm
end GR3
