/-! LAMBDAS (printed by mk_lam.py): the made classes, as JvmDerived's LambdaFacts shows them; a call of Cut.more on one of their objects -/
def lm_fwd : ByteArray := ⟨#[0x2a, 0xb4, 0x00, 0x0f, 0x1b, 0xb8, 0x00, 0x17, 0xac]⟩
theorem lm_f0 : decode lm_fwd 0 = .ok (.aload_n 0, 1) := by decide +kernel
theorem lm_f1 : decode lm_fwd 1 = .ok (.getfield 15, 3) := by decide +kernel
theorem lm_f4 : decode lm_fwd 4 = .ok (.iload_n 1, 1) := by decide +kernel
theorem lm_f5 : decode lm_fwd 5 = .ok (.invokestatic 23, 3) := by decide +kernel
theorem lm_f8 : decode lm_fwd 8 = .ok (.ireturn, 1) := by decide +kernel
/-- what is known of a made class whose object forwards to nm -/
def lmFa (nm : String) (vm : Vm) (c : ClassId) : Prop := ∃ (k tk : Class) (file : ClassFile) (methk : Method) (ck : Code) (toy : ClassId) (t : MethodId) (g0 : Field),
  vm.classes[c]? = some k ∧ k.name = "GargoyleCopyists$$Lambda" ∧ k.cf = some file ∧ (file.constantPool[23]? = some (.methodref 19 22) ∧ file.constantPool.nameAndType? 22 = some (nm, "(II)I")) ∧
  vm.method? ⟨c, 1⟩ = some methk ∧ methk.code = some ck ∧ ck.code = lm_fwd ∧ ck.maxLocals = 2 ∧ methk.locks = false ∧ methk.accessFlags = 0x0001 ∧ methk.sig.returnType = some .int ∧
  vm.findClass "GargoyleCopyists" = some toy ∧ vm.classes[toy]? = some tk ∧ ((methodIn toy nm "(II)I" tk.isInterface none).ask { classPath := fun _ => none } vm).1 = .ok t ∧
  vm.methodReady c 23 t ∧ vm.classReady c 19 toy ∧ vm.fieldReady c 15 c g0 ∧ g0.isStatic = false ∧ g0.slot = 0 ∧ k.instanceTypes = #[.int]
def lm0_s : Lambda.Shape := { iface := "GargoyleCopyists$Cut", name := "more", sam := ⟨[.int], some .int⟩, captured := [.int], kind := 6, implClass := "GargoyleCopyists", implName := "lambda$new$0", implDesc := ⟨[.int, .int], some .int⟩, implItf := false, inst := ⟨[.int], some .int⟩ }
def lm0_D : ClassFile := (lm0_s.file "GargoyleCopyists").getD { minorVersion := 0, majorVersion := 0, constantPool := #[], accessFlags := 0, thisClass := 0, superClass := 0, interfaces := #[], fields := #[], methods := #[], attributes := #[] }
def lm0_fw : Method := ((layoutMethods lm0_D).bind (·[1]?)).getD default
def lm0_la : Array Field × Array FieldType × Array FieldType := (layoutFields lm0_D 0).getD (#[], #[], #[])
theorem lm0_file : lm0_s.file "GargoyleCopyists" = some lm0_D := by
  have h : (lm0_s.file "GargoyleCopyists").isSome = true := by decide +kernel
  obtain ⟨x, hx⟩ := Option.isSome_iff_exists.mp h
  simp [lm0_D, hx]
theorem lm0_sec : ∀ ms, layoutMethods lm0_D = some ms → ms[1]? = some lm0_fw := by
  intro ms hms
  have h : ((layoutMethods lm0_D).bind (·[1]?)).isSome = true := by decide +kernel
  obtain ⟨x, hx⟩ := Option.isSome_iff_exists.mp h
  have hf : lm0_fw = x := by simp [lm0_fw, hx]
  rw [hms] at hx
  rw [hf]
  exact hx
theorem lm0_laid : layoutFields lm0_D 0 = some lm0_la := by
  have h : (layoutFields lm0_D 0).isSome = true := by decide +kernel
  obtain ⟨x, hx⟩ := Option.isSome_iff_exists.mp h
  simp [lm0_la, hx]
theorem lm0_fc : (lm0_fw.code.map fun c => (c.code.data, c.maxLocals)) = some (lm_fwd.data, 2) := by decide +kernel
theorem lm0_ff : (lm0_fw.accessFlags, lm0_fw.name, lm0_fw.sig.returnType) = (0x0001, "more", (some .int : Option FieldType)) := by decide +kernel
theorem lm0_eM : lm0_D.constantPool[23]? = some (.methodref 19 22) ∧ lm0_D.constantPool.className? 19 = some "GargoyleCopyists" ∧ lm0_D.constantPool.nameAndType? 22 = some ("lambda$new$0", "(II)I") := by decide +kernel
theorem lm0_eC : lm0_D.constantPool[19]? = some (.class_ 18) ∧ lm0_D.constantPool.string? 18 = some "GargoyleCopyists" ∧ 19 ≠ lm0_D.thisClass := by decide +kernel
theorem lm0_eF : lm0_D.constantPool[15]? = some (.fieldref 2 14) ∧ lm0_D.constantPool.nameAndType? 14 = some ("arg$1", "I") ∧ lm0_la.1.findIdx? (·.name == "arg$1") = some 0 ∧ (lm0_la.1[0]?).map (fun f => (f.isStatic, f.slot)) = some (false, 0) := by decide +kernel
theorem lm0_ty : lm0_la.2.1 = #[.int] := by decide +kernel
theorem lm0_facts {vm : Vm} {d c : ClassId} {dk : Class} (hd : vm.classes[d]? = some dk) (hname : dk.name = "GargoyleCopyists") (h : Lambda.isMade { classPath := fun _ => none } vm d lm0_s c = true)
    (hO : ∀ o ok, vm.findClass "java/lang/Object" = some o → vm.classes[o]? = some ok → ok.instanceTypes.size = 0) : lmFa "lambda$new$0" vm c := by
  obtain ⟨dk', k, ok, tk, file, cf, object, iface, toy, lay, methods, target, found, hd', hk, hfile, hcf, hobj, -, hok, hlay, hms, ht, htk, hg, -, hrec, -, -, -, hitf, hpool, hmeth, hfields, hty, hres, -⟩ := Lambda.isMade_spec h
  cases hd.symm.trans hd'
  rw [hname, lm0_file] at hcf
  cases hcf
  have hok0 : ok.instanceTypes = #[] := Array.eq_empty_of_size_eq_zero (hO object ok hobj hok)
  rw [hO object ok hobj hok, lm0_laid] at hlay
  cases hlay
  obtain ⟨b, hb, hsame⟩ := hmeth 1 lm0_fw (lm0_sec methods hms)
  obtain ⟨-, -, hsig, hfl, x, y, hfc, hbc, -, hml, hcode, -⟩ := Lambda.sameMethod_spec hsame
  have fc := lm0_fc
  have ff := lm0_ff
  simp only [Prod.mk.injEq] at ff
  rw [hfc] at fc
  simp only [Option.map_some, Option.some.injEq, Prod.mk.injEq] at fc
  obtain ⟨g0, hg0, hp0⟩ := Option.map_eq_some_iff.mp lm0_eF.2.2.2
  simp only [Prod.mk.injEq] at hp0
  have e23 := lm0_eM.1
  have e22 := lm0_eM.2.2
  refine ⟨k, tk, file, b, y, toy, target, g0, hk, by rw [hrec.1, hname]; rfl, hfile, ⟨by rw [hpool.2.1]; exact e23, by rw [hpool.2.1]; exact e22⟩, by simp [Vm.method?, hk, hb], hbc, by rw [hcode]; exact ByteArray.ext fc.1, by rw [hml]; exact fc.2, ?_, by rw [hfl]; exact ff.1, by rw [hsig]; exact ff.2.2, ht, htk, hg,
    ⟨k, hk, hres 23 _ (Lambda.resolvedOf_method e23 lm0_eM.2.1 ht htk e22 hg)⟩, ⟨k, hk, hres 19 _ (Lambda.resolvedOf_class lm0_eC.1 lm0_eC.2.2 lm0_eC.2.1 ht)⟩,
    ⟨k, 0, k, hk, hres 15 _ (Lambda.resolvedOf_field lm0_eF.1 lm0_eF.2.1 lm0_eF.2.2.1), hk, hfields 0 _ hg0⟩, hp0.1, hp0.2, by rw [hty.1, hok0, lm0_ty]; rfl⟩
  simp [Method.locks, Method.isSynchronized, hfl, ff.1, hasFlag, Acc.synchronized]
def lm1_s : Lambda.Shape := { iface := "GargoyleCopyists$Cut", name := "more", sam := ⟨[.int], some .int⟩, captured := [.int], kind := 6, implClass := "GargoyleCopyists", implName := "lambda$new$1", implDesc := ⟨[.int, .int], some .int⟩, implItf := false, inst := ⟨[.int], some .int⟩ }
def lm1_D : ClassFile := (lm1_s.file "GargoyleCopyists").getD { minorVersion := 0, majorVersion := 0, constantPool := #[], accessFlags := 0, thisClass := 0, superClass := 0, interfaces := #[], fields := #[], methods := #[], attributes := #[] }
def lm1_fw : Method := ((layoutMethods lm1_D).bind (·[1]?)).getD default
def lm1_la : Array Field × Array FieldType × Array FieldType := (layoutFields lm1_D 0).getD (#[], #[], #[])
theorem lm1_file : lm1_s.file "GargoyleCopyists" = some lm1_D := by
  have h : (lm1_s.file "GargoyleCopyists").isSome = true := by decide +kernel
  obtain ⟨x, hx⟩ := Option.isSome_iff_exists.mp h
  simp [lm1_D, hx]
theorem lm1_sec : ∀ ms, layoutMethods lm1_D = some ms → ms[1]? = some lm1_fw := by
  intro ms hms
  have h : ((layoutMethods lm1_D).bind (·[1]?)).isSome = true := by decide +kernel
  obtain ⟨x, hx⟩ := Option.isSome_iff_exists.mp h
  have hf : lm1_fw = x := by simp [lm1_fw, hx]
  rw [hms] at hx
  rw [hf]
  exact hx
theorem lm1_laid : layoutFields lm1_D 0 = some lm1_la := by
  have h : (layoutFields lm1_D 0).isSome = true := by decide +kernel
  obtain ⟨x, hx⟩ := Option.isSome_iff_exists.mp h
  simp [lm1_la, hx]
theorem lm1_fc : (lm1_fw.code.map fun c => (c.code.data, c.maxLocals)) = some (lm_fwd.data, 2) := by decide +kernel
theorem lm1_ff : (lm1_fw.accessFlags, lm1_fw.name, lm1_fw.sig.returnType) = (0x0001, "more", (some .int : Option FieldType)) := by decide +kernel
theorem lm1_eM : lm1_D.constantPool[23]? = some (.methodref 19 22) ∧ lm1_D.constantPool.className? 19 = some "GargoyleCopyists" ∧ lm1_D.constantPool.nameAndType? 22 = some ("lambda$new$1", "(II)I") := by decide +kernel
theorem lm1_eC : lm1_D.constantPool[19]? = some (.class_ 18) ∧ lm1_D.constantPool.string? 18 = some "GargoyleCopyists" ∧ 19 ≠ lm1_D.thisClass := by decide +kernel
theorem lm1_eF : lm1_D.constantPool[15]? = some (.fieldref 2 14) ∧ lm1_D.constantPool.nameAndType? 14 = some ("arg$1", "I") ∧ lm1_la.1.findIdx? (·.name == "arg$1") = some 0 ∧ (lm1_la.1[0]?).map (fun f => (f.isStatic, f.slot)) = some (false, 0) := by decide +kernel
theorem lm1_ty : lm1_la.2.1 = #[.int] := by decide +kernel
theorem lm1_facts {vm : Vm} {d c : ClassId} {dk : Class} (hd : vm.classes[d]? = some dk) (hname : dk.name = "GargoyleCopyists") (h : Lambda.isMade { classPath := fun _ => none } vm d lm1_s c = true)
    (hO : ∀ o ok, vm.findClass "java/lang/Object" = some o → vm.classes[o]? = some ok → ok.instanceTypes.size = 0) : lmFa "lambda$new$1" vm c := by
  obtain ⟨dk', k, ok, tk, file, cf, object, iface, toy, lay, methods, target, found, hd', hk, hfile, hcf, hobj, -, hok, hlay, hms, ht, htk, hg, -, hrec, -, -, -, hitf, hpool, hmeth, hfields, hty, hres, -⟩ := Lambda.isMade_spec h
  cases hd.symm.trans hd'
  rw [hname, lm1_file] at hcf
  cases hcf
  have hok0 : ok.instanceTypes = #[] := Array.eq_empty_of_size_eq_zero (hO object ok hobj hok)
  rw [hO object ok hobj hok, lm1_laid] at hlay
  cases hlay
  obtain ⟨b, hb, hsame⟩ := hmeth 1 lm1_fw (lm1_sec methods hms)
  obtain ⟨-, -, hsig, hfl, x, y, hfc, hbc, -, hml, hcode, -⟩ := Lambda.sameMethod_spec hsame
  have fc := lm1_fc
  have ff := lm1_ff
  simp only [Prod.mk.injEq] at ff
  rw [hfc] at fc
  simp only [Option.map_some, Option.some.injEq, Prod.mk.injEq] at fc
  obtain ⟨g0, hg0, hp0⟩ := Option.map_eq_some_iff.mp lm1_eF.2.2.2
  simp only [Prod.mk.injEq] at hp0
  have e23 := lm1_eM.1
  have e22 := lm1_eM.2.2
  refine ⟨k, tk, file, b, y, toy, target, g0, hk, by rw [hrec.1, hname]; rfl, hfile, ⟨by rw [hpool.2.1]; exact e23, by rw [hpool.2.1]; exact e22⟩, by simp [Vm.method?, hk, hb], hbc, by rw [hcode]; exact ByteArray.ext fc.1, by rw [hml]; exact fc.2, ?_, by rw [hfl]; exact ff.1, by rw [hsig]; exact ff.2.2, ht, htk, hg,
    ⟨k, hk, hres 23 _ (Lambda.resolvedOf_method e23 lm1_eM.2.1 ht htk e22 hg)⟩, ⟨k, hk, hres 19 _ (Lambda.resolvedOf_class lm1_eC.1 lm1_eC.2.2 lm1_eC.2.1 ht)⟩,
    ⟨k, 0, k, hk, hres 15 _ (Lambda.resolvedOf_field lm1_eF.1 lm1_eF.2.1 lm1_eF.2.2.1), hk, hfields 0 _ hg0⟩, hp0.1, hp0.2, by rw [hty.1, hok0, lm1_ty]; rfl⟩
  simp [Method.locks, Method.isSynchronized, hfl, ff.1, hasFlag, Acc.synchronized]
def lm2_s : Lambda.Shape := { iface := "GargoyleCopyists$Cut", name := "more", sam := ⟨[.int], some .int⟩, captured := [.int], kind := 6, implClass := "GargoyleCopyists", implName := "lambda$new$2", implDesc := ⟨[.int, .int], some .int⟩, implItf := false, inst := ⟨[.int], some .int⟩ }
def lm2_D : ClassFile := (lm2_s.file "GargoyleCopyists").getD { minorVersion := 0, majorVersion := 0, constantPool := #[], accessFlags := 0, thisClass := 0, superClass := 0, interfaces := #[], fields := #[], methods := #[], attributes := #[] }
def lm2_fw : Method := ((layoutMethods lm2_D).bind (·[1]?)).getD default
def lm2_la : Array Field × Array FieldType × Array FieldType := (layoutFields lm2_D 0).getD (#[], #[], #[])
theorem lm2_file : lm2_s.file "GargoyleCopyists" = some lm2_D := by
  have h : (lm2_s.file "GargoyleCopyists").isSome = true := by decide +kernel
  obtain ⟨x, hx⟩ := Option.isSome_iff_exists.mp h
  simp [lm2_D, hx]
theorem lm2_sec : ∀ ms, layoutMethods lm2_D = some ms → ms[1]? = some lm2_fw := by
  intro ms hms
  have h : ((layoutMethods lm2_D).bind (·[1]?)).isSome = true := by decide +kernel
  obtain ⟨x, hx⟩ := Option.isSome_iff_exists.mp h
  have hf : lm2_fw = x := by simp [lm2_fw, hx]
  rw [hms] at hx
  rw [hf]
  exact hx
theorem lm2_laid : layoutFields lm2_D 0 = some lm2_la := by
  have h : (layoutFields lm2_D 0).isSome = true := by decide +kernel
  obtain ⟨x, hx⟩ := Option.isSome_iff_exists.mp h
  simp [lm2_la, hx]
theorem lm2_fc : (lm2_fw.code.map fun c => (c.code.data, c.maxLocals)) = some (lm_fwd.data, 2) := by decide +kernel
theorem lm2_ff : (lm2_fw.accessFlags, lm2_fw.name, lm2_fw.sig.returnType) = (0x0001, "more", (some .int : Option FieldType)) := by decide +kernel
theorem lm2_eM : lm2_D.constantPool[23]? = some (.methodref 19 22) ∧ lm2_D.constantPool.className? 19 = some "GargoyleCopyists" ∧ lm2_D.constantPool.nameAndType? 22 = some ("lambda$new$2", "(II)I") := by decide +kernel
theorem lm2_eC : lm2_D.constantPool[19]? = some (.class_ 18) ∧ lm2_D.constantPool.string? 18 = some "GargoyleCopyists" ∧ 19 ≠ lm2_D.thisClass := by decide +kernel
theorem lm2_eF : lm2_D.constantPool[15]? = some (.fieldref 2 14) ∧ lm2_D.constantPool.nameAndType? 14 = some ("arg$1", "I") ∧ lm2_la.1.findIdx? (·.name == "arg$1") = some 0 ∧ (lm2_la.1[0]?).map (fun f => (f.isStatic, f.slot)) = some (false, 0) := by decide +kernel
theorem lm2_ty : lm2_la.2.1 = #[.int] := by decide +kernel
theorem lm2_facts {vm : Vm} {d c : ClassId} {dk : Class} (hd : vm.classes[d]? = some dk) (hname : dk.name = "GargoyleCopyists") (h : Lambda.isMade { classPath := fun _ => none } vm d lm2_s c = true)
    (hO : ∀ o ok, vm.findClass "java/lang/Object" = some o → vm.classes[o]? = some ok → ok.instanceTypes.size = 0) : lmFa "lambda$new$2" vm c := by
  obtain ⟨dk', k, ok, tk, file, cf, object, iface, toy, lay, methods, target, found, hd', hk, hfile, hcf, hobj, -, hok, hlay, hms, ht, htk, hg, -, hrec, -, -, -, hitf, hpool, hmeth, hfields, hty, hres, -⟩ := Lambda.isMade_spec h
  cases hd.symm.trans hd'
  rw [hname, lm2_file] at hcf
  cases hcf
  have hok0 : ok.instanceTypes = #[] := Array.eq_empty_of_size_eq_zero (hO object ok hobj hok)
  rw [hO object ok hobj hok, lm2_laid] at hlay
  cases hlay
  obtain ⟨b, hb, hsame⟩ := hmeth 1 lm2_fw (lm2_sec methods hms)
  obtain ⟨-, -, hsig, hfl, x, y, hfc, hbc, -, hml, hcode, -⟩ := Lambda.sameMethod_spec hsame
  have fc := lm2_fc
  have ff := lm2_ff
  simp only [Prod.mk.injEq] at ff
  rw [hfc] at fc
  simp only [Option.map_some, Option.some.injEq, Prod.mk.injEq] at fc
  obtain ⟨g0, hg0, hp0⟩ := Option.map_eq_some_iff.mp lm2_eF.2.2.2
  simp only [Prod.mk.injEq] at hp0
  have e23 := lm2_eM.1
  have e22 := lm2_eM.2.2
  refine ⟨k, tk, file, b, y, toy, target, g0, hk, by rw [hrec.1, hname]; rfl, hfile, ⟨by rw [hpool.2.1]; exact e23, by rw [hpool.2.1]; exact e22⟩, by simp [Vm.method?, hk, hb], hbc, by rw [hcode]; exact ByteArray.ext fc.1, by rw [hml]; exact fc.2, ?_, by rw [hfl]; exact ff.1, by rw [hsig]; exact ff.2.2, ht, htk, hg,
    ⟨k, hk, hres 23 _ (Lambda.resolvedOf_method e23 lm2_eM.2.1 ht htk e22 hg)⟩, ⟨k, hk, hres 19 _ (Lambda.resolvedOf_class lm2_eC.1 lm2_eC.2.2 lm2_eC.2.1 ht)⟩,
    ⟨k, 0, k, hk, hres 15 _ (Lambda.resolvedOf_field lm2_eF.1 lm2_eF.2.1 lm2_eF.2.2.1), hk, hfields 0 _ hg0⟩, hp0.1, hp0.2, by rw [hty.1, hok0, lm2_ty]; rfl⟩
  simp [Method.locks, Method.isSynchronized, hfl, ff.1, hasFlag, Acc.synchronized]
section LM1
variable {p : Program} {l : Launch} {e : Env} {R : Room} {s : State} {m : MethodId} {args : Array Value} {below : List Frame} {meth : Method} {c : Code}
/-- into a callee by its number, and out of it (as JvmDerived's StandInto has the two halves) -/
theorem lm_through {U : State} {L : List Loc} {cc nn : Nat} (X : Stand p l e R s m args below meth c U L cc nn) {g : JFrame} (hg : g.method = m) (hsize : g.locals.size = c.maxLocals) {ig : Instr} {len : Nat} (hdg : decode c.code g.pc = .ok (ig, len))
    {mk : MethodId} {methk : Method} {ck : Code} (a : Array Value) {R' : Room} (hmk : U.vm.method? mk = some methk) (hck : methk.code = some ck) (hlk : methk.locks = false) (hpk : U.plainMethod mk)
    (hframes : R'.frames + 1 ≤ R.frames) (hlocals : 2 * g.monitorRoom + (g.stack.map fun v => v.category).sum + (ck.maxLocals + 11) + R'.locals ≤ R.locals) (hcells : cc + R'.cells ≤ R.cells) (hslots : nn + R'.slots ≤ R.slots)
    {Ph : Option Value → State → List Loc → Nat → Nat → Prop}
    (body : ∀ U₀, U₀ = (U.setTop g).pushFrame (.java (entryFrame mk a ck.maxLocals)) → Stand p l e R' (U.calling g mk a) mk a (.java g :: below) methk ck U₀ [] 0 0 →
      ∃ v U₁ L₁ c₁ n₁, Stand p l e R' (U.calling g mk a) mk a (.java g :: below) methk ck U₁ L₁ c₁ n₁ ∧ (methk.sig.returnType = none → v = none) ∧ Ph v U₁ L₁ c₁ n₁ ∧
        ∀ fs, (∀ (f : JFrame) (acts : List Action), f.method = mk → f.locked = none → f.entered = [] → (doReturn e (U₁.setTop f) acts v).1 = U₁.setFrames fs) → Steps p.tables e (.java g :: below) (U₀.setTop (entryFrame mk a ck.maxLocals)) (U₁.setFrames fs)) :
    ∃ v T' U₁ L₁ c₁ n₁, Stand p l e R s m args below meth c T' (L ++ L₁) (cc + c₁) (nn + n₁) ∧ Ph v U₁ L₁ c₁ n₁ ∧ T'.heap = U₁.heap ∧ T'.vm = U₁.vm ∧ U.WarmedH T'.vm ∧
      Steps p.tables e below (doInvoke e (U.setTop g) [] mk a).1 (T'.setTop { g with pc := g.pc + len, stack := v.toList ++ g.stack }) := by
  obtain ⟨Y₀, hin⟩ := X.into hg hsize hdg a (R' := R') hmk hck hlk hpk hframes hlocals hcells hslots
  obtain ⟨v, U₁, L₁, c₁, n₁, Y₁, hv, hPh, hsteps⟩ := body _ rfl Y₀
  obtain ⟨fs, hleave, -, hended, hWe, hsame⟩ := Y₁.leave (v := v) hv hlk
  obtain ⟨T', X', hW', -, ht⟩ := X.outOf hg hdg hended hWe hsame
  refine ⟨v, T', U₁, L₁, c₁, n₁, X', hPh, (congrArg State.heap ht).symm, (congrArg State.vm ht).symm, hW', ?_⟩
  rw [hin [], ← ht]
  exact Steps.weaken (mid := [.java g]) (hsteps fs hleave)
end LM1
section LM2
variable {p : Program} {l : Launch} {e : Env} {R : Room} {s : State} {m : MethodId} {args : Array Value} {below : List Frame} {meth : Method} {c : Code} {H : Heap} {locs : List Loc} {cells slots : Nat} {Q : State → Prop}
variable {cc : ByteArray} {nL : Nat} {own : String} {pc : Nat} {ls : Array Slot} {rest : List Value} {D : va_G} {dA : Nat → ClassId} {A : Nat → Prop} {E : State → Prop} {a : Nat} {ws ws' : va_W}
/-- a call of Cut.more on a lambda's object -/
theorem g_lam (X : gX p s m args c cc nL own D dA A E) (hE : gSt A E) (hsz : ls.size = nL) (hw : gW D A ws s H locs) (q0 : Nat) {q : Nat} {cK : ClassId} (he : ws[q0]? = some (q, .inl (cK, 1, .inl (fun _ => 3)))) {sh : Lambda.Shape} {d : ClassId} {y : MethodName} {bytes : ByteArray} {maxL index count : Nat} {v w : Int32} {rm : Room}
    (hi : sh.iface = "GargoyleCopyists$Cut") (hn1 : sh.name = "more") (hn2 : sh.sam.toString = "(I)I") (hmade : Lambda.isMade { classPath := fun _ => none } s.vm d sh cK = true) (hcan : s.lambdaCallable sh cK = true) (hF : ∀ U : State, s.WarmedH U.vm → lmFa y.name U.vm cK)
    (hl : Cond.methodLink own index ⟨"GargoyleCopyists$Cut", "more", "(I)I"⟩ ∈ lw_all) (hface : (Cond.interfaceMethod "GargoyleCopyists$Cut" "GargoyleCopyists$Cut" "more" "(I)I").before #[] s = true)
    (hM : Met l y (ws_ y bytes maxL (some .int)) rm (va_Pc [.int 3, .int w] (gB D dA A E ws)) (va_Qi (fun r (_ : Unit) => r = v) (fun _ => gE D A ws) A) 0 0 A) (hrc : rm.cells = 0) (hrs : rm.slots = 0) (hfr : rm.frames + 2 ≤ R.frames) (hlo : (rest.map fun v => v.category).sum + 13 + (maxL + 11 + rm.locals) ≤ R.locals)
    (hyc : y.cls = "GargoyleCopyists") (hyd : y.desc = "(II)I") (hcode : Cond.code y bytes maxL (some .int) ∈ lw_all) (hst : Cond.static y ∈ lw_all) (hini : Cond.initialized y.cls ∈ lw_all) (hcl : cells ≤ R.cells) (hsl : slots ≤ R.slots)
    (hdg : decode cc pc = .ok (.invokeinterface index count, 5))
    (kk : ∀ (H1 : Heap) (locs1 : List Loc), gW D A ws s H1 locs1 → W p l e R s m args below meth c H1 locs1 cells slots Q (F0 m (pc + 5) ls (.int v :: rest))) : W p l e R s m args below meth c H locs cells slots Q (F0 m pc ls (.int w :: .ref q :: rest)) := by
  intro T hT X1
  obtain ⟨r0, r, hn, hrm, hstR, hsigR⟩ := Cond.declares_spec (va_Nw.use rfl (X.2.2.1.nw q845 rfl) : (Cond.declares ⟨"GargoyleCopyists$Cut", "more", "(I)I"⟩).before args s = true)
  obtain ⟨cL, kL, r1, hcL, hkL, hiL, hfoundL, hnn⟩ := Cond.interfaceMethod_spec hface
  cases hn.symm.trans hnn
  have hr0cls : r0.cls = cL := Option.some.inj ((findClass_of_methodNamed hn).symm.trans hcL)
  obtain ⟨hnameR, hdescR⟩ := name_of_methodNamed hn hrm
  obtain ⟨kK, tk, file, methk, ck, toy, t0, g0, hkK, hkn, hfile, hpool, hmk, hck, hbytes, hml, hlk, hflags, hret, htoy, htk, hlook, hready, hclsR, hg0, hg0s, hg0n, -⟩ := hF s (State.WarmedH.refl s)
  obtain ⟨dk, k', ok, tk', file', cf, object, iface, toy', lay, methods, target, found, -, -, -, -, -, hiface, -, -, -, -, -, -, hfound, -, -, -, -, -, -, -, -, -, -, hsel⟩ := Lambda.isMade_spec hmade
  rw [hi] at hiface
  cases hcL.symm.trans hiface
  have hfr0 : found = r0 := by
    have h1 := hfoundL
    simp only [State.methodFound?, hcL, hkL, hiL, Option.bind_eq_bind, Option.bind_some] at h1
    rw [hn1, hn2] at hfound
    rw [hfound] at h1
    exact Option.some.inj h1
  subst hfr0
  obtain ⟨i2, hi2, hasg, hway⟩ := State.lambdaCallable_spec hcan
  rw [hi] at hi2
  cases hcL.symm.trans hi2
  have hselP : selectMethod e.platform s.vm cK found = .method ⟨cK, 1⟩ := by rw [Launch.admits_selectMethod X1.admits]; exact hsel
  have hc1 : H[q]? = some (arrV cK 1 (fun _ => .int 3)) := hw.1 q0 _ he
  have hpar : parseMethodDescriptor "(I)I" = some ⟨[.int], some .int⟩ := by decide +kernel
  have hsig2 : r.sig = ⟨[.int], some .int⟩ := (Option.some.inj (hpar.symm.trans hsigR)).symm
  obtain ⟨vm₁, X₁, hstep₁⟩ := X1.invokeinterface X.1.1 X.1.2.2.2.1 (X.1.2.2.2.2 _ hl) hn hrm hstR (by rw [hr0cls]; exact hkL) hiL ⟨by decide, by decide⟩ (a := q) (cell := arrV cK 1 (fun _ => .int 3)) (kcell := kK) (by rw [hT]; exact hc1)
    (fun z h => by cases h) hkK (by rw [hr0cls]; exact hasg) (m' := ⟨cK, 1⟩) (meth' := methk) hselP hmk (by rw [hnameR, hdescR]; rw [hn1, hn2] at hway; exact hway) (by rw [hflags]; decide) (by simp [Method.isAbstract, hflags, hasFlag, Acc.abstract]) (g := F0 m pc ls (.int w :: .ref q :: rest)) rfl (argsL := [.int w]) (rest := rest) (by rw [hsig2]; rfl) rfl (by rw [X.1.2.1]; exact hdg)
  have hs1 : ls.size = c.maxLocals := by rw [X.1.2.2.1]; exact hsz
  obtain ⟨kK1, tk1, file1, methk1, ck1, toy1, t1, g1, hkK1, hkn1, hfile1, hpool1, hmk1, hck1, hbytes1, hml1, hlk1, hflags1, hret1, htoy1, htk1, hlook1, hready1, hclsR1, hg1, hg1s, hg1n, -⟩ := hF (T.setVm vm₁) X₁.warmed
  have hpl1 : (T.setVm vm₁).plainMethod ⟨cK, 1⟩ := State.plainMethod.of_name (fun k9 hk9 => by cases hkK1.symm.trans hk9; rw [hkn1]; decide)
  have hblind := g_blind (D := D) (dA := dA) (A := A) (E := E) (ws := ws) (av := [.int 3, .int w]) hE
  have hent : entryFrame ⟨cK, 1⟩ #[.ref q, .int w] 2 = { method := ⟨cK, 1⟩, pc := 0, locals := #[.val (.ref q), .val (.int w)], stack := [], locked := none } := rfl
  obtain ⟨v9, T', U₁, L₁, c₁, n₁, X', ⟨rfl, hB, hFr, hLA, rfl, rfl⟩, hh, hv9, hWx, steps⟩ := lm_through X₁ (g := F0 m pc ls rest) rfl hs1 (by rw [X.1.2.1]; exact hdg) (mk := ⟨cK, 1⟩) #[.ref q, .int w] (R' := { frames := rm.frames + 1, cells := 0, slots := 0, locals := maxL + 11 + rm.locals }) hmk1 hck1 hlk1 hpl1 (by show rm.frames + 1 + 1 ≤ R.frames; omega)
    (by rw [hml1]; show 2 * 0 + (rest.map fun v => v.category).sum + (2 + 11) + (maxL + 11 + rm.locals) ≤ R.locals; omega) (by show cells + 0 ≤ R.cells; omega) (by show slots + 0 ≤ R.slots; omega)
    (Ph := fun v' U₁ L₁ c₁ n₁ => v' = some (.int v) ∧ gE D A ws U₁ ∧ (H.size ≤ U₁.heap.size ∧ ∀ q9 : Nat, q9 < H.size → ¬ A q9 → U₁.heap[q9]? = H[q9]?) ∧ (∀ z ∈ L₁, A z.base) ∧ c₁ = 0 ∧ n₁ = 0)
    (fun U₀ hU₀ Y₀ => by
      have hvm : U₀.vm = vm₁ := by rw [hU₀]; rfl
      have hheap : U₀.heap = H := by rw [hU₀, ← hT]; rfl
      rw [hml1, hent]
      have hW0 : s.WarmedH U₀.vm := by rw [hvm]; exact X₁.warmed
      obtain ⟨kK2, tk2, file2, methk2, ck2, toy2, t2, g2, hkK2, hkn2, hfile2, hpool2, hmk2, hck2, hbytes2, hml2, hlk2, hflags2, hret2, htoy2, htk2, hlook2, hready2, hclsR2, hg2, hg2s, hg2n, -⟩ := hF U₀ hW0
      have hcb : ck1.code = lm_fwd := hbytes1
      have k1 : Steps p.tables e (.java (F0 m pc ls rest) :: below) (U₀.setTop { method := ⟨cK, 1⟩, pc := 0, locals := #[.val (.ref q), .val (.int w)], stack := [], locked := none }) (U₀.setTop { method := ⟨cK, 1⟩, pc := 1, locals := #[.val (.ref q), .val (.int w)], stack := [.ref q], locked := none }) := by
        have hd0 : decode ck1.code 0 = .ok (.aload_n 0, 1) := by rw [hcb]; exact lm_f0
        jvm_step Y₀.here [X.1.1, hd0, Value.isRef]
        exact Steps.refl _
      have k2 : Steps p.tables e (.java (F0 m pc ls rest) :: below) (U₀.setTop { method := ⟨cK, 1⟩, pc := 1, locals := #[.val (.ref q), .val (.int w)], stack := [.ref q], locked := none }) (U₀.setTop { method := ⟨cK, 1⟩, pc := 4, locals := #[.val (.ref q), .val (.int w)], stack := [.int 3], locked := none }) := by
        have hd1 : decode ck1.code 1 = .ok (.getfield 15, 3) := by rw [hcb]; exact lm_f1
        jvm_step Y₀.here [X.1.1, hd1, getfield.wp_ready (e := e) (s := U₀) (c := cK) (field := g2) (a := q) (rest := []) (cell := arrV cK 1 (fun _ => .int 3)) (v := .int 3) (f := { method := ⟨cK, 1⟩, pc := 1, locals := #[.val (.ref q), .val (.int w)], stack := [.ref q], locked := none }) Y₀.here.top hg2 hg2s rfl (by rw [hheap]; exact hc1) (by intro h; cases h) (by rw [hg2n]; rfl)]
        exact Steps.refl _
      have k3 : Steps p.tables e (.java (F0 m pc ls rest) :: below) (U₀.setTop { method := ⟨cK, 1⟩, pc := 4, locals := #[.val (.ref q), .val (.int w)], stack := [.int 3], locked := none }) (U₀.setTop { method := ⟨cK, 1⟩, pc := 5, locals := #[.val (.ref q), .val (.int w)], stack := [.int w, .int 3], locked := none }) := by
        have hd4 : decode ck1.code 4 = .ok (.iload_n 1, 1) := by rw [hcb]; exact lm_f4
        jvm_step Y₀.here [X.1.1, hd4]
        exact Steps.refl _
      -- the static method
      have wd : ∀ w' ∈ ws_ y bytes maxL (some .int), ∀ (a' : Array Value) (U : State), s.WarmedH U.vm → w'.before a' U = true := pay_in X.1.2.2.2.2 (lw_meth hcode)
      have hcodeU : (Cond.code y bytes maxL (some .int)).before #[] U₀ = true := wd _ List.mem_cons_self _ _ hW0
      have hstU : (Cond.static y).before #[] U₀ = true := wd _ (List.mem_cons_of_mem _ hst) _ _ hW0
      have hiniU : (Cond.initialized y.cls).before #[] U₀ = true := wd _ (List.mem_cons_of_mem _ hini) _ _ hW0
      have hnB : ∃ mB, U₀.methodNamed? y = some mB := by
        cases hnB : U₀.methodNamed? y with
        | none => simp [Cond.before, Cond.holds, Cond.value, hnB] at hcodeU
        | some mB => exact ⟨mB, rfl⟩
      obtain ⟨mB, hnB⟩ := hnB
      obtain ⟨methB, cB, hmB, -, -, -, -, -, -, hsigB⟩ := Cond.code_spec hnB hcodeU
      have hstaticB : methB.isStatic = true := Cond.static_spec hnB hmB hstU
      have hfT : U₀.vm.findClass y.cls = some mB.cls := findClass_of_methodNamed hnB
      rw [hyc] at hfT
      cases htoy2.symm.trans hfT
      have hinitK : tk2.init = .initialized := Cond.initialized_spec (by rw [hyc]; exact htoy2) htk2 hiniU
      obtain ⟨kT', hkT', hnameT⟩ := className_of_methodNamed hnB
      cases htk2.symm.trans hkT'
      have htB : t2 = mB := by
        have h1 : U₀.methodFound? y.cls y.name y.desc = some mB := State.methodFound?_of_named hnB (by rw [hyc]; exact ⟨by decide, by decide⟩)
        rw [hyc, hyd] at h1
        simp only [State.methodFound?, htoy2, htk2, Option.bind_eq_bind, Option.bind_some] at h1
        rw [hlook2] at h1
        exact Option.some.inj h1
      subst htB
      have hsp : ∀ z : Method, signaturePolymorphic tk2 z = false := fun z => by
        have h9 : tk2.name = "GargoyleCopyists" := hnameT.trans hyc
        simp [signaturePolymorphic, h9]
      obtain ⟨b, hmem⟩ := memberRef_ask' (e := e) (vm := U₀.vm) (d := cK) (index := 23) hkK2 hfile2 (Or.inl hpool2.1) hpool2.2
      have href : plainRef U₀ e cK 23 := ⟨19, _, _, b, t2.cls, tk2, hmem, hclsR2, htk2, by simp [hsp]⟩
      have hparB : parseMethodDescriptor "(II)I" = some ⟨[.int, .int], some .int⟩ := by decide +kernel
      rw [hyd] at hsigB
      have hlen2 : [Value.int 3, Value.int w].length = methB.sig.parameters.length := by rw [← Option.some.inj (hparB.symm.trans hsigB)]; rfl
      have hK : Back l { frames := rm.frames + 1, cells := 0, slots := 0, locals := maxL + 11 + rm.locals } p e (.java (F0 m pc ls rest) :: below) ((T.setVm vm₁).calling (F0 m pc ls rest) ⟨cK, 1⟩ #[.ref q, .int w]) #[.ref q, .int w] y 3 0 (PreOf { frames := rm.frames + 1, cells := 0, slots := 0, locals := maxL + 11 + rm.locals } 0 0 (va_Pc [.int 3, .int w] (gB D dA A E ws))) (PostOf (va_Qi (fun r (_ : Unit) => r = v) (fun _ => gE D A ws) A) 0 0 A) :=
        back_of (bytes := bytes) (maxL := maxL) (ret := some .int) hM hblind hrc hrs (Nat.le_refl _) (by show 0 + (maxL + 11) + rm.locals ≤ maxL + 11 + rm.locals; omega) (fun w' hw' a' U hU => wd w' hw' a' U (State.WarmedH.trans X₁.warmed hU)) List.mem_cons_self (fun a' U hU => wd _ (List.mem_cons_of_mem _ hini) a' U (State.WarmedH.trans X₁.warmed hU))
      obtain ⟨v', B, Y₁, ⟨g', mk', t', L', e1, e2, ⟨⟨r', u', hv', hr', hB'⟩, hF'⟩, e3, hL', e4, e5⟩, hsteps⟩ := hK ⟨cK, 1⟩ methk1 ck1 ⟨U₀, [], 0, 0⟩ { method := ⟨cK, 1⟩, pc := 5, locals := #[.val (.ref q), .val (.int w)], stack := [], locked := none } (.invokestatic 23) t2 [Value.int 3, Value.int w].toArray Y₀ rfl (by rw [hml1]; rfl) (by rw [hcb]; exact lm_f5) (by show 2 * 0 + 0 ≤ 0; decide) hnB ⟨Nat.le_refl _, Nat.le_refl _, g_at hE X.2 hw U₀ hheap hW0⟩
      obtain ⟨UB, LB, cB', nB'⟩ := B
      dsimp only [Pt.U, Pt.locs, Pt.cells, Pt.slots] at Y₁ e1 e2 e3 e4 e5 hsteps
      cases hv'
      subst hr'
      have k4 : Steps p.tables e (.java (F0 m pc ls rest) :: below) (U₀.setTop { method := ⟨cK, 1⟩, pc := 5, locals := #[.val (.ref q), .val (.int w)], stack := [.int w, .int 3], locked := none }) (UB.setTop { method := ⟨cK, 1⟩, pc := 8, locals := #[.val (.ref q), .val (.int w)], stack := [.int r'], locked := none }) := by
        have hd5 : decode ck1.code 5 = .ok (.invokestatic 23, 3) := by rw [hcb]; exact lm_f5
        refine Steps.trans ?_ hsteps
        jvm_step Y₀.here [X.1.1, hd5, invokestatic.wp_ready (e := e) (s := U₀) (m := t2) (k := tk2) (meth := methB) (args := [.int 3, .int w]) (rest := []) (f := { method := ⟨cK, 1⟩, pc := 5, locals := #[.val (.ref q), .val (.int w)], stack := [.int w, .int 3], locked := none }) Y₀.here.top href hready2 htk2 hmB (hsp _) hstaticB hinitK hlen2 rfl]
        intro acts
        rw [doInvoke_state]
        exact Steps.refl _
      refine ⟨some (.int r'), UB, LB, cB', nB', Y₁, (fun h => by rw [hret1] at h; cases h), ⟨rfl, ⟨by rw [e1]; exact hB'.1, hB'.2⟩, ⟨by have h9 : U₀.heap.size ≤ t'.heap.size := hF'.1
                                                                                                                                        rw [e1, ← hheap]; exact h9, fun q9 h1 h2 => by
          have h9 : t'.heap[q9]? = U₀.heap[q9]? := hF'.2 q9 (by show q9 < U₀.heap.size; rw [hheap]; exact h1) h2
          rw [e1, ← hheap]; exact h9⟩, by rw [e3]; exact fun z hz => hL' z (by simpa using hz), by rw [e4], by rw [e5]⟩, fun fs hleave => ?_⟩
      have hm' : UB.vm.method? ⟨cK, 1⟩ = some methk1 := Y₁.method'
      have hd8 : decode ck1.code 8 = .ok (.ireturn, 1) := by rw [hcb]; exact lm_f8
      refine ((k1.trans k2).trans k3).trans (k4.trans ?_)
      jvm_step Y₁.here [Y₁.here.top, X.1.1, hd8, hm', hret1, narrow]
      first | (intro acts; rw [hleave _ acts rfl rfl rfl]) | rw [hleave _ _ rfl rfl rfl]
      exact Steps.refl _)
  obtain ⟨t2, a1, b1⟩ := kk T'.heap (locs ++ L₁) ⟨by rw [hh]; exact hB.1, hB.2, Nat.le_trans hw.2.2.1 (by rw [hh]; exact hFr.1), fun q9 h1 h2 => by rw [hh, hFr.2 q9 (Nat.lt_of_lt_of_le h1 hw.2.2.1) h2]; exact hw.2.2.2.1 q9 h1 h2, fun z hz => by
      rcases List.mem_append.mp hz with h | h
      · exact hw.2.2.2.2 z h
      · exact hLA z h⟩ T' rfl X'
  exact ⟨t2, hstep₁ _ (fun acts => by rw [doInvoke_state]; exact steps.trans a1), b1⟩
end LM2
theorem lm_obj {args : Array Value} {s : State} (h : ∀ w ∈ lw_all, w.before args s = true) (U : State) (hW : s.WarmedH U.vm) : ∀ o ok, U.vm.findClass "java/lang/Object" = some o → U.vm.classes[o]? = some ok → ok.instanceTypes.size = 0 := by
  intro o ok ho hok
  obtain ⟨c1, k1, h1, h2, -, -, -, h3⟩ := Cond.instantiable_spec (h _ q2270)
  rw [hW.alike.findClass] at ho
  cases h1.symm.trans ho
  obtain ⟨ok', hok', e3⟩ := hW.alike.2.2 _ _ h2
  cases hok.symm.trans hok'
  rw [e3]
  exact h3
/-- a made class of the shape sh is at hand -/
def lmK (sh : Lambda.Shape) (cK : ClassId) (U : State) : Prop := ∃ (d : ClassId) (dk : Class), Lambda.isMade { classPath := fun _ => none } U.vm d sh cK = true ∧ U.lambdaCallable sh cK = true ∧ U.vm.classes[d]? = some dk ∧ dk.name = "GargoyleCopyists"
/-- the three made classes, and the interface's method -/
def lmU (dL : Nat → ClassId) (U : State) : Prop := lmK lm0_s (dL 0) U ∧ lmK lm1_s (dL 1) U ∧ lmK lm2_s (dL 2) U ∧ (Cond.interfaceMethod "GargoyleCopyists$Cut" "GargoyleCopyists$Cut" "more" "(I)I").before #[] U = true
theorem lm0_F {args : Array Value} {s : State} {d cK : ClassId} {dk : Class} (h : ∀ w ∈ lw_all, w.before args s = true) (hm : Lambda.isMade { classPath := fun _ => none } s.vm d lm0_s cK = true) (hd : s.vm.classes[d]? = some dk) (hn : dk.name = "GargoyleCopyists") : ∀ U : State, s.WarmedH U.vm → lmFa "lambda$new$0" U.vm cK := by
  intro U hU
  obtain ⟨dk', hd', e'⟩ := hU.alike.2.2 _ _ hd
  exact lm0_facts hd' (by rw [e']; exact hn) (Lambda.isMade_warmer hU hm) (lm_obj h U hU)
theorem lm1_F {args : Array Value} {s : State} {d cK : ClassId} {dk : Class} (h : ∀ w ∈ lw_all, w.before args s = true) (hm : Lambda.isMade { classPath := fun _ => none } s.vm d lm1_s cK = true) (hd : s.vm.classes[d]? = some dk) (hn : dk.name = "GargoyleCopyists") : ∀ U : State, s.WarmedH U.vm → lmFa "lambda$new$1" U.vm cK := by
  intro U hU
  obtain ⟨dk', hd', e'⟩ := hU.alike.2.2 _ _ hd
  exact lm1_facts hd' (by rw [e']; exact hn) (Lambda.isMade_warmer hU hm) (lm_obj h U hU)
theorem lm2_F {args : Array Value} {s : State} {d cK : ClassId} {dk : Class} (h : ∀ w ∈ lw_all, w.before args s = true) (hm : Lambda.isMade { classPath := fun _ => none } s.vm d lm2_s cK = true) (hd : s.vm.classes[d]? = some dk) (hn : dk.name = "GargoyleCopyists") : ∀ U : State, s.WarmedH U.vm → lmFa "lambda$new$2" U.vm cK := by
  intro U hU
  obtain ⟨dk', hd', e'⟩ := hU.alike.2.2 _ _ hd
  exact lm2_facts hd' (by rw [e']; exact hn) (Lambda.isMade_warmer hU hm) (lm_obj h U hU)
theorem max_0 {x : Int32} : (if 0 < x then x else 0) = if x < 0 then 0 else x := by
  by_cases h : x < 0
  · rw [if_pos h, if_neg (fun q => absurd (Int32.lt_trans h q) (by rw [Int32.lt_iff_toInt_lt]; omega))]
  · rw [if_neg h]
    by_cases q : 0 < x
    · rw [if_pos q]
    · rw [if_neg q]
      apply Int32.toInt_inj.mp
      rw [Int32.lt_iff_toInt_lt] at h q
      omega
