/-! BASE: one global list of classes and of array kinds; the bundles; a method's start; what a call hands over; ends -/
set_option maxRecDepth 100000
abbrev gC : List vw_C := [(RX0, TX0, 8), (RX1, TX1, 12), (RX2, TX2, 2), (RX3, TX3, 8), (RX4, TX4, 15), (RX5, TX5, 2), (RX6, TX6, 4), (RX7, TX7, 5), (RX8, TX8, 4), (RX9, TX9, 8), (RX11, TX11, 3), (RX12, TX12, 3), (RX13, TX13, 4), (RX14, TX14, 7), (RJ2, TJ2, 3), (RJ6, TJ6, 3), (RJ8, TJ8, 4), (RJ9, TJ9, 4)]
abbrev gT (dA : Nat → ClassId) : List (ClassId × FieldType) := [(dA 0, .int), (dA 1, .char), (dA 2, .byte), (dA 3, .object "java/lang/Object"), (dA 4, .object "GargoyleCopyists$Cut"), (dA 5, .object "java/lang/String")]
def gNw (w : Cond) : Bool := match w with
  | .fieldLinkNest _ _ _ _ _ _ => true
  | .methodLinkNest _ _ _ _ => true
  | .castable _ _ => true
  | .declares _ => true
  | .arrayOver (.object _) => true
  | _ => false
abbrev gFs : List (String × MethodName × MethodName) := [(RX3, ⟨RX10, "depth", "(I)I"⟩, yX3_depth), (RX6, ⟨RX10, "depth", "(I)I"⟩, yX6_depth), (RX8, ⟨RX10, "depth", "(I)I"⟩, yX8_depth), (RX5, ⟨"java/util/Iterator", "hasNext", "()Z"⟩, yX5_hasNext), (RX5, ⟨"java/util/Iterator", "next", "()Ljava/lang/Object;"⟩, yX5_next), (RJ8, ⟨"java/lang/CharSequence", "length", "()I"⟩, yJ8_length), (RJ8, ⟨"java/lang/CharSequence", "charAt", "(I)C"⟩, yJ8_charAt)]
/-- the words of the tables that don't ride in lw_all -/
def gTB (U : State) : Prop := (∀ w ∈ lw_tbl, gNw w = true → va_Nw w U) ∧ ∀ q ∈ gFs, va_Fw q.1 q.2.1 q.2.2 U
theorem gTB.nw {U : State} (h : gTB U) {w : Cond} (hw : w ∈ lw_tbl) (g : gNw w = true) : va_Nw w U := h.1 w hw g
theorem gTB.fw {U : State} (h : gTB U) (i : Nat) {q : String × MethodName × MethodName} (hi : gFs[i]? = some q) : va_Fw q.1 q.2.1 q.2.2 U := h.2 q (List.mem_of_getElem? hi)
theorem gFs_ok : ∀ q ∈ gFs, q.2.1.cls ≠ "java/lang/invoke/MethodHandle" ∧ q.2.1.cls ≠ "java/lang/invoke/VarHandle" := by decide +kernel
theorem gTB.warm {s U : State} (hW : s.WarmedH U.vm) (h : gTB s) : gTB U := by
  refine ⟨fun w hw g => ?_, fun q hq => va_Fw.moved (gFs_ok q hq) hW.alike (h.2 q hq)⟩
  have h1 := h.1 w hw g
  cases w with
  | fieldLinkNest a i b n d hh => exact va_Nw.warmF hW h1
  | methodLinkNest a i x hh => exact va_Nw.warmM hW h1
  | castable C T => exact va_Nw.warmC hW h1
  | declares x => exact va_Nw.warmD hW h1
  | arrayOver ty =>
    cases ty with
    | object C => exact va_AO.moved hW.alike h1
    | _ => cases g
  | _ => cases g
theorem gTB.same {u U : State} (h : u.vm = U.vm) (hZ : gTB u) : gTB U := by
  refine ⟨fun w hw g => ?_, fun q hq => va_Fw.moved (gFs_ok q hq) (by rw [h]; exact Vm.Alike.refl U.vm) (hZ.2 q hq)⟩
  have h1 := hZ.1 w hw g
  cases w with
  | fieldLinkNest a i b n d hh => exact va_Nw.same rfl h h1
  | methodLinkNest a i x hh => exact va_Nw.same rfl h h1
  | castable C T => exact va_Nw.same rfl h h1
  | declares x => exact va_Nw.same rfl h h1
  | arrayOver ty =>
    cases ty with
    | object C => exact va_AO.moved (by rw [h]; exact Vm.Alike.refl U.vm) h1
    | _ => cases g
  | _ => cases g
/-- what else rides (statics, String constants, made classes): any E that a method's frame keeps -/
def gSt (A : Nat → Prop) (E : State → Prop) : Prop := (∀ (s U : State) (locs : List Loc), E s → va_S A s.heap U.heap locs → s.WarmedH U.vm → E U) ∧ ∀ (U : State) (g : JFrame) (mk : MethodId) (a : Array Value), E U → E (U.calling g mk a)
def gE (D : va_G) (A : Nat → Prop) (ws : va_W) (t : State) : Prop := va_P D gC ws t.heap ∧ va_D A ws
def gW (D : va_G) (A : Nat → Prop) (ws : va_W) (s : State) (H : Heap) (locs : List Loc) : Prop := va_P D gC ws H ∧ va_D A ws ∧ va_S A s.heap H locs
def gV (D : va_G) (dA : Nat → ClassId) (A : Nat → Prop) (E : State → Prop) (U : State) : Prop := va_K D gC (gT dA) U ∧ gTB U ∧ E U ∧ ∀ q, U.heap.size ≤ q → A q
def gB (D : va_G) (dA : Nat → ClassId) (A : Nat → Prop) (E : State → Prop) (ws : va_W) (U : State) : Prop := gE D A ws U ∧ gV D dA A E U
def gX (p : Program) (s : State) (m : MethodId) (args : Array Value) (c : Code) (cc : ByteArray) (nL : Nat) (own : String) (D : va_G) (dA : Nat → ClassId) (A : Nat → Prop) (E : State → Prop) : Prop :=
  (p.tables.exec = Jvm.exec ∧ c.code = cc ∧ c.maxLocals = nL ∧ s.vm.findClass own = some m.cls ∧ ∀ w ∈ lw_all, w.before args s = true) ∧ gV D dA A E s
theorem g_blind {A : Nat → Prop} {E : State → Prop} (hE : gSt A E) {D : va_G} {dA : Nat → ClassId} {ws : va_W} {av : List Value} : FrameBlind (va_Pc av (gB D dA A E ws)) := by
  intro a U g mk q
  obtain ⟨q0, ⟨qP, qD⟩, qK, qT, qE, qA⟩ := q
  exact ⟨q0, ⟨qP, qD⟩, va_K.moved (u := U) (U := U.calling g mk a) (Vm.Alike.refl U.vm) qK, gTB.same (u := U) (U := U.calling g mk a) rfl qT, hE.2 U g mk a qE, qA⟩
theorem g_at {A : Nat → Prop} {E : State → Prop} (hE : gSt A E) {D : va_G} {dA : Nat → ClassId} {ws : va_W} {av : List Value} {s : State} {H : Heap} {locs : List Loc} (hV : gV D dA A E s) (hw : gW D A ws s H locs) : ∀ U : State, U.heap = H → s.WarmedH U.vm → va_Pc av (gB D dA A E ws) av.toArray U := by
  intro U hU hW
  subst hU
  obtain ⟨hK, hT, hEs, hA⟩ := hV
  obtain ⟨hP, hD, hS⟩ := hw
  exact ⟨rfl, ⟨hP, hD⟩, va_K.moved hW.alike hK, gTB.warm hW hT, hE.1 s U locs hEs hS hW, fun q h => hA q (Nat.le_trans hS.1 h)⟩
/-- what a call through an object, a static call hands over -/
theorem g_preV {A : Nat → Prop} {E : State → Prop} (hE : gSt A E) {D : va_G} {dA : Nat → ClassId} {ws : va_W} {As : List Value} {s : State} {H : Heap} {locs : List Loc} {b : Nat} (hV : gV D dA A E s) (hw : gW D A ws s H locs) (q0 : Nat) {ci : Nat} {r : vw_C} {fs : List Value} (he : ws[q0]? = some (b, .inr (ci, fs))) (hc : gC[ci]? = some r) : PreV s H r.1 b (va_Pc (.ref b :: As) (gB D dA A E ws)) As :=
  ⟨g_blind hE, va_recv hV.1 hw.1 hc he, g_at hE hV hw⟩
theorem g_preS {A : Nat → Prop} {E : State → Prop} (hE : gSt A E) {D : va_G} {dA : Nat → ClassId} {ws : va_W} {As : List Value} {s : State} {H : Heap} {locs : List Loc} (hV : gV D dA A E s) (hw : gW D A ws s H locs) : PreS s H (va_Pc As (gB D dA A E ws)) As := ⟨g_blind hE, g_at hE hV hw⟩
theorem g_aft {A : Nat → Prop} {D : va_G} {ws : va_W} {s t : State} {H1 : Heap} {locs : List Loc} (ht : t.heap = H1) (hB : gE D A ws t) (hS : va_S A s.heap H1 locs) : gW D A ws s H1 locs := by
  subst ht
  exact ⟨hB.1, hB.2, hS⟩
/-- a world's fixed cells in another order -/
theorem g_perm {A : Nat → Prop} {D : va_G} {X cx pl ws ws' : va_W} {s : State} {H : Heap} {locs : List Loc} (hw : gW D A ws s H locs) (is : List Nat) (e : ws = X ++ pl) (hn : va_nd is = true) (hs : is.map (fun i => X[i]?) = cx.map some) (e' : cx ++ pl = ws') : gW D A ws' s H locs := by
  subst e; subst e'
  exact ⟨hw.1.part is hs, hw.2.1.part is hn hs, hw.2.2⟩
theorem g_ws {A : Nat → Prop} {D : va_G} {ws ws' : va_W} {s : State} {H : Heap} {locs : List Loc} (hw : gW D A ws s H locs) (e : ws = ws') : gW D A ws' s H locs := e ▸ hw
/-- a method's start -/
theorem g_start {l : Launch} {y : MethodName} {cc : ByteArray} {nL : Nat} {ret : Option FieldType} {rm : Room} {av : List Value} {ws : va_W} {Qc : Array Value → State → Outcome → State → Prop} {mc ms : Nat} {D : va_G} {dA : Nat → ClassId} {A : Nat → Prop} {E : State → Prop} (hy : plainName y.cls = true) (hn : Nat.ble (lg_sl av).length nL = true)
    (body : ∀ (p : Program) (e : Env) (s : State) (m : MethodId) (args : Array Value) (below : List Frame) (meth : Method) (c : Code) (ls : Array Slot), gX p s m args c cc nL y.cls D dA A E → meth.sig.returnType = ret → meth.locks = false → (y.name = "<init>" → meth.name = "<init>") → gW D A ws s s.heap [] → lv_has ls nL (lv_args 0 av) →
      W p l e rm s m args below meth c s.heap [] 0 0 (MQ below Qc args s mc ms A) (F0 m 0 ls [])) : Met l y (ws_ y cc nL ret) rm (va_Pc av (gB D dA A E ws)) Qc mc ms A := by
  refine Met.ofW (cc := cc) (maxL := nL) (ret := ret) hy rfl ?_
  intro p e s m args below meth c s₁ B hml hv
  obtain ⟨rfl, ⟨hP, hD⟩, hV⟩ := hv
  have hts := atoms_spec (ws := ws_ y cc nL ret) B.pre
  have hl := lv_entry av (n := nL) (Nat.le_of_ble_eq_true hn)
  rw [lg_entry_eq]
  generalize (lg_sl av ++ List.replicate (nL - (lg_sl av).length) Slot.unset).toArray = ls at hl ⊢
  exact body p e s m av.toArray below meth c ls ⟨⟨B.exec, B.bytes, hml, findClass_of_methodNamed B.named, fun w h => hts w (List.mem_cons_of_mem _ h)⟩, hV⟩ B.returns B.notSynchronized (fun h => (name_of_methodNamed B.named B.method).1.trans h) ⟨hP, hD, va_S.rf⟩ hl
section GR
variable {p : Program} {l : Launch} {e : Env} {R : Room} {s : State} {m : MethodId} {args : Array Value} {below : List Frame} {meth : Method} {c : Code} {H : Heap} {locs : List Loc} {cells slots : Nat} {Q : State → Prop}
variable {cc : ByteArray} {nL : Nat} {own : String} {pc : Nat} {ls : Array Slot} {rest : List Value} {D : va_G} {dA : Nat → ClassId} {A : Nat → Prop} {E : State → Prop} {a : Nat} {ws ws' : va_W}
theorem g_addN {a b : Nat} (k : W p l e R s m args below meth c H locs cells slots Q (F0 m pc ls (.int (nI (a + b)) :: rest))) : W p l e R s m args below meth c H locs cells slots Q (F0 m pc ls (.int (nI a + nI b) :: rest)) := by
  rw [nI_add]; exact k
theorem g_mulN {a b : Nat} (k : W p l e R s m args below meth c H locs cells slots Q (F0 m pc ls (.int (nI (a * b)) :: rest))) : W p l e R s m args below meth c H locs cells slots Q (F0 m pc ls (.int (nI a * nI b) :: rest)) := by
  rw [pk_mul]; exact k
theorem g_addE {x y : Int32} {a b : Nat} (ex : x = nI a) (ey : y = nI b) (k : W p l e R s m args below meth c H locs cells slots Q (F0 m pc ls (.int (nI (a + b)) :: rest))) : W p l e R s m args below meth c H locs cells slots Q (F0 m pc ls (.int (x + y) :: rest)) := by
  rw [ex, ey, nI_add]; exact k
theorem g_mulE {x y : Int32} {a b : Nat} (ex : x = nI a) (ey : y = nI b) (k : W p l e R s m args below meth c H locs cells slots Q (F0 m pc ls (.int (nI (a * b)) :: rest))) : W p l e R s m args below meth c H locs cells slots Q (F0 m pc ls (.int (x * y) :: rest)) := by
  rw [ex, ey, pk_mul]; exact k
theorem g_subN {a b : Nat} (h : b ≤ a) (k : W p l e R s m args below meth c H locs cells slots Q (F0 m pc ls (.int (nI (a - b)) :: rest))) : W p l e R s m args below meth c H locs cells slots Q (F0 m pc ls (.int (nI a - nI b) :: rest)) := by
  rw [pk_sub h]; exact k
theorem g_top {x y : Int32} (h : x = y) (k : W p l e R s m args below meth c H locs cells slots Q (F0 m pc ls (.int y :: rest))) : W p l e R s m args below meth c H locs cells slots Q (F0 m pc ls (.int x :: rest)) := by
  rw [h]; exact k
theorem g_stk {st st' : List Value} (h : st = st') (k : W p l e R s m args below meth c H locs cells slots Q (F0 m pc ls st')) : W p l e R s m args below meth c H locs cells slots Q (F0 m pc ls st) := by
  rw [h]; exact k
/-- a class's facts: its place in gC, its words, its types -/
def gCl (ci : Nat) (C : String) (T : u_T) (N : Nat) (ty : Nat → FieldType) : Prop := gC[ci]? = some (C, T, N) ∧ (∀ w ∈ u_ws C T N, w ∈ lw_all) ∧ (∀ k, k < N → parseFieldDescriptor (T k).2.2.1 = some (ty k)) ∧ ∀ a, a < N → ∀ b, b < N → a ≠ b → (T a).2.1 ≠ (T b).2.1
theorem g_get (X : gX p s m args c cc nL own D dA A E) {C ref : String} {T : u_T} {N ci index : Nat} {ty : Nat → FieldType} (F : gCl ci C T N ty) (hw : gW D A ws s H locs) (q0 k : Nat) {fs : List Value} {v : Value} (he : ws[q0]? = some (a, .inr (ci, fs))) (hk : Nat.blt k N = true) (hl : Cond.fieldLink own index ref (T k).2.1 (T k).2.2.1 ∈ lw_all) (hr : (T k).1 = ref) (hv : fs[k]? = some v) (hdg : decode cc pc = .ok (.getfield index, 3))
    (kk : W p l e R s m args below meth c H locs cells slots Q (F0 m (pc + 3) ls (v :: rest))) : W p l e R s m args below meth c H locs cells slots Q (F0 m pc ls (.ref a :: rest)) := by
  subst hr
  exact va_get X.1.1 X.1.2.1 X.1.2.2.2.2 F.2.1 X.1.2.2.2.1 X.2.1 hw.1 q0 he F.1 k (by simpa [Nat.blt_eq] using hk) (X.1.2.2.2.2 _ hl) (fun _ h => h) hv hdg kk
theorem g_put (X : gX p s m args c cc nL own D dA A E) {C ref : String} {T : u_T} {N ci index : Nat} {ty : Nat → FieldType} (F : gCl ci C T N ty) (hw : gW D A ws s H locs) (q0 k : Nat) {fs : List Value} {v : Value} (he : ws[q0]? = some (a, .inr (ci, fs))) (hk : Nat.blt k N = true) (hl : Cond.fieldLink own index ref (T k).2.1 (T k).2.2.1 ∈ lw_all) (hr : (T k).1 = ref) (hfin : (T k).2.2.2 = false) (hn : narrow (ty k) v = v) (hfit : fits (ty k) v = true) (hle : Nat.blt k fs.length = true) (ew : ws.set q0 (a, .inr (ci, fs.set k v)) = ws') (hdg : decode cc pc = .ok (.putfield index, 3))
    (kk : ∀ (H1 : Heap) (locs1 : List Loc), gW D A ws' s H1 locs1 → W p l e R s m args below meth c H1 locs1 cells slots Q (F0 m (pc + 3) ls rest)) : W p l e R s m args below meth c H locs cells slots Q (F0 m pc ls (v :: .ref a :: rest)) := by
  subst hr; subst ew
  have hk' : k < N := by simpa [Nat.blt_eq] using hk
  exact va_put X.1.1 X.1.2.1 X.1.2.2.2.2 F.2.1 ty F.2.2.1 F.2.2.2 X.1.2.2.2.1 X.2.1 hw.1 hw.2.1 hw.2.2 q0 he F.1 k hk' (X.1.2.2.2.2 _ hl) (fun _ h => h) hfin (F.2.2.1 k hk') hn hfit (by simpa [Nat.blt_eq] using hle) hdg (fun H1 locs1 h1 h2 h3 => kk H1 locs1 ⟨h1, h2, h3⟩)
theorem g_putF (X : gX p s m args c cc nL own D dA A E) (hin : meth.name = "<init>") {C ref : String} {T : u_T} {N ci index : Nat} {ty : Nat → FieldType} (F : gCl ci C T N ty) (hw : gW D A ws s H locs) (q0 k : Nat) {fs : List Value} {v : Value} (he : ws[q0]? = some (a, .inr (ci, fs))) (hk : Nat.blt k N = true) (hl : Cond.fieldLink own index ref (T k).2.1 (T k).2.2.1 ∈ lw_all) (hr : (T k).1 = ref) (hfin : (T k).2.2.2 = true) (hdecl : (T k).1 = own) (hn : narrow (ty k) v = v) (hfit : fits (ty k) v = true) (hle : Nat.blt k fs.length = true) (ew : ws.set q0 (a, .inr (ci, fs.set k v)) = ws') (hdg : decode cc pc = .ok (.putfield index, 3))
    (kk : ∀ (H1 : Heap) (locs1 : List Loc), gW D A ws' s H1 locs1 → W p l e R s m args below meth c H1 locs1 cells slots Q (F0 m (pc + 3) ls rest)) : W p l e R s m args below meth c H locs cells slots Q (F0 m pc ls (v :: .ref a :: rest)) := by
  subst hr; subst ew
  have hk' : k < N := by simpa [Nat.blt_eq] using hk
  exact va_putF X.1.1 X.1.2.1 X.1.2.2.2.2 F.2.1 ty F.2.2.1 F.2.2.2 X.1.2.2.2.1 X.2.1 hw.1 hw.2.1 hw.2.2 q0 he F.1 k hk' (X.1.2.2.2.2 _ hl) (fun _ h => h) hfin hin hdecl (F.2.2.1 k hk') hn hfit (by simpa [Nat.blt_eq] using hle) hdg (fun H1 locs1 h1 h2 h3 => kk H1 locs1 ⟨h1, h2, h3⟩)
theorem g_getN (X : gX p s m args c cc nL own D dA A E) {C ref host : String} {T : u_T} {N ci index : Nat} {ty : Nat → FieldType} (F : gCl ci C T N ty) (hw : gW D A ws s H locs) (q0 k : Nat) {fs : List Value} {v : Value} (he : ws[q0]? = some (a, .inr (ci, fs))) (hk : Nat.blt k N = true) (hl : Cond.fieldLinkNest own index ref (T k).2.1 (T k).2.2.1 host ∈ lw_tbl) (hr : (T k).1 = ref) (hv : fs[k]? = some v) (hdg : decode cc pc = .ok (.getfield index, 3))
    (kk : W p l e R s m args below meth c H locs cells slots Q (F0 m (pc + 3) ls (v :: rest))) : W p l e R s m args below meth c H locs cells slots Q (F0 m pc ls (.ref a :: rest)) := by
  subst hr
  exact va_getN X.1.1 X.1.2.1 X.1.2.2.2.2 F.2.1 X.1.2.2.2.1 X.2.1 hw.1 q0 he F.1 k (by simpa [Nat.blt_eq] using hk) (va_Nw.use rfl (X.2.2.1.nw hl rfl)) (fun _ h => h) hv hdg kk
theorem g_putN (X : gX p s m args c cc nL own D dA A E) {C ref host : String} {T : u_T} {N ci index : Nat} {ty : Nat → FieldType} (F : gCl ci C T N ty) (hw : gW D A ws s H locs) (q0 k : Nat) {fs : List Value} {v : Value} (he : ws[q0]? = some (a, .inr (ci, fs))) (hk : Nat.blt k N = true) (hl : Cond.fieldLinkNest own index ref (T k).2.1 (T k).2.2.1 host ∈ lw_tbl) (hr : (T k).1 = ref) (hfin : (T k).2.2.2 = false) (hn : narrow (ty k) v = v) (hfit : fits (ty k) v = true) (hle : Nat.blt k fs.length = true) (ew : ws.set q0 (a, .inr (ci, fs.set k v)) = ws') (hdg : decode cc pc = .ok (.putfield index, 3))
    (kk : ∀ (H1 : Heap) (locs1 : List Loc), gW D A ws' s H1 locs1 → W p l e R s m args below meth c H1 locs1 cells slots Q (F0 m (pc + 3) ls rest)) : W p l e R s m args below meth c H locs cells slots Q (F0 m pc ls (v :: .ref a :: rest)) := by
  subst hr; subst ew
  have hk' : k < N := by simpa [Nat.blt_eq] using hk
  exact va_putN X.1.1 X.1.2.1 X.1.2.2.2.2 F.2.1 ty F.2.2.1 F.2.2.2 X.1.2.2.2.1 X.2.1 hw.1 hw.2.1 hw.2.2 q0 he F.1 k hk' (va_Nw.use rfl (X.2.2.1.nw hl rfl)) (fun _ h => h) hfin (F.2.2.1 k hk') hn hfit (by simpa [Nat.blt_eq] using hle) hdg (fun H1 locs1 h1 h2 h3 => kk H1 locs1 ⟨h1, h2, h3⟩)
/-- a new object, ahead of the world -/
theorem g_front {D : va_G} {A : Nat → Prop} {ws : va_W} {q : Nat × va_E} {H : Heap} (hP : va_P D gC (ws ++ [q]) H) (hD : va_D A (ws ++ [q])) : va_P D gC (q :: ws) H ∧ va_D A (q :: ws) := by
  have h1 : va_P D gC ((([] : va_W) ++ ws) ++ [q]) H := hP
  have h2 : va_D A ((([] : va_W) ++ ws) ++ [q]) := hD
  exact ⟨h1.swap, h2.swap⟩
theorem g_new (X : gX p s m args c cc nL own D dA A E) {C : String} {T : u_T} {N ci index : Nat} {ty : Nat → FieldType} (F : gCl ci C T N ty) (hw : gW D A ws s H locs) (hcl : Cond.classLink own index C ∈ lw_all) (hinst : Cond.instantiable C N ∈ lw_all) (hini : Cond.initialized C ∈ lw_all) {fs : List Value} (hfs : ∀ j, j < N → defaultValue (ty j) = vp_V fs j) (hcells : cells + 1 ≤ R.cells) (hslots : slots + N ≤ R.slots) (hdg : decode cc pc = .ok (.new index, 3))
    (kk : ∀ (q : Nat) (H1 : Heap), gW D A ((q, .inr (ci, fs)) :: ws) s H1 locs → W p l e R s m args below meth c H1 locs (cells + 1) (slots + N) Q (F0 m (pc + 3) ls (.ref q :: rest))) : W p l e R s m args below meth c H locs cells slots Q (F0 m pc ls rest) := by
  refine va_new X.1.1 X.1.2.1 X.1.2.2.2.2 F.2.1 ty F.2.2.1 X.1.2.2.2.1 (X.1.2.2.2.2 _ hcl) (X.1.2.2.2.2 _ hinst) (X.1.2.2.2.2 _ hini) X.2.1 hw.1 hw.2.1 hw.2.2 X.2.2.2.2 F.1 hfs hcells hslots hdg (fun q H1 h1 h2 h3 => ?_)
  obtain ⟨h1, h2⟩ := g_front h1 h2
  exact kk q H1 ⟨h1, h2, h3⟩
theorem g_newi (X : gX p s m args c cc nL own D dA A E) (hw : gW D A ws s H locs) (t0 : Nat) {atype : ArrayType} {ty : FieldType} {cA : ClassId} {N' : Nat} (hty : newarray.typeOf atype = ty) (ht : (gT dA)[t0]? = some (cA, ty)) (hprim : (∀ C, ty ≠ .object C) ∧ ∀ cB : ClassId, vp_cell cB (N', .inl (fun _ => 0)) = arrV cB N' (fun _ => defaultValue ty)) (harr : Cond.arrayClass ty ∈ lw_all) {n : Int32} (hn : n = nI N') (hN : N' ≤ 65536) (hcells : cells + 1 ≤ R.cells) (hslots : slots + N' ≤ R.slots) (hby : N' * componentBytes ty ≤ 536870912) (hdg : decode cc pc = .ok (.newarray atype, 2))
    (kk : ∀ (q : Nat) (H1 : Heap), gW D A ((q, .inl (cA, N', .inl (fun _ => 0))) :: ws) s H1 locs → W p l e R s m args below meth c H1 locs (cells + 1) (slots + N') Q (F0 m (pc + 2) ls (.ref q :: rest))) : W p l e R s m args below meth c H locs cells slots Q (F0 m pc ls (.int n :: rest)) := by
  subst hn
  refine va_newa (ty := ty) X.1.1 X.1.2.1 (by rw [hty]; exact X.1.2.2.2.2 _ harr) hty X.2.1 hw.1 hw.2.1 hw.2.2 X.2.2.2.2 (a0 := (N', .inl (fun _ => 0))) hprim.2 (nI_pos (by omega)) (nI_clamp (by omega)) hby hcells hslots hdg (fun q cB H1 hK h1 h2 h3 => ?_)
  have e1 : s.vm.findClass ("[" ++ ty.toString) = some cA := by
    have h9 := (X.2.1.2 t0 _ ht).2
    cases ty <;> first | exact absurd rfl (hprim.1 _) | exact h9
  have e2 : s.vm.findClass ("[" ++ ty.toString) = some cB := by
    have h9 := (hK.2 (gT dA).length (cB, ty) (by rw [List.getElem?_append_right (Nat.le_refl _), Nat.sub_self]; rfl)).2
    cases ty <;> first | exact absurd rfl (hprim.1 _) | exact h9
  obtain rfl : cA = cB := Option.some.inj (e1.symm.trans e2)
  obtain ⟨h1, h2⟩ := g_front h1 h2
  exact kk q H1 ⟨h1, h2, h3⟩
theorem g_newq (X : gX p s m args c cc nL own D dA A E) (hw : gW D A ws s H locs) (t0 : Nat) {C : String} {cA : ClassId} {index N' : Nat} (hcl : Cond.classLink own index C ∈ lw_all) (hov : Cond.arrayOver (.object C) ∈ lw_tbl) (ht : (gT dA)[t0]? = some (cA, .object C)) {n : Int32} (hn : n = nI N') (hN : N' ≤ 65536) (hcells : cells + 1 ≤ R.cells) (hslots : slots + N' ≤ R.slots) (hdg : decode cc pc = .ok (.anewarray index, 3))
    (kk : ∀ (q : Nat) (H1 : Heap), gW D A ((q, .inl (cA, N', .inr (.inr (.inr (.inr (fun _ => none)))))) :: ws) s H1 locs → W p l e R s m args below meth c H1 locs (cells + 1) (slots + N') Q (F0 m (pc + 3) ls (.ref q :: rest))) : W p l e R s m args below meth c H locs cells slots Q (F0 m pc ls (.int n :: rest)) := by
  subst hn
  refine va_newq X.1.1 X.1.2.1 X.1.2.2.2.1 (X.1.2.2.2.2 _ hcl) (X.2.2.1.nw hov rfl) X.2.1 hw.1 hw.2.1 hw.2.2 X.2.2.2.2 (nI_pos (by omega)) (nI_clamp (by omega)) (by omega) hcells hslots hdg (fun q cB H1 hK h1 h2 h3 => ?_)
  obtain ⟨kA, comp, g1, g2, g3, g4⟩ := (X.2.1.2 t0 _ ht).2
  obtain ⟨kA', comp', f1, f2, f3, f4⟩ := (hK.2 (gT dA).length (cB, .object C) (by rw [List.getElem?_append_right (Nat.le_refl _), Nat.sub_self]; rfl)).2
  obtain rfl : cA = cB := Option.some.inj (g4.symm.trans f4)
  obtain ⟨h1, h2⟩ := g_front h1 h2
  exact kk q H1 ⟨h1, h2, h3⟩
/-- arrays at places that are known numbers -/
theorem g_iald (X : gX p s m args c cc nL own D dA A E) (hw : gW D A ws s H locs) (q0 : Nat) {n : Nat} {f : Nat → Int32} (ha : ws[q0]? = some (a, .inl (dA 0, n, .inl f))) {i : Nat} (hi : i < n) (hn : n < 2 ^ 31) (hdg : decode cc pc = .ok (.iaload, 1))
    (kk : W p l e R s m args below meth c H locs cells slots Q (F0 m (pc + 1) ls (.int (f i) :: rest))) : W p l e R s m args below meth c H locs cells slots Q (F0 m pc ls (.int (nI i) :: .ref a :: rest)) := by
  refine va_iald X.1.1 X.1.2.1 X.2.1 hw.1 q0 0 ha rfl (vp_in_nI hi hn) hdg ?_
  rw [nI_clamp (by omega)]
  exact kk
theorem g_cald (X : gX p s m args c cc nL own D dA A E) (hw : gW D A ws s H locs) (q0 : Nat) {n : Nat} {f : Nat → Int32} (ha : ws[q0]? = some (a, .inl (dA 1, n, .inl f))) {i : Nat} (hi : i < n) (hn : n < 2 ^ 31) (hdg : decode cc pc = .ok (.caload, 1))
    (kk : W p l e R s m args below meth c H locs cells slots Q (F0 m (pc + 1) ls (.int (f i) :: rest))) : W p l e R s m args below meth c H locs cells slots Q (F0 m pc ls (.int (nI i) :: .ref a :: rest)) := by
  refine va_cald X.1.1 X.1.2.1 X.2.1 hw.1 q0 1 ha rfl (vp_in_nI hi hn) hdg ?_
  rw [nI_clamp (by omega)]
  exact kk
theorem g_bald (X : gX p s m args c cc nL own D dA A E) (hw : gW D A ws s H locs) (q0 : Nat) {n : Nat} {f : Nat → Int32} (ha : ws[q0]? = some (a, .inl (dA 2, n, .inl f))) {i : Nat} (hi : i < n) (hn : n < 2 ^ 31) (hdg : decode cc pc = .ok (.baload, 1))
    (kk : W p l e R s m args below meth c H locs cells slots Q (F0 m (pc + 1) ls (.int (f i) :: rest))) : W p l e R s m args below meth c H locs cells slots Q (F0 m pc ls (.int (nI i) :: .ref a :: rest)) := by
  refine va_bald X.1.1 X.1.2.1 X.2.1 hw.1 q0 2 ha rfl (vp_in_nI hi hn) hdg ?_
  rw [nI_clamp (by omega)]
  exact kk
theorem g_aald (X : gX p s m args c cc nL own D dA A E) (hw : gW D A ws s H locs) (q0 t0 : Nat) {cA : ClassId} {C : String} {n : Nat} {f : Nat → Option Nat} (ha : ws[q0]? = some (a, .inl (cA, n, .inr (.inr (.inr (.inr f)))))) (ht : (gT dA)[t0]? = some (cA, .object C)) {i : Nat} (hi : i < n) (hn : n < 2 ^ 31) (hdg : decode cc pc = .ok (.aaload, 1))
    (kk : W p l e R s m args below meth c H locs cells slots Q (F0 m (pc + 1) ls (va_rf (f i) :: rest))) : W p l e R s m args below meth c H locs cells slots Q (F0 m pc ls (.int (nI i) :: .ref a :: rest)) := by
  refine va_aldq X.1.1 X.1.2.1 X.2.1 hw.1 q0 t0 ha ht (vp_in_nI hi hn) hdg ?_
  rw [nI_clamp (by omega)]
  exact kk
theorem g_iast (X : gX p s m args c cc nL own D dA A E) (hw : gW D A ws s H locs) (q0 : Nat) {n : Nat} {f : Nat → Int32} {x : Int32} (ha : ws[q0]? = some (a, .inl (dA 0, n, .inl f))) {i : Nat} (hi : i < n) (hn : n < 2 ^ 31) (ew : ws.set q0 (a, .inl (dA 0, n, .inl (upd f i x))) = ws') (hdg : decode cc pc = .ok (.iastore, 1))
    (kk : ∀ (H1 : Heap) (locs1 : List Loc), gW D A ws' s H1 locs1 → W p l e R s m args below meth c H1 locs1 cells slots Q (F0 m (pc + 1) ls rest)) : W p l e R s m args below meth c H locs cells slots Q (F0 m pc ls (.int x :: .int (nI i) :: .ref a :: rest)) := by
  refine va_iast X.1.1 X.1.2.1 X.2.1 hw.1 hw.2.1 hw.2.2 q0 0 ha rfl (vp_in_nI hi hn) hdg (fun H1 locs1 h1 h2 h3 => ?_)
  rw [nI_clamp (by omega), ew] at h1 h2
  exact kk H1 locs1 ⟨h1, h2, h3⟩
theorem g_cast (X : gX p s m args c cc nL own D dA A E) (hw : gW D A ws s H locs) (q0 : Nat) {n : Nat} {f : Nat → Int32} {x : Int32} (ha : ws[q0]? = some (a, .inl (dA 1, n, .inl f))) {i : Nat} (hi : i < n) (hn : n < 2 ^ 31) (ew : ws.set q0 (a, .inl (dA 1, n, .inl (upd f i (vp_nar .char x)))) = ws') (hdg : decode cc pc = .ok (.castore, 1))
    (kk : ∀ (H1 : Heap) (locs1 : List Loc), gW D A ws' s H1 locs1 → W p l e R s m args below meth c H1 locs1 cells slots Q (F0 m (pc + 1) ls rest)) : W p l e R s m args below meth c H locs cells slots Q (F0 m pc ls (.int x :: .int (nI i) :: .ref a :: rest)) := by
  refine va_cast X.1.1 X.1.2.1 X.2.1 hw.1 hw.2.1 hw.2.2 q0 1 ha rfl (vp_in_nI hi hn) hdg (fun H1 locs1 h1 h2 h3 => ?_)
  rw [nI_clamp (by omega), ew] at h1 h2
  exact kk H1 locs1 ⟨h1, h2, h3⟩
theorem g_bast (X : gX p s m args c cc nL own D dA A E) (hw : gW D A ws s H locs) (q0 : Nat) {n : Nat} {f : Nat → Int32} {x : Int32} (ha : ws[q0]? = some (a, .inl (dA 2, n, .inl f))) {i : Nat} (hi : i < n) (hn : n < 2 ^ 31) (ew : ws.set q0 (a, .inl (dA 2, n, .inl (upd f i (vp_nar .byte x)))) = ws') (hdg : decode cc pc = .ok (.bastore, 1))
    (kk : ∀ (H1 : Heap) (locs1 : List Loc), gW D A ws' s H1 locs1 → W p l e R s m args below meth c H1 locs1 cells slots Q (F0 m (pc + 1) ls rest)) : W p l e R s m args below meth c H locs cells slots Q (F0 m pc ls (.int x :: .int (nI i) :: .ref a :: rest)) := by
  refine va_bast X.1.1 X.1.2.1 X.2.1 hw.1 hw.2.1 hw.2.2 q0 2 ha rfl (vp_in_nI hi hn) hdg (fun H1 locs1 h1 h2 h3 => ?_)
  rw [nI_clamp (by omega), ew] at h1 h2
  exact kk H1 locs1 ⟨h1, h2, h3⟩
theorem g_alen (X : gX p s m args c cc nL own D dA A E) (hw : gW D A ws s H locs) (q0 t0 : Nat) {cA : ClassId} {ty : FieldType} {b : vp_A} (ha : ws[q0]? = some (a, .inl (cA, b))) (ht : (gT dA)[t0]? = some (cA, ty)) (hdg : decode cc pc = .ok (.arraylength, 1))
    (kk : W p l e R s m args below meth c H locs cells slots Q (F0 m (pc + 1) ls (.int (nI b.1) :: rest))) : W p l e R s m args below meth c H locs cells slots Q (F0 m pc ls (.ref a :: rest)) :=
  va_alen (v := nI b.1) X.1.1 X.1.2.1 X.2.1 hw.1 q0 t0 ha ht rfl hdg kk
/-- ends -/
theorem g_iret {S : Type} {post : Int32 → S → Prop} {w1 : S → va_W} {v : Int32} (u : S) (X : gX p s m args c cc nL own D dA A E) (hw : gW D A ws s H locs) (hr : meth.sig.returnType = some .int) (hlocks : meth.locks = false) (hp : post v u) (e1 : ws = w1 u) (hdg : decode cc pc = .ok (.ireturn, 1)) : W p l e R s m args below meth c H locs cells slots (MQ below (va_Qi post (fun u => gE D A (w1 u)) A) args s cells slots A) (F0 m pc ls [.int v]) := by
  subst e1
  exact W.iret X.1.1 X.1.2.1 hr (fun t ht hW => ⟨⟨v, u, rfl, hp, by rw [ht]; exact hw.1, hw.2.1⟩, hw.2.2.F ht⟩) hw.2.2.2.2 hdg hlocks
theorem g_zret {S : Type} {post : Int32 → S → Prop} {w1 : S → va_W} {v : Int32} {ty : FieldType} (u : S) (X : gX p s m args c cc nL own D dA A E) (hw : gW D A ws s H locs) (hr : meth.sig.returnType = some ty) (hlocks : meth.locks = false) (hn : narrow ty (.int v) = .int v) (hp : post v u) (e1 : ws = w1 u) (hdg : decode cc pc = .ok (.ireturn, 1)) : W p l e R s m args below meth c H locs cells slots (MQ below (va_Qi post (fun u => gE D A (w1 u)) A) args s cells slots A) (F0 m pc ls [.int v]) := by
  subst e1
  exact W.zret X.1.1 X.1.2.1 hr hn (fun t ht hW => ⟨⟨v, u, rfl, hp, by rw [ht]; exact hw.1, hw.2.1⟩, hw.2.2.F ht⟩) hw.2.2.2.2 hdg hlocks
theorem g_vret {S : Type} {post : S → Prop} {w1 : S → va_W} (u : S) (X : gX p s m args c cc nL own D dA A E) (hw : gW D A ws s H locs) (hr : meth.sig.returnType = none) (hlocks : meth.locks = false) (hp : post u) (e1 : ws = w1 u) (hdg : decode cc pc = .ok (.return_, 1)) : W p l e R s m args below meth c H locs cells slots (MQ below (va_Qv post (fun u => gE D A (w1 u)) A) args s cells slots A) (F0 m pc ls []) := by
  subst e1
  exact W.vret X.1.1 X.1.2.1 hr (fun t ht hW => ⟨⟨u, rfl, hp, by rw [ht]; exact hw.1, hw.2.1⟩, hw.2.2.F ht⟩) hw.2.2.2.2 hdg hlocks
theorem g_aret {S : Type} {post : S → Prop} {w1 : S → Nat → va_W} {v : Nat} {rt : FieldType} (u : S) (X : gX p s m args c cc nL own D dA A E) (hw : gW D A ws s H locs) (hr : meth.sig.returnType = some rt) (hrt : (∃ n, rt = .object n) ∨ ∃ t, rt = .array t) (hlocks : meth.locks = false) (hp : post u) (e1 : ws = w1 u v) (hdg : decode cc pc = .ok (.areturn, 1)) : W p l e R s m args below meth c H locs cells slots (MQ below (va_Qr post (fun u a => gE D A (w1 u a)) A) args s cells slots A) (F0 m pc ls [.ref v]) := by
  subst e1
  exact W.aret X.1.1 X.1.2.1 hr hrt (Or.inr ⟨v, rfl⟩) (fun t ht hW => ⟨⟨u, v, rfl, hp, by rw [ht]; exact hw.1, hw.2.1⟩, hw.2.2.F ht⟩) hw.2.2.2.2 hdg hlocks
end GR
theorem cfX0 : gCl 0 RX0 TX0 8 tyX0 := ⟨rfl, in_X0, tyX0_ok, nmX0⟩
theorem cfX1 : gCl 1 RX1 TX1 12 tyX1 := ⟨rfl, in_X1, tyX1_ok, nmX1⟩
theorem cfX2 : gCl 2 RX2 TX2 2 tyX2 := ⟨rfl, in_X2, tyX2_ok, nmX2⟩
theorem cfX3 : gCl 3 RX3 TX3 8 tyX3 := ⟨rfl, in_X3, tyX3_ok, nmX3⟩
theorem cfX4 : gCl 4 RX4 TX4 15 tyX4 := ⟨rfl, in_X4, tyX4_ok, nmX4⟩
theorem cfX5 : gCl 5 RX5 TX5 2 tyX5 := ⟨rfl, in_X5, tyX5_ok, nmX5⟩
theorem cfX6 : gCl 6 RX6 TX6 4 tyX6 := ⟨rfl, in_X6, tyX6_ok, nmX6⟩
theorem cfX7 : gCl 7 RX7 TX7 5 tyX7 := ⟨rfl, in_X7, tyX7_ok, nmX7⟩
theorem cfX8 : gCl 8 RX8 TX8 4 tyX8 := ⟨rfl, in_X8, tyX8_ok, nmX8⟩
theorem cfX9 : gCl 9 RX9 TX9 8 tyX9 := ⟨rfl, in_X9, tyX9_ok, nmX9⟩
theorem cfX11 : gCl 10 RX11 TX11 3 tyX11 := ⟨rfl, in_X11, tyX11_ok, nmX11⟩
theorem cfX12 : gCl 11 RX12 TX12 3 tyX12 := ⟨rfl, in_X12, tyX12_ok, nmX12⟩
theorem cfX13 : gCl 12 RX13 TX13 4 tyX13 := ⟨rfl, in_X13, tyX13_ok, nmX13⟩
theorem cfX14 : gCl 13 RX14 TX14 7 tyX14 := ⟨rfl, in_X14, tyX14_ok, nmX14⟩
theorem cfJ2 : gCl 14 RJ2 TJ2 3 tyJ2 := ⟨rfl, in_J2, tyJ2_ok, nmJ2⟩
theorem cfJ6 : gCl 15 RJ6 TJ6 3 tyJ6 := ⟨rfl, in_J6, tyJ6_ok, nmJ6⟩
theorem cfJ8 : gCl 16 RJ8 TJ8 4 tyJ8 := ⟨rfl, in_J8, tyJ8_ok, nmJ8⟩
theorem cfJ9 : gCl 17 RJ9 TJ9 4 tyJ9 := ⟨rfl, in_J9, tyJ9_ok, nmJ9⟩
