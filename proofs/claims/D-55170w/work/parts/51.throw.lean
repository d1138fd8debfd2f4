/-! THROWS: a method that throws an object made by the way; its catching; bodies with a table -/
def refF (u : Int32 × Int32) : List Value := [.null, .null, .null, .null, .null, .int 0, .int u.1, .int u.2]
def wroF (u : Int32) : List Value := [.null, .null, .null, .null, .null, .int 0, .int u]
/-- the thrown object lies ahead of the world -/
def gTh {SX : Type} (D : va_G) (A : Nat → Prop) (C : String) (ci : Nat) (fx : SX → List Value) (Wt : SX → va_W) : String → Addr → SX → State → Prop := fun E q u t => E = C ∧ gE D A ((q, .inr (ci, fx u)) :: Wt u) t
theorem g_startX {l : Launch} {y : MethodName} {cc : ByteArray} {nL : Nat} {ret : Option FieldType} {rm : Room} {av : List Value} {ws : va_W} {Qc : Array Value → State → Outcome → State → Prop} {XC : String → Addr → State → State → Prop} {mc ms : Nat} {D : va_G} {dA : Nat → ClassId} {A : Nat → Prop} {E : State → Prop} (hy : plainName y.cls = true) (hn : Nat.ble (lg_sl av).length nL = true)
    (body : ∀ (p : Program) (e : Env) (s : State) (m : MethodId) (args : Array Value) (below : List Frame) (meth : Method) (c : Code) (ls : Array Slot), gX p s m args c cc nL y.cls D dA A E → meth.sig.returnType = ret → meth.locks = false → (y.name = "<init>" → meth.name = "<init>") → (∀ x ∈ c.exceptionTable.toList, False) → gW D A ws s s.heap [] → lv_has ls nL (lv_args 0 av) →
      W p l e rm s m args below meth c s.heap [] 0 0 (vy_MQ below Qc XC args s mc ms A) (F0 m 0 ls [])) : vy_Met l y (ws_ y cc nL ret) rm (va_Pc av (gB D dA A E ws)) Qc XC mc ms A := by
  refine vy_ofW (cc := cc) (maxL := nL) (ret := ret) hy rfl ?_
  intro p e s m args below meth c s₁ B hml hnt hv
  obtain ⟨rfl, ⟨hP, hD⟩, hV⟩ := hv
  have hts := atoms_spec (ws := ws_ y cc nL ret) B.pre
  have hl := lv_entry av (n := nL) (Nat.le_of_ble_eq_true hn)
  rw [lg_entry_eq]
  generalize (lg_sl av ++ List.replicate (nL - (lg_sl av).length) Slot.unset).toArray = ls at hl ⊢
  exact body p e s m av.toArray below meth c ls ⟨⟨B.exec, B.bytes, hml, findClass_of_methodNamed B.named, fun w h => hts w (List.mem_cons_of_mem _ h)⟩, hV⟩ B.returns B.notSynchronized (fun h => (name_of_methodNamed B.named B.method).1.trans h) hnt ⟨hP, hD, va_S.rf⟩ hl
/-- a body with handlers, which all that it throws is caught by -/
theorem g_startH {l : Launch} {y : MethodName} {cc : ByteArray} {nL : Nat} {ret : Option FieldType} {hh : List (Nat × Nat × Nat × Nat)} {rm : Room} {av : List Value} {ws : va_W} {Qc : Array Value → State → Outcome → State → Prop} {mc ms : Nat} {D : va_G} {dA : Nat → ClassId} {A : Nat → Prop} {E : State → Prop} (hy : plainName y.cls = true) (hn : Nat.ble (lg_sl av).length nL = true)
    (body : ∀ (p : Program) (e : Env) (s : State) (m : MethodId) (args : Array Value) (below : List Frame) (meth : Method) (c : Code) (ls : Array Slot), gX p s m args c cc nL y.cls D dA A E → meth.sig.returnType = ret → meth.locks = false → (y.name = "<init>" → meth.name = "<init>") → c.exceptionTable.toList = tableOf hh → gW D A ws s s.heap [] → lv_has ls nL (lv_args 0 av) →
      W p l e rm s m args below meth c s.heap [] 0 0 (MQ below Qc args s mc ms A) (F0 m 0 ls [])) : Met l y (wsW_ y cc nL ret hh) rm (va_Pc av (gB D dA A E ws)) Qc mc ms A := by
  refine va_MetW (cc := cc) (maxL := nL) (ret := ret) (hh := hh) hy rfl ?_
  intro p e s m args below meth c s₁ B hml hv
  obtain ⟨rfl, ⟨hP, hD⟩, hV⟩ := hv
  have hts := atoms_spec (ws := wsW_ y cc nL ret hh) B.pre
  have htab := vx_table (x := y) B (hts _ List.mem_cons_self)
  have hl := lv_entry av (n := nL) (Nat.le_of_ble_eq_true hn)
  rw [lg_entry_eq]
  generalize (lg_sl av ++ List.replicate (nL - (lg_sl av).length) Slot.unset).toArray = ls at hl ⊢
  exact body p e s m av.toArray below meth c ls ⟨⟨B.exec, B.bytes, hml, findClass_of_methodNamed B.named, fun w h => hts w (List.mem_cons_of_mem _ h)⟩, hV⟩ B.returns B.notSynchronized (fun h => (name_of_methodNamed B.named B.method).1.trans h) htab ⟨hP, hD, va_S.rf⟩ hl
section GRX
variable {p : Program} {l : Launch} {e : Env} {R : Room} {s : State} {m : MethodId} {args : Array Value} {below : List Frame} {meth : Method} {c : Code} {H : Heap} {locs : List Loc} {cells slots : Nat} {Q : State → Prop}
variable {cc : ByteArray} {nL : Nat} {own : String} {pc : Nat} {ls : Array Slot} {rest : List Value} {D : va_G} {dA : Nat → ClassId} {A : Nat → Prop} {E : State → Prop} {a : Nat} {ws ws' : va_W}
theorem g_cellX (X : gX p s m args c cc nL own D dA A E) (hw : gW D A ws s H locs) (k : Nat) {q ci : Nat} {fs : List Value} (he : ws[k]? = some (q, .inr (ci, fs))) {r : vw_C} (hc : gC[ci]? = some r) : ∃ ce : Cell, H[q]? = some ce ∧ ce.vm = .none ∧ s.vm.findClass r.1 = some ce.cls := by
  obtain ⟨r', h1, cell, g1, g2, g3, -⟩ := hw.1 k _ he
  exact ⟨cell, g1, g3, by rw [g2]; exact (X.2.1.1 ci r hc).2.1⟩
/-- not caught here: it goes on to the caller -/
theorem g_thr {SX : Type} {px : SX → Prop} {fx : SX → List Value} {Wt : SX → va_W} {Qc : Array Value → State → Outcome → State → Prop} {mc ms : Nat} {q ci : Nat} {fs : List Value} (u : SX) (X : gX p s m args c cc nL own D dA A E) (hw : gW D A ((q, .inr (ci, fs)) :: ws) s H locs) (hnt : ∀ x ∈ c.exceptionTable.toList, False) (hlocks : meth.locks = false) {r : vw_C} (hc : gC[ci]? = some r) (hp : px u) (hfs : fs = fx u) (e1 : ws = Wt u) (hcl : cells ≤ mc) (hsl : slots ≤ ms) :
    vx_W p l e R s m args below meth c H locs cells slots (vy_MQ below Qc (vy_X px (gTh D A r.1 ci fx Wt) A) args s mc ms A) (F0 m pc ls rest) q := by
  subst hfs; subst e1
  obtain ⟨ce, h1, h2, h3⟩ := g_cellX X hw 0 rfl hc
  exact vy_out (fun x hx => (hnt x hx).elim) hlocks h1 h2 h3 (fun t ht hW => ⟨u, hp, ⟨rfl, by rw [ht]; exact hw.1, hw.2.1⟩, hw.2.2.F ht⟩) hw.2.2.2.2 hcl hsl
/-- caught by the row x of this method's table -/
theorem g_catchX {q ci : Nat} {fs : List Value} {hh : List (Nat × Nat × Nat × Nat)} (X : gX p s m args c cc nL own D dA A E) (hw : gW D A ((q, .inr (ci, fs)) :: ws) s H locs) (htab : c.exceptionTable.toList = tableOf hh) (pre : List ExceptionTableEntry) (x : ExceptionTableEntry) (suf : List ExceptionTableEntry) (hsplit : tableOf hh = pre ++ x :: suf) {r : vw_C} (hc : gC[ci]? = some r)
    (hpass : ∀ z ∈ pre, covers z pc = false ∨ (z.catchType ≠ 0 ∧ ∃ nm : String, (Cond.classLink own z.catchType nm).before args s = true ∧ va_Nc r.1 nm s)) (hx : covers x pc = true) (h0 : x.catchType ≠ 0) {nm : String} (hlink : Cond.classLink own x.catchType nm ∈ lw_all) (hcast : Cond.castable r.1 nm ∈ lw_tbl)
    (kk : W p l e R s m args below meth c H locs cells slots Q (F0 m x.handlerPc ls [.ref q])) : vx_W p l e R s m args below meth c H locs cells slots Q (F0 m pc ls rest) q := by
  obtain ⟨ce, h1, h2, h3⟩ := g_cellX X hw 0 rfl hc
  exact vx_catch X.1.2.2.2.1 pre x suf (htab.trans hsplit) hpass hx h0 (X.1.2.2.2.2 _ hlink) (va_Nw.use rfl (X.2.2.1.nw hcast rfl)) h1 h2 h3 kk
end GRX
