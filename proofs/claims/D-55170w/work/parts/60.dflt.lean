/-! A DEFAULT METHOD called on an object: Copy.sum, by the library's virtualBackUpD -/
/-- the words of the default's calls, which ride in E; and that Refused is no Wrong -/
def dwU (U : State) : Prop := (Cond.methodLink "GargoyleCopyists$Copy" 45 ⟨"GargoyleCopyists$Copy", "sum", "()I"⟩).before #[] U = true ∧ (Cond.methodLink "GargoyleCopyists" 311 ⟨"GargoyleCopyists$Copy", "sum", "()I"⟩).before #[] U = true ∧ (Cond.sameMethod "GargoyleCopyists$Copy" "GargoyleCopyists$Pointed" "sum" "()I").before #[] U = true ∧ (Cond.landsInDefault "GargoyleCopyists$Copy" ⟨"GargoyleCopyists$Copy", "sum", "()I"⟩ yX10_sum).before #[] U = true ∧ va_Nc "GargoyleCopyists$Refused" "GargoyleCopyists$Wrong" U
abbrev g_CD (R : Room) (s : State) (args : Array Value) (own C owner : String) (index : Nat) (x y : MethodName) (bytes : ByteArray) (maxL : Nat) (ret : Option FieldType) (rm : Room) (mc ms n : Nat) : Prop :=
  (rm.cells = mc ∧ rm.slots = ms ∧ rm.frames + 1 ≤ R.frames ∧ 8 + (maxL + 11) + rm.locals ≤ R.locals) ∧ Cond.code y bytes maxL ret ∈ lw_all ∧ Cond.initialized y.cls ∈ lw_all ∧ Cond.instanceMethod y ∈ lw_all ∧ (Cond.methodLink own index x).before #[] s = true ∧ (Cond.sameMethod x.cls owner x.name x.desc).before #[] s = true ∧ (Cond.declares ⟨owner, x.name, x.desc⟩).before args s = true ∧ (owner ≠ "java/lang/invoke/MethodHandle" ∧ owner ≠ "java/lang/invoke/VarHandle") ∧ (Cond.landsInDefault C x y).before #[] s = true ∧ (parseMethodDescriptor x.desc).map (fun d => d.parameters.length) = some n
theorem g_runUD {p : Program} {l : Launch} {e : Env} {R : Room} {s : State} {m : MethodId} {args : Array Value} {below : List Frame} {meth : Method} {c : Code} {H : Heap} {locs : List Loc} {cells slots : Nat} {cc : ByteArray} {nL : Nat} {own : String}
    {x y : MethodName} {C owner : String} {bytes : ByteArray} {maxL index n mc ms : Nat} {ret : Option FieldType} {rm : Room} {Pc : Array Value → State → Prop} {Qc : Array Value → State → Outcome → State → Prop} {free : Addr → Prop} {b : Addr} {As rest : List Value} {g : JFrame}
    (S : CallFix p m c cc nL s args lw_all own) (hM : Met l y (ws_ y bytes maxL ret) rm Pc Qc mc ms free) (cw : g_CD R s args own C owner index x y bytes maxL ret rm mc ms n) (hp : PreV s H C b Pc As)
    (hg : g.method = m) (hn : As.length = n) (hsize : g.locals.size = nL) (hstack : g.stack = As.reverse ++ .ref b :: rest) (hW : 2 * g.monitorRoom + (rest.map fun v => v.category).sum ≤ 8) (hdg : decode cc g.pc = .ok (.invokevirtual index, 3)) (hf : cells + mc ≤ R.cells ∧ slots + ms ≤ R.slots) :
    va_Run p l e R s m args below meth c H locs cells slots mc ms g rest (Qc (Value.ref b :: As).toArray) free := by
  obtain ⟨⟨hrc, hrs, hfr, hlo⟩, hcode, hini, hinst, hl, hsame, hdecl, howner, hsel, hlen⟩ := cw
  obtain ⟨hx, hb, hml, ho, hts⟩ := S
  have wd : ∀ w' ∈ ws_ y bytes maxL ret, ∀ (a' : Array Value) (U : State), s.WarmedH U.vm → w'.before a' U = true := pay_in hts (lw_meth hcode)
  have hK : Back l R p e below s args y 3 8 (PreOf R mc ms Pc) (PostOf Qc mc ms free) := back_of (bytes := bytes) (maxL := maxL) (ret := ret) hM hp.1 hrc hrs hfr hlo wd List.mem_cons_self (fun a' U hU => wd _ (List.mem_cons_of_mem _ hini) a' U hU)
  obtain ⟨-, ⟨cellB, hcB, hoB, hclB⟩, hPc⟩ := hp
  have hsel' : (Cond.landsInDefault C x y).before args s = true := by
    have e := Cond.landsInDefault_setVm (args := #[]) (args' := args) (s := s) (vm' := s.vm) (Vm.Alike.refl s.vm) (cls := C) (x := x) (y := y) rfl
    rw [show s.setVm s.vm = s from rfl] at e
    rw [e]; exact hsel
  intro T hT X1
  obtain ⟨v, vm₁, ⟨U', l2, c2, s2⟩, hW₁, X', ⟨g', mk, t, L, e1, e2, hq, h1, hL, h2, h3⟩, st⟩ := X1.virtualBackUpD hx (C := C) (owner := owner) (x := x) ho (va_any rfl hl) (va_any rfl hsame) hdecl howner hsel' (hts _ hinst) hK hclB ⟨cellB, by rw [hT]; exact hcB, rfl, hoB⟩ hg (hsize.trans hml.symm) (Steps.refl _) (argsL := As) (rest := rest)
    (fun sig h => by rw [h] at hlen; exact hn.trans (Option.some.inj hlen).symm) hstack hW (by rw [hb]; exact hdg) (fun vm₁ hW₁ => ⟨hf.1, hf.2, hPc (T.setVm vm₁) hT hW₁⟩)
  dsimp only [Pt.U, Pt.locs, Pt.cells, Pt.slots] at X' e1 e2 h1 h2 h3 st
  subst h1; subst h2; subst h3
  exact ⟨v, (T.setVm vm₁).calling g' mk (Value.ref b :: As).toArray, t, U', L, hT, X', hL, e1, e2, hq, fun target h => st.trans h⟩
