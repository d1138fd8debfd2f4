/-! A LAMBDA MADE: invokedynamic at a site that the VM has linked -/
theorem sh_site {cf : ClassFile} {index : Nat} {sh : Lambda.Shape} (h : Lambda.shapeOf? cf index = some sh) :
    ∃ (b nt : Nat) (desc : String) (site : MethodDescriptor), cf.constantPool[index]? = some (.invokeDynamic b nt) ∧ cf.constantPool.nameAndType? nt = some (sh.name, desc) ∧ parseMethodDescriptor desc = some site ∧ site.parameters = sh.captured := by
  unfold Lambda.shapeOf? at h
  generalize hx0 : cf.constantPool[index]? = x0 at h
  match x0, hx0, h with
  | some (.invokeDynamic b nt), hc, h =>
    obtain ⟨entries, -, h⟩ := Option.bind_eq_some_iff.mp h
    obtain ⟨bm, -, h⟩ := Option.bind_eq_some_iff.mp h
    generalize cf.constantPool[bm.bootstrapMethodRef]? = x1 at h
    match x1, h with
    | some (.methodHandle 6 r), h =>
      obtain ⟨_, -, h⟩ := Option.bind_eq_some_iff.mp h
      generalize bm.bootstrapArguments = arr at h
      obtain ⟨L⟩ := arr
      match L, h with
      | [], h => cases h
      | [_], h => cases h
      | [_, _], h => cases h
      | _ :: _ :: _ :: _ :: _, h => cases h
      | [a0, a1, a2], h =>
        replace h : ((match cf.constantPool[a0]? with | some (.methodType d0) => _ | _ => none) : Option Lambda.Shape) = some sh := h
        split at h
        next d0 _ =>
          split at h
          next kind r1 _ =>
            split at h
            next d2 _ =>
              obtain ⟨⟨name, desc⟩, hnt, h⟩ := Option.bind_eq_some_iff.mp h
              obtain ⟨site, hsite, h⟩ := Option.bind_eq_some_iff.mp h
              dsimp only at h
              split at h
              next iface _ =>
                obtain ⟨⟨implClass, implName, implDesc, implItf⟩, -, h⟩ := Option.bind_eq_some_iff.mp h
                obtain ⟨x1, -, h⟩ := Option.bind_eq_some_iff.mp h
                obtain ⟨x2, -, h⟩ := Option.bind_eq_some_iff.mp h
                obtain ⟨x3, -, h⟩ := Option.bind_eq_some_iff.mp h
                obtain ⟨x4, -, h⟩ := Option.bind_eq_some_iff.mp h
                obtain ⟨x5, -, h⟩ := Option.bind_eq_some_iff.mp h
                cases h
                exact ⟨b, nt, desc, site, by first | exact hc | rfl, hnt, hsite, rfl⟩
              all_goals cases h
            all_goals cases h
          all_goals cases h
        all_goals cases h
section GIN
variable {p : Program} {l : Launch} {e : Env} {R : Room} {s : State} {m : MethodId} {args : Array Value} {below : List Frame} {meth : Method} {c : Code} {H : Heap} {locs : List Loc} {cells slots : Nat} {Q : State → Prop}
variable {cc : ByteArray} {nL : Nat} {own : String} {pc : Nat} {ls : Array Slot} {rest : List Value} {D : va_G} {dA : Nat → ClassId} {A : Nat → Prop} {E : State → Prop} {a : Nat} {ws ws' : va_W}
theorem g_indy (X : gX p s m args c cc nL own D dA A E) (hsz : ls.size = nL) (hw : gW D A ws s H locs) {x : MethodName} (hnm : s.methodNamed? x = some m) {sh : Lambda.Shape} {cK : ClassId} {index : Nat} (hla : s.lambdaAt? x pc index sh = some (cK, none)) (hcap : sh.captured = [.int]) {nm : String} (hF : lmFa nm s.vm cK)
    (hR : (rest.map fun v => v.category).sum + 3073 ≤ R.locals) (hcells : cells + 1 ≤ R.cells) (hslots : slots + 1 ≤ R.slots) (hdg : decode cc pc = .ok (.invokedynamic index, 5))
    (kk : ∀ (q : Nat) (H1 : Heap), gW D A ((q, .inl (cK, 1, .inl (fun _ => 3))) :: ws) s H1 locs → W p l e R s m args below meth c H1 locs (cells + 1) (slots + 1) Q (F0 m (pc + 5) ls (.ref q :: rest))) : W p l e R s m args below meth c H locs cells slots Q (F0 m pc ls (.int 3 :: rest)) := by
  intro T hT X1
  obtain ⟨m', k, cf, i0, p0, l0, hm, hk, hcf, hsh, hin, hfind, hmade, hcan, hor⟩ := State.lambdaAt?_spec hla
  cases hm.symm.trans hnm
  obtain ⟨rfl, -, -⟩ := hor.resolve_left (fun ⟨a9, c9, h1, h2, _⟩ => by cases h2)
  obtain ⟨b, nt, desc, site, hc, hnt, hsite, hpar⟩ := sh_site hsh
  obtain ⟨kK, tk, file, methk, ck, toy, t0, g0, hkK, hkn, -, -, -, -, -, -, -, -, -, -, -, -, -, -, -, -, -, hty⟩ := hF
  obtain ⟨dk2, kk2, ok2, tk2, file2, cf2, ob2, if2, t2, lay2, ms2, tg2, fd2, q1, q2, q3, q4, q5, q6, q7, q8, q9, q10, q11, q12, q13, ⟨-, hkind, -⟩, -⟩ := Lambda.isMade_spec hmade
  cases hkK.symm.trans q2
  have hE : ((kK.instanceTypes.toList.zip [(.int 3 : Value)]).map fun (t, v) => narrow t v) = [.int 3] := by
    rw [hty]; simp [narrow]
  have hs1 : ls.size = c.maxLocals := by rw [X.1.2.2.1]; exact hsz
  obtain ⟨X', st⟩ := X1.lambdaMakes X.1.1 (g := F0 m pc ls (.int 3 :: rest)) rfl hs1 (by rw [X.1.2.1]; exact hdg) (vals := [.int 3]) (rest := rest) hk hfind hcf hc hnt (parseLong_of_parse hsite) (by rw [hpar, hcap]; rfl) rfl hkK
    (by rw [X1.admits.platform]; show 2 * 0 + (1 + (rest.map fun v => v.category).sum) + 3072 ≤ R.locals; omega) hcells (by rw [hE]; exact hslots)
    (fun i v hv => by
      rw [hE] at hv
      match i, hv with
      | 0, hv => simp at hv; subst hv; simp [State.fitsSlot, State.slotType?, hkK, hkind, hty, fits]
      | i + 1, hv => simp at hv)
  rw [hE] at X' st
  have hcell : ({ cls := cK, slots := [.int 3].toArray, vm := .none } : Cell) = arrV cK 1 (fun _ => .int 3) := by rfl
  rw [hcell] at X' st
  have hh : (T.pushCell (arrV cK 1 (fun _ => .int 3))).heap = H.push (arrV cK 1 (fun _ => .int 3)) := by rw [← hT]; rfl
  have hS := hw.2.2
  generalize hH1 : H.push (arrV cK 1 (fun _ => .int 3)) = H1 at hh
  have z1 : H1.size = H.size + 1 := by rw [← hH1, Array.size_push]
  have e1 : H1[H.size]? = some (arrV cK 1 (fun _ => .int 3)) := by rw [← hH1, Array.getElem?_push_size]
  have o1 : ∀ q : Nat, q < H.size → H1[q]? = H[q]? := fun q hq => by rw [← hH1, Array.getElem?_push, if_neg (Nat.ne_of_lt hq)]
  have hk2 : ∀ (k : Nat) (x : Nat × va_E), ws[k]? = some x → H1[x.1]? = H[x.1]? := fun k x hx => o1 x.1 ((hw.1 k x hx).lt)
  have p1 : va_P D gC (ws ++ [(H.size, .inl (cK, 1, .inl (fun _ => 3)))]) H1 := (hw.1.kept hk2).app (fun k x hx => by
    have hz : k < 1 := (List.getElem?_eq_some_iff.mp hx).1
    rw [show k = 0 by omega] at hx
    cases hx
    exact e1)
  have p2 : va_D A (ws ++ [(H.size, .inl (cK, 1, .inl (fun _ => 3)))]) := hw.2.1.push hw.1 rfl (X.2.2.2.2 _ hS.1)
  obtain ⟨p1, p2⟩ := g_front p1 p2
  obtain ⟨t, a1, b1⟩ := kk H.size H1 ⟨p1, p2, ⟨Nat.le_trans hS.1 (by omega), fun x h1 h2 => (o1 x (Nat.lt_of_lt_of_le h1 hS.1)).trans (hS.2.1 x h1 h2), hS.2.2⟩⟩ _ hh X'
  exact ⟨t, st t (by rw [hT]; exact a1), b1⟩
end GIN
