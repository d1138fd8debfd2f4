/-! PURE 4: what the parts of a church compute -/
def dpL (lw : Int32) (j q : Nat) : Int32 := nI (9 + (11 * j + 7 * q) % 30) - lw
theorem dpL_eq {lw : Int32} {j q : Nat} (hj : j < 1000) (hq : q < 1000) : 9 + (nI (11 * j + 7 * q) - nI (11 * j + 7 * q) / 30 * 30) - lw = dpL lw j q := depth_eq (g := fun _ => lw) hj hq
theorem dpL_g {g : gG} {j q : Nat} : depthI g j q = dpL (g (20 + j)) j q := rfl
def ledV (j : Nat) (lp lq lw lc lr ld w : Int32) : Int32 := if w = 0 then heightI j else if w = 1 then lp else if w = 2 then lq else if w = 3 then lw else if w = 4 then lc else if w = 5 then lr else if w = 6 then ld else -12
def bearI (j : Nat) : Int32 := 120 - 3 * heightI j / 2
def runsI (ra sp : Int32) : Int32 := if 3 * sp < 10 * ra then 3 * sp else 10 * ra
def hardN (lq lh ra : Int32) : Int32 := if lq = 0 then (if ra < 5 then lh else if lh + 1 = 8 then 0 else lh + 1) else lh
def wornN (lq lh lw ra : Int32) : Int32 := if lq = 0 then (if ra < 5 then lw else if lh + 1 = 8 then (if lw + 1 < 9 then lw + 1 else 9) else lw) else lw
def dayL (lp lq : Int32) : Int32 := if lp + (if lq = 1 then 2 else 1) < 9 then lp + (if lq = 1 then 2 else 1) else 9
def hourC (ho ra : Int32) : Int32 := if ho = 4 then ho else if 0 < ra then 0 else ho + 1
def casV (le ho co w : Int32) : Int32 := if w = 0 then le else if w = 1 then (if ho = 4 then 1 else 0) else if w = 2 then ho else if w = 3 then co else -12
def blunt (mw d : Int32) : Int32 := if mw + (if 30 < d then 2 else 1) < 20 then mw + (if 30 < d then 2 else 1) else 20
def cpyV (mh mw mt mq mn w : Int32) : Int32 := if w = 0 then mh else if w = 1 then mw else if w = 2 then 600 - mt else if w = 3 then mq else if w = 4 then mn else -12
def cutL (f : gG) : Nat → Int32
  | 0 => 0
  | i + 1 => cutL f i + (if f i = -1 then 0 else 1)
def rightL (f d : gG) : Nat → Int32
  | 0 => 0
  | i + 1 => rightL f d i + (if f i = -1 then 0 else if f i - d i = 0 then 1 else 0)
def absI (x : Int32) : Int32 := if 0 ≤ x then x else 0 - x
def wrL (f d : gG) : Nat → Int32
  | 0 => 0
  | i + 1 => wrL f d i + (if f i = -1 then 0 else absI (f i - d i))
def greatL (f d : gG) : Nat → Int32
  | 0 => 0
  | i + 1 => if f i = -1 then greatL f d i else greatL f d i + (if 0 < f i - d i then f i - d i else 0)
def smallL (f d : gG) : Nat → Int32
  | 0 => 0
  | i + 1 => if f i = -1 then smallL f d i else smallL f d i + (if f i - d i < 0 then f i - d i else 0)
def sumP (f : gG) : Nat → Int32
  | 0 => 0
  | i + 1 => sumP f i + (if 0 < f i then f i else 0)
def notCutL (f : gG) : Nat → Nat → Nat
  | 0, q => q
  | n + 1, q => if q < 10 ∧ ¬ f q = -1 then notCutL f n (q + 1) else q
def notCut (f : gG) : Nat := notCutL f 10 0
theorem notCut_go {f : gG} {i : Nat} (h : i < 10) (hg : ¬ f i = -1) : notCutL f (10 - i) i = notCutL f (10 - (i + 1)) (i + 1) := by
  rw [show 10 - i = (10 - (i + 1)) + 1 by omega]
  show (if i < 10 ∧ ¬ f i = -1 then _ else _) = _
  rw [if_pos ⟨h, hg⟩]
theorem notCut_st {f : gG} {i : Nat} (h : i < 10) (hg : f i = -1) : notCutL f (10 - i) i = i := by
  rw [show 10 - i = (10 - (i + 1)) + 1 by omega]
  show (if i < 10 ∧ ¬ f i = -1 then _ else _) = _
  rw [if_neg (fun q => q.2 hg)]
def fillL (f : gG) (i : Nat) : gG := fun k => if k < i then f k else 0
theorem fillL_0 {f : gG} : fillL f 0 = fun _ => 0 := by funext k; simp [fillL]
theorem fillL_s {f : gG} {i : Nat} : upd (fillL f i) i (f i) = fillL f (i + 1) := by
  funext k
  by_cases e : k = i
  · subst e; rw [upd_s]; simp [fillL]
  · rw [upd_n e]
    unfold fillL
    by_cases e2 : k < i
    · rw [if_pos e2, if_pos (by omega)]
    · rw [if_neg e2, if_neg (by omega)]
theorem fillL_n {f : gG} {n : Nat} : ∀ k, k < n → fillL f n k = f k := fun k hk => if_pos hk
section GP4
variable {p : Program} {l : Launch} {e : Env} {R : Room} {s : State} {m : MethodId} {args : Array Value} {below : List Frame} {meth : Method} {c : Code} {H : Heap} {locs : List Loc} {cells slots : Nat} {Q : State → Prop}
variable {cc : ByteArray} {nL : Nat} {own : String} {pc : Nat} {ls : Array Slot} {rest : List Value} {D : va_G} {dA : Nat → ClassId} {A : Nat → Prop} {E : State → Prop} {a : Nat} {ws ws' : va_W}
theorem g_copyI (X : gX p s m args c cc nL own D dA A E) (hsz : ls.size = nL) (hw : gW D A ws s H locs) {index : Nat} (hl : Cond.methodLink own index arraycopyName ∈ lw_all) (hnat : Cond.native arraycopyName ∈ lw_all) (hstat : Cond.static arraycopyName ∈ lw_all) (hini : Cond.initialized "java/lang/System" ∈ lw_all)
    {b0 n0 : Nat} {f : gG} (hX : gT0 .int b0 n0 f s H) (q1 : Nat) {n1 : Nat} {g : gG} (ha1 : ws[q1]? = some (a, .inl (dA 0, n1, .inl g))) {sp dp n : Nat} (h4 : sp + n ≤ n0) (h5 : dp + n ≤ n1) (h6 : n0 < 2 ^ 31) (h7 : n1 < 2 ^ 31)
    (hframes : 1 ≤ R.frames) (hlocals : (rest.map fun v => v.category).sum + (nativeFrameWords "java/lang/System" "arraycopy" 5 + 11) ≤ R.locals) (ew : ws.set q1 (a, .inl (dA 0, n1, .inl (va_cpy f g sp dp n))) = ws') (hdg : decode cc pc = .ok (.invokestatic index, 3))
    (kk : ∀ (H1 : Heap) (locs1 : List Loc), gW D A ws' s H1 locs1 → W p l e R s m args below meth c H1 locs1 cells slots Q (F0 m (pc + 3) ls rest)) : W p l e R s m args below meth c H locs cells slots Q (F0 m pc ls (.int (nI n) :: .int (nI dp) :: .ref a :: .int (nI sp) :: .ref b0 :: rest)) := by
  subst ew
  have cs : (nI sp).toNatClampNeg = sp := nI_clamp (by omega)
  have cd : (nI dp).toNatClampNeg = dp := nI_clamp (by omega)
  have cn : (nI n).toNatClampNeg = n := nI_clamp (by omega)
  intro T hT X1
  obtain ⟨scr, hc0, hs2, hs3, hs4, -, hs5⟩ := hX
  have hc1 : H[a]? = some (vp_cell (dA 0) (n1, .inl g)) := hw.1 q1 _ ha1
  obtain ⟨hs6, k0, hk0, cm0, hkk0⟩ := hs2
  obtain ⟨-, k1, hk1, cm1, hkk1⟩ := (X.2.1.2 0 (dA 0, .int) rfl).1 n1 (fun j => .int (g j))
  obtain ⟨vm', X', step⟩ := X1.arraycopy X.1.1 X.1.2.2.2.1 (X.1.2.2.2.2 _ hl) (X.1.2.2.2.2 _ hnat) (X.1.2.2.2.2 _ hstat) (X.1.2.2.2.2 _ hini) (src := b0) (dst := a) (cs := scr) (cd := vp_cell (dA 0) (n1, .inl g)) (srcPos := nI sp) (destPos := nI dp) (n := nI n) (by rw [hT]; exact hc0) (by rw [hT]; exact hc1)
    hs6 (fun _ h => by cases h) hs3 (fun h => by cases h) hk0 hk1 hkk0 hkk1 (by simp [refKind]) (nI_pos (by omega)) (nI_pos (by omega)) (nI_pos (by omega))
    (by rw [nI_toInt (by omega), nI_toInt (by omega)]; omega)
    (by rw [nI_toInt (by omega), nI_toInt (by omega)]; show ¬ _ > ((arrV (dA 0) n1 (fun j => .int (g j))).slots.size : Int); rw [arrV_size]; omega)
    (fun vm₁ _ i hi => by
      rw [cn] at hi
      have e : scr.slots.getD ((nI sp).toNatClampNeg + i) .null = .int (f (sp + i)) := by
        rw [cs, Array.getD_eq_getD_getElem?, hs5 _ (by omega)]
        rfl
      refine ⟨?_, ?_⟩
      · rw [e]
        rfl
      · rw [e]
        exact trivial)
    (g := F0 m pc ls (.int (nI n) :: .int (nI dp) :: .ref a :: .int (nI sp) :: .ref b0 :: rest)) rfl (by rw [X.1.2.2.1]; exact hsz) (rest := rest) rfl (by rw [X.1.2.1]; exact hdg) hframes (by show 2 * 0 + _ + _ ≤ _; omega)
  have e1 : copied scr (vp_cell (dA 0) (n1, .inl g)) (nI sp) (nI dp) (nI n) = vp_cell (dA 0) (n1, .inl (va_cpy f g (nI sp).toNatClampNeg (nI dp).toNatClampNeg (nI n).toNatClampNeg)) := va_copiedX (fun z => .int z) scr (dA 0) f g hs5 (by rw [cs, cn]; omega)
  rw [cs, cd, cn] at e1
  rw [e1] at X' step
  have hl' : a < H.size := (Array.getElem?_eq_some_iff.mp hc1).1
  have hheap : ((T.setVm vm').setCell a (vp_cell (dA 0) (n1, .inl (va_cpy f g sp dp n)))).heap = H.setIfInBounds a (vp_cell (dA 0) (n1, .inl (va_cpy f g sp dp n))) := by rw [← hT]; rfl
  have oq : ∀ q : Nat, q ≠ a → (H.setIfInBounds a (vp_cell (dA 0) (n1, .inl (va_cpy f g sp dp n))))[q]? = H[q]? := fun q hq => by simp [Array.getElem?_setIfInBounds, Ne.symm hq]
  obtain ⟨t, a1, b1⟩ := kk _ _ ⟨hw.1.set hw.2.1 ha1 (show (H.setIfInBounds a _)[a]? = some _ by simp [Array.getElem?_setIfInBounds, hl']) oq, hw.2.1.set ha1, ⟨by simp; exact hw.2.2.1, fun q g1 g2 => by
      rw [oq q (fun e => g2 (by rw [e]; exact hw.2.1.2 q1 _ ha1))]
      exact hw.2.2.2.1 q g1 g2, fun q hq => by
      rcases List.mem_append.mp hq with h | h
      · exact hw.2.2.2.2 q h
      · obtain ⟨z, -, hz⟩ := List.mem_map.mp h
        rw [← hz]
        exact hw.2.1.2 q1 _ ha1⟩⟩ _ hheap X'
  exact ⟨t, step t a1, b1⟩
end GP4
theorem cpy10 {f g : gG} : ∀ k, k < 10 → va_cpy f g 0 0 10 k = f k := by
  intro k hk
  simp only [va_cpy]
  rw [if_pos (by omega)]
  simp
