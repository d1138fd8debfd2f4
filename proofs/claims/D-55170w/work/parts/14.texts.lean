/-! TEXTS, in plain Lean -/
def txEq (f : gG) (n : Nat) (g : gG) (m : Nat) : Bool := decide (n = m) && (List.range n).all (fun k => decide (f k = g k))
theorem txEq_iff {f g : gG} {n m : Nat} : txEq f n g m = true ↔ n = m ∧ ∀ k, k < n → f k = g k := by
  simp [txEq, List.all_eq_true]
theorem txEq_t {f g : gG} {n m : Nat} (h : n = m) (e : ∀ k, k < n → f k = g k) : bZ (txEq f n g m) = 1 := by
  rw [txEq_iff.mpr ⟨h, e⟩]; rfl
theorem txEq_f {f g : gG} {n m i : Nat} (hi : i < n) (e : ¬ f i = g i) : bZ (txEq f n g m) = 0 := by
  have : txEq f n g m = false := by
    cases hb : txEq f n g m with
    | false => rfl
    | true => exact absurd ((txEq_iff.mp hb).2 i hi) e
  rw [this]; rfl
theorem txEq_n {f g : gG} {n m : Nat} (h : ¬ n = m) : bZ (txEq f n g m) = 0 := by
  have : txEq f n g m = false := by
    cases hb : txEq f n g m with
    | false => rfl
    | true => exact absurd (txEq_iff.mp hb).1 h
  rw [this]; rfl
theorem chr_k : ∀ c, c < 128 → ((nI c &&& 255).toUInt32 % 65536).toInt32 = nI c ∧ narrow .char (.int (nI c)) = .int (nI c) ∧ fits .byte (.int (nI c)) = true ∧ (nI c).toInt8.toInt32 = nI c ∧ vp_nar .byte (nI c) = nI c ∧ narrow .byte (.int (nI c)) = .int (nI c) := by decide +kernel
theorem asc_chr {f : gG} {n i : Nat} (h : gAsc f n) (hi : i < n) : ((f i &&& 255).toUInt32 % 65536).toInt32 = f i := by
  obtain ⟨c, hc, e⟩ := h i hi
  rw [e]; exact (chr_k c hc).1
theorem asc_nar2 {f : gG} {n i : Nat} (h : gAsc f n) (hi : i < n) : narrow .char (.int (f i)) = .int (f i) := by
  obtain ⟨c, hc, e⟩ := h i hi
  rw [e]; exact (chr_k c hc).2.1
theorem asc_nar {f : gG} {n i : Nat} (h : gAsc f n) (hi : i < n) : narrow .char (.int ((f i &&& 255).toUInt32 % 65536).toInt32) = .int ((f i &&& 255).toUInt32 % 65536).toInt32 := by
  rw [asc_chr h hi]; exact asc_nar2 h hi
theorem asc_fit {f : gG} {n i : Nat} (h : gAsc f n) (hi : i < n) : fits .byte (.int (f i)) = true := by
  obtain ⟨c, hc, e⟩ := h i hi
  rw [e]; exact (chr_k c hc).2.2.1
theorem nI_max {a b : Nat} (ha : a < 2 ^ 31) (hb : b < 2 ^ 31) : (if nI a < nI b then nI b else nI a) = nI (max a b) := by
  by_cases h : a < b
  · rw [if_pos (nI_lt h hb), Nat.max_eq_right (by omega)]
  · rw [if_neg (nI_nlt (by omega) ha), Nat.max_eq_left (by omega)]
theorem nI_min {a b : Nat} (ha : a < 2 ^ 31) (hb : b < 2 ^ 31) : (if nI b < nI a then nI b else nI a) = nI (min a b) := by
  by_cases h : b < a
  · rw [if_pos (nI_lt h ha), Nat.min_eq_right (by omega)]
  · rw [if_neg (nI_nlt (by omega) hb), Nat.min_eq_left (by omega)]
theorem nsub_pos {a b : Nat} (ha : a < 2 ^ 30) (hb : b < 2 ^ 30) : 0 < nI a - nI b ↔ b < a := by
  rw [Int32.lt_iff_toInt_lt, pk_sub_toInt ha hb]
  have e0 : (0 : Int32).toInt = 0 := by decide
  rw [e0]; omega
theorem asc_cpy {f g : gG} {m a b k : Nat} (hf : ∀ i, i < k → ∃ c, c < 128 ∧ f (a + i) = nI c) (hg : gAsc g m) : gAsc (va_cpy f g a b k) m := by
  intro j hj
  simp only [va_cpy]
  by_cases h : b ≤ j ∧ j < b + k
  · rw [if_pos h]; exact hf _ (by omega)
  · rw [if_neg h]; exact hg j hj
theorem asc_0 {m : Nat} : gAsc (fun _ => 0) m := fun _ _ => ⟨0, by decide, rfl⟩
theorem asc_upd {f : gG} {m k c : Nat} (hf : gAsc f m) (hc : c < 128) : gAsc (upd f k (nI c)) m := by
  intro j hj
  by_cases h : j = k
  · rw [h, upd_s]; exact ⟨c, hc, rfl⟩
  · rw [upd_n h]; exact hf j hj
theorem asc_le {f : gG} {m n : Nat} (hf : gAsc f m) (h : n ≤ m) : gAsc f n := fun k hk => hf k (by omega)
theorem chr_b {c : Nat} (h : c < 128) : vp_nar .byte (nI c).toInt8.toInt32 = nI c := by
  have := chr_k c h
  rw [this.2.2.2.1, this.2.2.2.2.1]
theorem cpy_lo {f g : gG} {n k : Nat} (h : k < n) : va_cpy f g 0 0 n k = f k := by
  simp only [va_cpy]
  rw [if_pos (by omega)]
  simp
section GR4
variable {p : Program} {l : Launch} {e : Env} {R : Room} {s : State} {m : MethodId} {args : Array Value} {below : List Frame} {meth : Method} {c : Code} {H : Heap} {locs : List Loc} {cells slots : Nat} {Q : State → Prop}
variable {cc : ByteArray} {nL : Nat} {own : String} {pc : Nat} {ls : Array Slot} {rest : List Value} {D : va_G} {dA : Nat → ClassId} {A : Nat → Prop} {E : State → Prop} {a : Nat} {ws ws' : va_W}
theorem g_cloneB (X : gX p s m args c cc nL own D dA A E) (hsz : ls.size = nL) (hw : gW D A ws s H locs) {index : Nat} (hl : Cond.methodLink own index ⟨"[B", "clone", "()Ljava/lang/Object;"⟩ ∈ lw_all) (q0 : Nat) {n : Nat} {f : gG} (ha : ws[q0]? = some (a, .inl (dA 2, n, .inl f))) (hf : ∀ i, i < n → fits .byte (.int (f i)) = true)
    (hframes : 1 ≤ R.frames) (hlocals : (rest.map fun v => v.category).sum + 14 ≤ R.locals) (hcells : cells + 1 ≤ R.cells) (hslots : slots + n ≤ R.slots) (hdg : decode cc pc = .ok (.invokevirtual index, 3))
    (kk : ∀ (q : Nat) (H1 : Heap), gW D A ((q, .inl (dA 2, n, .inl f)) :: ws) s H1 locs → W p l e R s m args below meth c H1 locs (cells + 1) (slots + n) Q (F0 m (pc + 3) ls (.ref q :: rest))) : W p l e R s m args below meth c H locs cells slots Q (F0 m pc ls (.ref a :: rest)) := by
  refine va_clone X.1.1 X.1.2.1 (by rw [X.1.2.2.1, hsz]) X.1.2.2.2.1 (X.1.2.2.2.2 _ hl) (X.1.2.2.2.2 _ q1115) (X.1.2.2.2.2 _ q1116) (X.1.2.2.2.2 _ q1117) (X.1.2.2.2.2 _ q1118) (X.2.2.1.nw q1119 rfl) X.2.1 hw.1 hw.2.1 hw.2.2 X.2.2.2.2 q0 2 (ty := .byte) ha rfl (X.2.1.2 2 (dA 2, .byte) rfl).2 (fun i v hv => va_fit (F := fun j => .int (f j)) hf i v hv) hframes hlocals hcells hslots hdg (fun q H1 hK h1 h2 h3 => ?_)
  obtain ⟨h1, h2⟩ := g_front h1 h2
  exact kk q H1 ⟨h1, h2, h3⟩
theorem g_castB (X : gX p s m args c cc nL own D dA A E) (hw : gW D A ws s H locs) {index : Nat} (hl : Cond.classLink own index "[B" ∈ lw_all) (q0 : Nat) {x : vp_A} (ha : ws[q0]? = some (a, .inl (dA 2, x))) (hdg : decode cc pc = .ok (.checkcast index, 3))
    (kk : W p l e R s m args below meth c H locs cells slots Q (F0 m (pc + 3) ls (.ref a :: rest))) : W p l e R s m args below meth c H locs cells slots Q (F0 m pc ls (.ref a :: rest)) :=
  va_castA X.1.1 X.1.2.1 X.1.2.2.2.1 (X.1.2.2.2.2 _ hl) hw.1 q0 ha (X.2.1.2 2 (dA 2, .byte) rfl).2 hdg kk
end GR4
theorem nI_dec {n : Nat} : nI (n + 1) + (-1) = nI n := by
  rw [show (-1 : Int32) = -(1 : Int32) from rfl, ← Int32.sub_eq_add_neg, ← nI_add n 1]
  exact Int32.add_sub_cancel _ _
theorem nI_negd : ∀ d, d < 10 → (¬ (-(nI d)) ≤ (-10) ∧ (-100) < -(nI d) ∧ (-9) ≤ -(nI d) ∧ vp_nar .byte (gDig d) = nI (48 + d)) := by decide +kernel
theorem gS0.same {a b n b' n' : Nat} {f f' : gG} {U : State} {H : Heap} (h : gS0 a b n f U H) (h' : gS0 a b' n' f' U H) (hn : n ≤ 1000) (hn' : n' ≤ 1000) : n = n' ∧ ∀ k, k < n → f k = f' k := by
  obtain ⟨-, -, ⟨cf, k, i, fd, cell, a1, -, a3, -, a5⟩, c1, b1, -, -, -, b5, b6⟩ := h
  obtain ⟨-, -, ⟨cf', k', i', fd', cell', a1', -, a3', -, a5'⟩, c1', b1', -, -, -, b5', b6'⟩ := h'
  rw [a1] at a1'; cases a1'
  rw [a3] at a3'; cases a3'
  rw [a5] at a5'; cases a5'
  rw [b1] at b1'; cases b1'
  have e : n = n' := by
    have := b5.symm.trans b5'
    exact (nI_eq (a := n) (b := n') (by omega) (by omega)).mp this
  subst e
  refine ⟨rfl, fun j hj => ?_⟩
  have := (b6 j hj).symm.trans (b6' j hj)
  injection this with q
  injection q
theorem txEq_c {f g f' g' : gG} {n m : Nat} (h : ∀ k, k < n → f k = f' k) (h2 : ∀ k, k < m → g k = g' k) : txEq f n g m = txEq f' n g' m := by
  by_cases e : n = m
  · subst e
    apply Bool.eq_iff_iff.mpr
    rw [txEq_iff, txEq_iff]
    constructor
    · exact fun ⟨a, b⟩ => ⟨a, fun k hk => (h k hk).symm.trans ((b k hk).trans (h2 k hk))⟩
    · exact fun ⟨a, b⟩ => ⟨a, fun k hk => (h k hk).trans ((b k hk).trans (h2 k hk).symm)⟩
  · simp [txEq, e]
def txPre (f : gG) (n : Nat) (g : gG) (m : Nat) : Bool := decide (m ≤ n) && (List.range m).all (fun k => decide (f k = g k))
theorem txPre_iff {f g : gG} {n m : Nat} : txPre f n g m = true ↔ m ≤ n ∧ ∀ k, k < m → f k = g k := by
  simp [txPre, List.all_eq_true]
theorem bZ_iff {b : Bool} {P : Prop} (h : b = true ↔ P) : (P → (1 : Int32) = bZ b) ∧ (¬ P → (0 : Int32) = bZ b) := by
  cases b with
  | true => exact ⟨fun _ => rfl, fun q => absurd (h.mp rfl) q⟩
  | false => exact ⟨fun q => absurd (h.mpr q) (by decide), fun _ => rfl⟩
