/-! PURE 14: letters and lines -/
theorem chr_i2c : ∀ c, c < 127 → ((nI c).toUInt32 % 65536).toInt32 = nI c := by decide +kernel
theorem chC_nI : ∀ c, c < 127 → chC (nI c) = nI c := by decide +kernel
theorem inR_ch {v : Int32} (h : inR v 32 126 = true) : ∃ c, c < 127 ∧ v = nI c := by
  refine (inR_k 127 (hi := 126) (by decide) (by decide)).mp ?_
  simp only [inR, Bool.and_eq_true, Bool.not_eq_true', decide_eq_false_iff_not] at h ⊢
  refine ⟨fun q => h.1 ?_, h.2⟩
  rw [Int32.lt_iff_toInt_lt] at q ⊢
  have e : (0 : Int32).toInt = 0 := by decide
  have e2 : (32 : Int32).toInt = 32 := by decide
  rw [e] at q; rw [e2]; omega
/-- the component's line, as its own text -/
def apQ (tb tc tn : Nat) (tf : gG) (v r : Int32) (u : Nat × Nat × Nat × gG) : Prop :=
  (¬ inR v 32 126 = true → r = -12 ∧ u = (tb, tc, tn, tf)) ∧ (inR v 32 126 = true → tn = 60 → r = -13 ∧ u = (tb, tc, tn, tf)) ∧
  (inR v 32 126 = true → ¬ tn = 60 → r = nI (tn + 1) ∧ u.2.2.1 = tn + 1 ∧ tn + 1 ≤ u.2.1 ∧ u.2.1 ≤ 262 ∧ gAsc u.2.2.2 u.2.1 ∧ (∀ k, k < tn → u.2.2.2 k = tf k) ∧ u.2.2.2 tn = v)
theorem putL_in {lf f : gG} {n : Nat} : ∀ (m : Nat) {k : Nat}, n ≤ k → k < n + m → putL lf n f m k = chC (f (k - n))
  | 0, k, h1, h2 => absurd h2 (by omega)
  | m + 1, k, h1, h2 => by
    show upd (putL lf n f m) (n + m) (chC (f m)) k = _
    by_cases e : k = n + m
    · subst e; rw [upd_s, show n + m - n = m by omega]
    · rw [upd_n e]; exact putL_in m h1 (by omega)
theorem putL_out {lf f : gG} {n : Nat} : ∀ (m : Nat) {k : Nat}, (k < n ∨ n + m ≤ k) → putL lf n f m k = lf k
  | 0, k, h => rfl
  | m + 1, k, h => by
    show upd (putL lf n f m) (n + m) (chC (f m)) k = _
    rw [upd_n (by omega)]; exact putL_out m (by omega)
theorem markL_in {g lf : gG} {c : Nat} : ∀ (m : Nat) {k : Nat}, 10 ≤ k → k < 10 + m → markL g c lf m k = chC (markI (g (229 + 10 * c + (k - 10))) (g (91 + 10 * nn g (213 + c) + (k - 10))))
  | 0, k, h1, h2 => absurd h2 (by omega)
  | m + 1, k, h1, h2 => by
    show upd (markL g c lf m) (10 + m) _ k = _
    by_cases e : k = 10 + m
    · subst e; rw [upd_s, show 10 + m - 10 = m by omega]
    · rw [upd_n e]; exact markL_in m h1 (by omega)
theorem markL_out {g lf : gG} {c : Nat} : ∀ (m : Nat) {k : Nat}, (k < 10 ∨ 10 + m ≤ k) → markL g c lf m k = lf k
  | 0, k, h => rfl
  | m + 1, k, h => by
    show upd (markL g c lf m) (10 + m) _ k = _
    rw [upd_n (by omega)]; exact markL_out m (by omega)
theorem chC_gB : ∀ i, i < 16 → ∀ k, k < 8 → chC (gByt i k) = gByt i k := by decide +kernel
theorem tellL_at {g lf : gG} : ∀ (m : Nat) {i : Nat}, i < m → tellL g lf m (2 * i) = chC (stC (g (14 + i))) ∧ tellL g lf m (2 * i + 1) = chC (48 + g (8 + i))
  | 0, i, h => absurd h (Nat.not_lt_zero i)
  | m + 1, i, h => by
    show upd (upd (tellL g lf m) (2 * m) (chC (stC (g (14 + m))))) (2 * m + 1) (chC (48 + g (8 + m))) (2 * i) = _ ∧ upd (upd (tellL g lf m) (2 * m) (chC (stC (g (14 + m))))) (2 * m + 1) (chC (48 + g (8 + m))) (2 * i + 1) = _
    by_cases e : i = m
    · subst e; exact ⟨by rw [upd_n (by omega), upd_s], upd_s⟩
    · have ih := tellL_at (g := g) (lf := lf) m (i := i) (by omega)
      exact ⟨by rw [upd_n (by omega), upd_n (by omega)]; exact ih.1, by rw [upd_n (by omega), upd_n (by omega)]; exact ih.2⟩
theorem line_lt {g lf : gG} (h : gJ g) {k : Nat} (hk : k < 12) : ltT g k = tellL g lf 6 k := by
  have hi : k / 2 < 6 := by omega
  have t := tellL_at (g := g) (lf := lf) 6 hi
  obtain ⟨d, hd, e⟩ := h.a1 (k / 2) hi
  by_cases q : k % 2 = 0
  · have e2 : k = 2 * (k / 2) := by omega
    unfold ltT
    rw [if_pos q]
    rw [e2] at t ⊢
    rw [show 2 * (k / 2) / 2 = k / 2 by omega] at *
    refine Eq.trans ?_ t.1.symm
    unfold stC
    split
    · decide
    · split <;> decide
  · have e2 : k = 2 * (k / 2) + 1 := by omega
    have e3 : ltT g k = 48 + g (8 + k / 2) := by unfold ltT; rw [if_neg q]
    rw [e3]
    have t2 := t.2
    rw [← e2] at t2
    rw [t2, e, show (48 : Int32) = nI 48 from rfl, nI_add, chC_nI _ (by omega)]
theorem mark_b : ∀ a, a < 46 → ∀ b, b < 46 → cmark (nI b) (nI a) = chC (markI (nI b) (nI a)) := by decide +kernel
theorem line_cp {g lf : gG} (h : gJ g) (hK : gK g) {j : Nat} (hj : j < nn g 212) {n : Nat} (hn : n = if g (221 + j) = 0 then 20 else 21) {k : Nat} (hk : k < n) : cpT j (nn g (213 + j)) (d10 g (229 + 10 * j)) (d10 g (91 + 10 * nn g (213 + j))) k = tellF g j lf k := by
  have hj8 : j < 8 := by have := h.i.k.2; omega
  have hc := (h.i.kc hj).2
  have hc10 : nn g (213 + j) < 10 := by have := h.i.c.2; omega
  have hn21 : n ≤ 21 := by rw [hn]; split <;> omega
  unfold tellF
  by_cases c20 : k = 20
  · subst c20
    have hu : ¬ g (221 + j) = 0 := by intro q; rw [if_pos q] at hn; omega
    have hu1 : g (221 + j) = 1 := by
      have := up_v h hj8; rw [if_neg hu] at this; exact this.symm
    rw [if_pos hu1, if_pos hu1, putL_in 1 (by omega) (by omega), cpT_e]
    decide
  · rw [putL_out _ (by split <;> omega)]
    by_cases c10 : 10 ≤ k
    · rw [markL_in 10 c10 (by omega)]
      have hq : k - 10 < 10 := by omega
      have hm : cpT j (nn g (213 + j)) (d10 g (229 + 10 * j)) (d10 g (91 + 10 * nn g (213 + j))) k = cmark (d10 g (229 + 10 * j) (k - 10)) (d10 g (91 + 10 * nn g (213 + j)) (k - 10)) := by
        have z := cpT_m (c0 := j) (c1 := nn g (213 + j)) (kf := d10 g (229 + 10 * j)) (df := d10 g (91 + 10 * nn g (213 + j))) hq
        rw [show 10 + (k - 10) = k by omega] at z; exact z
      rw [hm, d10_at hq, d10_at hq]
      obtain ⟨a, ha, ea⟩ := hK.1 _ hc _ hq
      rcases hK.2.2 j hj _ hq with c1 | ⟨b, hb, eb⟩
      · rw [c1]; unfold cmark markI; rw [if_pos rfl, if_pos (by decide)]; decide
      · rw [ea, eb]
        exact mark_b a (by omega) b (by omega)
    · rw [markL_out 10 (by omega)]
      by_cases c8 : 8 ≤ k
      · rw [putL_in 2 c8 (by omega)]
        have z := cpT_b (c0 := j) (c1 := nn g (213 + j)) (kf := d10 g (229 + 10 * j)) (df := d10 g (91 + 10 * nn g (213 + j))) (k := k - 8) (by omega)
        rw [show 8 + (k - 8) = k by omega] at z
        rw [z, chC_gB 14 (by omega) _ (by omega)]
      · rw [putL_out 2 (by omega)]
        by_cases c7 : k = 7
        · subst c7; rw [upd_s, cpT_7, chC_nI _ (by omega)]
        · rw [upd_n (by omega)]
          by_cases c6 : k = 6
          · subst c6; rw [upd_s, cpT_6]; decide
          · rw [upd_n (by omega)]
            by_cases c5 : k = 5
            · subst c5; rw [upd_s, cpT_5, chC_nI _ (by omega)]
            · rw [upd_n (by omega), putL_in 5 (by omega) (by omega), cpT_a (by omega), Nat.sub_zero, chC_gB 13 (by omega) _ (by omega)]

/-- a text of one's own -/
def lineW (dA : Nat → ClassId) (lm lb n : Nat) (f : gG) : va_W := [(lm, .inr (17, [.ref lb, .int 0, .int 0, .int 0])), (lb, .inl (dA 2, n, .inl f))]
def tellQ (dA : Nat → ClassId) (g : gG) (lm : Nat) (v r : Int32) (u : Nat × Nat × Nat × gG × va_W) : Prop :=
  (¬ inR v 0 (g 212 - 1) = true → r = -11 ∧ u = (lm, 0, 0, fun _ => 0, [])) ∧
  (inR v 0 (g 212 - 1) = true → r = nI u.2.2.1 ∧ u.2.2.1 = (if g (221 + v.toNatClampNeg) = 0 then 20 else 21) ∧ gAsc u.2.2.2.1 u.2.2.1 ∧ (∀ k, k < u.2.2.1 → u.2.2.2.1 k = cpT v.toNatClampNeg (nn g (213 + v.toNatClampNeg)) (d10 g (229 + 10 * v.toNatClampNeg)) (d10 g (91 + 10 * nn g (213 + v.toNatClampNeg))) k) ∧ u.2.2.2.2 = lineW dA u.1 u.2.1 u.2.2.1 u.2.2.2.1)
