/-! PURE 8: what the orders of a church write -/
theorem castLoop_at {g : gG} {j n : Nat} : ∀ (i q : Nat), q < i → castLoop g j n i (91 + 10 * n + q) = depthI g j q
  | 0, _, h => absurd h (Nat.not_lt_zero _)
  | i + 1, q, h => by
    show upd (castLoop g j n i) (91 + 10 * n + i) (depthI g j i) (91 + 10 * n + q) = _
    by_cases e : q = i
    · subst e; exact upd_s
    · rw [upd_n (by omega)]; exact castLoop_at i q (by omega)
theorem beginLoop_at {g : gG} {n : Nat} : ∀ (i q : Nat), q < i → beginLoop g n i (229 + 10 * n + q) = -1
  | 0, _, h => absurd h (Nat.not_lt_zero _)
  | i + 1, q, h => by
    show upd (beginLoop g n i) (229 + 10 * n + i) (-1) (229 + 10 * n + q) = _
    by_cases e : q = i
    · subst e; exact upd_s
    · rw [upd_n (by omega)]; exact beginLoop_at i q (by omega)
theorem nn_k {g : gG} {k n : Nat} (e : g k = nI (nn g k)) (hn : n < 2 ^ 31) : g k = nI n ↔ nn g k = n :=
  ⟨fun h => nn_v hn h, fun h => by rw [e, h]⟩
theorem min_a {a x : Int32} : (if x < a then x else a) = if a < x then a else x := by
  by_cases h : a < x
  · rw [if_pos h, if_neg (fun q => absurd (Int32.lt_trans h q) (by rw [Int32.lt_iff_toInt_lt]; omega))]
  · rw [if_neg h]
    by_cases q : x < a
    · rw [if_pos q]
    · rw [if_neg q]
      apply Int32.toInt_inj.mp
      rw [Int32.lt_iff_toInt_lt] at h q
      omega
theorem set_iff {g : gG} (h : gJ g) {c : Nat} (hc : c < 10) : g (71 + c) = 0 ↔ ¬ g (61 + c) = 4 := by
  rcases h.a4 c hc with ⟨q1, q2⟩ | ⟨q1, q2⟩
  · exact ⟨fun _ => q2, fun _ => q1⟩
  · exact ⟨fun q => by rw [q1] at q; exact absurd q (by decide), fun q => absurd q2 q⟩
theorem cas_m {dA : Nat → ClassId} {ad ad' : Nat → Nat} {g g' : gG} {c : Nat} {x y : Int32} (ea : ad' (30 + c) = ad (30 + c) ∧ ad' (40 + c) = ad (40 + c)) (e1 : g' (51 + c) = g (51 + c)) (e2 : g' (61 + c) = x) (e3 : g' (81 + c) = y) (e : ∀ q, q < 10 → g' (91 + 10 * c + q) = g (91 + 10 * c + q)) :
    [((ad (30 + c), .inr (6, [.int (g (51 + c)), .ref (ad (40 + c)), .int x, .int y])) : Nat × va_E), (ad (40 + c), .inl (dA 0, 10, .inl (d10 g (91 + 10 * c))))] = casC dA ad' g' c := by
  unfold casC
  rw [ea.1, ea.2, e1, e2, e3, d10_c (g := g') (g' := g) (b := 91 + 10 * c) (fun q hq => e q hq)]
