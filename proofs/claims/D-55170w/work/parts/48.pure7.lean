/-! PURE 7: an hour, as the component takes it -/
def hourX (g : gG) : gG := hourTick (setsL (rainL g 6) (nn g 50))
def p_hourC (g : gG) : gG := if hourX g 0 - hourX g 0 / 24 * 24 = 0 then p_endsDay (hourX g) else hourX g
theorem sets_cas {dA : Nat → ClassId} {ad : Nat → Nat} {g : gG} (h : gJ g) {c : Nat} (hc : c < 10) : [((ad (30 + c), .inr (6, [.int (g (51 + c)), .ref (ad (40 + c)), .int (hourC (g (61 + c)) (g 1)), .int (g (81 + c))])) : Nat × va_E), (ad (40 + c), .inl (dA 0, 10, .inl (d10 g (91 + 10 * c))))] = casC dA ad (p_sets g c) c := by
  have E : ∀ k, k ≠ 61 + c ∧ k ≠ 71 + c → p_sets g c k = g k := fun k q => sets_n q
  unfold casC
  rw [sets_hour h hc, E (51 + c) (by omega), E (81 + c) (by omega), d10_c (g := p_sets g c) (g' := g) (b := 91 + 10 * c) (fun q hq => E _ (by omega))]
