/-! PURE 6: casts and copies changed, an hour -/
theorem mut_cas {dA : Nat → ClassId} {ad : Nat → Nat} {g g' : gG} {R : va_W} {j : Nat} (h5 : nn g 50 ≤ 10) (h1 : nn g 191 ≤ 4) (h2 : nn g 212 ≤ 8) (hj : j < 10) (e : ∀ k, 8 ≤ k → k ≠ 51 + j → k ≠ 61 + j → k ≠ 71 + j → k ≠ 81 + j → ¬ (91 + 10 * j ≤ k ∧ k < 101 + 10 * j) → g' k = g k) :
    chT (blob (ledC ad g) 6) (blobE (casC dA ad g) j (nn g 50)) (blob (mycC ad g) (nn g 191)) (blob (copC dA ad g) (nn g 212)) R = chT (blob (ledC ad g') 6) (blobE (casC dA ad g') j (nn g' 50)) (blob (mycC ad g') (nn g' 191)) (blob (copC dA ad g') (nn g' 212)) R := by
  have E : ∀ k, 8 ≤ k ∧ k ≠ 51 + j ∧ k ≠ 61 + j ∧ k ≠ 71 + j ∧ k ≠ 81 + j ∧ ¬ (91 + 10 * j ≤ k ∧ k < 101 + 10 * j) → g' k = g k := fun k q => e k q.1 q.2.1 q.2.2.1 q.2.2.2.1 q.2.2.2.2.1 q.2.2.2.2.2
  have n5 : nn g' 50 = nn g 50 := nn_e (E 50 (by omega))
  have n1 : nn g' 191 = nn g 191 := nn_e (E 191 (by omega))
  have n2 : nn g' 212 = nn g 212 := nn_e (E 212 (by omega))
  rw [n5, n1, n2]
  rw [blob_c (f := ledC ad g) (f' := ledC ad g') 6 (fun i hi => by
      simp only [ledC]
      rw [E (8 + i) (by omega), E (14 + i) (by omega), E (20 + i) (by omega), E (26 + i) (by omega), E (44 + i) (by omega), E (32 + i) (by omega), E (38 + i) (by omega)]),
    blobE_c (f := casC dA ad g) (f' := casC dA ad g') _ (fun i hi hij => by
      simp only [casC]
      rw [E (51 + i) (by omega), E (61 + i) (by omega), E (81 + i) (by omega), d10_c (g := g') (g' := g) (b := 91 + 10 * i) (fun q hq => E _ (by omega))]),
    blob_c (f := mycC ad g) (f' := mycC ad g') _ (fun i hi => by
      simp only [mycC]
      rw [E (192 + i) (by omega), E (196 + i) (by omega), E (200 + i) (by omega), E (204 + i) (by omega), E (208 + i) (by omega)]),
    blob_c (f := copC dA ad g) (f' := copC dA ad g') _ (fun i hi => by
      simp only [copC]
      rw [E (213 + i) (by omega), E (221 + i) (by omega), d10_c (g := g') (g' := g) (b := 229 + 10 * i) (fun q hq => E _ (by omega))])]
theorem mut_cop {dA : Nat → ClassId} {ad : Nat → Nat} {g g' : gG} {R : va_W} {j : Nat} (h5 : nn g 50 ≤ 10) (h1 : nn g 191 ≤ 4) (h2 : nn g 212 ≤ 8) (hj : j < 8) (e : ∀ k, 8 ≤ k → k ≠ 213 + j → k ≠ 221 + j → k ≠ 309 → ¬ (229 + 10 * j ≤ k ∧ k < 239 + 10 * j) → g' k = g k) :
    chT (blob (ledC ad g) 6) (blob (casC dA ad g) (nn g 50)) (blob (mycC ad g) (nn g 191)) (blobE (copC dA ad g) j (nn g 212)) R = chT (blob (ledC ad g') 6) (blob (casC dA ad g') (nn g' 50)) (blob (mycC ad g') (nn g' 191)) (blobE (copC dA ad g') j (nn g' 212)) R := by
  have E : ∀ k, 8 ≤ k ∧ k ≠ 213 + j ∧ k ≠ 221 + j ∧ k ≠ 309 ∧ ¬ (229 + 10 * j ≤ k ∧ k < 239 + 10 * j) → g' k = g k := fun k q => e k q.1 q.2.1 q.2.2.1 q.2.2.2.1 q.2.2.2.2
  have n5 : nn g' 50 = nn g 50 := nn_e (E 50 (by omega))
  have n1 : nn g' 191 = nn g 191 := nn_e (E 191 (by omega))
  have n2 : nn g' 212 = nn g 212 := nn_e (E 212 (by omega))
  rw [n5, n1, n2]
  rw [blob_c (f := ledC ad g) (f' := ledC ad g') 6 (fun i hi => by
      simp only [ledC]
      rw [E (8 + i) (by omega), E (14 + i) (by omega), E (20 + i) (by omega), E (26 + i) (by omega), E (44 + i) (by omega), E (32 + i) (by omega), E (38 + i) (by omega)]),
    blob_c (f := casC dA ad g) (f' := casC dA ad g') _ (fun i hi => by
      simp only [casC]
      rw [E (51 + i) (by omega), E (61 + i) (by omega), E (81 + i) (by omega), d10_c (g := g') (g' := g) (b := 91 + 10 * i) (fun q hq => E _ (by omega))]),
    blob_c (f := mycC ad g) (f' := mycC ad g') _ (fun i hi => by
      simp only [mycC]
      rw [E (192 + i) (by omega), E (196 + i) (by omega), E (200 + i) (by omega), E (204 + i) (by omega), E (208 + i) (by omega)]),
    blobE_c (f := copC dA ad g) (f' := copC dA ad g') _ (fun i hi hij => by
      simp only [copC]
      rw [E (213 + i) (by omega), E (221 + i) (by omega), d10_c (g := g') (g' := g) (b := 229 + 10 * i) (fun q hq => E _ (by omega))])]
/-- a set cast keeps its hour: what the component's hour does to a cast -/
theorem sets_hour {g : gG} (h : gJ g) {c : Nat} (hc : c < 10) : p_sets g c (61 + c) = hourC (g (61 + c)) (g 1) := by
  unfold p_sets hourC
  rcases h.a4 c hc with ⟨q1, q2⟩ | ⟨q1, q2⟩
  · rw [if_pos q1, if_neg q2, upd_n (by omega), upd_s]
  · rw [if_neg (by rw [q1]; decide), if_pos q2]
theorem worn_eq {g : gG} (h : gJ g) {l : Nat} (hl : l < 6) : p_rainsOn g l (20 + l) = wornN (g (14 + l)) (g (26 + l)) (g (20 + l)) (g 1) ∧ p_rainsOn g l (26 + l) = hardN (g (14 + l)) (g (26 + l)) (g 1) := by
  obtain ⟨d, hd, ed⟩ := h.a2 l hl
  have r20 : rain1 g l (20 + l) = g (20 + l) := rain1_n (by omega)
  have r26 : rain1 g l (26 + l) = g (26 + l) := rain1_n (by omega)
  unfold p_rainsOn wornN hardN
  by_cases h5 : g 1 < 5
  · simp only [if_pos h5]
    rw [r20, r26]
    constructor <;> split <;> rfl
  · simp only [if_neg h5]
    by_cases h14 : g (14 + l) = 0
    · simp only [if_pos h14, if_neg (not_not_intro h14)]
      by_cases h8 : g (26 + l) + 1 = 8
      · simp only [if_pos h8]
        have key : (if nI d < 9 then nI d + 1 else nI d + 0) = if nI d + 1 < 9 then nI d + 1 else 9 := by
          have : ∀ d, d ≤ 9 → (if nI d < 9 then nI d + 1 else nI d + 0) = if nI d + 1 < 9 then nI d + 1 else (9 : Int32) := by decide +kernel
          exact this d hd
        rw [ed, ← key]
        by_cases h9 : nI d < 9
        · simp only [if_pos h9]
          exact ⟨upd_s, (upd_n (by omega)).trans upd_s⟩
        · simp only [if_neg h9]
          exact ⟨upd_s, (upd_n (by omega)).trans upd_s⟩
      · simp only [if_neg h8]
        exact ⟨(upd_n (by omega)).trans r20, upd_s⟩
    · simp only [if_neg h14, if_pos h14]
      exact ⟨r20, r26⟩
theorem rain1_v {g : gG} {l : Nat} (hl : l < 6) : rain1 g l 7 = g 7 + 10 * g 1 ∧ rain1 g l (32 + l) = g (32 + l) + runsI (g 1) (pointAt g l) ∧ rain1 g l (38 + l) = g (38 + l) + (10 * g 1 - runsI (g 1) (pointAt g l)) := by
  unfold rain1
  refine ⟨?_, ?_, ?_⟩
  · rw [upd_n (by omega), upd_n (by omega), upd_s]
  · rw [upd_n (by omega), upd_s]; rfl
  · rw [upd_s]; rfl
theorem rainsOn_1 {g : gG} {l k : Nat} (h : k ≠ 26 + l ∧ k ≠ 20 + l) : p_rainsOn g l k = rain1 g l k := by
  unfold p_rainsOn
  split
  · rfl
  split
  · rfl
  split
  · split <;> rw [upd_n h.2, upd_n h.1, upd_n h.1]
  · rw [upd_n h.1]
/-- a ledge behind an hour's rain -/
theorem rain_led {ad : Nat → Nat} {g : gG} (h : gJ g) {l : Nat} (hl : l < 6) : [(ad (20 + l), (.inr (3, [.int (nI l), .int (g (8 + l)), .int (g (14 + l)), .int (wornN (g (14 + l)) (g (26 + l)) (g (20 + l)) (g 1)), .int (hardN (g (14 + l)) (g (26 + l)) (g 1)), .int (copI (g (44 + l))), .int (g (32 + l) + runsI (g 1) (pointAt g l)), .int (g (38 + l) + (10 * g 1 - runsI (g 1) (pointAt g l)))]) : va_E))] = ledC ad (p_rainsOn g l) l := by
  obtain ⟨w1, w2⟩ := worn_eq h hl
  obtain ⟨-, v2, v3⟩ := rain1_v (g := g) hl
  have E : ∀ k, k ≠ 7 ∧ k ≠ 32 + l ∧ k ≠ 38 + l ∧ k ≠ 26 + l ∧ k ≠ 20 + l → p_rainsOn g l k = g k := fun k q => rainsOn_n q
  unfold ledC
  rw [w1, w2, rainsOn_1 (k := 32 + l) (by omega), v2, rainsOn_1 (k := 38 + l) (by omega), v3, E (8 + l) (by omega), E (14 + l) (by omega), E (44 + l) (by omega)]
