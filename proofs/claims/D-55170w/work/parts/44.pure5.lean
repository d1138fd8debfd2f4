/-! PURE 5: sums over a church's things, as the component takes them -/
def ofLedL (g : gG) (w : Int32) : Nat → Int32
  | 0 => 0
  | i + 1 => ofLedL g w i + ledV i (g (8 + i)) (g (14 + i)) (g (20 + i)) (copI (g (44 + i))) (g (32 + i)) (g (38 + i)) w
def setL (g : gG) : Nat → Int32
  | 0 => 0
  | i + 1 => setL g i + (if g (61 + i) = 4 then 1 else 0)
def upL (g : gG) : Nat → Int32
  | 0 => 0
  | i + 1 => upL g i + (if g (221 + i) = 0 then 0 else 1)
def pointL (g : gG) : Nat → Int32
  | 0 => 0
  | i + 1 => pointL g i + g (204 + i)
def balC (g : gG) : Bool := decide (g 7 = ofLedL g 5 6 + ofLedL g 6 6) && decide (g 4 = 20 + g 5 - g 6)
def wornQ (g : gG) (j : Nat) : Int32 := if g (14 + j) = 0 then (if g 1 < 5 then -15 else if g (20 + j) < 9 then 8 - g (26 + j) else -15) else -15
theorem copI_2 {g : gG} (h : gInv g) {j : Nat} (hj : j < 6) (h2 : g (14 + j) = 2) : copI (g (44 + j)) = nI (nn g (44 + j)) ∧ nn g (44 + j) < nn g 212 := by
  rcases h.st hj with q | q | q
  · rw [q] at h2; exact absurd h2 (by decide)
  · rw [q] at h2; exact absurd h2 (by decide)
  · refine ⟨?_, q.2.2⟩
    have b := h.k.2
    unfold copI
    rw [if_neg (by rw [q.2.1]; exact nI_pos (by have := q.2.2; omega))]
    exact q.2.1
theorem sp_0 {g : gG} (_ : gInv g) {j : Nat} (_ : j < 6) (h : g (14 + j) = 0) : dpL (g (20 + j)) j 0 = pointAt g j := by rw [pointAt, if_pos h]; rfl
theorem sp_1 {g : gG} (hI : gInv g) {j : Nat} (hj : j < 6) (h : ¬ g (14 + j) = 0) (h2 : ¬ g (14 + j) = 2) : 0 = pointAt g j := by
  rw [pointAt, if_neg h]
  rcases hI.st hj with q | q | q
  · exact absurd q h
  · rw [if_pos q]
  · exact absurd q.1 h2
theorem sp_2 {g : gG} (_ : gInv g) {j : Nat} (_ : j < 6) (h : ¬ g (14 + j) = 0) (h2 : g (14 + j) = 2) : d10 g (229 + 10 * nn g (44 + j)) 0 = pointAt g j := by
  rw [d10_at (by omega), pointAt, if_neg h, if_neg (by rw [h2]; decide)]; rfl
