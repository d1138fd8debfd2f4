/-! PURE 17: an order's text and its numbers -/
theorem rwP_le {tf : gG} {tn pl z : Nat} {b : Bool} (h : pl ≤ tn) (e : rwP tf tn pl false = (z, b)) : z ≤ tn := by
  have h9 := needsL_le (tf := tf) (k := wordP tf tn pl) (wr := false) h (gLen (wordP tf tn pl + 1))
  have e2 : (rwP tf tn pl false).1 = z := by rw [e]
  unfold rwP at e2
  omega
theorem eqw_T : ∀ w, w < 9 → ∀ j, j < 10 → txEq (gByt (w + 1)) (gLen (w + 1)) (gByt j) (gLen j) = decide (w + 1 = j) := by decide +kernel
theorem eqw_1 {f : gG} {w j : Nat} (hw : w < 9) (hf : ∀ q, q < gLen (w + 1) → f q = gByt (w + 1) q) (hj : j < 10) (e : w + 1 = j) : bZ (txEq f (gLen (w + 1)) (gByt j) (gLen j)) = 1 := by
  rw [txEq_c (f' := gByt (w + 1)) (g' := gByt j) hf (fun _ _ => rfl), eqw_T w hw j hj, decide_eq_true e]; rfl
theorem eqw_0 {f : gG} {w j : Nat} (hw : w < 9) (hf : ∀ q, q < gLen (w + 1) → f q = gByt (w + 1) q) (hj : j < 10) (e : ¬ w + 1 = j) : bZ (txEq f (gLen (w + 1)) (gByt j) (gLen j)) = 0 := by
  rw [txEq_c (f' := gByt (w + 1)) (g' := gByt j) hf (fun _ _ => rfl), eqw_T w hw j hj, decide_eq_false e]; rfl
theorem hsh {f : gG} {w : Nat} (hf : ∀ q, q < gLen (w + 1) → f q = gByt (w + 1) q) : txH f (gLen (w + 1)) = txH (gByt (w + 1)) (gLen (w + 1)) := txH_c hf
theorem hsh_n : ∀ w, w < 9 → ¬ txH (gByt (w + 1)) (gLen (w + 1)) = 0 := by decide +kernel
theorem hsh_o : ∀ w, w < 9 → ¬ w = 2 → ¬ w = 7 → ¬ txH (gByt (w + 1)) (gLen (w + 1)) = 3065374 ∧ ¬ txH (gByt (w + 1)) (gLen (w + 1)) = 3532575 := by decide +kernel
theorem hsh_2 : txH (gByt (2 + 1)) (gLen (2 + 1)) = 3065374 := by decide +kernel
theorem hsh_7 : txH (gByt (7 + 1)) (gLen (7 + 1)) = 3532575 := by decide +kernel
theorem ordV_d {tf : gG} {tn pl z : Nat} (e : rwP tf tn pl false = (z, false)) (h : ¬ wordP tf tn pl = 8) : ordV tf tn pl false = digitP tf tn z false := by
  unfold ordV valP; rw [e, if_neg h]
theorem ordV_n {tf : gG} {tn pl z : Nat} (e : rwP tf tn pl false = (z, false)) (h : wordP tf tn pl = 8) : ordV tf tn pl false = numberP tf tn z false := by
  unfold ordV valP; rw [e, if_pos h]
theorem ordX_2 {tf : gG} {tn pl : Nat} {V : Int32 × Nat × Bool} (e : ordV tf tn pl false = V) (e2 : V.2.2 = false) (h : wordP tf tn pl = 2) : ordX tf tn pl false = behP tf tn 58 V.2.1 false := by
  unfold ordX; rw [e, e2, if_pos h]
theorem ordX_7 {tf : gG} {tn pl : Nat} {V : Int32 × Nat × Bool} (e : ordV tf tn pl false = V) (e2 : V.2.2 = false) (h : wordP tf tn pl = 7) : ordX tf tn pl false = digitP tf tn V.2.1 false := by
  unfold ordX; rw [e, e2, if_neg (by omega), if_pos h]
theorem ordX_o {tf : gG} {tn pl : Nat} {V : Int32 × Nat × Bool} (e : ordV tf tn pl false = V) (h : ¬ wordP tf tn pl = 2) (h7 : ¬ wordP tf tn pl = 7) : ordX tf tn pl false = (0, V.2) := by
  unfold ordX; rw [e, if_neg h, if_neg h7]
theorem ordY_2 {tf : gG} {tn pl : Nat} {V : Int32 × Nat × Bool} (e : ordX tf tn pl false = V) (e2 : V.2.2 = false) (h : wordP tf tn pl = 2) : ordY tf tn pl false = behP tf tn 46 V.2.1 false := by
  unfold ordY; rw [e, e2, if_pos h]
theorem ordY_o {tf : gG} {tn pl : Nat} {V : Int32 × Nat × Bool} (e : ordX tf tn pl false = V) (h : ¬ wordP tf tn pl = 2) : ordY tf tn pl false = (0, V.2) := by
  unfold ordY; rw [e, if_neg h]
theorem s2t {V : Int32 × Nat × Bool} {z : Nat} {b : Bool} (e : V.2 = (z, b)) : V.2.2 = b := by rw [e]
