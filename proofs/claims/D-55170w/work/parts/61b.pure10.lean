/-! PURE 10: texts of copies and ledges, letter by letter -/
theorem tx_one {f f' t : gG} {n m : Nat} (h : ∀ k, k < n → f k = t k) (h2 : ∀ k, k < n → f' k = f k) (h3 : f' n = t n) (hm : m = n + 1) : ∀ k, k < m → f' k = t k := by
  intro k hk
  by_cases e : k = n
  · subst e; exact h3
  · rw [h2 k (by omega)]; exact h k (by omega)
theorem tx_app {f f' t : gG} {n q m : Nat} (h : ∀ k, k < n → f k = t k) (h2 : ∀ k, k < n → f' k = f k) (h3 : ∀ k, k < q → f' (n + k) = t (n + k)) (hm : m = n + q) : ∀ k, k < m → f' k = t k := by
  intro k hk
  by_cases e : k < n
  · rw [h2 k e]; exact h k e
  · have h4 := h3 (k - n) (by omega)
    rw [show n + (k - n) = k by omega] at h4; exact h4
def cmark (f d : Int32) : Int32 := if f = -1 then 46 else if f - d = 0 then 61 else if 0 < f - d then 43 else 45
/-- the line of a copy -/
def cpT (c0 c1 : Nat) (kf df : gG) (k : Nat) : Int32 := if k < 5 then gByt 13 k else if k = 5 then nI (48 + c0) else if k = 6 then 47 else if k = 7 then nI (48 + c1) else if k < 10 then gByt 14 (k - 8) else if k < 20 then cmark (kf (k - 10)) (df (k - 10)) else 94
theorem cpT_a {c0 c1 : Nat} {kf df : gG} {k : Nat} (h : k < 5) : cpT c0 c1 kf df k = gByt 13 k := if_pos h
theorem cpT_5 {c0 c1 : Nat} {kf df : gG} : cpT c0 c1 kf df 5 = nI (48 + c0) := rfl
theorem cpT_6 {c0 c1 : Nat} {kf df : gG} : cpT c0 c1 kf df 6 = 47 := rfl
theorem cpT_7 {c0 c1 : Nat} {kf df : gG} : cpT c0 c1 kf df 7 = nI (48 + c1) := rfl
theorem cpT_b {c0 c1 : Nat} {kf df : gG} {k : Nat} (h : k < 2) : cpT c0 c1 kf df (8 + k) = gByt 14 k := by
  unfold cpT
  rw [if_neg (by omega), if_neg (by omega), if_neg (by omega), if_neg (by omega), if_pos (by omega), show 8 + k - 8 = k by omega]
theorem cpT_m {c0 c1 : Nat} {kf df : gG} {i : Nat} (h : i < 10) : cpT c0 c1 kf df (10 + i) = cmark (kf i) (df i) := by
  unfold cpT
  rw [if_neg (by omega), if_neg (by omega), if_neg (by omega), if_neg (by omega), if_neg (by omega), if_pos (by omega), show 10 + i - 10 = i by omega]
theorem cpT_e {c0 c1 : Nat} {kf df : gG} : cpT c0 c1 kf df 20 = 94 := rfl
theorem gLen_0 : gLen 0 = 0 := rfl
theorem gLen_10 : gLen 10 = 1 := rfl
theorem gLen_11 : gLen 11 = 1 := rfl
theorem gLen_12 : gLen 12 = 1 := rfl
theorem gLen_13 : gLen 13 = 5 := rfl
theorem gLen_14 : gLen 14 = 2 := rfl
theorem gLen_15 : gLen 15 = 1 := rfl
/-- the line of the ledges -/
def ltT (g : gG) (k : Nat) : Int32 := if k % 2 = 0 then stC (g (14 + k / 2)) else 48 + g (8 + k / 2)
theorem ltT_0 {g : gG} {i : Nat} : ltT g (2 * i) = stC (g (14 + i)) := by
  unfold ltT
  rw [if_pos (by omega), show 2 * i / 2 = i by omega]
theorem ltT_1 {g : gG} {i : Nat} : ltT g (2 * i + 1) = 48 + g (8 + i) := by
  unfold ltT
  rw [if_neg (by omega), show (2 * i + 1) / 2 = i by omega]
