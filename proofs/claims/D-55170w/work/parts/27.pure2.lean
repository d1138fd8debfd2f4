/-! PURE 2: what the reference reads -/
def hereI (tf : gG) (tn pl : Nat) : Int32 := if pl < tn then tf pl else -1
def needsP (tf : gG) (tn : Nat) (c : Int32) (pl : Nat) (wr : Bool) : Nat × Bool := if wr = true then (pl, true) else if pl < tn ∧ tf pl = c then (pl + 1, false) else (pl, true)
def digitP (tf : gG) (tn pl : Nat) (wr : Bool) : Int32 × Nat × Bool := if wr = true then (0, pl, true) else if pl < tn ∧ inR (tf pl) 48 57 = true then (tf pl - 48, pl + 1, false) else (0, pl, true)
theorem here_y {tf : gG} {tn pl : Nat} (h : pl < tn) : hereI tf tn pl = tf pl := if_pos h
theorem here_n {tf : gG} {tn pl : Nat} (h : ¬ pl < tn) : hereI tf tn pl = -1 := if_neg h
theorem needs_w {tf : gG} {tn pl : Nat} {c : Int32} {wr : Bool} (h : wr = true) : needsP tf tn c pl wr = (pl, true) := by rw [needsP, if_pos h]
theorem needs_n {tf : gG} {tn pl : Nat} {c : Int32} {wr : Bool} (h : wr = false) (h2 : ¬ hereI tf tn pl = c) : needsP tf tn c pl wr = (pl, true) := by
  rw [needsP, if_neg (by rw [h]; decide), if_neg]
  exact fun ⟨a, b⟩ => h2 ((here_y a).trans b)
theorem needs_y {tf : gG} {tn pl : Nat} {c : Int32} {wr : Bool} (hc : ¬ c = -1) (h : wr = false) (h2 : hereI tf tn pl = c) : needsP tf tn c pl wr = (pl + 1, false) := by
  rw [needsP, if_neg (by rw [h]; decide), if_pos]
  by_cases q : pl < tn
  · exact ⟨q, (here_y q).symm.trans h2⟩
  · exact absurd (h2.symm.trans (here_n q)) hc
theorem inRm1 : ¬ inR (-1) 48 57 = true := by decide
theorem digit_w {tf : gG} {tn pl : Nat} {wr : Bool} (h : wr = true) : digitP tf tn pl wr = (0, pl, true) := by rw [digitP, if_pos h]
theorem digit_n {tf : gG} {tn pl : Nat} {wr : Bool} (h : wr = false) (h2 : inR (hereI tf tn pl) 48 57 = false) : digitP tf tn pl wr = (0, pl, true) := by
  rw [digitP, if_neg (by rw [h]; decide), if_neg]
  intro ⟨a, b⟩
  rw [here_y a, b] at h2
  cases h2
theorem digit_y {tf : gG} {tn pl : Nat} {wr : Bool} (h : wr = false) (h2 : inR (hereI tf tn pl) 48 57 = true) : digitP tf tn pl wr = (hereI tf tn pl - 48, pl + 1, false) := by
  by_cases q : pl < tn
  · rw [here_y q] at h2 ⊢
    rw [digitP, if_neg (by rw [h]; decide), if_pos ⟨q, h2⟩]
  · rw [here_n q] at h2; exact absurd h2 inRm1
theorem needs_le {tf : gG} {tn pl : Nat} {c : Int32} {wr : Bool} (h : pl ≤ tn) : (needsP tf tn c pl wr).1 ≤ tn := by
  unfold needsP
  split
  · exact h
  · split
    · rename_i q; exact q.1
    · exact h
theorem needs_ge {tf : gG} {tn pl : Nat} {c : Int32} {wr : Bool} : pl ≤ (needsP tf tn c pl wr).1 := by
  unfold needsP
  split
  · exact Nat.le_refl _
  · split
    · exact Nat.le_succ _
    · exact Nat.le_refl _
theorem digit_le {tf : gG} {tn pl : Nat} {wr : Bool} (h : pl ≤ tn) : (digitP tf tn pl wr).2.1 ≤ tn := by
  unfold digitP
  split
  · exact h
  · split
    · rename_i q; exact q.1
    · exact h
theorem digit_ge {tf : gG} {tn pl : Nat} {wr : Bool} : pl ≤ (digitP tf tn pl wr).2.1 := by
  unfold digitP
  split
  · exact Nat.le_refl _
  · split
    · exact Nat.le_succ _
    · exact Nat.le_refl _
theorem digit_gt {tf : gG} {tn pl : Nat} {wr : Bool} (h : (digitP tf tn pl wr).2.2 = false) : pl < (digitP tf tn pl wr).2.1 := by
  unfold digitP at h ⊢
  split
  · rename_i q; rw [if_pos q] at h; cases h
  · rename_i q
    rw [if_neg q] at h
    split
    · exact Nat.lt_succ_self _
    · rename_i q2; rw [if_neg q2] at h; cases h
def numberP (tf : gG) (tn pl : Nat) (wr : Bool) : Int32 × Nat × Bool :=
  if (digitP tf tn pl wr).2.2 = false ∧ inR (hereI tf tn (digitP tf tn pl wr).2.1) 48 57 = true then
    (10 * (digitP tf tn pl wr).1 + (digitP tf tn (digitP tf tn pl wr).2.1 (digitP tf tn pl wr).2.2).1, (digitP tf tn (digitP tf tn pl wr).2.1 (digitP tf tn pl wr).2.2).2) else digitP tf tn pl wr
theorem number_le {tf : gG} {tn pl : Nat} {wr : Bool} (h : pl ≤ tn) : (numberP tf tn pl wr).2.1 ≤ tn := by
  unfold numberP
  split
  · exact digit_le (digit_le h)
  · exact digit_le h
theorem number_ge {tf : gG} {tn pl : Nat} {wr : Bool} : pl ≤ (numberP tf tn pl wr).2.1 := by
  unfold numberP
  split
  · exact Nat.le_trans digit_ge digit_ge
  · exact digit_ge
theorem number_gt {tf : gG} {tn pl : Nat} {wr : Bool} (h : (numberP tf tn pl wr).2.2 = false) : pl < (numberP tf tn pl wr).2.1 := by
  unfold numberP at h ⊢
  split
  · rename_i q; exact Nat.lt_of_lt_of_le (digit_gt q.1) digit_ge
  · rename_i q; rw [if_neg q] at h; exact digit_gt h
theorem gLen_w : ∀ k, k ≤ 8 → 2 ≤ gLen (k + 1) ∧ gLen (k + 1) ≤ 7 := by decide +kernel
theorem gByt_w : ∀ k, k ≤ 8 → ∀ i, i < gLen (k + 1) → ¬ gByt (k + 1) i = -1 := by decide +kernel
def isWordP (tf : gG) (tn pl k : Nat) : Bool := decide (gByt (k + 1) 0 = hereI tf tn pl) && (decide (¬ k = 0 ∧ ¬ k = 3) || decide (gByt (k + 1) 1 = hereI tf tn (pl + 1)))
def wordL (tf : gG) (tn pl : Nat) : Nat → Nat → Nat
  | 0, w => w
  | f + 1, w => if isWordP tf tn pl w = true then w else wordL tf tn pl f (w + 1)
/-- the word that the reference takes -/
def wordP (tf : gG) (tn pl : Nat) : Nat := wordL tf tn pl 8 0
theorem wordL_go {tf : gG} {tn pl i : Nat} (h : i < 8) (hg : isWordP tf tn pl i = false) : wordL tf tn pl (8 - i) i = wordL tf tn pl (8 - (i + 1)) (i + 1) := by
  rw [show 8 - i = (8 - (i + 1)) + 1 by omega]
  show (if isWordP tf tn pl i = true then _ else _) = _
  rw [if_neg (by rw [hg]; decide)]
theorem wordL_st {tf : gG} {tn pl i : Nat} (h : i < 8) (hg : isWordP tf tn pl i = true) : wordL tf tn pl (8 - i) i = i := by
  rw [show 8 - i = (8 - (i + 1)) + 1 by omega]
  show (if isWordP tf tn pl i = true then _ else _) = _
  rw [if_pos hg]
def needsL (tf : gG) (tn k pl : Nat) (wr : Bool) : Nat → Nat × Bool
  | 0 => (pl, wr)
  | i + 1 => needsP tf tn (gByt (k + 1) i) (needsL tf tn k pl wr i).1 (needsL tf tn k pl wr i).2
theorem needsL_le {tf : gG} {tn k pl : Nat} {wr : Bool} (h : pl ≤ tn) : ∀ i, (needsL tf tn k pl wr i).1 ≤ tn
  | 0 => h
  | i + 1 => needs_le (needsL_le h i)
theorem needsL_ge {tf : gG} {tn k pl : Nat} {wr : Bool} : ∀ i, pl ≤ (needsL tf tn k pl wr i).1
  | 0 => Nat.le_refl _
  | i + 1 => Nat.le_trans (needsL_ge i) needs_ge
def rwP (tf : gG) (tn pl : Nat) (wr : Bool) : Nat × Bool := needsL tf tn (wordP tf tn pl) pl wr (gLen (wordP tf tn pl + 1))
/-- the number behind the word w -/
def valP (tf : gG) (tn w pl : Nat) (wr : Bool) : Int32 × Nat × Bool := if w = 8 then numberP tf tn pl wr else digitP tf tn pl wr
theorem val_le {tf : gG} {tn w pl : Nat} {wr : Bool} (h : pl ≤ tn) : (valP tf tn w pl wr).2.1 ≤ tn := by
  unfold valP
  split
  · exact number_le h
  · exact digit_le h
theorem val_ge {tf : gG} {tn w pl : Nat} {wr : Bool} : pl ≤ (valP tf tn w pl wr).2.1 := by
  unfold valP
  split
  · exact number_ge
  · exact digit_ge
theorem val_gt {tf : gG} {tn w pl : Nat} {wr : Bool} (h : (valP tf tn w pl wr).2.2 = false) : pl < (valP tf tn w pl wr).2.1 := by
  unfold valP at h ⊢
  split
  · rename_i q; rw [if_pos q] at h; exact number_gt h
  · rename_i q; rw [if_neg q] at h; exact digit_gt h
/-- a sign, and the digit behind it -/
def behP (tf : gG) (tn : Nat) (c : Int32) (pl : Nat) (wr : Bool) : Int32 × Nat × Bool := digitP tf tn (needsP tf tn c pl wr).1 (needsP tf tn c pl wr).2
theorem beh_le {tf : gG} {tn pl : Nat} {c : Int32} {wr : Bool} (h : pl ≤ tn) : (behP tf tn c pl wr).2.1 ≤ tn := digit_le (needs_le h)
theorem beh_ge {tf : gG} {tn pl : Nat} {c : Int32} {wr : Bool} : pl ≤ (behP tf tn c pl wr).2.1 := Nat.le_trans needs_ge digit_ge
theorem needs_wr {tf : gG} {tn pl : Nat} {c : Int32} {wr : Bool} (h : (needsP tf tn c pl wr).2 = false) : wr = false := by
  cases wr with
  | false => rfl
  | true => rw [needs_w rfl] at h; cases h
theorem digit_wr {tf : gG} {tn pl : Nat} {wr : Bool} (h : (digitP tf tn pl wr).2.2 = false) : wr = false := by
  cases wr with
  | false => rfl
  | true => rw [digit_w rfl] at h; cases h
theorem beh_wr {tf : gG} {tn pl : Nat} {c : Int32} {wr : Bool} (h : (behP tf tn c pl wr).2.2 = false) : wr = false := needs_wr (digit_wr h)
abbrev gOrd : Type := Nat × Int32 × Int32 × Int32 × Nat × Bool
/-- an order: its word, its numbers, where it ends -/
def ordV (tf : gG) (tn pl : Nat) (wr : Bool) : Int32 × Nat × Bool := valP tf tn (wordP tf tn pl) (rwP tf tn pl wr).1 (rwP tf tn pl wr).2
def ordX (tf : gG) (tn pl : Nat) (wr : Bool) : Int32 × Nat × Bool := if wordP tf tn pl = 2 then behP tf tn 58 (ordV tf tn pl wr).2.1 (ordV tf tn pl wr).2.2 else if wordP tf tn pl = 7 then digitP tf tn (ordV tf tn pl wr).2.1 (ordV tf tn pl wr).2.2 else (0, (ordV tf tn pl wr).2)
def ordY (tf : gG) (tn pl : Nat) (wr : Bool) : Int32 × Nat × Bool := if wordP tf tn pl = 2 then behP tf tn 46 (ordX tf tn pl wr).2.1 (ordX tf tn pl wr).2.2 else (0, (ordX tf tn pl wr).2)
def ordT (td : gG) (k w : Nat) (v x y : Int32) : gG := if w = 2 then upd (upd (upd (upd td k (nI w)) (k + 1) v) (k + 2) x) (k + 3) y else if w = 7 then upd (upd (upd td k (nI w)) (k + 1) v) (k + 2) x else upd (upd td k (nI w)) (k + 1) v
theorem ord_le {tf : gG} {tn pl : Nat} {wr : Bool} (h : pl ≤ tn) : (ordY tf tn pl wr).2.1 ≤ tn := by
  have h1 : (ordV tf tn pl wr).2.1 ≤ tn := val_le (needsL_le h _)
  have h2 : (ordX tf tn pl wr).2.1 ≤ tn := by
    unfold ordX
    split
    · exact beh_le h1
    · split
      · exact digit_le h1
      · exact h1
  unfold ordY
  split
  · exact beh_le h2
  · exact h2
theorem ord_gt {tf : gG} {tn pl : Nat} {wr : Bool} (h : (ordY tf tn pl wr).2.2 = false) : pl < (ordY tf tn pl wr).2.1 := by
  have hX : (ordX tf tn pl wr).2.2 = false ∧ (ordX tf tn pl wr).2.1 ≤ (ordY tf tn pl wr).2.1 := by
    unfold ordY at h ⊢
    split
    · rename_i q; rw [if_pos q] at h; exact ⟨beh_wr h, beh_ge⟩
    · rename_i q; rw [if_neg q] at h; exact ⟨h, Nat.le_refl _⟩
  have hV : (ordV tf tn pl wr).2.2 = false ∧ (ordV tf tn pl wr).2.1 ≤ (ordX tf tn pl wr).2.1 := by
    have h := hX.1
    unfold ordX at h ⊢
    split
    · rename_i q; rw [if_pos q] at h; exact ⟨beh_wr h, beh_ge⟩
    · rename_i q; rw [if_neg q] at h
      split
      · rename_i q2; rw [if_pos q2] at h; exact ⟨digit_wr h, digit_ge⟩
      · rename_i q2; rw [if_neg q2] at h; exact ⟨h, Nat.le_refl _⟩
  have h1 : (rwP tf tn pl wr).1 < (ordV tf tn pl wr).2.1 := val_gt hV.1
  have h2 : pl ≤ (rwP tf tn pl wr).1 := needsL_ge _
  omega
theorem wordL_le {tf : gG} {tn pl : Nat} : ∀ f w, wordL tf tn pl f w ≤ w + f
  | 0, w => Nat.le_refl _
  | f + 1, w => by
    show (if isWordP tf tn pl w = true then w else wordL tf tn pl f (w + 1)) ≤ _
    split
    · omega
    · have := wordL_le (tf := tf) (tn := tn) (pl := pl) f (w + 1); omega
theorem wordP_le {tf : gG} {tn pl : Nat} : wordP tf tn pl ≤ 8 := wordL_le 8 0
/-- does another order follow -/
def moreP (tf : gG) (tn pl : Nat) (wr : Bool) : Bool := !wr && decide (hereI tf tn pl = 59)
abbrev gRd : Type := Nat × gG × Nat × Bool
def ordN (tf : gG) (tn n : Nat) (td : gG) (pl : Nat) : gG := ordT td (4 * n) (wordP tf tn pl) (ordV tf tn pl false).1 (ordX tf tn pl false).1 (ordY tf tn pl false).1
def textL (tf : gG) (tn : Nat) : Nat → Nat → gG → Nat → gRd
  | 0, n, td, pl => (n, td, pl, true)
  | f + 1, n, td, pl => if moreP tf tn (ordY tf tn pl false).2.1 (ordY tf tn pl false).2.2 = true then textL tf tn f (n + 1) (ordN tf tn n td pl) ((ordY tf tn pl false).2.1 + 1)
    else (n + 1, ordN tf tn n td pl, (ordY tf tn pl false).2.1, (ordY tf tn pl false).2.2 || decide ((ordY tf tn pl false).2.1 < tn))
def textP (tf : gG) (tn : Nat) (td : gG) : gRd := textL tf tn 61 0 td 0
theorem textL_go {tf : gG} {tn n : Nat} {td : gG} {pl : Nat} (hn : n < 61) (h : moreP tf tn (ordY tf tn pl false).2.1 (ordY tf tn pl false).2.2 = true) : textL tf tn (61 - n) n td pl = textL tf tn (61 - (n + 1)) (n + 1) (ordN tf tn n td pl) ((ordY tf tn pl false).2.1 + 1) := by
  rw [show 61 - n = (61 - (n + 1)) + 1 by omega]
  show (if _ then _ else _) = _
  rw [if_pos h]
theorem textL_st {tf : gG} {tn n : Nat} {td : gG} {pl : Nat} (hn : n < 61) (h : moreP tf tn (ordY tf tn pl false).2.1 (ordY tf tn pl false).2.2 = false) : textL tf tn (61 - n) n td pl = (n + 1, ordN tf tn n td pl, (ordY tf tn pl false).2.1, (ordY tf tn pl false).2.2 || decide ((ordY tf tn pl false).2.1 < tn)) := by
  rw [show 61 - n = (61 - (n + 1)) + 1 by omega]
  show (if _ then _ else _) = _
  rw [if_neg (by rw [h]; decide)]
theorem more_t {tf : gG} {tn pl : Nat} {wr : Bool} (h : wr = false) (h2 : hereI tf tn pl = 59) : moreP tf tn pl wr = true := by simp [moreP, h, h2]
theorem more_w {tf : gG} {tn pl : Nat} {wr : Bool} (h : wr = true) : moreP tf tn pl wr = false := by simp [moreP, h]
theorem more_h {tf : gG} {tn pl : Nat} {wr : Bool} (h2 : ¬ hereI tf tn pl = 59) : moreP tf tn pl wr = false := by simp [moreP, h2]
theorem here_lt {tf : gG} {tn pl : Nat} {c : Int32} (h : hereI tf tn pl = c) (hc : ¬ c = -1) : pl < tn := by
  by_cases q : pl < tn
  · exact q
  · exact absurd (h.symm.trans (here_n q)) hc
/-- a line -/
def putL (lf : gG) (n : Nat) (f : gG) : Nat → gG
  | 0 => lf
  | i + 1 => upd (putL lf n f i) (n + i) (chC (f i))
def markI (depth due : Int32) : Int32 := if depth < 0 then 46 else if depth = due then 61 else if due < depth then 43 else 45
def markL (g : gG) (c : Nat) (lf : gG) : Nat → gG
  | 0 => lf
  | i + 1 => upd (markL g c lf i) (10 + i) (chC (markI (g (229 + 10 * c + i)) (g (91 + 10 * nn g (213 + c) + i))))
def tellF (g : gG) (c : Nat) (lf : gG) : gG := putL (markL g c (putL (upd (upd (upd (putL lf 0 (gByt 13) 5) 5 (chC (nI (48 + c)))) 6 (chC 47)) 7 (chC (nI (48 + nn g (213 + c))))) 8 (gByt 14) 2) 10) 20 (if g (221 + c) = 1 then gByt 15 else gByt 0) (if g (221 + c) = 1 then 1 else 0)
theorem isw_f {tf : gG} {tn pl k : Nat} (h : ¬ gByt (k + 1) 0 = hereI tf tn pl) : 0 = bZ (isWordP tf tn pl k) := by
  rw [isWordP, decide_eq_false h]; rfl
theorem isw_t {tf : gG} {tn pl k : Nat} (h : gByt (k + 1) 0 = hereI tf tn pl) (h2 : ¬ k = 0) (h3 : ¬ k = 3) : 1 = bZ (isWordP tf tn pl k) := by
  rw [isWordP, decide_eq_true h, decide_eq_true ⟨h2, h3⟩]; rfl
theorem isw_c {tf : gG} {tn pl k : Nat} {x : Int32} (hx : hereI tf tn (pl + 1) = x) (h : gByt (k + 1) 0 = hereI tf tn pl) (h2 : gByt (k + 1) 1 = x) : 1 = bZ (isWordP tf tn pl k) := by
  rw [isWordP, decide_eq_true h, decide_eq_true (h2.trans hx.symm), Bool.or_true]; rfl
theorem isw_n {tf : gG} {tn pl k : Nat} {x : Int32} (hx : hereI tf tn (pl + 1) = x) (h3 : k = 0 ∨ k = 3) (h2 : ¬ gByt (k + 1) 1 = x) : 0 = bZ (isWordP tf tn pl k) := by
  have e1 : decide (gByt (k + 1) 1 = hereI tf tn (pl + 1)) = false := decide_eq_false (fun q => h2 (q.trans hx))
  have e2 : decide (¬ k = 0 ∧ ¬ k = 3) = false := decide_eq_false (fun q => h3.elim q.1 q.2)
  rw [isWordP, e1, e2, Bool.or_false, Bool.and_false]; rfl
theorem rw_le {tf : gG} {tn pl : Nat} {wr : Bool} (h : pl ≤ tn) : (rwP tf tn pl wr).1 ≤ tn := needsL_le h _
/-- an order done -/
def doP (g : gG) (w v x y : Int32) : gRes := if w = 0 then p_castsI g v else if w = 1 then p_beginsI g v else if w = 2 then p_cutsI g v x y else if w = 3 then p_takesDownI g v else if w = 4 then p_liftsI g v else
  if w = 5 then p_renewsI g v else if w = 6 then p_drivesI g v else if w = 7 then p_tellsI g v x else p_passesI g v
theorem hours_wd {g : gG} {v : Int32} (w : Int32) : gr_w w (p_passesI g v) = w := by
  unfold p_passesI
  split <;> rfl
theorem hours_dd {g : gG} {v : Int32} (w : Int32) : gr_d w (p_passesI g v) = w := by
  unfold p_passesI
  split <;> rfl
theorem gr_wok {x : gRes} {w : Int32} (h : ¬ gr_v x < 0) : gr_w w x = w := by
  cases x with
  | inl q => exact absurd (by decide : (-14 : Int32) < 0) h
  | inr q => rfl
theorem gr_dok {x : gRes} {w : Int32} (h : ¬ gr_v x < 0) : gr_d w x = w := by
  cases x with
  | inl q => exact absurd (by decide : (-14 : Int32) < 0) h
  | inr q => rfl
def doK (g td : gG) (k : Nat) : gRes := doP g (td (4 * k)) (td (4 * k + 1)) (td (4 * k + 2)) (td (4 * k + 3))
def runG (g td : gG) : Nat → gG
  | 0 => g
  | k + 1 => gr_g (runG g td k) (doK (runG g td k) td k)
/-- the first order that fails, or n -/
def runL (g td : gG) (n : Nat) : Nat → Nat → Nat
  | 0, k => k
  | f + 1, k => if k < n ∧ ¬ gr_v (doK (runG g td k) td k) < 0 then runL g td n f (k + 1) else k
def runF (g td : gG) (n : Nat) : Nat := runL g td n n 0
theorem runL_go {g td : gG} {n k : Nat} (h : k < n) (h2 : ¬ gr_v (doK (runG g td k) td k) < 0) : runL g td n (n - k) k = runL g td n (n - (k + 1)) (k + 1) := by
  rw [show n - k = (n - (k + 1)) + 1 by omega]
  show (if _ then _ else _) = _
  rw [if_pos ⟨h, h2⟩]
theorem runL_st {g td : gG} {n k : Nat} (h : k < n) (h2 : gr_v (doK (runG g td k) td k) < 0) : runL g td n (n - k) k = k := by
  rw [show n - k = (n - (k + 1)) + 1 by omega]
  show (if _ then _ else _) = _
  rw [if_neg (fun q => q.2 h2)]
theorem runL_end {g td : gG} {n k : Nat} (h : n ≤ k) : runL g td n (n - k) k = k := by
  rw [show n - k = 0 by omega]; rfl
theorem textL_n {tf : gG} {tn : Nat} (ht : tn ≤ 60) : ∀ (f n : Nat) (td : gG) (pl : Nat), pl ≤ tn → 2 * n ≤ pl → (textL tf tn f n td pl).1 ≤ 31
  | 0, n, td, pl, h1, h2 => by show n ≤ 31; omega
  | f + 1, n, td, pl, h1, h2 => by
    show (if moreP tf tn (ordY tf tn pl false).2.1 (ordY tf tn pl false).2.2 = true then textL tf tn f (n + 1) (ordN tf tn n td pl) ((ordY tf tn pl false).2.1 + 1) else _).1 ≤ 31
    split
    · rename_i h
      simp only [moreP, Bool.and_eq_true, Bool.not_eq_true', decide_eq_true_eq] at h
      have a := here_lt h.2 (by decide)
      have b := ord_gt h.1
      exact textL_n ht f _ _ _ (by omega) (by omega)
    · show n + 1 ≤ 31
      omega
theorem textP_n {tf : gG} {tn : Nat} {td : gG} (ht : tn ≤ 60) : (textP tf tn td).1 ≤ 31 := textL_n ht 61 0 td 0 (by omega) (by omega)
theorem textL_le {tf : gG} {tn : Nat} : ∀ (f n : Nat) (td : gG) (pl : Nat), pl ≤ tn → (textL tf tn f n td pl).2.2.1 ≤ tn
  | 0, n, td, pl, h1 => h1
  | f + 1, n, td, pl, h1 => by
    show (if moreP tf tn (ordY tf tn pl false).2.1 (ordY tf tn pl false).2.2 = true then textL tf tn f (n + 1) (ordN tf tn n td pl) ((ordY tf tn pl false).2.1 + 1) else _).2.2.1 ≤ tn
    split
    · rename_i h
      simp only [moreP, Bool.and_eq_true, Bool.not_eq_true', decide_eq_true_eq] at h
      have a := here_lt h.2 (by decide)
      exact textL_le f _ _ _ (by omega)
    · exact ord_le h1
theorem textP_le {tf : gG} {tn : Nat} {td : gG} : (textP tf tn td).2.2.1 ≤ tn := textL_le 61 0 td 0 (by omega)
theorem neg1000 : ∀ n, n ≤ 60 → -1000 - nI n < 0 := by decide +kernel
/-- what run answers, and the row behind it -/
def runP (g tf : gG) (tn : Nat) (td : gG) : gRes := if (textP tf tn td).2.2.2 = true then .inr (-1000 - nI (textP tf tn td).2.2.1, g) else
  if runF g (textP tf tn td).2.1 (textP tf tn td).1 < (textP tf tn td).1 then .inl (15, nI (runF g (textP tf tn td).2.1 (textP tf tn td).1)) else .inr (nI (textP tf tn td).1, runG g (textP tf tn td).2.1 (textP tf tn td).1)
theorem run_w {g tf td : gG} {tn : Nat} (h : (textP tf tn td).2.2.2 = true) : runP g tf tn td = .inr (-1000 - nI (textP tf tn td).2.2.1, g) := if_pos h
theorem run_f {g tf td : gG} {tn k : Nat} (h : (textP tf tn td).2.2.2 = false) (hk : runF g (textP tf tn td).2.1 (textP tf tn td).1 = k) (hn : k < (textP tf tn td).1) : runP g tf tn td = .inl (15, nI k) := by
  subst hk
  rw [runP, if_neg (by rw [h]; decide), if_pos hn]
theorem run_t {g tf td : gG} {tn k : Nat} (h : (textP tf tn td).2.2.2 = false) (hk : runF g (textP tf tn td).2.1 (textP tf tn td).1 = k) (hn : ¬ k < (textP tf tn td).1) : runP g tf tn td = .inr (nI (textP tf tn td).1, runG g (textP tf tn td).2.1 (textP tf tn td).1) := by
  subst hk
  rw [runP, if_neg (by rw [h]; decide), if_neg hn]
theorem mark_n {d u : Int32} (h : d < 0) : markI d u = 46 := by rw [markI, if_pos h]
theorem mark_e {d u : Int32} (h : ¬ d < 0) (h2 : d = u) : markI d u = 61 := by rw [markI, if_neg h, if_pos h2]
theorem mark_g {d u : Int32} (h : ¬ d < 0) (h2 : ¬ d = u) (h3 : u < d) : markI d u = 43 := by rw [markI, if_neg h, if_neg h2, if_pos h3]
theorem mark_l {d u : Int32} (h : ¬ d < 0) (h2 : ¬ d = u) (h3 : ¬ u < d) : markI d u = 45 := by rw [markI, if_neg h, if_neg h2, if_neg h3]
def q_mean (g : gG) (v : Int32) : UInt64 := if inR v 0 (g 212 - 1) = true then (if ofPoints g v.toNatClampNeg 0 = 0 then FP.dconst0 else FP.ddiv (FP.i2d (ofPoints g v.toNatClampNeg 2)) (FP.i2d (ofPoints g v.toNatClampNeg 0))) else FP.dconst0
def q_spout (g : gG) : UInt32 := if g 7 = 0 then FP.fconst0 else FP.fdiv (FP.i2f (sumL g 32 6)) (FP.i2f (g 7))
