/-! PURE 16: the reader's words, letter by letter -/
def hereJ (tf : gG) (tn pl : Nat) : Int32 := if pl < tn then tf pl else -11
theorem hereJ_d {tf : gG} {tn pl : Nat} : inR (hereJ tf tn pl) 48 57 = inR (hereI tf tn pl) 48 57 := by
  unfold hereJ hereI
  split
  · rfl
  · decide
theorem bZ_or {a b : Bool} : bZ a ||| bZ b = bZ (a || b) := by cases a <;> cases b <;> decide
def wdL (f : gG) (n : Nat) : Nat → Bool
  | 0 => false
  | i + 1 => wdL f n i || txEq (gByt (i + 1)) (gLen (i + 1)) f n
def bgL (f : gG) (n : Nat) : Nat → Bool
  | 0 => false
  | i + 1 => bgL f n i || txPre (gByt (i + 1)) (gLen (i + 1)) f n
theorem wdL_iff {f : gG} {n : Nat} : ∀ m, wdL f n m = true ↔ ∃ i, i < m ∧ gLen (i + 1) = n ∧ ∀ k, k < gLen (i + 1) → gByt (i + 1) k = f k
  | 0 => ⟨fun h => (Bool.false_ne_true h).elim, fun ⟨i, h, _⟩ => absurd h (Nat.not_lt_zero i)⟩
  | m + 1 => by
    show (wdL f n m || txEq (gByt (m + 1)) (gLen (m + 1)) f n) = true ↔ _
    rw [Bool.or_eq_true, wdL_iff m, txEq_iff]
    constructor
    · rintro (⟨i, h1, h2⟩ | h)
      · exact ⟨i, by omega, h2⟩
      · exact ⟨m, by omega, h⟩
    · rintro ⟨i, h1, h2⟩
      by_cases e : i = m
      · subst e; exact Or.inr h2
      · exact Or.inl ⟨i, by omega, h2⟩
theorem bgL_iff {f : gG} {n : Nat} : ∀ m, bgL f n m = true ↔ ∃ i, i < m ∧ n ≤ gLen (i + 1) ∧ ∀ k, k < n → gByt (i + 1) k = f k
  | 0 => ⟨fun h => (Bool.false_ne_true h).elim, fun ⟨i, h, _⟩ => absurd h (Nat.not_lt_zero i)⟩
  | m + 1 => by
    show (bgL f n m || txPre (gByt (m + 1)) (gLen (m + 1)) f n) = true ↔ _
    rw [Bool.or_eq_true, bgL_iff m, txPre_iff]
    constructor
    · rintro (⟨i, h1, h2⟩ | h)
      · exact ⟨i, by omega, h2⟩
      · exact ⟨m, by omega, h⟩
    · rintro ⟨i, h1, h2⟩
      by_cases e : i = m
      · subst e; exact Or.inr h2
      · exact Or.inl ⟨i, by omega, h2⟩
theorem wordL_c {tf : gG} {tn pl : Nat} : ∀ f w, (wordL tf tn pl f w < w + f → isWordP tf tn pl (wordL tf tn pl f w) = true) ∧ ∀ j, w ≤ j → j < wordL tf tn pl f w → isWordP tf tn pl j = false
  | 0, w => ⟨fun h => absurd h (Nat.lt_irrefl w), fun j h1 h2 => absurd (Nat.lt_of_le_of_lt h1 h2) (Nat.lt_irrefl w)⟩
  | f + 1, w => by
    obtain ⟨a, b⟩ := wordL_c (tf := tf) (tn := tn) (pl := pl) f (w + 1)
    show ((if isWordP tf tn pl w = true then w else wordL tf tn pl f (w + 1)) < w + (f + 1) → isWordP tf tn pl (if isWordP tf tn pl w = true then w else wordL tf tn pl f (w + 1)) = true) ∧ ∀ j, w ≤ j → j < (if isWordP tf tn pl w = true then w else wordL tf tn pl f (w + 1)) → isWordP tf tn pl j = false
    by_cases e : isWordP tf tn pl w = true
    · rw [if_pos e]; exact ⟨fun _ => e, fun j h1 h2 => absurd (Nat.lt_of_le_of_lt h1 h2) (Nat.lt_irrefl w)⟩
    · rw [if_neg e]
      refine ⟨fun h => a (by omega), fun j h1 h2 => ?_⟩
      by_cases q : j = w
      · subst q; exact Bool.eq_false_iff.mpr e
      · exact b j (by omega) h2
theorem word_y {tf : gG} {tn pl : Nat} (h : wordP tf tn pl < 8) : isWordP tf tn pl (wordP tf tn pl) = true := (wordL_c 8 0).1 (by unfold wordP at h; omega)
theorem word_n {tf : gG} {tn pl j : Nat} (h : j < wordP tf tn pl) : isWordP tf tn pl j = false := (wordL_c 8 0).2 j (Nat.zero_le j) h
theorem isWordP_1 {tf : gG} {tn pl k : Nat} (h : isWordP tf tn pl k = true) : gByt (k + 1) 0 = hereI tf tn pl := by
  unfold isWordP at h
  rw [Bool.and_eq_true] at h
  exact of_decide_eq_true h.1
theorem isWordP_2 {tf : gG} {tn pl k : Nat} (h : isWordP tf tn pl k = true) (hk : k = 0 ∨ k = 3) : gByt (k + 1) 1 = hereI tf tn (pl + 1) := by
  unfold isWordP at h
  rw [Bool.and_eq_true, Bool.or_eq_true] at h
  rcases h.2 with q | q
  · have := of_decide_eq_true q; omega
  · exact of_decide_eq_true q
theorem isWordP_t {tf : gG} {tn pl k : Nat} (h1 : gByt (k + 1) 0 = hereI tf tn pl) (h2 : (k ≠ 0 ∧ k ≠ 3) ∨ gByt (k + 1) 1 = hereI tf tn (pl + 1)) : isWordP tf tn pl k = true := by
  unfold isWordP
  rw [Bool.and_eq_true, Bool.or_eq_true]
  exact ⟨decide_eq_true h1, h2.elim (fun q => Or.inl (decide_eq_true q)) (fun q => Or.inr (decide_eq_true q))⟩
theorem pf_end : ∀ w, w < 9 → ∀ i, i < 9 → gLen (i + 1) ≤ gLen (w + 1) → (∀ k, k < gLen (i + 1) → gByt (i + 1) k = gByt (w + 1) k) → i = w := by decide +kernel
def pfB (w i k : Nat) : Bool := decide (i = w) || (!((List.range k).all (fun q => decide (gByt (i + 1) q = gByt (w + 1) q))) || (decide (gLen (i + 1) ≤ k) || (decide (gLen (w + 1) ≤ k) || (decide (k = 0) || (decide (k = 1) && ((decide (w = 0) && decide (i = 2)) || ((decide (w = 2) && decide (i = 0)) || ((decide (w = 3) && decide (i = 6)) || (decide (w = 6) && decide (i = 3))))))))))
theorem pf_twoB : ∀ w, w < 9 → ∀ i, i < 9 → ∀ k, k < 8 → pfB w i k = true := by decide +kernel
theorem pf_two (w : Nat) (hw : w < 9) (i : Nat) (hi : i < 9) (k : Nat) (hk : k < 8) (hne : i ≠ w) (hq : ∀ q, q < k → gByt (i + 1) q = gByt (w + 1) q) (h1 : k < gLen (i + 1)) (h2 : k < gLen (w + 1)) : k = 0 ∨ (k = 1 ∧ ((w = 0 ∧ i = 2) ∨ (w = 2 ∧ i = 0) ∨ (w = 3 ∧ i = 6) ∨ (w = 6 ∧ i = 3))) := by
  have h := pf_twoB w hw i hi k hk
  have ha : (List.range k).all (fun q => decide (gByt (i + 1) q = gByt (w + 1) q)) = true := by
    rw [List.all_eq_true]
    intro q hq'
    exact decide_eq_true (hq q (List.mem_range.mp hq'))
  unfold pfB at h
  rw [ha, decide_eq_false hne, decide_eq_false (Nat.not_le.mpr h1), decide_eq_false (Nat.not_le.mpr h2)] at h
  simpa using h
theorem pf_len : ∀ w, w < 9 → 4 ≤ gLen (w + 1) ∧ gLen (w + 1) ≤ 7 := by decide +kernel
theorem pf_alt : ∀ i, i < 8 → gByt ((if i = 0 then 2 else if i = 3 then 6 else i) + 1) 0 = gByt (i + 1) 0 := by decide +kernel
theorem pf_asc' : ∀ w, w < 9 → ∀ k, k < 8 → nn (gByt (w + 1)) k < 128 ∧ gByt (w + 1) k = nI (nn (gByt (w + 1)) k) := by decide +kernel
theorem pf_asc {w : Nat} (hw : w < 9) : gAsc (gByt (w + 1)) (gLen (w + 1)) := fun k hk => ⟨_, pf_asc' w hw k (by have := (pf_len w hw).2; omega)⟩
theorem wd_iff {f : gG} {w k : Nat} (hw : w < 9) (hk : k ≤ gLen (w + 1)) (hf : ∀ q, q < k → f q = gByt (w + 1) q) : wdL f k 9 = true ↔ k = gLen (w + 1) := by
  rw [wdL_iff]
  constructor
  · rintro ⟨i, hi, e, h⟩
    have := pf_end w hw i hi (by omega) (fun q hq => (h q hq).trans (hf q (by omega)))
    subst this; exact e.symm
  · intro e
    exact ⟨w, hw, e.symm, fun q hq => (hf q (by omega)).symm⟩
theorem bg_iff {f tf : gG} {tn pl k : Nat} (hk : k < gLen (wordP tf tn pl + 1)) (hf : ∀ q, q < k + 1 → f q = tf (pl + q)) (hp : ∀ q, q < k → tf (pl + q) = gByt (wordP tf tn pl + 1) q) (hn : pl + k < tn) : bgL f (k + 1) 9 = true ↔ gByt (wordP tf tn pl + 1) k = tf (pl + k) := by
  have hw : wordP tf tn pl < 9 := by have := wordP_le (tf := tf) (tn := tn) (pl := pl); omega
  rw [bgL_iff]
  constructor
  · rintro ⟨i, hi, hl, h⟩
    have h' : ∀ q, q < k + 1 → gByt (i + 1) q = tf (pl + q) := fun q hq => (h q hq).trans (hf q hq)
    by_cases e : i = wordP tf tn pl
    · subst e; exact h' k (by omega)
    · have l8 := (pf_len _ hw).2
      have h0 : hereI tf tn pl = tf (pl + 0) := here_y (by omega)
      rcases pf_two _ hw i hi k (by omega) e (fun q hq => (h' q (by omega)).trans (hp q hq)) (by omega) hk with k0 | ⟨k1, hc⟩
      · subst k0
        rw [← h0]
        by_cases w8 : wordP tf tn pl < 8
        · exact isWordP_1 (word_y w8)
        · exfalso
          have hi8 : i < 8 := by omega
          have hj : isWordP tf tn pl (if i = 0 then 2 else if i = 3 then 6 else i) = true := by
            refine isWordP_t ((pf_alt i hi8).trans ((h' 0 (by omega)).trans h0.symm)) (Or.inl ?_)
            split
            · omega
            · split <;> omega
          have hlt : (if i = 0 then 2 else if i = 3 then 6 else i) < wordP tf tn pl := by
            split
            · omega
            · split <;> omega
          rw [word_n hlt] at hj; exact Bool.false_ne_true hj
      · subst k1
        have h1 : hereI tf tn (pl + 1) = tf (pl + 1) := here_y hn
        rw [← h1]
        rcases hc with ⟨a, b⟩ | ⟨a, b⟩ | ⟨a, b⟩ | ⟨a, b⟩
        · exact isWordP_2 (word_y (by omega)) (Or.inl a)
        · exfalso
          have hj : isWordP tf tn pl 0 = true := isWordP_t ((b ▸ h' 0 (by omega) : gByt (0 + 1) 0 = _).trans h0.symm) (Or.inr ((b ▸ h' 1 (by omega) : gByt (0 + 1) 1 = _).trans h1.symm))
          rw [word_n (by omega)] at hj; exact Bool.false_ne_true hj
        · exact isWordP_2 (word_y (by omega)) (Or.inr a)
        · exfalso
          have hj : isWordP tf tn pl 3 = true := isWordP_t ((b ▸ h' 0 (by omega) : gByt (3 + 1) 0 = _).trans h0.symm) (Or.inr ((b ▸ h' 1 (by omega) : gByt (3 + 1) 1 = _).trans h1.symm))
          rw [word_n (by omega)] at hj; exact Bool.false_ne_true hj
  · intro e
    refine ⟨wordP tf tn pl, hw, by omega, fun q hq => ?_⟩
    rw [hf q hq]
    by_cases z : q = k
    · subst z; exact e
    · exact (hp q (by omega)).symm
theorem needsL_pre {tf : gG} {tn w pl : Nat} : ∀ k, (∀ q, q < k → tf (pl + q) = gByt (w + 1) q) → pl + k ≤ tn → needsL tf tn w pl false k = (pl + k, false)
  | 0, _, _ => rfl
  | k + 1, h, hn => by
    show needsP tf tn (gByt (w + 1) k) (needsL tf tn w pl false k).1 (needsL tf tn w pl false k).2 = _
    rw [needsL_pre k (fun q hq => h q (by omega)) (by omega)]
    show needsP tf tn (gByt (w + 1) k) (pl + k) false = _
    rw [needsP, if_neg (by decide), if_pos ⟨by omega, h k (by omega)⟩]
    rfl
theorem needsL_bad {tf : gG} {tn w pl k : Nat} (h : ∀ q, q < k → tf (pl + q) = gByt (w + 1) q) (hn : pl + k ≤ tn) (hb : ¬ (pl + k < tn ∧ tf (pl + k) = gByt (w + 1) k)) : ∀ m, needsL tf tn w pl false (k + 1 + m) = (pl + k, true)
  | 0 => by
    show needsP tf tn (gByt (w + 1) k) (needsL tf tn w pl false k).1 (needsL tf tn w pl false k).2 = _
    rw [needsL_pre k h hn]
    show needsP tf tn (gByt (w + 1) k) (pl + k) false = _
    rw [needsP, if_neg (by decide), if_neg hb]
  | m + 1 => by
    show needsP tf tn (gByt (w + 1) (k + 1 + m)) (needsL tf tn w pl false (k + 1 + m)).1 (needsL tf tn w pl false (k + 1 + m)).2 = _
    rw [needsL_bad h hn hb m]
    show needsP tf tn (gByt (w + 1) (k + 1 + m)) (pl + k) true = _
    rw [needsP, if_pos rfl]
theorem rw_ok {tf : gG} {tn pl : Nat} (h : ∀ q, q < gLen (wordP tf tn pl + 1) → tf (pl + q) = gByt (wordP tf tn pl + 1) q) (hn : pl + gLen (wordP tf tn pl + 1) ≤ tn) : rwP tf tn pl false = (pl + gLen (wordP tf tn pl + 1), false) := needsL_pre _ h hn
theorem rw_bad {tf : gG} {tn pl k : Nat} (hk : k < gLen (wordP tf tn pl + 1)) (h : ∀ q, q < k → tf (pl + q) = gByt (wordP tf tn pl + 1) q) (hn : pl + k ≤ tn) (hb : ¬ (pl + k < tn ∧ tf (pl + k) = gByt (wordP tf tn pl + 1) k)) : rwP tf tn pl false = (pl + k, true) := by
  have := needsL_bad h hn hb (gLen (wordP tf tn pl + 1) - (k + 1))
  rw [show k + 1 + (gLen (wordP tf tn pl + 1) - (k + 1)) = gLen (wordP tf tn pl + 1) by omega] at this
  exact this
/-! what has gone wrong stays so -/
theorem dig_w {tf : gG} {tn pl : Nat} : digitP tf tn pl true = (0, pl, true) := by rw [digitP, if_pos rfl]
theorem num_w {tf : gG} {tn pl : Nat} : numberP tf tn pl true = (0, pl, true) := by
  unfold numberP
  rw [dig_w, if_neg (fun h => absurd (show true = false from h.1) (by decide))]
theorem val_w {tf : gG} {tn w pl : Nat} : valP tf tn w pl true = (0, pl, true) := by
  unfold valP
  split
  · exact num_w
  · exact dig_w
theorem nds_w {tf : gG} {tn pl : Nat} {c : Int32} : needsP tf tn c pl true = (pl, true) := by rw [needsP, if_pos rfl]
theorem beh_w {tf : gG} {tn pl : Nat} {c : Int32} : behP tf tn c pl true = (0, pl, true) := by
  unfold behP
  rw [nds_w]; exact dig_w
theorem ordX_w {tf : gG} {tn pl z : Nat} (h : (ordV tf tn pl false).2 = (z, true)) : (ordX tf tn pl false).2 = (z, true) := by
  unfold ordX
  rw [h]
  split
  · rw [beh_w]
  split
  · rw [dig_w]
  · rfl
theorem ordY_x {tf : gG} {tn pl z : Nat} (h : (ordX tf tn pl false).2 = (z, true)) : (ordY tf tn pl false).2 = (z, true) := by
  unfold ordY
  rw [h]
  split
  · rw [beh_w]
  · rfl
theorem ordY_v {tf : gG} {tn pl z : Nat} (h : (ordV tf tn pl false).2 = (z, true)) : (ordY tf tn pl false).2 = (z, true) := ordY_x (ordX_w h)
theorem ordY_w {tf : gG} {tn pl z : Nat} (h : rwP tf tn pl false = (z, true)) : (ordY tf tn pl false).2 = (z, true) := by
  refine ordY_v ?_
  unfold ordV
  rw [h, val_w]
/-! digits and signs, as the component takes them -/
def wsF (kA : Nat → Nat) : Nat → Option Nat := fun i => if i < 9 then some (kA (i + 1)) else none
theorem wsF_at {kA : Nat → Nat} {i : Nat} (h : i < 9) : wsF kA i = some (kA (i + 1)) := if_pos h
theorem hereJ_y {tf : gG} {tn pl : Nat} (h : pl < tn) : hereJ tf tn pl = tf pl := if_pos h
theorem hereJ_n {tf : gG} {tn pl : Nat} (h : ¬ pl < tn) : hereJ tf tn pl = -11 := if_neg h
theorem dig_lt {tf : gG} {tn pl : Nat} (h : inR (hereJ tf tn pl) 48 57 = true) : pl < tn := by
  by_cases q : pl < tn
  · exact q
  · rw [hereJ_n q] at h; exact absurd h (by decide)
theorem dig_1 {tf : gG} {tn pl : Nat} (h : inR (hereJ tf tn pl) 48 57 = true) : digitP tf tn pl false = (hereJ tf tn pl - 48, pl + 1, false) := by
  have q := dig_lt h
  rw [hereJ_y q] at h ⊢
  rw [digitP, if_neg (by decide), if_pos ⟨q, h⟩]
theorem dig_0 {tf : gG} {tn pl : Nat} (h : ¬ inR (hereJ tf tn pl) 48 57 = true) : digitP tf tn pl false = (0, pl, true) := by
  rw [digitP, if_neg (by decide), if_neg]
  rintro ⟨q, z⟩
  rw [hereJ_y q] at h; exact h z
theorem num_1 {tf : gG} {tn pl : Nat} (h : inR (hereJ tf tn pl) 48 57 = true) (h2 : ¬ inR (hereJ tf tn (pl + 1)) 48 57 = true) : numberP tf tn pl false = (hereJ tf tn pl - 48, pl + 1, false) := by
  unfold numberP
  rw [dig_1 h]
  dsimp only
  rw [if_neg]
  rintro ⟨-, q⟩
  rw [← hereJ_d] at q; exact h2 q
theorem num_2 {tf : gG} {tn pl : Nat} (h : inR (hereJ tf tn pl) 48 57 = true) (h2 : inR (hereJ tf tn (pl + 1)) 48 57 = true) : numberP tf tn pl false = (10 * (hereJ tf tn pl - 48) + (hereJ tf tn (pl + 1) - 48), pl + 1 + 1, false) := by
  unfold numberP
  rw [dig_1 h]
  dsimp only
  rw [if_pos ⟨rfl, by rw [← hereJ_d]; exact h2⟩, dig_1 h2]
theorem num_0 {tf : gG} {tn pl : Nat} (h : ¬ inR (hereJ tf tn pl) 48 57 = true) : numberP tf tn pl false = (0, pl, true) := by
  unfold numberP
  rw [dig_0 h]
  dsimp only
  rw [if_neg (fun q => absurd (show true = false from q.1) (by decide))]
theorem sgn_y {tf : gG} {tn pl : Nat} {c : Int32} (hc : ¬ c = -11) (h : hereJ tf tn pl = c) : pl < tn ∧ needsP tf tn c pl false = (pl + 1, false) := by
  by_cases q : pl < tn
  · rw [hereJ_y q] at h
    exact ⟨q, by rw [needsP, if_neg (by decide), if_pos ⟨q, h⟩]⟩
  · rw [hereJ_n q] at h; exact absurd h.symm hc
theorem sgn_n {tf : gG} {tn pl : Nat} {c : Int32} (h : ¬ hereJ tf tn pl = c) : needsP tf tn c pl false = (pl, true) := by
  rw [needsP, if_neg (by decide), if_neg]
  rintro ⟨q, z⟩
  rw [hereJ_y q] at h; exact h z
theorem beh_n {tf : gG} {tn pl : Nat} {c : Int32} (h : ¬ hereJ tf tn pl = c) : behP tf tn c pl false = (0, pl, true) := by
  unfold behP
  rw [sgn_n h]; exact dig_w
theorem beh_y {tf : gG} {tn pl : Nat} {c : Int32} (hc : ¬ c = -11) (h : hereJ tf tn pl = c) : behP tf tn c pl false = digitP tf tn (pl + 1) false := by
  unfold behP
  rw [(sgn_y hc h).2]
/-- the word's own text, so far -/
theorem nI_n11 : ∀ c, c < 128 → ¬ nI c = -11 := by decide +kernel
theorem chr_i2d : ∀ c, c < 128 → ((nI c).toUInt32 % 65536).toInt32 = nI c := by decide +kernel
theorem hereJ_e {tf : gG} {tn tc pl : Nat} (h : gAsc tf tc) (ht : tn ≤ tc) (e : hereJ tf tn pl = -11) : ¬ pl < tn := by
  intro q
  rw [hereJ_y q] at e
  obtain ⟨c, hc, ec⟩ := h pl (by omega)
  rw [ec] at e
  exact absurd e (nI_n11 c hc)
theorem wd_t {f : gG} {tf : gG} {tn pl k : Nat} (hk : k ≤ gLen (wordP tf tn pl + 1)) (hf : ∀ q, q < k → f q = tf (pl + q)) (hp : ∀ q, q < k → tf (pl + q) = gByt (wordP tf tn pl + 1) q) : wdL f k 9 = true ↔ k = gLen (wordP tf tn pl + 1) :=
  wd_iff (by have := wordP_le (tf := tf) (tn := tn) (pl := pl); omega) hk (fun q hq => (hf q hq).trans (hp q hq))
theorem g_dropT {A : Nat → Prop} {D : va_G} {pre wx R : va_W} {s : State} {H : Heap} {locs : List Loc} (hw : gW D A (pre ++ (wx ++ R)) s H locs) : gW D A (pre ++ R) s H locs :=
  g_drop (q := wx) hw (pf2 (z := pre) (List.Perm.refl _))
