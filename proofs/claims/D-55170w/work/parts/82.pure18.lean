/-! PURE 18: orders, kept in a list -/
theorem needsL_f {tf : gG} {tn w pl : Nat} : ∀ m, (needsL tf tn w pl false m).2 = false → (needsL tf tn w pl false m).1 = pl + m
  | 0, _ => rfl
  | m + 1, h => by
    have h1 : (needsP tf tn (gByt (w + 1) m) (needsL tf tn w pl false m).1 (needsL tf tn w pl false m).2).2 = false := h
    show (needsP tf tn (gByt (w + 1) m) (needsL tf tn w pl false m).1 (needsL tf tn w pl false m).2).1 = pl + (m + 1)
    have h2 := needs_wr h1
    have ih := needsL_f m h2
    rw [h2, ih] at h1 ⊢
    unfold needsP at h1 ⊢
    rw [if_neg (by decide)] at h1 ⊢
    split at h1
    · rename_i q
      rw [if_pos q]; rfl
    · exact absurd (show true = false from h1) (by decide)
theorem ordY_5 {tf : gG} {tn pl : Nat} (h : (ordY tf tn pl false).2.2 = false) : pl + 5 ≤ (ordY tf tn pl false).2.1 := by
  have hr : (rwP tf tn pl false).2 = false := by
    cases q : (rwP tf tn pl false).2 with
    | false => rfl
    | true =>
      have := ordY_w (z := (rwP tf tn pl false).1) (Prod.ext rfl q)
      rw [this] at h; exact absurd (show true = false from h) (by decide)
  have hp : (rwP tf tn pl false).1 = pl + gLen (wordP tf tn pl + 1) := needsL_f _ hr
  have hw9 : wordP tf tn pl < 9 := by have := wordP_le (tf := tf) (tn := tn) (pl := pl); omega
  have hl := (pf_len _ hw9).1
  have e : rwP tf tn pl false = (pl + gLen (wordP tf tn pl + 1), false) := Prod.ext hp hr
  have hv : pl + gLen (wordP tf tn pl + 1) + 1 ≤ (ordV tf tn pl false).2.1 := by
    by_cases h8 : wordP tf tn pl = 8
    · rw [ordV_n e h8]
      by_cases d : inR (hereJ tf tn (pl + gLen (wordP tf tn pl + 1))) 48 57 = true
      · by_cases d2 : inR (hereJ tf tn (pl + gLen (wordP tf tn pl + 1) + 1)) 48 57 = true
        · rw [num_2 d d2]; dsimp only; omega
        · rw [num_1 d d2]; dsimp only; omega
      · exfalso
        have hV : (ordV tf tn pl false).2 = (pl + gLen (wordP tf tn pl + 1), true) := by rw [ordV_n e h8, num_0 d]
        have := ordY_v hV
        rw [this] at h; exact absurd (show true = false from h) (by decide)
    · rw [ordV_d e h8]
      by_cases d : inR (hereJ tf tn (pl + gLen (wordP tf tn pl + 1))) 48 57 = true
      · rw [dig_1 d]; dsimp only; omega
      · exfalso
        have hV : (ordV tf tn pl false).2 = (pl + gLen (wordP tf tn pl + 1), true) := by rw [ordV_d e h8, dig_0 d]
        have := ordY_v hV
        rw [this] at h; exact absurd (show true = false from h) (by decide)
  have hx : (ordV tf tn pl false).2.1 ≤ (ordX tf tn pl false).2.1 := by
    unfold ordX
    split
    · exact beh_ge
    split
    · exact digit_ge
    · exact Nat.le_refl _
  have hy : (ordX tf tn pl false).2.1 ≤ (ordY tf tn pl false).2.1 := by
    unfold ordY
    split
    · exact beh_ge
    · exact Nat.le_refl _
  omega
/-- an order's own cells -/
def ordW (dA : Nat → ClassId) (a b c w : Nat) (f : gG) (x y z : Int32) : va_W := [(a, .inr (12, [.ref b, .int x, .int y, .int z])), (b, .inr (17, [.ref c, .int 0, .int (txH f (gLen (w + 1))), .int 0])), (c, .inl (dA 2, gLen (w + 1), .inl f))]
/-- the i-th order is what the reference has written -/
def ordOK (dA : Nat → ClassId) (td : gG) (i : Nat) (cs : va_W) (a : Nat) : Prop :=
  ∃ (b c w : Nat) (f : gG) (x y z : Int32), cs = ordW dA a b c w f x y z ∧ w < 9 ∧ gAsc f (gLen (w + 1)) ∧ (∀ q, q < gLen (w + 1) → f q = gByt (w + 1) q) ∧ td (4 * i) = nI w ∧ td (4 * i + 1) = x ∧ (w = 2 → td (4 * i + 2) = y ∧ td (4 * i + 3) = z) ∧ (w = 7 → td (4 * i + 2) = y ∧ inR x 0 9 = true ∧ inR y 0 9 = true)
def rowO (oa : Nat → Nat) (n : Nat) : Nat → Option Nat := fun i => if i < n then some (oa i) else none
theorem rowO_at {oa : Nat → Nat} {n i : Nat} (h : i < n) : rowO oa n i = some (oa i) := if_pos h
def upO (f : Nat → Nat) (n a : Nat) : Nat → Nat := fun i => if i = n then a else f i
def upW (f : Nat → va_W) (n : Nat) (a : va_W) : Nat → va_W := fun i => if i = n then a else f i
theorem rowO_s {oa : Nat → Nat} {n a : Nat} : va_up (rowO oa n) n (some a) = rowO (upO oa n a) (n + 1) := by
  funext i
  unfold rowO upO
  by_cases e : i = n
  · subst e; rw [va_up_self, if_pos (by omega), if_pos rfl]
  · rw [va_up_ne _ _ e]
    by_cases l : i < n
    · rw [if_pos l, if_pos (by omega), if_neg e]
    · rw [if_neg l, if_neg (by omega)]
theorem upW_s {f : Nat → va_W} {n : Nat} {a : va_W} : blob (upW f n a) (n + 1) = blob f n ++ a := by
  show blob (upW f n a) n ++ upW f n a n = blob f n ++ a
  rw [show upW f n a n = a from if_pos rfl, blob_c (f := upW f n a) (f' := f) n (fun i hi => if_neg (by omega))]
theorem ordN_n {tf td : gG} {tn n pl k : Nat} (h : k < 4 * n) : ordN tf tn n td pl k = td k := by
  unfold ordN ordT
  split
  · rw [upd_n (by omega), upd_n (by omega), upd_n (by omega), upd_n (by omega)]
  split
  · rw [upd_n (by omega), upd_n (by omega), upd_n (by omega)]
  · rw [upd_n (by omega), upd_n (by omega)]
theorem ordOK.keep {dA : Nat → ClassId} {td tf : gG} {tn n pl i : Nat} {cs : va_W} {a : Nat} (hi : i < n) (h : ordOK dA td i cs a) : ordOK dA (ordN tf tn n td pl) i cs a := by
  obtain ⟨b, c, w, f, x, y, z, h1, h2, h3, h4, h5, h6, h7, h8⟩ := h
  exact ⟨b, c, w, f, x, y, z, h1, h2, h3, h4, (ordN_n (by omega)).trans h5, (ordN_n (by omega)).trans h6, fun q => ⟨(ordN_n (by omega)).trans (h7 q).1, (ordN_n (by omega)).trans (h7 q).2⟩, fun q => ⟨(ordN_n (by omega)).trans (h8 q).1, (h8 q).2⟩⟩
theorem dig_in {tf : gG} {tn z : Nat} : inR (digitP tf tn z false).1 0 9 = true := by
  by_cases d : inR (hereJ tf tn z) 48 57 = true
  · rw [dig_1 d]
    have q := d
    simp only [inR, Bool.and_eq_true, Bool.not_eq_true', decide_eq_false_iff_not] at q ⊢
    have e48 : (48 : Int32).toInt = 48 := by decide
    have e57 : (57 : Int32).toInt = 57 := by decide
    have e0 : (0 : Int32).toInt = 0 := by decide
    have e9 : (9 : Int32).toInt = 9 := by decide
    rw [Int32.lt_iff_toInt_lt, Int32.lt_iff_toInt_lt] at q
    have hs : (hereJ tf tn z - 48).toInt = (hereJ tf tn z).toInt - 48 := by
      rw [Int32.toInt_sub, e48]
      exact Int.bmod_eq_of_le (by omega) (by omega)
    rw [Int32.lt_iff_toInt_lt, Int32.lt_iff_toInt_lt, hs, e0, e9]
    omega
  · rw [dig_0 d]; dsimp only; decide
theorem ordOK.new {dA : Nat → ClassId} {td tf f : gG} {tn n pl a b c : Nat} (hf : gAsc f (gLen (wordP tf tn pl + 1))) (hq : ∀ q, q < gLen (wordP tf tn pl + 1) → f q = gByt (wordP tf tn pl + 1) q) (hok : (ordY tf tn pl false).2.2 = false) :
    ordOK dA (ordN tf tn n td pl) n (ordW dA a b c (wordP tf tn pl) f (ordV tf tn pl false).1 (ordX tf tn pl false).1 (ordY tf tn pl false).1) a := by
  have hw9 : wordP tf tn pl < 9 := by have := wordP_le (tf := tf) (tn := tn) (pl := pl); omega
  refine ⟨b, c, wordP tf tn pl, f, _, _, _, rfl, hw9, hf, hq, ?_, ?_, ?_, ?_⟩
  · unfold ordN ordT
    split
    · rw [upd_n (by omega), upd_n (by omega), upd_n (by omega), upd_s]
    split
    · rw [upd_n (by omega), upd_n (by omega), upd_s]
    · rw [upd_n (by omega), upd_s]
  · unfold ordN ordT
    split
    · rw [upd_n (by omega), upd_n (by omega), upd_s]
    split
    · rw [upd_n (by omega), upd_s]
    · rw [upd_s]
  · intro e
    unfold ordN ordT
    rw [if_pos e]
    exact ⟨by rw [upd_n (by omega), upd_s], upd_s⟩
  · intro e
    have hr : ∃ z, rwP tf tn pl false = (z, false) := by
      refine ⟨(rwP tf tn pl false).1, Prod.ext rfl ?_⟩
      cases q : (rwP tf tn pl false).2 with
      | false => rfl
      | true =>
        have := ordY_w (z := (rwP tf tn pl false).1) (Prod.ext rfl q)
        rw [this] at hok; exact absurd (show true = false from hok) (by decide)
    obtain ⟨z, hz⟩ := hr
    have hV := ordV_d hz (by omega)
    have hV2 : (digitP tf tn z false).2.2 = false := by
      cases q : (digitP tf tn z false).2.2 with
      | false => rfl
      | true =>
        have := ordY_v (tf := tf) (tn := tn) (pl := pl) (z := (digitP tf tn z false).2.1) (by rw [hV]; exact Prod.ext rfl q)
        rw [this] at hok; exact absurd (show true = false from hok) (by decide)
    have hX := ordX_7 hV hV2 e
    refine ⟨?_, by rw [hV]; exact dig_in, by rw [hX]; exact dig_in⟩
    unfold ordN ordT
    rw [if_neg (by omega), if_pos e, upd_s]
theorem more_f {tf : gG} {tn z : Nat} : moreP tf tn z true = false := rfl
theorem more_1 {tf : gG} {tn z : Nat} (h : hereJ tf tn z = 59) : moreP tf tn z false = true ∧ z < tn := by
  by_cases q : z < tn
  · rw [hereJ_y q] at h
    exact ⟨by unfold moreP; rw [here_y q, decide_eq_true h]; rfl, q⟩
  · rw [hereJ_n q] at h; exact absurd h (by decide)
theorem more_0 {tf : gG} {tn z : Nat} (h : ¬ hereJ tf tn z = 59) : moreP tf tn z false = false := by
  unfold moreP
  by_cases q : z < tn
  · rw [hereJ_y q] at h; rw [here_y q, decide_eq_false h]; rfl
  · rw [here_n q]; decide
/-- what is still to be read behind n orders, the last of which ends at z -/
def restP (tf : gG) (tn n : Nat) (td : gG) (z : Nat) : gRd := if moreP tf tn z false = true then textL tf tn (61 - n) n td (z + 1) else (n, td, z, decide (z < tn))
theorem text_ok {tf td : gG} {tn n pl : Nat} (hn : n < 61) (h : (ordY tf tn pl false).2.2 = false) : textL tf tn (61 - n) n td pl = restP tf tn (n + 1) (ordN tf tn n td pl) (ordY tf tn pl false).2.1 := by
  unfold restP
  by_cases m : moreP tf tn (ordY tf tn pl false).2.1 false = true
  · rw [if_pos m]
    exact textL_go hn (by rw [h]; exact m)
  · rw [if_neg m, textL_st hn (by rw [h]; exact Bool.eq_false_iff.mpr m), h, Bool.false_or]
theorem text_bad {tf td : gG} {tn n pl z : Nat} (hn : n < 61) (h : (ordY tf tn pl false).2 = (z, true)) : (textL tf tn (61 - n) n td pl).2.2 = (z, true) := by
  rw [textL_st hn (by rw [h]; rfl), h]
  rfl
theorem rowO_0 {f : Nat → Nat} : rowO f 0 = fun _ => none := by funext i; exact if_neg (Nat.not_lt_zero i)
theorem rowO_1 {f : Nat → Nat} {a : Nat} : va_up (fun _ => none) 0 (some a) = rowO (upO f 0 a) 1 := by rw [← rowO_0 (f := f)]; exact rowO_s
theorem blob_in {f : Nat → va_W} {n : Nat} {ex R : va_W} : (ex ++ (blob f n ++ R)).Perm (blob (upW f n ex) (n + 1) ++ R) := by
  rw [upW_s, List.append_assoc]
  exact (pf2 (z := blob f n) (q := ex) (y := R) (List.Perm.refl _)).symm
theorem ord_all {dA : Nat → ClassId} {td tf : gG} {tn n pl a : Nat} {oc : Nat → va_W} {oa : Nat → Nat} {cs : va_W} (h : ∀ i, i < n → ordOK dA td i (oc i) (oa i)) (hn : ordOK dA (ordN tf tn n td pl) n cs a) : ∀ i, i < n + 1 → ordOK dA (ordN tf tn n td pl) i (upW oc n cs i) (upO oa n a i) := by
  intro i hi
  by_cases e : i = n
  · subst e; rw [show upW oc i cs i = cs from if_pos rfl, show upO oa i a i = a from if_pos rfl]; exact hn
  · rw [show upW oc n cs i = oc i from if_neg e, show upO oa n a i = oa i from if_neg e]
    exact (h i (by omega)).keep (by omega)
