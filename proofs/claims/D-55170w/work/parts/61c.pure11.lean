/-! PURE 11: what a church computes, as the reference does -/
theorem neg_iff {g : gG} (h : gJ g) {c p : Nat} (hc : c < nn g 212) (hp : p < 10) : g (229 + 10 * c + p) < 0 ↔ g (229 + 10 * c + p) = -1 := by
  rcases h.a7 c hc p hp with q | q
  · exact ⟨fun _ => q, fun _ => by rw [q]; decide⟩
  · exact ⟨fun z => absurd z q, fun z => by rw [z]; decide⟩
theorem up_iff {g : gG} (h : gJ g) {c : Nat} (hc : c < 8) : g (221 + c) = 1 ↔ ¬ g (221 + c) = 0 := by
  rcases (h.a6 c hc).1 with q | q
  · rw [q]; exact ⟨fun z => absurd z (by decide), fun z => absurd rfl z⟩
  · rw [q]; exact ⟨fun _ => by decide, fun _ => rfl⟩
def tdQ (g : gG) (c : Nat) (w : Int32) : Int32 := if w = 0 then g (213 + c) else if w = 1 then (if g (221 + c) = 0 then 0 else 1) else if w = 2 then cutL (d10 g (229 + 10 * c)) 10 else if w = 3 then rightL (d10 g (229 + 10 * c)) (d10 g (91 + 10 * nn g (213 + c))) 10 else if w = 4 then 120 - sumP (d10 g (229 + 10 * c)) 10 / 10 else -12
def offI (du mh mw : Int32) : Int32 := absI (wouldI du (moreI mh mw) - du)
/-- what the component's isBetter answers -/
def btr (du h1 w1 t1 h2 w2 t2 : Int32) : Bool := if offI du h1 w1 - offI du h2 w2 = 0 then decide (600 - t2 < 600 - t1) else decide (offI du h1 w1 - offI du h2 w2 < 0)
def btrG (g : gG) (du : Int32) (m b : Nat) : Bool := btr du (g (192 + m)) (g (196 + m)) (600 - g (200 + m)) (g (192 + b)) (g (196 + b)) (600 - g (200 + b))
def bestC (g : gG) (du : Int32) : Nat → Int32
  | 0 => -15
  | i + 1 => if bestC g du i = -15 then nI i else if btrG g du i (bestC g du i).toNatClampNeg = true then nI i else bestC g du i
theorem bestC_in {g : gG} {du : Int32} : ∀ i, i ≤ 4 → bestC g du i = -15 ∨ ∃ b, b < i ∧ bestC g du i = nI b
  | 0, _ => Or.inl rfl
  | i + 1, h => by
    have ih := bestC_in (g := g) (du := du) i (by omega)
    show (if bestC g du i = -15 then nI i else if btrG g du i (bestC g du i).toNatClampNeg = true then nI i else bestC g du i) = -15 ∨ ∃ b, b < i + 1 ∧ (if bestC g du i = -15 then nI i else if btrG g du i (bestC g du i).toNatClampNeg = true then nI i else bestC g du i) = nI b
    split
    · exact Or.inr ⟨i, by omega, rfl⟩
    split
    · exact Or.inr ⟨i, by omega, rfl⟩
    · exact ih.imp id (fun ⟨b, h1, h2⟩ => ⟨b, by omega, h2⟩)
/-- two things out of a blob at once -/
def hole (f : Nat → va_W) (j : Nat) : Nat → va_W := fun i => if i = j then [] else f i
theorem blobE_hole {f : Nat → va_W} {j : Nat} : ∀ n, blobE f j n = blob (hole f j) n
  | 0 => rfl
  | n + 1 => by
    show (if n = j then blobE f j n else blobE f j n ++ f n) = blob (hole f j) n ++ hole f j n
    rw [blobE_hole n]
    by_cases e : n = j
    · rw [if_pos e, show hole f j n = [] from if_pos e, List.append_nil]
    · rw [if_neg e, show hole f j n = f n from if_neg e]
theorem blob_open2 {f : Nat → va_W} {j k : Nat} (n : Nat) (hj : j < n) (hk : k < n) (hjk : k ≠ j) : (blob f n).Perm ((f j ++ f k) ++ blobE (hole f j) k n) := by
  refine (blob_open n hj).trans ?_
  rw [blobE_hole, List.append_assoc]
  refine List.Perm.append_left _ ?_
  have h := blob_open (f := hole f j) (j := k) n hk
  rw [show hole f j k = f k from if_neg hjk] at h
  exact h
theorem cop_m {dA : Nat → ClassId} {ad ad' : Nat → Nat} {g g' : gG} {c p : Nat} {x : Int32} (ea : ad' (60 + c) = ad (60 + c) ∧ ad' (70 + c) = ad (70 + c)) (hp : p < 10) (e1 : g' (213 + c) = g (213 + c)) (e2 : g' (221 + c) = g (221 + c)) (e3 : g' (229 + 10 * c + p) = x) (e4 : ∀ q, q < 10 → q ≠ p → g' (229 + 10 * c + q) = g (229 + 10 * c + q)) :
    [((ad (60 + c), .inr (8, [.int (nI c), .int (g (213 + c)), .ref (ad (70 + c)), .int (g (221 + c))])) : Nat × va_E), (ad (70 + c), .inl (dA 0, 10, .inl (upd (d10 g (229 + 10 * c)) p x)))] = copC dA ad' g' c := by
  unfold copC
  have e5 : upd (d10 g (229 + 10 * c)) p x = d10 g' (229 + 10 * c) := by
    rw [d10_u hp]
    exact d10_c (fun q hq => by
      by_cases e : q = p
      · subst e; rw [upd_s, e3]
      · rw [upd_n (by omega), e4 q hq e])
  rw [ea.1, ea.2, e1, e2, e5]
theorem cop_u {dA : Nat → ClassId} {ad ad' : Nat → Nat} {g g' : gG} {c : Nat} {x : Int32} (ea : ad' (60 + c) = ad (60 + c) ∧ ad' (70 + c) = ad (70 + c)) (e1 : g' (213 + c) = g (213 + c)) (e2 : g' (221 + c) = x) (e4 : ∀ q, q < 10 → g' (229 + 10 * c + q) = g (229 + 10 * c + q)) :
    [((ad (60 + c), .inr (8, [.int (nI c), .int (g (213 + c)), .ref (ad (70 + c)), .int x])) : Nat × va_E), (ad (70 + c), .inl (dA 0, 10, .inl (d10 g (229 + 10 * c))))] = copC dA ad' g' c := by
  unfold copC
  rw [ea.1, ea.2, e1, e2, d10_c (g := g') (g' := g) (b := 229 + 10 * c) (fun q hq => e4 q hq)]
theorem left_e {x : Int32} : 600 - (600 - x) = x := by
  rw [Int32.sub_eq_add_neg 600 (600 - x), Int32.neg_sub, Int32.add_comm, Int32.sub_add_cancel]
theorem spent_e {x y : Int32} : 600 - x + y = 600 - (x - y) := by
  rw [Int32.sub_eq_add_neg 600 (x - y), Int32.neg_sub, Int32.sub_eq_add_neg 600 x, Int32.sub_eq_add_neg y x, Int32.add_assoc, Int32.add_comm (-x) y]
theorem blunt_e {w d : Int32} : blunt w d = wornMore w d := min_a
/-- how many points are cut -/
theorem cutL_n {f : gG} : ∀ i, i ≤ 10 → ∃ n, n ≤ i ∧ cutL f i = nI n ∧ (n = i ↔ ∀ k, k < i → ¬ f k = -1)
  | 0, _ => ⟨0, Nat.le_refl _, rfl, ⟨fun _ k hk => absurd hk (Nat.not_lt_zero k), fun _ => rfl⟩⟩
  | i + 1, h => by
    obtain ⟨n, h1, h2, h3⟩ := cutL_n (f := f) i (by omega)
    by_cases e : f i = -1
    · refine ⟨n, by omega, ?_, ⟨fun q => absurd q (by omega), fun q => absurd e (q i (by omega))⟩⟩
      show cutL f i + (if f i = -1 then 0 else 1) = nI n
      rw [if_pos e, h2]; exact Int32.add_zero _
    · refine ⟨n + 1, by omega, ?_, ⟨fun q k hk => ?_, fun q => ?_⟩⟩
      · show cutL f i + (if f i = -1 then 0 else 1) = nI (n + 1)
        rw [if_neg e, h2, ← nI_add]; rfl
      · by_cases z : k = i
        · rw [z]; exact e
        · exact h3.mp (by omega) k (by omega)
      · have := h3.mpr (fun k hk => q k (by omega)); omega
theorem notCutL_ge {f : gG} : ∀ (n i : Nat), (notCutL f n i = i + n ∧ ∀ k, i ≤ k → k < i + n → k < 10 → ¬ f k = -1) ∨ (notCutL f n i < i + n)
  | 0, i => Or.inl ⟨rfl, fun k h1 h2 => by omega⟩
  | n + 1, i => by
    show ((if i < 10 ∧ ¬ f i = -1 then notCutL f n (i + 1) else i) = i + (n + 1) ∧ _) ∨ (if i < 10 ∧ ¬ f i = -1 then notCutL f n (i + 1) else i) < i + (n + 1)
    by_cases e : i < 10 ∧ ¬ f i = -1
    · rw [if_pos e]
      rcases notCutL_ge (f := f) n (i + 1) with ⟨a, b⟩ | a
      · refine Or.inl ⟨by omega, fun k h1 h2 h3 => ?_⟩
        by_cases z : k = i
        · rw [z]; exact e.2
        · exact b k (by omega) (by omega) h3
      · exact Or.inr (by omega)
    · rw [if_neg e]; exact Or.inr (by omega)
theorem uncut_nc {g : gG} (h : gJ g) {c : Nat} (hc : c < nn g 212) : ∀ (n i : Nat), i + n = 10 → uncutL g c n i = notCutL (d10 g (229 + 10 * c)) n i
  | 0, _, _ => rfl
  | n + 1, i, hi => by
    show (if i < 10 ∧ ¬ g (229 + 10 * c + i) < 0 then uncutL g c n (i + 1) else i) = (if i < 10 ∧ ¬ d10 g (229 + 10 * c) i = -1 then notCutL (d10 g (229 + 10 * c)) n (i + 1) else i)
    rw [d10_at (by omega), uncut_nc h hc n (i + 1) (by omega)]
    simp only [neg_iff h hc (show i < 10 by omega)]
theorem uncut_e {g : gG} (h : gJ g) {c : Nat} (hc : c < nn g 212) : notCut (d10 g (229 + 10 * c)) = uncut g c := (uncut_nc h hc 10 0 rfl).symm
theorem cut10 {f : gG} : cutL f 10 < 10 ↔ notCut f < 10 := by
  obtain ⟨n, h1, h2, h3⟩ := cutL_n (f := f) 10 (Nat.le_refl _)
  rw [h2, show (10 : Int32) = nI 10 from rfl, nI_ltI (by omega) (by omega)]
  have hle : notCut f ≤ 10 ∧ (notCut f = 10 ↔ ∀ k, k < 10 → ¬ f k = -1) := by
    unfold notCut
    rcases notCutL_ge (f := f) 10 0 with ⟨a, b⟩ | a
    · exact ⟨by omega, ⟨fun _ k hk => b k (by omega) (by omega) hk, fun _ => by omega⟩⟩
    · refine ⟨by omega, ⟨fun q => by omega, fun q => ?_⟩⟩
      -- all cut: the walk reaches ten
      have : ∀ (n i : Nat), i + n = 10 → notCutL f n i = 10 := by
        intro n
        induction n with
        | zero => intro i hi; show i = 10; omega
        | succ n ih =>
          intro i hi
          show (if i < 10 ∧ ¬ f i = -1 then notCutL f n (i + 1) else i) = 10
          rw [if_pos ⟨by omega, q i (by omega)⟩]
          exact ih (i + 1) (by omega)
      exact this 10 0 rfl
  constructor
  · intro z
    rcases Nat.lt_or_ge (notCut f) 10 with y | y
    · exact y
    · have := h3.mpr (hle.2.mp (by omega)); omega
  · intro z
    rcases Nat.lt_or_ge n 10 with y | y
    · exact y
    · have := hle.2.mpr (h3.mp (by omega)); omega
theorem sum_pts {g : gG} (h : gJ g) {c : Nat} (hc : c < nn g 212) : ∀ i, i ≤ 10 → sumP (d10 g (229 + 10 * c)) i = ofPointsL g c 2 i
  | 0, _ => rfl
  | i + 1, hi => by
    have ih := sum_pts h hc i (by omega)
    show sumP (d10 g (229 + 10 * c)) i + (if 0 < d10 g (229 + 10 * c) i then d10 g (229 + 10 * c) i else 0) = if g (229 + 10 * c + i) < 0 then ofPointsL g c 2 i else ofPointsL g c 2 i + ofPoint 2 (g (229 + 10 * c + i)) (g (229 + 10 * c + i) - g (91 + 10 * nn g (213 + c) + i))
    rw [ih, d10_at (by omega)]
    by_cases e : g (229 + 10 * c + i) < 0
    · rw [if_pos e, if_neg (fun q => absurd (Int32.lt_trans e q) (by rw [Int32.lt_iff_toInt_lt]; omega))]; exact Int32.add_zero _
    · rw [if_neg e]
      by_cases q : 0 < g (229 + 10 * c + i)
      · rw [if_pos q]; rfl
      · have e0 : g (229 + 10 * c + i) = 0 := by
          apply Int32.toInt_inj.mp
          rw [Int32.lt_iff_toInt_lt] at e q
          omega
        rw [if_neg q, e0]; rfl
theorem weight_e {g : gG} (h : gJ g) {c : Nat} (hc : c < nn g 212) : 120 - sumP (d10 g (229 + 10 * c)) 10 / 10 = weightI g c := by
  rw [sum_pts h hc 10 (Nat.le_refl _)]; rfl
theorem over_c (s : Int32) : ∀ j, j < 6 → ((bearI j < 120 - s / 10 ↔ 0 < 120 - s / 10 - 120 + 3 * heightI j / 2) ∧ 120 - s / 10 - bearI j = 120 - s / 10 - 120 + 3 * heightI j / 2) := by
  have hb : -214748365 ≤ (s / 10).toInt ∧ (s / 10).toInt ≤ 214748365 := by
    have h1 := Int32.le_toInt s
    have h2 := Int32.toInt_lt s
    rw [Int32.toInt_div]
    have h10 : (10 : Int32).toInt = 10 := by decide
    rw [h10]
    have tb : ∀ a : Int, -2147483648 ≤ a → a < 2147483648 → -214748365 ≤ a.tdiv 10 ∧ a.tdiv 10 ≤ 214748365 := by
      intro a q1 q2
      rcases Int.le_total 0 a with q | q
      · rw [Int.tdiv_eq_ediv_of_nonneg q]; omega
      · rw [show a = -(-a) by omega, Int.neg_tdiv, Int.tdiv_eq_ediv_of_nonneg (show 0 ≤ -a by omega)]; omega
    obtain ⟨t1, t2⟩ := tb s.toInt (by omega) (by omega)
    have e : (s.toInt.tdiv 10).bmod (2 ^ 32) = s.toInt.tdiv 10 := by
      apply Int.bmod_eq_of_le <;> omega
    rw [e]
    exact ⟨t1, t2⟩
  generalize s / 10 = x at hb
  have key : ∀ K : Int32, 6 ≤ K.toInt → K.toInt ≤ 28 → ((120 - K < 120 - x ↔ 0 < 120 - x - 120 + K) ∧ 120 - x - (120 - K) = 120 - x - 120 + K) := by
    intro K k1 k2
    have e0 : (0 : Int32).toInt = 0 := by decide
    have e120 : (120 : Int32).toInt = 120 := by decide
    have b1 : (120 - K).toInt = 120 - K.toInt := by
      rw [Int32.toInt_sub, e120]; apply Int.bmod_eq_of_le <;> omega
    have b2 : (120 - x).toInt = 120 - x.toInt := by
      rw [Int32.toInt_sub, e120]; apply Int.bmod_eq_of_le <;> omega
    have b3 : (120 - x - 120).toInt = - x.toInt := by
      rw [Int32.toInt_sub, b2, e120, show 120 - x.toInt - 120 = - x.toInt by omega]; apply Int.bmod_eq_of_le <;> omega
    have b4 : (120 - x - 120 + K).toInt = - x.toInt + K.toInt := by
      rw [Int32.toInt_add, b3]; apply Int.bmod_eq_of_le <;> omega
    have b5 : (120 - x - (120 - K)).toInt = - x.toInt + K.toInt := by
      rw [Int32.toInt_sub, b2, b1, show 120 - x.toInt - (120 - K.toInt) = - x.toInt + K.toInt by omega]; apply Int.bmod_eq_of_le <;> omega
    refine ⟨?_, Int32.toInt_inj.mp (by rw [b4, b5])⟩
    rw [Int32.lt_iff_toInt_lt, Int32.lt_iff_toInt_lt, b1, b2, b4, e0]
    omega
  intro j hj
  have hk : ∀ j, j < 6 → 6 ≤ (3 * heightI j / 2).toInt ∧ (3 * heightI j / 2).toInt ≤ 28 := by decide +kernel
  exact key _ (hk j hj).1 (hk j hj).2
theorem over_i {g : gG} (h : gJ g) {c : Nat} (hc : c < nn g 212) : (bearI (ledgeFor g c) < weightI g c ↔ 0 < overI g c) ∧ weightI g c - bearI (ledgeFor g c) = overI g c := over_c (ofPoints g c 2) (ledgeFor g c) (h.i.cl (h.i.kc hc).2).2
theorem right_e {g : gG} (h : gJ g) {c : Nat} (hc : c < nn g 212) : ∀ i, i ≤ 10 → rightL (d10 g (229 + 10 * c)) (d10 g (91 + 10 * nn g (213 + c))) i = ofPointsL g c 1 i
  | 0, _ => rfl
  | i + 1, hi => by
    have ih := right_e h hc i (by omega)
    show rightL (d10 g (229 + 10 * c)) (d10 g (91 + 10 * nn g (213 + c))) i + (if d10 g (229 + 10 * c) i = -1 then 0 else if d10 g (229 + 10 * c) i - d10 g (91 + 10 * nn g (213 + c)) i = 0 then 1 else 0) = if g (229 + 10 * c + i) < 0 then ofPointsL g c 1 i else ofPointsL g c 1 i + ofPoint 1 (g (229 + 10 * c + i)) (g (229 + 10 * c + i) - g (91 + 10 * nn g (213 + c) + i))
    rw [ih, d10_at (by omega), d10_at (by omega)]
    simp only [neg_iff h hc (show i < 10 by omega)]
    by_cases e : g (229 + 10 * c + i) = -1
    · rw [if_pos e, if_pos e]; exact Int32.add_zero _
    · rw [if_neg e, if_neg e]; rfl
theorem cut_e {g : gG} (h : gJ g) {c : Nat} (hc : c < nn g 212) : ∀ i, i ≤ 10 → cutL (d10 g (229 + 10 * c)) i = ofPointsL g c 0 i
  | 0, _ => rfl
  | i + 1, hi => by
    have ih := cut_e h hc i (by omega)
    show cutL (d10 g (229 + 10 * c)) i + (if d10 g (229 + 10 * c) i = -1 then 0 else 1) = if g (229 + 10 * c + i) < 0 then ofPointsL g c 0 i else ofPointsL g c 0 i + ofPoint 0 (g (229 + 10 * c + i)) (g (229 + 10 * c + i) - g (91 + 10 * nn g (213 + c) + i))
    rw [ih, d10_at (by omega)]
    simp only [neg_iff h hc (show i < 10 by omega)]
    by_cases e : g (229 + 10 * c + i) = -1
    · rw [if_pos e, if_pos e]; exact Int32.add_zero _
    · rw [if_neg e, if_neg e]; rfl
theorem copI_n {n : Nat} (h : n < 8) : copI (nI n) = nI n := by
  unfold copI
  rw [if_neg (nI_pos (by omega))]
