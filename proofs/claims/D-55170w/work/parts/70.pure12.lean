/-! PURE 12: the component's answers are the reference's -/
def gN (g : gG) : Prop := (∀ l, l < 6 → g (44 + l) = -1 ∨ ¬ g (44 + l) < 0) ∧ (∃ d, d ≤ 60 ∧ g 3 = nI d) ∧ (∃ d, d ≤ 9 ∧ g 2 = nI d)
theorem gN.same {g g' : gG} (h : gN g) (e2 : g' 2 = g 2) (e3 : g' 3 = g 3) (e : ∀ k, 44 ≤ k → k < 50 → g' k = g k) : gN g' :=
  ⟨fun l hl => by rw [e _ (by omega) (by omega)]; exact h.1 l hl, by rw [e3]; exact h.2.1, by rw [e2]; exact h.2.2⟩
theorem copI_e {x : Int32} (h : x = -1 ∨ ¬ x < 0) : copI x = if x = -1 then -15 else x := by
  unfold copI
  rcases h with q | q
  · rw [q]; decide
  · rw [if_neg q, if_neg (fun z => q (by rw [z]; decide))]
theorem led_q {g : gG} (hN : gN g) {j : Nat} (hj : j < 6) {w : Int32} : ledV j (g (8 + j)) (g (14 + j)) (g (20 + j)) (copI (g (44 + j))) (g (32 + j)) (g (38 + j)) w = (if w = 0 then heightI j else if w = 1 then g (8 + j) else if w = 2 then g (14 + j) else if w = 3 then g (20 + j) else if w = 4 then (if g (44 + j) = -1 then -15 else g (44 + j)) else if w = 5 then g (32 + j) else if w = 6 then g (38 + j) else -12) := by
  unfold ledV
  rw [copI_e (hN.1 j hj)]
theorem set_v {g : gG} (h : gJ g) {c : Nat} (hc : c < 10) : (if g (61 + c) = 4 then (1 : Int32) else 0) = g (71 + c) := by
  rcases h.a4 c hc with ⟨q1, q2⟩ | ⟨q1, q2⟩
  · rw [if_neg q2, q1]
  · rw [if_pos q2, q1]
theorem cas_q {g : gG} (h : gJ g) {j : Nat} (hj : j < nn g 50) {w : Int32} : casV (g (51 + j)) (g (61 + j)) (g (81 + j)) w = (if w = 0 then g (51 + j) else if w = 1 then g (71 + j) else if w = 2 then g (61 + j) else if w = 3 then g (81 + j) else -12) := by
  have := h.i.c.2
  unfold casV
  rw [set_v h (by omega)]
theorem myc_q {g : gG} {j : Nat} {w : Int32} : cpyV (g (192 + j)) (g (196 + j)) (600 - g (200 + j)) (g (204 + j)) (g (208 + j)) w = (if inR w 0 4 = true then g (192 + 4 * w.toNatClampNeg + j) else -12) := by
  unfold cpyV
  rw [left_e]
  by_cases h : inR w 0 4 = true
  · rw [if_pos h]
    obtain ⟨k, hk, rfl⟩ := inR5 h
    rw [nI_clamp (by omega)]
    rcases (show k = 0 ∨ k = 1 ∨ k = 2 ∨ k = 3 ∨ k = 4 by omega) with rfl | rfl | rfl | rfl | rfl <;> rfl
  · rw [if_neg h, if_neg (fun e => h (by rw [e]; rfl)), if_neg (fun e => h (by rw [e]; rfl)), if_neg (fun e => h (by rw [e]; rfl)), if_neg (fun e => h (by rw [e]; rfl)), if_neg (fun e => h (by rw [e]; rfl))]
theorem up_v {g : gG} (h : gJ g) {c : Nat} (hc : c < 8) : (if g (221 + c) = 0 then (0 : Int32) else 1) = g (221 + c) := by
  rcases (h.a6 c hc).1 with q | q
  · rw [q]; rfl
  · rw [q]; rfl
theorem cop_q {g : gG} (h : gJ g) {j : Nat} (hj : j < nn g 212) {w : Int32} : tdQ g j w = (if w = 0 then g (213 + j) else if w = 1 then g (221 + j) else if w = 2 then ofPoints g j 0 else if w = 3 then ofPoints g j 1 else if w = 4 then weightI g j else -12) := by
  have := h.i.k.2
  unfold tdQ
  rw [up_v h (by omega), cut_e h hj 10 (Nat.le_refl _), right_e h hj 10 (Nat.le_refl _), weight_e h hj]; rfl
theorem abs_b : ∀ a, a < 46 → ∀ b, b < 46 → absI (nI a - nI b) = apartI (nI a) (nI b) ∧ nn (fun _ => apartI (nI a) (nI b)) 0 ≤ 45 ∧ apartI (nI a) (nI b) = nI (nn (fun _ => apartI (nI a) (nI b)) 0) := by decide +kernel
theorem dif_b : ∀ a, a < 46 → ∀ b, b < 46 → (nI a - nI b = 0 ↔ nI a = nI b) ∧ (nI a - nI b < 0 ↔ nI a < nI b) := by decide +kernel
theorem off_b {g : gG} (h : gJ g) (hk : gK g) {m c q : Nat} (hm : m < nn g 191) (hc : c < nn g 50) (hq : q < 10) : ∃ d, d < 46 ∧ apartI (wouldBe g m c q) (g (91 + 10 * c + q)) = nI d ∧ offI (g (91 + 10 * c + q)) (g (192 + m)) (g (196 + m)) = nI d := by
  obtain ⟨d, hd, e⟩ := wouldBe_b h hk hm hc hq
  obtain ⟨u, hu, e2⟩ := hk.1 c hc q hq
  obtain ⟨k1, k2, k3⟩ := abs_b d (by omega) u (by omega)
  refine ⟨nn (fun _ => apartI (nI d) (nI u)) 0, by omega, by rw [e, e2]; exact k3, ?_⟩
  unfold offI
  have e4 : wouldI (g (91 + 10 * c + q)) (moreI (g (192 + m)) (g (196 + m))) = nI d := e
  rw [e4, e2, k1]; exact k3
theorem best_q {g : gG} (h : gJ g) (hk : gK g) {c q : Nat} (hc : c < nn g 50) (hq : q < 10) : ∀ i, i ≤ nn g 191 → bestC g (g (91 + 10 * c + q)) i = (bestL g c q i).1 ∧ (¬ (bestL g c q i).1 = -15 → (bestL g c q i).2 = apartI (wouldBe g (bestL g c q i).1.toNatClampNeg c q) (g (91 + 10 * c + q)))
  | 0, _ => ⟨rfl, fun z => absurd rfl z⟩
  | i + 1, hi => by
    have b2 := h.i.m.2
    obtain ⟨ih1, ih2⟩ := best_q h hk hc hq i (by omega)
    have hin := best_in (g := g) (c := c) (q := q) i (by omega)
    show (if bestC g (g (91 + 10 * c + q)) i = -15 then nI i else if btrG g (g (91 + 10 * c + q)) i (bestC g (g (91 + 10 * c + q)) i).toNatClampNeg = true then nI i else bestC g (g (91 + 10 * c + q)) i) = (bestStep g c q i (bestL g c q i)).1 ∧ (¬ (bestStep g c q i (bestL g c q i)).1 = -15 → (bestStep g c q i (bestL g c q i)).2 = apartI (wouldBe g (bestStep g c q i (bestL g c q i)).1.toNatClampNeg c q) (g (91 + 10 * c + q)))
    rw [ih1]
    generalize bestL g c q i = x at ih2 hin
    obtain ⟨b, least⟩ := x
    dsimp only at ih2 hin ⊢
    have ci : (nI i).toNatClampNeg = i := nI_clamp (by omega)
    unfold bestStep
    dsimp only
    by_cases h15 : b = -15
    · rw [if_pos h15, if_pos h15]
      exact ⟨rfl, fun _ => by dsimp only; rw [ci]⟩
    · rw [if_neg h15, if_neg h15]
      obtain ⟨b', hb', rfl⟩ := hin.resolve_left h15
      have cb : (nI b').toNatClampNeg = b' := nI_clamp (by omega)
      have hl := ih2 h15
      rw [cb] at hl
      subst hl
      obtain ⟨d1, hd1, o1, p1⟩ := off_b h hk (m := i) (by omega) hc hq
      obtain ⟨d2, hd2, o2, p2⟩ := off_b h hk (m := b') (by omega) hc hq
      obtain ⟨z1, z2⟩ := dif_b d1 hd1 d2 hd2
      rw [cb]
      have hbt : btrG g (g (91 + 10 * c + q)) i b' = if nI d1 = nI d2 then decide (g (200 + b') < g (200 + i)) else decide (nI d1 < nI d2) := by
        unfold btrG btr
        rw [p1, p2, left_e, left_e]
        by_cases y : nI d1 = nI d2
        · rw [if_pos y, if_pos (z1.mpr y)]
        · rw [if_neg y, if_neg (fun w => y (z1.mp w))]
          by_cases u : nI d1 < nI d2
          · rw [decide_eq_true u, decide_eq_true (z2.mpr u)]
          · rw [decide_eq_false u, decide_eq_false (fun w => u (z2.mp w))]
      rw [hbt, o1, o2]
      have irr : ¬ nI d1 < nI d1 := by rw [Int32.lt_iff_toInt_lt]; omega
      by_cases y : nI d1 < nI d2
      · have hne : ¬ nI d1 = nI d2 := fun e => irr (by rw [← e] at y; exact y)
        rw [if_neg hne, decide_eq_true y, if_pos rfl, if_pos y]
        exact ⟨rfl, fun _ => by dsimp only; rw [ci, o1]⟩
      · by_cases e : nI d1 = nI d2
        · rw [if_pos e, if_neg y, if_neg (show ¬ ¬ nI d1 = nI d2 from fun w => w e)]
          by_cases t : g (200 + b') < g (200 + i)
          · rw [decide_eq_true t, if_pos rfl, if_pos t]
            exact ⟨rfl, fun _ => by dsimp only; rw [ci, o1]⟩
          · rw [decide_eq_false t, if_neg (by decide), if_neg t]
            exact ⟨rfl, fun _ => by dsimp only; rw [cb, o2]⟩
        · rw [if_neg e, decide_eq_false y, if_neg (by decide), if_neg y, if_pos e]
          exact ⟨rfl, fun _ => by dsimp only; rw [cb, o2]⟩
theorem wrong_q {g : gG} (h : gJ g) (hk : gK g) {c : Nat} (hc : c < nn g 212) : ∀ i, i ≤ 10 → wrL (d10 g (229 + 10 * c)) (d10 g (91 + 10 * nn g (213 + c))) i = wrongL g c i
  | 0, _ => rfl
  | i + 1, hi => by
    have ih := wrong_q h hk hc i (by omega)
    show wrL (d10 g (229 + 10 * c)) (d10 g (91 + 10 * nn g (213 + c))) i + (if d10 g (229 + 10 * c) i = -1 then 0 else absI (d10 g (229 + 10 * c) i - d10 g (91 + 10 * nn g (213 + c)) i)) = wrongL g c i + (if g (229 + 10 * c + i) < 0 then 0 else apartI (g (229 + 10 * c + i)) (g (91 + 10 * nn g (213 + c) + i)))
    rw [ih, d10_at (by omega), d10_at (by omega)]
    rcases hk.2.2 c hc i (by omega) with e | ⟨d, hd, e⟩
    · rw [e, if_pos rfl, if_pos (by decide)]
    · obtain ⟨u, hu, e2⟩ := hk.1 _ (h.i.kc hc).2 i (by omega)
      have hn : ¬ nI d < 0 := nI_pos (by omega)
      rw [e, e2, if_neg hn, if_neg (fun z => hn (by rw [z]; decide)), (abs_b d (by omega) u (by omega)).1]
theorem great_q {g : gG} (h : gJ g) {c : Nat} (hc : c < nn g 212) : ∀ i, i ≤ 10 → greatL (d10 g (229 + 10 * c)) (d10 g (91 + 10 * nn g (213 + c))) i = ofPointsL g c 3 i ∧ smallL (d10 g (229 + 10 * c)) (d10 g (91 + 10 * nn g (213 + c))) i = - ofPointsL g c 4 i
  | 0, _ => ⟨rfl, show (0 : Int32) = -0 by decide⟩
  | i + 1, hi => by
    obtain ⟨a, b⟩ := great_q h hc i (by omega)
    have n1 := neg_iff h hc (show i < 10 by omega)
    refine ⟨?_, ?_⟩
    · show (if d10 g (229 + 10 * c) i = -1 then greatL (d10 g (229 + 10 * c)) (d10 g (91 + 10 * nn g (213 + c))) i else greatL (d10 g (229 + 10 * c)) (d10 g (91 + 10 * nn g (213 + c))) i + (if 0 < d10 g (229 + 10 * c) i - d10 g (91 + 10 * nn g (213 + c)) i then d10 g (229 + 10 * c) i - d10 g (91 + 10 * nn g (213 + c)) i else 0)) = if g (229 + 10 * c + i) < 0 then ofPointsL g c 3 i else ofPointsL g c 3 i + ofPoint 3 (g (229 + 10 * c + i)) (g (229 + 10 * c + i) - g (91 + 10 * nn g (213 + c) + i))
      rw [a, d10_at (by omega), d10_at (by omega)]
      by_cases e : g (229 + 10 * c + i) = -1
      · rw [if_pos e, if_pos (n1.mpr e)]
      · rw [if_neg e, if_neg (fun z => e (n1.mp z))]; rfl
    · show (if d10 g (229 + 10 * c) i = -1 then smallL (d10 g (229 + 10 * c)) (d10 g (91 + 10 * nn g (213 + c))) i else smallL (d10 g (229 + 10 * c)) (d10 g (91 + 10 * nn g (213 + c))) i + (if d10 g (229 + 10 * c) i - d10 g (91 + 10 * nn g (213 + c)) i < 0 then d10 g (229 + 10 * c) i - d10 g (91 + 10 * nn g (213 + c)) i else 0)) = -(if g (229 + 10 * c + i) < 0 then ofPointsL g c 4 i else ofPointsL g c 4 i + ofPoint 4 (g (229 + 10 * c + i)) (g (229 + 10 * c + i) - g (91 + 10 * nn g (213 + c) + i)))
      rw [b, d10_at (by omega), d10_at (by omega)]
      by_cases e : g (229 + 10 * c + i) = -1
      · rw [if_pos e, if_pos (n1.mpr e)]
      · rw [if_neg e, if_neg (fun z => e (n1.mp z))]
        show -ofPointsL g c 4 i + (if g (229 + 10 * c + i) - g (91 + 10 * nn g (213 + c) + i) < 0 then g (229 + 10 * c + i) - g (91 + 10 * nn g (213 + c) + i) else 0) = -(ofPointsL g c 4 i + (if g (229 + 10 * c + i) - g (91 + 10 * nn g (213 + c) + i) < 0 then -(g (229 + 10 * c + i) - g (91 + 10 * nn g (213 + c) + i)) else 0))
        split
        · generalize g (229 + 10 * c + i) - g (91 + 10 * nn g (213 + c) + i) = t9
          rw [Int32.neg_add, Int32.sub_eq_add_neg, Int32.neg_neg]
        · rw [Int32.add_zero, Int32.add_zero]
theorem again_q {g : gG} (h : gJ g) {c : Nat} (hc : c < nn g 212) : greatL (d10 g (229 + 10 * c)) (d10 g (91 + 10 * nn g (213 + c))) 10 - smallL (d10 g (229 + 10 * c)) (d10 g (91 + 10 * nn g (213 + c))) 10 = ofPoints g c 3 + ofPoints g c 4 := by
  obtain ⟨a, b⟩ := great_q h hc 10 (Nat.le_refl _)
  rw [a, b, Int32.sub_eq_add_neg, Int32.neg_neg]; rfl
theorem worn_q {g : gG} {j : Nat} : wornQ g j = (if ¬ g (14 + j) = 0 then -15 else if g 1 < 5 then -15 else if ¬ g (20 + j) < 9 then -15 else 8 - g (26 + j)) := by
  unfold wornQ
  by_cases a : g (14 + j) = 0
  · rw [if_pos a, if_neg (show ¬ ¬ g (14 + j) = 0 from fun z => z a)]
    by_cases b : g 1 < 5
    · rw [if_pos b, if_pos b]
    · rw [if_neg b, if_neg b]
      by_cases d : g (20 + j) < 9
      · rw [if_pos d, if_neg (show ¬ ¬ g (20 + j) < 9 from fun z => z d)]
      · rw [if_neg d, if_pos d]
  · rw [if_neg a, if_pos a]
theorem sumL_add {g : gG} {b n : Nat} : ∀ m, sumL g b (n + m) = sumL g b n + sumL g (b + n) m
  | 0 => (Int32.add_zero _).symm
  | m + 1 => by
    show sumL g b (n + m) + g (b + (n + m)) = sumL g b n + (sumL g (b + n) m + g (b + n + m))
    rw [sumL_add m, Int32.add_assoc, Nat.add_assoc]
theorem ofLed_5 {g : gG} : ∀ i, ofLedL g 5 i = sumL g 32 i
  | 0 => rfl
  | i + 1 => by show ofLedL g 5 i + g (32 + i) = sumL g 32 i + g (32 + i); rw [ofLed_5 i]
theorem ofLed_6 {g : gG} : ∀ i, ofLedL g 6 i = sumL g 38 i
  | 0 => rfl
  | i + 1 => by show ofLedL g 6 i + g (38 + i) = sumL g 38 i + g (38 + i); rw [ofLed_6 i]
theorem ofLed_1 {g : gG} : ∀ i, ofLedL g 1 i = sumL g 8 i
  | 0 => rfl
  | i + 1 => by show ofLedL g 1 i + g (8 + i) = sumL g 8 i + g (8 + i); rw [ofLed_1 i]
theorem bal_e {g : gG} : balC g = true ↔ (g 7 = sumL g 32 12 ∧ g 4 = 20 + g 5 - g 6) := by
  unfold balC
  rw [ofLed_5, ofLed_6, ← sumL_add (b := 32) (n := 6) 6]
  simp
theorem bal_t {g : gG} (h : balC g = true) : (1 : Int32) = q_balanced g := by
  obtain ⟨a, b⟩ := bal_e.mp h
  rw [q_balanced, if_pos a, if_pos b]
theorem bal_f {g : gG} (h : balC g = false) : (0 : Int32) = q_balanced g := by
  unfold q_balanced
  split
  · rename_i a
    split
    · rename_i b
      rw [bal_e.mpr ⟨a, b⟩] at h; exact absurd h (by decide)
    · rfl
  · rfl
theorem set_q {g : gG} (h : gJ g) : ∀ i, i ≤ 10 → setL g i = sumL g 71 i
  | 0, _ => rfl
  | i + 1, hi => by
    show setL g i + (if g (61 + i) = 4 then 1 else 0) = sumL g 71 i + g (71 + i)
    rw [set_q h i (by omega), set_v h (by omega)]
theorem up_q {g : gG} (h : gJ g) : ∀ i, i ≤ 8 → upL g i = sumL g 221 i
  | 0, _ => rfl
  | i + 1, hi => by
    show upL g i + (if g (221 + i) = 0 then 0 else 1) = sumL g 221 i + g (221 + i)
    rw [up_q h i (by omega), up_v h (by omega)]
theorem point_q {g : gG} (h : gJ g) : pointL g (nn g 191) = g 309 := by
  have b := h.i.m.2
  have z : ∀ m, nn g 191 ≤ m → m < 4 → g (204 + m) = 0 := fun m h1 h2 => (h.a9 m h1 h2).2
  have k : ∀ n, nn g 191 ≤ n → n ≤ 4 → pointL g n = pointL g (nn g 191) := by
    intro n
    induction n with
    | zero => intro h1 _; rw [show nn g 191 = 0 by omega]
    | succ n ih =>
      intro h1 h2
      by_cases e : nn g 191 = n + 1
      · rw [e]
      · show pointL g n + g (204 + n) = _
        rw [ih (by omega) (by omega), z n (by omega) (by omega)]; exact Int32.add_zero _
  rw [← k 4 b (Nat.le_refl _), h.a10]
  show 0 + g (204 + 0) + g (204 + 1) + g (204 + 2) + g (204 + 3) = _
  rw [Int32.zero_add]
