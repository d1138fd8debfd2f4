/-! PURE 13: bounds of sacks, wind, ledges' copies, kept by every order; what is done answers no negative number -/
theorem gN.o_casts {g : gG} (hN : gN g) (v : Int32) : gN (gr_g g (p_castsI g v)) := by
  unfold p_castsI
  split
  · rename_i hv
    obtain ⟨j, hj, rfl⟩ := inR6 hv
    rw [nI_clamp (by omega)]
    unfold p_casts
    split
    · exact hN
    split
    · exact hN
    split
    · exact hN
    split
    · exact hN
    rename_i h3
    obtain ⟨d, hd, e⟩ := hN.2.1
    simp only [gr_g]
    have h3' : ¬ nI d < nI 3 := by rw [← e]; exact h3
    have hd3 : 3 ≤ d := by
      rcases Nat.lt_or_ge d 3 with q | q
      · exact absurd ((nI_ltI (by omega) (by omega)).mpr q) h3'
      · exact q
    refine ⟨fun l hl => ?_, ⟨d - 3, by omega, ?_⟩, ?_⟩
    · rw [upd_n (by omega), castLoop_n 10 (by omega), upd_n (by omega), upd_n (by omega)]
      exact hN.1 l hl
    · rw [upd_n (by omega), castLoop_n 10 (by omega), upd_n (by omega), upd_s, e]
      exact pk_sub hd3
    · rw [upd_n (by omega), castLoop_n 10 (by omega), upd_n (by omega), upd_n (by omega)]
      exact hN.2.2
  · exact hN
theorem gN.o_begins {g : gG} (hN : gN g) (v : Int32) : gN (gr_g g (p_beginsI g v)) := by
  unfold p_beginsI
  split
  · unfold p_begins
    split
    · exact hN
    split
    · exact hN
    simp only [gr_g]
    exact hN.same (by rw [upd_n (by omega), upd_n (by omega), beginLoop_n 10 (by omega), upd_n (by omega)]) (by rw [upd_n (by omega), upd_n (by omega), beginLoop_n 10 (by omega), upd_n (by omega)]) (fun k h1 h2 => by rw [upd_n (by omega), upd_n (by omega), beginLoop_n 10 (by omega), upd_n (by omega)])
  · exact hN
theorem gN.o_cuts {g : gG} (hN : gN g) (x y z : Int32) : gN (gr_g g (p_cutsI g x y z)) := by
  unfold p_cutsI
  split
  · split
    · split
      · unfold p_cuts
        split
        · exact hN
        split
        · exact hN
        split
        · exact hN
        split
        · exact hN
        simp only [gr_g, p_cut5]
        exact hN.same (by rw [upd_n (by omega), upd_n (by omega), upd_n (by omega), upd_n (by omega), upd_n (by omega)]) (by rw [upd_n (by omega), upd_n (by omega), upd_n (by omega), upd_n (by omega), upd_n (by omega)]) (fun k h1 h2 => by rw [upd_n (by omega), upd_n (by omega), upd_n (by omega), upd_n (by omega), upd_n (by omega)])
      · exact hN
    · exact hN
  · exact hN
theorem gN.o_down {g : gG} (hN : gN g) (v : Int32) : gN (gr_g g (p_takesDownI g v)) := by
  unfold p_takesDownI
  split
  · rename_i hv
    obtain ⟨j, hj, rfl⟩ := inR6 hv
    rw [nI_clamp (by omega)]
    unfold p_takesDown
    split
    · exact hN
    split
    · exact hN
    · exact hN.same (upd_n (by omega)) (upd_n (by omega)) (fun k h1 h2 => upd_n (by omega))
  · exact hN
theorem gN.pays {g : gG} (hN : gN g) {n : Int32} : gN (p_pays g n) := hN.same ((upd_n (by omega)).trans (upd_n (by omega))) ((upd_n (by omega)).trans (upd_n (by omega))) (fun k h1 h2 => (upd_n (by omega)).trans (upd_n (by omega)))
theorem gN.o_renews {g : gG} (hN : gN g) (v : Int32) : gN (gr_g g (p_renewsI g v)) := by
  unfold p_renewsI
  split
  · unfold p_renews
    split
    · exact hN
    · exact hN.pays.same ((upd_n (by omega)).trans (upd_n (by omega))) ((upd_n (by omega)).trans (upd_n (by omega))) (fun k h1 h2 => (upd_n (by omega)).trans (upd_n (by omega)))
  · exact hN
theorem gN.o_drives {g : gG} (hN : gN g) (v : Int32) : gN (gr_g g (p_drivesI g v)) := by
  unfold p_drivesI
  split
  · rename_i hv
    obtain ⟨j, hj, rfl⟩ := inR6 hv
    rw [nI_clamp (by omega)]
    unfold p_drives
    split
    · exact hN
    · exact hN.pays.same (upd_n (by omega)) (upd_n (by omega)) (fun k h1 h2 => upd_n (by omega))
  · exact hN
theorem gN.o_tells {g : gG} (hN : gN g) (x y : Int32) : gN (gr_g g (p_tellsI g x y)) := by
  unfold p_tellsI
  split
  · split
    · rename_i hy
      obtain ⟨d, hd, rfl⟩ := inR10 hy
      simp only [gr_g, p_tells]
      refine ⟨fun l hl => ?_, ?_, ⟨d, by omega, upd_s⟩⟩
      · rw [upd_n (by omega), upd_n (by omega)]; exact hN.1 l hl
      · rw [upd_n (by omega), upd_n (by omega)]; exact hN.2.1
    · exact hN
  · exact hN
theorem gN.o_lifts {g : gG} (h : gJ g) (hN : gN g) (v : Int32) : gN (gr_g g (p_liftsI g v)) := by
  have b3 := h.i.k.2
  unfold p_liftsI
  split
  · rename_i hv
    obtain ⟨c, hc, rfl⟩ := h.i.inK hv
    rw [nI_clamp (by omega)]
    have hl : ledgeFor g c < 6 := (h.i.cl (h.i.kc hc).2).2
    unfold p_lifts
    split
    · exact hN
    split
    · exact hN
    split
    · exact hN
    split
    · exact hN
    split
    · exact hN
    simp only [gr_g, p_lift4]
    refine ⟨fun l hl' => ?_, ?_, ?_⟩
    · rw [upd_n (by omega), upd_n (by omega)]
      by_cases e : l = ledgeFor g c
      · subst e; rw [upd_s]; exact Or.inr (nI_pos (by omega))
      · rw [upd_n (by omega), upd_n (by omega), upd_n (by omega)]; exact hN.1 l hl'
    · rw [upd_n (by omega), upd_n (by omega), upd_n (by omega), upd_n (by omega), upd_n (by omega)]; exact hN.2.1
    · rw [upd_n (by omega), upd_n (by omega), upd_n (by omega), upd_n (by omega), upd_n (by omega)]; exact hN.2.2
  · exact hN
theorem gN.o_hour {g : gG} (h : gJ g) (hN : gN g) : gN (p_hour g) := by
  have c1 : nn g 50 ≤ 10 := h.i.c.2
  have i1 := h.i.l_hrain
  have i2 : gInv (setsL (hourRain g) (nn g 50)) := i1.l_sets c1
  have i3 := i2.l_tick
  have e : ∀ k, 1 ≤ k → (k < 7 ∨ (7 < k ∧ k < 8) ∨ (44 ≤ k ∧ k < 50)) → hourTick (setsL (hourRain g) (nn g 50)) k = g k := fun k h1 h2 => by
    unfold hourTick
    rw [upd_n (by omega), setsL_n _ c1 (by omega), hourRain_n (by omega)]
  have h3 : gN (hourTick (setsL (hourRain g) (nn g 50))) := hN.same (e 2 (by omega) (by omega)) (e 3 (by omega) (by omega)) (fun k h1 h2 => e k (by omega) (by omega))
  unfold p_hour
  split
  · exact h3.same (endsDay_n i3.m.2 (by omega)) (endsDay_n i3.m.2 (by omega)) (fun k h1 h2 => endsDay_n i3.m.2 (by omega))
  · exact h3
theorem gN.o_hours {g : gG} (h : gJ g) (hN : gN g) : ∀ i, gN (hoursG g i)
  | 0 => hN
  | i + 1 => gN.o_hour (h.o_hours i) (hN.o_hours h i)
theorem gN.o_passes {g : gG} (h : gJ g) (hN : gN g) (v : Int32) : gN (gr_g g (p_passesI g v)) := by
  unfold p_passesI
  split
  · exact hN.o_hours h _
  · exact hN
theorem gN.o_sacks {g : gG} (hN : gN g) (v : Int32) : gN (gr_g g (p_sacksI g v)) := by
  unfold p_sacksI
  split
  · rename_i hv
    unfold p_sacks
    split
    · exact hN
    · simp only [gr_g]
      obtain ⟨d, hd, e⟩ := hN.2.1
      refine ⟨fun l hl => by rw [upd_n (by omega)]; exact hN.pays.1 l hl, ?_, by rw [upd_n (by omega)]; exact hN.pays.2.2⟩
      rw [upd_s]
      have hv2 : ∃ n, n ≤ 20 ∧ v = nI n := by
        simp only [inR, Bool.and_eq_true, Bool.not_eq_true', decide_eq_false_iff_not] at hv
        have h0 : ¬ v < 0 := fun q => hv.1 (by rw [Int32.lt_iff_toInt_lt] at q ⊢; have e0 : (0 : Int32).toInt = 0 := by decide
                                               have e1 : (1 : Int32).toInt = 1 := by decide
                                               omega)
        obtain ⟨n, hn, rfl⟩ := nI_of h0
        refine ⟨n, ?_, rfl⟩
        have h2 : ¬ nI 20 < nI n := hv.2
        rw [nI_ltI (by omega) hn] at h2
        omega
      obtain ⟨n, hn, rfl⟩ := hv2
      rw [e, nI_add]
      split
      · exact ⟨60, by omega, rfl⟩
      · rename_i q
        refine ⟨d + n, ?_, rfl⟩
        have q2 : ¬ nI 60 < nI (d + n) := q
        rw [nI_ltI (by omega) (by omega)] at q2
        omega
  · exact hN
theorem gN.o_comes {g : gG} (hN : gN g) (v : Int32) : gN (gr_g g (p_copyistI g v)) := by
  unfold p_copyistI
  split
  · unfold p_comes
    split
    · exact hN
    · exact hN.same (by simp only [gr_g]; rw [upd_n (by omega), upd_n (by omega), upd_n (by omega), upd_n (by omega)]) (by simp only [gr_g]; rw [upd_n (by omega), upd_n (by omega), upd_n (by omega), upd_n (by omega)]) (fun k h1 h2 => by simp only [gr_g]; rw [upd_n (by omega), upd_n (by omega), upd_n (by omega), upd_n (by omega)])
  · exact hN
theorem gN.o_do {g : gG} (h : gJ g) (hN : gN g) (w v x y : Int32) : gN (gr_g g (doP g w v x y)) := by
  unfold doP
  split
  · exact hN.o_casts v
  split
  · exact hN.o_begins v
  split
  · exact hN.o_cuts v x y
  split
  · exact hN.o_down v
  split
  · exact hN.o_lifts h v
  split
  · exact hN.o_renews v
  split
  · exact hN.o_drives v
  split
  · exact hN.o_tells v x
  · exact hN.o_passes h v
theorem gN.o_run {g td : gG} (h : gJ g) (hN : gN g) : ∀ k, gN (runG g td k)
  | 0 => hN
  | k + 1 => (hN.o_run h k).o_do (h.o_run k) _ _ _ _
/-- the wall's water of hours is no negative number -/
theorem wall_b : ∀ d, d < 46 → ∀ r, r < 10 → ∃ n, n ≤ 90 ∧ 10 * nI r - (if 3 * nI d < 10 * nI r then 3 * nI d else 10 * nI r) = nI n := by
  have key : ∀ d, d < 46 → ∀ r, r < 10 → nn (fun _ => 10 * nI r - (if 3 * nI d < 10 * nI r then 3 * nI d else 10 * nI r)) 0 ≤ 90 ∧ 10 * nI r - (if 3 * nI d < 10 * nI r then 3 * nI d else 10 * nI r) = nI (nn (fun _ => 10 * nI r - (if 3 * nI d < 10 * nI r then 3 * nI d else 10 * nI r)) 0) := by decide +kernel
  intro d hd r hr
  exact ⟨_, key d hd r hr⟩
theorem wallI_b {g : gG} (h : gJ g) (hk : gK g) {l : Nat} (hl : l < 6) : ∃ n, n ≤ 90 ∧ wallI g l = nI n := by
  obtain ⟨d, hd, e⟩ := point_b h hk hl
  obtain ⟨r, hr, e1⟩ := h.a3
  unfold wallI throughI
  rw [e, e1]
  exact wall_b d (by omega) r (by omega)
theorem wallL_b {g : gG} (h : gJ g) (hk : gK g) : ∀ i, i ≤ 6 → ∃ n, n ≤ 90 * i ∧ wallL g i = nI n
  | 0, _ => ⟨0, by omega, rfl⟩
  | i + 1, hi => by
    obtain ⟨n, hn, e⟩ := wallL_b h hk i (by omega)
    obtain ⟨m, hm, e2⟩ := wallI_b (h.o_rainL i (by omega)) (hk.o_rainL h.i i (by omega)) (l := i) (by omega)
    exact ⟨n + m, by omega, by show wallL g i + wallI (rainL g i) i = _; rw [e, e2, nI_add]⟩
theorem hourW_b {g : gG} (h : gJ g) (hk : gK g) : ∃ n, n ≤ 540 ∧ hourWall g = nI n := by
  obtain ⟨n, hn, e⟩ := wallL_b h hk 6 (Nat.le_refl _)
  exact ⟨n, by omega, by rw [← (hour_c h hk).2]; exact e⟩
theorem hoursW_b {g : gG} (h : gJ g) (hk : gK g) : ∀ i, i ≤ 72 → ∃ n, n ≤ 540 * i ∧ hoursW g i = nI n
  | 0, _ => ⟨0, by omega, rfl⟩
  | i + 1, hi => by
    obtain ⟨n, hn, e⟩ := hoursW_b h hk i (by omega)
    obtain ⟨m, hm, e2⟩ := hourW_b (h.o_hours i) (hk.o_hours h i)
    exact ⟨n + m, by omega, by show hoursW g i + hourWall (hoursG g i) = _; rw [e, e2, nI_add]⟩
theorem ok_casts {g g' : gG} {j : Nat} {r : Int32} (h : gJ g) (e : p_casts g j = .inr (r, g')) : ¬ r < 0 := by
  have b := h.i.c
  unfold p_casts at e
  split at e
  · cases e
  split at e
  · cases e
  split at e
  · cases e
  split at e
  · cases e
  cases e
  rw [b.1]; exact nI_pos (by omega)
theorem ok_comes {g g' : gG} {v r : Int32} (h : gJ g) (e : p_comes g v = .inr (r, g')) : ¬ r < 0 := by
  have b := h.i.m
  unfold p_comes at e
  split at e
  · cases e
  cases e
  rw [b.1]; exact nI_pos (by omega)
theorem ok_begins {g g' : gG} {c : Nat} {r : Int32} (h : gJ g) (e : p_begins g c = .inr (r, g')) : ¬ r < 0 := by
  have b := h.i.k
  unfold p_begins at e
  split at e
  · cases e
  split at e
  · cases e
  cases e
  rw [b.1]; exact nI_pos (by omega)
theorem ok_cuts {g g' : gG} {m c q : Nat} {r : Int32} (h : gJ g) (hk : gK g) (hm : m < nn g 191) (hc : c < nn g 212) (hq : q < 10) (e : p_cuts g m c q = .inr (r, g')) : ¬ r < 0 := by
  unfold p_cuts at e
  split at e
  · cases e
  split at e
  · cases e
  split at e
  · cases e
  split at e
  · cases e
  cases e
  obtain ⟨d, hd, ed⟩ := wouldBe_b h hk hm (h.i.kc hc).2 hq
  rw [ed]; exact nI_pos (by omega)
theorem ok_down {g g' : gG} {j : Nat} {r : Int32} (h : gJ g) (hj : j < 6) (e : p_takesDown g j = .inr (r, g')) : ¬ r < 0 := by
  unfold p_takesDown at e
  split at e
  · cases e
  split at e
  · cases e
  cases e
  obtain ⟨d, hd, ed⟩ := h.a2 j hj
  rw [ed]; exact nI_pos (by omega)
theorem ok_drives {g g' : gG} {j : Nat} {r : Int32} (h : gJ g) (hj : j < 6) (e : p_drives g j = .inr (r, g')) : ¬ r < 0 := by
  unfold p_drives at e
  split at e
  · cases e
  cases e
  obtain ⟨d, hd, ed⟩ := h.a1 j hj
  rw [ed]; exact nI_pos (by omega)
theorem ok_renews {g g' : gG} {m : Nat} {r : Int32} (hk : gK g) (hm : m < nn g 191) (e : p_renews g m = .inr (r, g')) : ¬ r < 0 := by
  unfold p_renews at e
  split at e
  · cases e
  cases e
  obtain ⟨d, hd, ed⟩ := hk.2.1 m hm
  rw [ed]; exact nI_pos (by omega)
theorem ok_sacks {g g' : gG} {v r : Int32} (hN : gN g) (hv : inR v 1 20 = true) (e : p_sacks g v = .inr (r, g')) : ¬ r < 0 := by
  have h1 := gN.o_sacks hN v
  unfold p_sacksI at h1
  rw [if_pos hv, e] at h1
  obtain ⟨d, hd, ed⟩ := h1.2.1
  have h3 : g' 3 = r := by
    unfold p_sacks at e
    split at e
    · cases e
    cases e
    exact upd_s
  have e3 : r = nI d := by rw [← h3]; exact ed
  rw [e3]; exact nI_pos (by omega)
theorem right_b {g : gG} {c : Nat} : ∀ i, i ≤ 10 → ∃ n, n ≤ i ∧ ofPointsL g c 1 i = nI n
  | 0, _ => ⟨0, by omega, rfl⟩
  | i + 1, hi => by
    obtain ⟨n, hn, e⟩ := right_b (g := g) (c := c) i (by omega)
    show ∃ n, n ≤ i + 1 ∧ (if g (229 + 10 * c + i) < 0 then ofPointsL g c 1 i else ofPointsL g c 1 i + ofPoint 1 (g (229 + 10 * c + i)) (g (229 + 10 * c + i) - g (91 + 10 * nn g (213 + c) + i))) = nI n
    split
    · exact ⟨n, by omega, e⟩
    · show ∃ n, n ≤ i + 1 ∧ ofPointsL g c 1 i + (if g (229 + 10 * c + i) - g (91 + 10 * nn g (213 + c) + i) = 0 then 1 else 0) = nI n
      split
      · exact ⟨n + 1, by omega, by rw [e, ← nI_add]; rfl⟩
      · exact ⟨n, by omega, by rw [e]; exact Int32.add_zero _⟩
theorem ok_lifts {g g' : gG} {c : Nat} {r : Int32} (e : p_lifts g c = .inr (r, g')) : ¬ r < 0 := by
  unfold p_lifts at e
  split at e
  · cases e
  split at e
  · cases e
  split at e
  · cases e
  split at e
  · cases e
  split at e
  · cases e
  cases e
  obtain ⟨n, hn, en⟩ := right_b (g := g) (c := c) 10 (Nat.le_refl _)
  have en' : ofPoints g c 1 = nI n := en
  rw [en', show (10 : Int32) = nI 10 from rfl, show (2 : Int32) = nI 2 from rfl, pk_mul, nI_add]
  exact nI_pos (by omega)
theorem ok_tells {g : gG} (h : gJ g) (hN : gN g) : ¬ 10 * g 1 + g 2 < 0 := by
  obtain ⟨r, hr, e1⟩ := h.a3
  obtain ⟨w, hw, e2⟩ := hN.2.2
  rw [e1, e2, show (10 : Int32) = nI 10 from rfl, pk_mul, nI_add]
  exact nI_pos (by omega)
theorem ok_hours {g : gG} (h : gJ g) (hk : gK g) {n : Nat} (hn : n ≤ 72) : ¬ hoursW g n < 0 := by
  obtain ⟨m, hm, e⟩ := hoursW_b h hk n hn
  rw [e]; exact nI_pos (by omega)
