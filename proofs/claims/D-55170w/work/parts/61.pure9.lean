/-! PURE 9: bounds of depths and needles, kept by every order -/
def K1 (g : gG) : Prop := ∀ c, c < nn g 50 → ∀ q, q < 10 → ∃ d, d ≤ 38 ∧ g (91 + 10 * c + q) = nI d
def K2 (g : gG) : Prop := ∀ m, m < nn g 191 → ∃ d, d ≤ 20 ∧ g (196 + m) = nI d
def K3 (g : gG) : Prop := ∀ c, c < nn g 212 → ∀ q, q < 10 → g (229 + 10 * c + q) = -1 ∨ ∃ d, d ≤ 45 ∧ g (229 + 10 * c + q) = nI d
def gK (g : gG) : Prop := K1 g ∧ K2 g ∧ K3 g
theorem K1.same {g g' : gG} (h : K1 g) (hc : nn g 50 ≤ 10) (e5 : g' 50 = g 50) (e : ∀ k, 91 ≤ k → k < 191 → g' k = g k) : K1 g' := fun c hc' q hq => by
  rw [nn_e e5] at hc'; rw [e _ (by omega) (by omega)]; exact h c hc' q hq
theorem K2.same {g g' : gG} (h : K2 g) (hc : nn g 191 ≤ 4) (e5 : g' 191 = g 191) (e : ∀ k, 196 ≤ k → k < 200 → g' k = g k) : K2 g' := fun c hc' => by
  rw [nn_e e5] at hc'; rw [e _ (by omega) (by omega)]; exact h c hc'
theorem K3.same {g g' : gG} (h : K3 g) (hc : nn g 212 ≤ 8) (e5 : g' 212 = g 212) (e : ∀ k, 229 ≤ k → k < 309 → g' k = g k) : K3 g' := fun c hc' q hq => by
  rw [nn_e e5] at hc'; rw [e _ (by omega) (by omega)]; exact h c hc' q hq
/-- the places that gK doesn't speak of -/
def kOth (k : Nat) : Prop := k < 50 ∨ (50 < k ∧ k < 91) ∨ (191 < k ∧ k < 196) ∨ (200 ≤ k ∧ k < 212) ∨ (212 < k ∧ k < 229) ∨ 309 ≤ k
theorem gK.same {g g' : gG} (h : gK g) (hI : gInv g) (e : ∀ k, ¬ kOth k → g' k = g k) : gK g' := by
  have E : ∀ k, ¬ (k < 50 ∨ (50 < k ∧ k < 91) ∨ (191 < k ∧ k < 196) ∨ (200 ≤ k ∧ k < 212) ∨ (212 < k ∧ k < 229) ∨ 309 ≤ k) → g' k = g k := e
  exact ⟨h.1.same hI.c.2 (E 50 (by omega)) (fun k _ _ => E k (by omega)), h.2.1.same hI.m.2 (E 191 (by omega)) (fun k _ _ => E k (by omega)), h.2.2.same hI.k.2 (E 212 (by omega)) (fun k _ _ => E k (by omega))⟩
theorem gK.upd {g : gG} (h : gK g) (hI : gInv g) {k : Nat} {x : Int32} (hk : kOth k) : gK (upd g k x) := h.same hI (fun q hq => upd_n (fun e => hq (by rw [e]; exact hk)))
theorem would_b : ∀ d, d < 39 → ∀ w, w < 21 → (∃ e, e ≤ 45 ∧ wouldI (nI d) (moreI 0 (nI w)) = nI e) ∧ (∃ e, e ≤ 45 ∧ wouldI (nI d) (moreI 1 (nI w)) = nI e) ∧ (∃ e, e ≤ 45 ∧ wouldI (nI d) (moreI 2 (nI w)) = nI e) := by
  have key : ∀ d, d < 39 → ∀ w, w < 21 → (nn (fun _ => wouldI (nI d) (moreI 0 (nI w))) 0 ≤ 45 ∧ wouldI (nI d) (moreI 0 (nI w)) = nI (nn (fun _ => wouldI (nI d) (moreI 0 (nI w))) 0)) ∧ (nn (fun _ => wouldI (nI d) (moreI 1 (nI w))) 0 ≤ 45 ∧ wouldI (nI d) (moreI 1 (nI w)) = nI (nn (fun _ => wouldI (nI d) (moreI 1 (nI w))) 0)) ∧ (nn (fun _ => wouldI (nI d) (moreI 2 (nI w))) 0 ≤ 45 ∧ wouldI (nI d) (moreI 2 (nI w)) = nI (nn (fun _ => wouldI (nI d) (moreI 2 (nI w))) 0)) := by decide +kernel
  intro d hd w hw
  obtain ⟨a, b, c⟩ := key d hd w hw
  exact ⟨⟨_, a⟩, ⟨_, b⟩, ⟨_, c⟩⟩
theorem worn_b : ∀ w, w < 21 → ∀ d, d < 46 → ∃ e, e ≤ 20 ∧ wornMore (nI w) (nI d) = nI e := by
  have key : ∀ w, w < 21 → ∀ d, d < 46 → nn (fun _ => wornMore (nI w) (nI d)) 0 ≤ 20 ∧ wornMore (nI w) (nI d) = nI (nn (fun _ => wornMore (nI w) (nI d)) 0) := by decide +kernel
  intro w hw d hd
  exact ⟨_, key w hw d hd⟩
theorem depth_b {g : gG} (h : gJ g) {j q : Nat} (hj : j < 6) : ∃ d, d ≤ 38 ∧ depthI g j q = nI d := by
  obtain ⟨d, hd, e⟩ := h.a2 j hj
  unfold depthI
  rw [e, pk_sub (by omega)]
  exact ⟨_, by omega, rfl⟩
theorem wouldBe_b {g : gG} (h : gJ g) (hk : gK g) {m c q : Nat} (hm : m < nn g 191) (hc : c < nn g 50) (hq : q < 10) : ∃ d, d ≤ 45 ∧ wouldBe g m c q = nI d := by
  obtain ⟨d, hd, e⟩ := hk.1 c hc q hq
  obtain ⟨w, hw, e2⟩ := hk.2.1 m hm
  obtain ⟨a0, a1, a2⟩ := would_b d (by omega) w (by omega)
  unfold wouldBe
  rw [e, e2]
  rcases h.a8 m hm with q | q | q
  · rw [q]; exact a0
  · rw [q]; exact a1
  · rw [q]; exact a2
theorem gK.o_casts {g : gG} (h : gJ g) (hk : gK g) (v : Int32) : gK (gr_g g (p_castsI g v)) := by
  unfold p_castsI
  split
  · rename_i hv
    obtain ⟨j, hj, rfl⟩ := inR6 hv
    rw [nI_clamp (by omega)]
    unfold p_casts
    split
    · exact hk
    split
    · exact hk
    split
    · exact hk
    split
    · exact hk
    rename_i h10 _ _ _
    have hn : nn g 50 < 10 := cnt_lt h.i.c h10
    have b2 := h.i.m.2
    have b3 := h.i.k.2
    simp only [gr_g]
    refine ⟨fun c hc q hq => ?_, hk.2.1.same h.i.m.2 ?_ ?_, hk.2.2.same h.i.k.2 ?_ ?_⟩
    · rw [nn_v (by omega) (upd_s.trans (nn_succ h.i.c.1))] at hc
      by_cases e : c = nn g 50
      · subst e
        rw [upd_n (by omega), castLoop_at 10 q hq]
        obtain ⟨d, hd, ed⟩ := depth_b h (j := j) (q := q) hj
        refine ⟨d, hd, ?_⟩
        rw [← ed]
        simp (disch := omega) only [depthI, upd_n]
      · rw [upd_n (by omega), castLoop_n 10 (by omega), upd_n (by omega), upd_n (by omega)]
        exact hk.1 c (by omega) q hq
    · rw [upd_n (by omega), castLoop_n 10 (by omega), upd_n (by omega), upd_n (by omega)]
    · intro k h1 h2
      rw [upd_n (by omega), castLoop_n 10 (by omega), upd_n (by omega), upd_n (by omega)]
    · rw [upd_n (by omega), castLoop_n 10 (by omega), upd_n (by omega), upd_n (by omega)]
    · intro k h1 h2
      rw [upd_n (by omega), castLoop_n 10 (by omega), upd_n (by omega), upd_n (by omega)]
  · exact hk
theorem gK.o_begins {g : gG} (h : gJ g) (hk : gK g) (v : Int32) : gK (gr_g g (p_beginsI g v)) := by
  have b1 := h.i.c.2
  have b2 := h.i.m.2
  unfold p_beginsI
  split
  · rename_i hv
    obtain ⟨c, hc, rfl⟩ := h.i.inC hv
    rw [nI_clamp (by omega)]
    unfold p_begins
    split
    · exact hk
    split
    · exact hk
    rename_i h8 _
    have hn : nn g 212 < 8 := cnt_lt h.i.k h8
    simp only [gr_g]
    refine ⟨hk.1.same h.i.c.2 ?_ ?_, hk.2.1.same h.i.m.2 ?_ ?_, fun k hk' q hq => ?_⟩
    · rw [upd_n (by omega), upd_n (by omega), beginLoop_n 10 (by omega), upd_n (by omega)]
    · intro k h1 h2
      rw [upd_n (by omega), upd_n (by omega), beginLoop_n 10 (by omega), upd_n (by omega)]
    · rw [upd_n (by omega), upd_n (by omega), beginLoop_n 10 (by omega), upd_n (by omega)]
    · intro k h1 h2
      rw [upd_n (by omega), upd_n (by omega), beginLoop_n 10 (by omega), upd_n (by omega)]
    · rw [nn_v (by omega) (upd_s.trans (nn_succ h.i.k.1))] at hk'
      by_cases e : k = nn g 212
      · subst e
        rw [upd_n (by omega), upd_n (by omega), beginLoop_at 10 q hq]
        exact Or.inl rfl
      · rw [upd_n (by omega), upd_n (by omega), beginLoop_n 10 (by omega), upd_n (by omega)]
        exact hk.2.2 k (by omega) q hq
  · exact hk
theorem gK.o_cuts {g : gG} (h : gJ g) (hk : gK g) (x y z : Int32) : gK (gr_g g (p_cutsI g x y z)) := by
  have b1 := h.i.c.2
  have b2 := h.i.m.2
  have b3 := h.i.k.2
  unfold p_cutsI
  split
  · rename_i hx
    obtain ⟨m, hm, rfl⟩ := h.i.inM hx
    split
    · rename_i hy
      obtain ⟨c, hc, rfl⟩ := h.i.inK hy
      split
      · rename_i hz
        obtain ⟨q, hq, rfl⟩ := inR10 hz
        rw [nI_clamp (by omega), nI_clamp (by omega), nI_clamp (by omega)]
        unfold p_cuts
        split
        · exact hk
        split
        · exact hk
        split
        · exact hk
        split
        · exact hk
        obtain ⟨d, hd, ed⟩ := wouldBe_b h hk hm (h.i.kc hc).2 hq
        obtain ⟨w, hw, ew⟩ := hk.2.1 m hm
        simp only [gr_g, p_cut5]
        refine ⟨hk.1.same h.i.c.2 ?_ ?_, fun m' hm' => ?_, fun c' hc' q' hq' => ?_⟩
        · rw [upd_n (by omega), upd_n (by omega), upd_n (by omega), upd_n (by omega), upd_n (by omega)]
        · intro k h1 h2
          rw [upd_n (by omega), upd_n (by omega), upd_n (by omega), upd_n (by omega), upd_n (by omega)]
        · rw [nn_e (g := g) (by rw [upd_n (by omega), upd_n (by omega), upd_n (by omega), upd_n (by omega), upd_n (by omega)])] at hm'
          rw [upd_n (by omega), upd_n (by omega)]
          by_cases e : m' = m
          · subst e
            rw [upd_s, ed, ew]
            exact worn_b w (by omega) d (by omega)
          · rw [upd_n (by omega), upd_n (by omega), upd_n (by omega)]
            exact hk.2.1 m' hm'
        · rw [nn_e (g := g) (by rw [upd_n (by omega), upd_n (by omega), upd_n (by omega), upd_n (by omega), upd_n (by omega)])] at hc'
          rw [upd_n (by omega), upd_n (by omega), upd_n (by omega), upd_n (by omega)]
          by_cases e : 229 + 10 * c' + q' = 229 + 10 * c + q
          · rw [e, upd_s]; exact Or.inr ⟨d, hd, ed⟩
          · rw [upd_n e]; exact hk.2.2 c' hc' q' hq'
      · exact hk
    · exact hk
  · exact hk
theorem gK.o_down {g : gG} (h : gJ g) (hk : gK g) (v : Int32) : gK (gr_g g (p_takesDownI g v)) := by
  unfold p_takesDownI
  split
  · rename_i hv
    obtain ⟨j, hj, rfl⟩ := inR6 hv
    rw [nI_clamp (by omega)]
    unfold p_takesDown
    split
    · exact hk
    split
    · exact hk
    · exact hk.upd h.i (by unfold kOth; omega)
  · exact hk
theorem gK.pays {g : gG} (hI : gInv g) (hk : gK g) {n : Int32} : gK (p_pays g n) := hk.same hI (fun k hk' => by
  unfold kOth at hk'
  unfold p_pays
  rw [upd_n (by omega), upd_n (by omega)])
theorem gK.o_renews {g : gG} (h : gJ g) (hk : gK g) (v : Int32) : gK (gr_g g (p_renewsI g v)) := by
  have b1 := h.i.c.2
  have b2 := h.i.m.2
  have b3 := h.i.k.2
  unfold p_renewsI
  split
  · rename_i hv
    obtain ⟨m, hm, rfl⟩ := h.i.inM hv
    rw [nI_clamp (by omega)]
    unfold p_renews
    split
    · exact hk
    simp only [gr_g, p_pays]
    refine ⟨hk.1.same h.i.c.2 ?_ ?_, fun m' hm' => ?_, hk.2.2.same h.i.k.2 ?_ ?_⟩
    · rw [upd_n (by omega), upd_n (by omega), upd_n (by omega), upd_n (by omega)]
    · intro k h1 h2
      rw [upd_n (by omega), upd_n (by omega), upd_n (by omega), upd_n (by omega)]
    · rw [nn_e (g := g) (by rw [upd_n (by omega), upd_n (by omega), upd_n (by omega), upd_n (by omega)])] at hm'
      rw [upd_n (by omega)]
      by_cases e : m' = m
      · subst e; rw [upd_s]; exact ⟨0, by omega, rfl⟩
      · rw [upd_n (by omega), upd_n (by omega), upd_n (by omega)]; exact hk.2.1 m' hm'
    · rw [upd_n (by omega), upd_n (by omega), upd_n (by omega), upd_n (by omega)]
    · intro k h1 h2
      rw [upd_n (by omega), upd_n (by omega), upd_n (by omega), upd_n (by omega)]
  · exact hk
theorem gK.o_drives {g : gG} (h : gJ g) (hk : gK g) (v : Int32) : gK (gr_g g (p_drivesI g v)) := by
  unfold p_drivesI
  split
  · rename_i hv
    obtain ⟨j, hj, rfl⟩ := inR6 hv
    rw [nI_clamp (by omega)]
    unfold p_drives
    split
    · exact hk
    · exact (gK.pays h.i hk).upd h.pays.i (by unfold kOth; omega)
  · exact hk
theorem gK.o_tells {g : gG} (h : gJ g) (hk : gK g) (x y : Int32) : gK (gr_g g (p_tellsI g x y)) := by
  unfold p_tellsI
  split
  · split
    · simp only [gr_g, p_tells]
      exact hk.same h.i (fun k hk' => by unfold kOth at hk'; rw [upd_n (by omega), upd_n (by omega)])
    · exact hk
  · exact hk
theorem gK.o_lifts {g : gG} (h : gJ g) (hk : gK g) (v : Int32) : gK (gr_g g (p_liftsI g v)) := by
  have b3 := h.i.k.2
  unfold p_liftsI
  split
  · rename_i hv
    obtain ⟨c, hc, rfl⟩ := h.i.inK hv
    rw [nI_clamp (by omega)]
    have hl : ledgeFor g c < 6 := (h.i.cl (h.i.kc hc).2).2
    unfold p_lifts
    split
    · exact hk
    split
    · exact hk
    split
    · exact hk
    split
    · exact hk
    split
    · exact hk
    simp only [gr_g, p_lift4]
    exact hk.same h.i (fun k hk' => by unfold kOth at hk'; rw [upd_n (by omega), upd_n (by omega), upd_n (by omega), upd_n (by omega), upd_n (by omega)])
  · exact hk
theorem gK.o_rainL {g : gG} (hI : gInv g) (hk : gK g) (i : Nat) (hi : i ≤ 6) : gK (rainL g i) := hk.same hI (fun k hk' => by unfold kOth at hk'; exact rainL_n i hi (by omega))
theorem gK.o_setsL {g : gG} (hI : gInv g) (hk : gK g) (i : Nat) (hi : i ≤ 10) : gK (setsL g i) := hk.same hI (fun k hk' => by unfold kOth at hk'; exact setsL_n i hi (by omega))
theorem gK.o_hour {g : gG} (h : gJ g) (hk : gK g) : gK (p_hour g) := by
  have h1 : gK (hourRain g) := by
    unfold hourRain
    split
    · exact hk.o_rainL h.i 6 (Nat.le_refl _)
    · exact hk
  have i1 := h.i.l_hrain
  have c1 : nn g 50 ≤ 10 := h.i.c.2
  have h2 := h1.o_setsL i1 (nn g 50) c1
  have i2 : gInv (setsL (hourRain g) (nn g 50)) := i1.l_sets c1
  have h3 : gK (hourTick (setsL (hourRain g) (nn g 50))) := h2.upd i2 (by unfold kOth; omega)
  have i3 := i2.l_tick
  unfold p_hour
  split
  · exact h3.same i3 (fun k hk' => by unfold kOth at hk'; exact endsDay_n i3.m.2 (by omega))
  · exact h3
theorem gK.o_hours {g : gG} (h : gJ g) (hk : gK g) : ∀ i, gK (hoursG g i)
  | 0 => hk
  | i + 1 => gK.o_hour (h.o_hours i) (hk.o_hours h i)
theorem gK.o_passes {g : gG} (h : gJ g) (hk : gK g) (v : Int32) : gK (gr_g g (p_passesI g v)) := by
  unfold p_passesI
  split
  · exact hk.o_hours h _
  · exact hk
theorem gK.o_sacks {g : gG} (h : gJ g) (hk : gK g) (v : Int32) : gK (gr_g g (p_sacksI g v)) := by
  unfold p_sacksI
  split
  · unfold p_sacks
    split
    · exact hk
    · exact (gK.pays h.i hk).upd h.pays.i (by unfold kOth; omega)
  · exact hk
theorem gK.o_comes {g : gG} (h : gJ g) (hk : gK g) (v : Int32) : gK (gr_g g (p_copyistI g v)) := by
  have b1 := h.i.c.2
  have b3 := h.i.k.2
  unfold p_copyistI
  split
  · unfold p_comes
    split
    · exact hk
    rename_i h4
    have hn : nn g 191 < 4 := cnt_lt h.i.m h4
    simp only [gr_g]
    refine ⟨hk.1.same h.i.c.2 ?_ ?_, fun m hm => ?_, hk.2.2.same h.i.k.2 ?_ ?_⟩
    · rw [upd_n (by omega), upd_n (by omega), upd_n (by omega), upd_n (by omega)]
    · intro k h1 h2
      rw [upd_n (by omega), upd_n (by omega), upd_n (by omega), upd_n (by omega)]
    · rw [nn_v (by omega) (upd_s.trans (nn_succ h.i.m.1))] at hm
      rw [upd_n (by omega), upd_n (by omega), upd_n (by omega), upd_n (by omega)]
      by_cases e : m = nn g 191
      · subst e; rw [(h.a9 _ (Nat.le_refl _) hn).1]; exact ⟨0, by omega, rfl⟩
      · exact hk.2.1 m (by omega)
    · rw [upd_n (by omega), upd_n (by omega), upd_n (by omega), upd_n (by omega)]
    · intro k h1 h2
      rw [upd_n (by omega), upd_n (by omega), upd_n (by omega), upd_n (by omega)]
  · exact hk
theorem gK.o_do {g : gG} (h : gJ g) (hk : gK g) (w v x y : Int32) : gK (gr_g g (doP g w v x y)) := by
  unfold doP
  split
  · exact hk.o_casts h v
  split
  · exact hk.o_begins h v
  split
  · exact hk.o_cuts h v x y
  split
  · exact hk.o_down h v
  split
  · exact hk.o_lifts h v
  split
  · exact hk.o_renews h v
  split
  · exact hk.o_drives h v
  split
  · exact hk.o_tells h v x
  · exact hk.o_passes h v
theorem gK.o_run {g td : gG} (h : gJ g) (hk : gK g) : ∀ k, gK (runG g td k)
  | 0 => hk
  | k + 1 => (hk.o_run h k).o_do (h.o_run k) _ _ _ _
/-- no rain: an hour of it changes nothing -/
theorem point_b {g : gG} (h : gJ g) (hk : gK g) {l : Nat} (hl : l < 6) : ∃ d, d ≤ 45 ∧ pointAt g l = nI d := by
  unfold pointAt
  split
  · obtain ⟨d, hd, e⟩ := depth_b h (j := l) (q := 0) hl
    exact ⟨d, by omega, e⟩
  split
  · exact ⟨0, by omega, rfl⟩
  · rename_i h0 h1
    rcases h.i.st hl with q | q | q
    · exact absurd q h0
    · exact absurd q h1
    · have h11 := h.a11 l hl q.1
      rcases hk.2.2 _ q.2.2 0 (by omega) with e | ⟨d, hd, e⟩
      · rw [Nat.add_zero] at e; rw [e] at h11; exact absurd (by decide) h11
      · rw [Nat.add_zero] at e; exact ⟨d, hd, e⟩
theorem three_b : ∀ d, d < 46 → (if 3 * nI d < 10 * 0 then 3 * nI d else 10 * (0 : Int32)) = 0 := by decide +kernel
theorem rain0 {g : gG} (h : gJ g) (hk : gK g) (h1 : ¬ 0 < g 1) : g 1 = 0 := by
  obtain ⟨d, hd, e⟩ := h.a3
  rw [e] at h1 ⊢
  have : ∀ d, d ≤ 9 → ¬ (0 : Int32) < nI d → nI d = 0 := by decide
  exact this d hd h1
theorem rain0_1 {g : gG} (h : gJ g) (hk : gK g) (h1 : g 1 = 0) {l : Nat} (hl : l < 6) : p_rainsOn g l = g ∧ wallI g l = 0 := by
  obtain ⟨d, hd, e⟩ := point_b h hk hl
  have ht : throughI g l = 0 := by
    unfold throughI
    rw [h1, e]; exact three_b d (by omega)
  have hw : wallI g l = 0 := by
    unfold wallI
    rw [ht, h1]; rfl
  refine ⟨?_, hw⟩
  unfold p_rainsOn
  rw [if_pos (by rw [h1]; decide)]
  unfold rain1
  rw [ht, h1, show (10 : Int32) * 0 = 0 from rfl, show (0 : Int32) - 0 = 0 from rfl, Int32.add_zero, Int32.add_zero, Int32.add_zero, upd_self, upd_self, upd_self]
theorem rain0_L {g : gG} (h : gJ g) (hk : gK g) (h1 : g 1 = 0) : ∀ i, i ≤ 6 → rainL g i = g ∧ wallL g i = 0
  | 0, _ => ⟨rfl, rfl⟩
  | i + 1, hi => by
    obtain ⟨a, b⟩ := rain0_L h hk h1 i (by omega)
    obtain ⟨c, d⟩ := rain0_1 h hk h1 (l := i) (by omega)
    refine ⟨?_, ?_⟩
    · show p_rainsOn (rainL g i) i = g
      rw [a, c]
    · show wallL g i + wallI (rainL g i) i = 0
      rw [a, b, d]; rfl
theorem hour_c {g : gG} (h : gJ g) (hk : gK g) : p_hourC g = p_hour g ∧ wallL g 6 = hourWall g := by
  by_cases h1 : 0 < g 1
  · refine ⟨?_, (if_pos h1).symm⟩
    unfold p_hourC p_hour hourX hourRain
    rw [if_pos h1]
  · obtain ⟨a, b⟩ := rain0_L h hk (rain0 h hk h1) 6 (Nat.le_refl _)
    refine ⟨?_, b.trans (if_neg h1).symm⟩
    unfold p_hourC p_hour hourX hourRain
    rw [if_neg h1, a]
