/-! PURE 19: an order, by its word -/
theorem do_0 {g : gG} {v x y : Int32} : doP g (nI 0) v x y = p_castsI g v := by unfold doP; rw [if_pos (by decide)]
theorem do_1 {g : gG} {v x y : Int32} : doP g (nI 1) v x y = p_beginsI g v := by unfold doP; rw [if_neg (by decide), if_pos (by decide)]
theorem do_2 {g : gG} {v x y : Int32} : doP g (nI 2) v x y = p_cutsI g v x y := by unfold doP; rw [if_neg (by decide), if_neg (by decide), if_pos (by decide)]
theorem do_3 {g : gG} {v x y : Int32} : doP g (nI 3) v x y = p_takesDownI g v := by unfold doP; rw [if_neg (by decide), if_neg (by decide), if_neg (by decide), if_pos (by decide)]
theorem do_4 {g : gG} {v x y : Int32} : doP g (nI 4) v x y = p_liftsI g v := by unfold doP; rw [if_neg (by decide), if_neg (by decide), if_neg (by decide), if_neg (by decide), if_pos (by decide)]
theorem do_5 {g : gG} {v x y : Int32} : doP g (nI 5) v x y = p_renewsI g v := by unfold doP; rw [if_neg (by decide), if_neg (by decide), if_neg (by decide), if_neg (by decide), if_neg (by decide), if_pos (by decide)]
theorem do_6 {g : gG} {v x y : Int32} : doP g (nI 6) v x y = p_drivesI g v := by unfold doP; rw [if_neg (by decide), if_neg (by decide), if_neg (by decide), if_neg (by decide), if_neg (by decide), if_neg (by decide), if_pos (by decide)]
theorem do_7 {g : gG} {v x y : Int32} : doP g (nI 7) v x y = p_tellsI g v x := by unfold doP; rw [if_neg (by decide), if_neg (by decide), if_neg (by decide), if_neg (by decide), if_neg (by decide), if_neg (by decide), if_neg (by decide), if_pos (by decide)]
theorem do_8 {g : gG} {v x y : Int32} : doP g (nI 8) v x y = p_passesI g v := by unfold doP; rw [if_neg (by decide), if_neg (by decide), if_neg (by decide), if_neg (by decide), if_neg (by decide), if_neg (by decide), if_neg (by decide), if_neg (by decide)]
theorem inR_h {v : Int32} (h : inR v 1 72 = true) : ∃ n, n ≤ 72 ∧ v = nI n := by
  have h2 : inR v 0 72 = true := by
    simp only [inR, Bool.and_eq_true, Bool.not_eq_true', decide_eq_false_iff_not] at h ⊢
    refine ⟨fun q => h.1 ?_, h.2⟩
    rw [Int32.lt_iff_toInt_lt] at q ⊢
    have e : (0 : Int32).toInt = 0 := by decide
    have e2 : (1 : Int32).toInt = 1 := by decide
    rw [e] at q; rw [e2]; omega
  obtain ⟨n, hn, e⟩ := (inR_k 73 (hi := 72) (by decide) (by decide)).mp h2
  exact ⟨n, by omega, e⟩
/-- done, or not -/
def dnB (x : gRes) : Bool := !decide (gr_v x < 0)
theorem dn_y {x : gRes} {r : Int32} {g : gG} (e : x = .inr (r, g)) (h : ¬ r < 0) : (1 : Int32) = bZ (dnB x) := by
  subst e; show 1 = bZ (!decide (r < 0)); rw [decide_eq_false h]; rfl
theorem dn_n {x : gRes} {r : Int32} {g : gG} (e : x = .inr (r, g)) (h : r < 0) : (0 : Int32) = bZ (dnB x) := by
  subst e; show 0 = bZ (!decide (r < 0)); rw [decide_eq_true h]; rfl
theorem dn_l {x : gRes} {p : Int32 × Int32} (e : x = .inl p) : (0 : Int32) = bZ (dnB x) := by
  subst e; rfl
theorem gr_gi {x : gRes} {r : Int32} {g g' : gG} (e : x = .inr (r, g')) : g' = gr_g g x := by subst e; rfl
theorem gr_gl {x : gRes} {p : Int32 × Int32} {g : gG} (e : x = .inl p) : g = gr_g g x := by subst e; rfl
