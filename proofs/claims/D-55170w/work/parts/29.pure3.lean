/-! PURE 3: what holds of the row of numbers, kept by every order -/
theorem nn_e {g g' : gG} {k : Nat} (e : g' k = g k) : nn g' k = nn g k := by unfold nn; rw [e]
theorem nn_v {g : gG} {k n : Nat} (hn : n < 2 ^ 31) (e : g k = nI n) : nn g k = n := by unfold nn; rw [e]; exact nI_clamp hn
def J1 (g : gG) : Prop := ∀ j, j < 6 → ∃ d, d ≤ 9 ∧ g (8 + j) = nI d
def J2 (g : gG) : Prop := ∀ j, j < 6 → ∃ d, d ≤ 9 ∧ g (20 + j) = nI d
def J3 (g : gG) : Prop := ∃ d, d ≤ 9 ∧ g 1 = nI d
def J4 (g : gG) : Prop := ∀ c, c < 10 → (g (71 + c) = 0 ∧ ¬ g (61 + c) = 4) ∨ (g (71 + c) = 1 ∧ g (61 + c) = 4)
def J5 (g : gG) : Prop := ∀ c, nn g 50 ≤ c → c < 10 → g (61 + c) = 0 ∧ g (71 + c) = 0 ∧ g (81 + c) = 0
def J6 (g : gG) : Prop := ∀ c, c < 8 → (g (221 + c) = 0 ∨ g (221 + c) = 1) ∧ (nn g 212 ≤ c → g (221 + c) = 0)
def J7 (g : gG) : Prop := ∀ c, c < nn g 212 → ∀ q, q < 10 → g (229 + 10 * c + q) = -1 ∨ ¬ g (229 + 10 * c + q) < 0
def J8 (g : gG) : Prop := ∀ m, m < nn g 191 → g (192 + m) = 0 ∨ g (192 + m) = 1 ∨ g (192 + m) = 2
def J9 (g : gG) : Prop := ∀ m, nn g 191 ≤ m → m < 4 → g (196 + m) = 0 ∧ g (204 + m) = 0
def J10 (g : gG) : Prop := g 309 = g 204 + g 205 + g 206 + g 207
def J11 (g : gG) : Prop := ∀ j, j < 6 → g (14 + j) = 2 → ¬ g (229 + 10 * nn g (44 + j)) < 0
theorem J1.same {g g' : gG} (h : J1 g) (e : ∀ k, 8 ≤ k → k < 14 → g' k = g k) : J1 g' := fun j hj => by rw [e (8 + j) (by omega) (by omega)]; exact h j hj
theorem J2.same {g g' : gG} (h : J2 g) (e : ∀ k, 20 ≤ k → k < 26 → g' k = g k) : J2 g' := fun j hj => by rw [e (20 + j) (by omega) (by omega)]; exact h j hj
theorem J3.same {g g' : gG} (h : J3 g) (e : g' 1 = g 1) : J3 g' := by unfold J3; rw [e]; exact h
theorem J4.same {g g' : gG} (h : J4 g) (e : ∀ k, 61 ≤ k → k < 81 → g' k = g k) : J4 g' := fun c hc => by rw [e (71 + c) (by omega) (by omega), e (61 + c) (by omega) (by omega)]; exact h c hc
theorem J5.same {g g' : gG} (h : J5 g) (e5 : nn g 50 ≤ nn g' 50) (e : ∀ c, nn g' 50 ≤ c → c < 10 → g' (61 + c) = g (61 + c) ∧ g' (71 + c) = g (71 + c) ∧ g' (81 + c) = g (81 + c)) : J5 g' := fun c hc h10 => by
  obtain ⟨a, b, d⟩ := e c hc h10
  rw [a, b, d]; exact h c (by omega) h10
theorem J6.same {g g' : gG} (h : J6 g) (e2 : nn g 212 ≤ nn g' 212) (e : ∀ k, 221 ≤ k → k < 229 → g' k = g k) : J6 g' := fun c hc => by
  rw [e (221 + c) (by omega) (by omega)]; exact ⟨(h c hc).1, fun q => (h c hc).2 (by omega)⟩
theorem J7.same {g g' : gG} (h : J7 g) (e2 : nn g' 212 = nn g 212) (e : ∀ c q, c < nn g 212 → q < 10 → g' (229 + 10 * c + q) = g (229 + 10 * c + q)) : J7 g' := fun c hc q hq => by rw [e2] at hc; rw [e c q hc hq]; exact h c hc q hq
theorem J8.same {g g' : gG} (h : J8 g) (e2 : nn g' 191 = nn g 191) (e : ∀ m, m < nn g 191 → g' (192 + m) = g (192 + m)) : J8 g' := fun m hm => by rw [e2] at hm; rw [e m hm]; exact h m hm
theorem J9.same {g g' : gG} (h : J9 g) (e2 : nn g 191 ≤ nn g' 191) (e : ∀ m, nn g' 191 ≤ m → m < 4 → g' (196 + m) = g (196 + m) ∧ g' (204 + m) = g (204 + m)) : J9 g' := fun m hm h4 => by
  obtain ⟨a, b⟩ := e m hm h4
  rw [a, b]; exact h m (by omega) h4
theorem J10.same {g g' : gG} (h : J10 g) (e9 : g' 309 = g 309) (e : ∀ k, 204 ≤ k → k < 208 → g' k = g k) : J10 g' := by
  unfold J10
  rw [e9, e 204 (by omega) (by omega), e 205 (by omega) (by omega), e 206 (by omega) (by omega), e 207 (by omega) (by omega)]; exact h
theorem J11.same {g g' : gG} (h : J11 g) (hI : gInv g) (e : ∀ k, (14 ≤ k ∧ k < 20) ∨ (44 ≤ k ∧ k < 50) → g' k = g k) (e2 : ∀ c, c < nn g 212 → g' (229 + 10 * c) = g (229 + 10 * c)) : J11 g' := fun j hj h2 => by
  have e1 := e (14 + j) (by omega)
  have e4 := nn_e (e (44 + j) (by omega))
  rw [e1] at h2
  have hs : nn g (44 + j) < nn g 212 := by
    rcases hI.st hj with q | q | q
    · rw [q] at h2; exact absurd h2 (by decide)
    · rw [q] at h2; exact absurd h2 (by decide)
    · exact q.2.2
  rw [e4, e2 _ hs]; exact h j hj h2
/-- what holds of the row -/
def gJ (g : gG) : Prop := gInv g ∧ J1 g ∧ J2 g ∧ J3 g ∧ J4 g ∧ J5 g ∧ J6 g ∧ J7 g ∧ J8 g ∧ J9 g ∧ J10 g ∧ J11 g
theorem gJ.i {g : gG} (h : gJ g) : gInv g := h.1
theorem gJ.a1 {g : gG} (h : gJ g) : J1 g := h.2.1
theorem gJ.a2 {g : gG} (h : gJ g) : J2 g := h.2.2.1
theorem gJ.a3 {g : gG} (h : gJ g) : J3 g := h.2.2.2.1
theorem gJ.a4 {g : gG} (h : gJ g) : J4 g := h.2.2.2.2.1
theorem gJ.a5 {g : gG} (h : gJ g) : J5 g := h.2.2.2.2.2.1
theorem gJ.a6 {g : gG} (h : gJ g) : J6 g := h.2.2.2.2.2.2.1
theorem gJ.a7 {g : gG} (h : gJ g) : J7 g := h.2.2.2.2.2.2.2.1
theorem gJ.a8 {g : gG} (h : gJ g) : J8 g := h.2.2.2.2.2.2.2.2.1
theorem gJ.a9 {g : gG} (h : gJ g) : J9 g := h.2.2.2.2.2.2.2.2.2.1
theorem gJ.a10 {g : gG} (h : gJ g) : J10 g := h.2.2.2.2.2.2.2.2.2.2.1
theorem gJ.a11 {g : gG} (h : gJ g) : J11 g := h.2.2.2.2.2.2.2.2.2.2.2
/-- the places that the orders may write at any time -/
def gFree (k : Nat) : Prop := k = 0 ∨ (2 ≤ k ∧ k < 8) ∨ (26 ≤ k ∧ k < 44) ∨ (91 ≤ k ∧ k < 191) ∨ (200 ≤ k ∧ k < 204) ∨ (208 ≤ k ∧ k < 212)
theorem gJ.same {g g' : gG} (h : gJ g) (e : ∀ k, k < 310 → ¬ gFree k → g' k = g k) : gJ g' := by
  have E : ∀ k, k < 310 → ¬ (k = 0 ∨ (2 ≤ k ∧ k < 8) ∨ (26 ≤ k ∧ k < 44) ∨ (91 ≤ k ∧ k < 191) ∨ (200 ≤ k ∧ k < 204) ∨ (208 ≤ k ∧ k < 212)) → g' k = g k := e
  have n5 : nn g' 50 = nn g 50 := nn_e (E 50 (by omega) (by omega))
  have n1 : nn g' 191 = nn g 191 := nn_e (E 191 (by omega) (by omega))
  have n2 : nn g' 212 = nn g 212 := nn_e (E 212 (by omega) (by omega))
  have b1 := h.i.c.2
  have b2 := h.i.m.2
  have b3 := h.i.k.2
  exact ⟨h.i.same (fun k hk => E k (by unfold gStr at hk; omega) (by unfold gStr at hk; omega)), h.a1.same (fun k _ _ => E k (by omega) (by omega)), h.a2.same (fun k _ _ => E k (by omega) (by omega)), h.a3.same (E 1 (by omega) (by omega)),
    h.a4.same (fun k _ _ => E k (by omega) (by omega)), h.a5.same (by omega) (fun c _ _ => ⟨E _ (by omega) (by omega), E _ (by omega) (by omega), E _ (by omega) (by omega)⟩), h.a6.same (by omega) (fun k _ _ => E k (by omega) (by omega)),
    h.a7.same n2 (fun c q hc hq => E _ (by omega) (by omega)), h.a8.same n1 (fun m hm => E _ (by omega) (by omega)), h.a9.same (by omega) (fun m _ _ => ⟨E _ (by omega) (by omega), E _ (by omega) (by omega)⟩),
    h.a10.same (E _ (by omega) (by omega)) (fun k _ _ => E k (by omega) (by omega)), h.a11.same h.i (fun k _ => E k (by omega) (by omega)) (fun c hc => E _ (by omega) (by omega))⟩
theorem gJ.free {g : gG} (h : gJ g) {k : Nat} {x : Int32} (hk : gFree k) : gJ (upd g k x) := h.same (fun q _ hq => upd_n (fun e => hq (by rw [e]; exact hk)))
theorem gJ.pays {g : gG} (h : gJ g) {n : Int32} : gJ (p_pays g n) := (h.free (by unfold gFree; omega)).free (by unfold gFree; omega)
theorem gJ.pigeons {g : gG} (h : gJ g) {j d : Nat} (hj : j < 6) (hd : d ≤ 9) : gJ (upd g (8 + j) (nI d)) := by
  have E : ∀ k, k ≠ 8 + j → upd g (8 + j) (nI d) k = g k := fun k hk => upd_n hk
  have n5 : nn (upd g (8 + j) (nI d)) 50 = nn g 50 := nn_e (E 50 (by omega))
  have n1 : nn (upd g (8 + j) (nI d)) 191 = nn g 191 := nn_e (E 191 (by omega))
  have n2 : nn (upd g (8 + j) (nI d)) 212 = nn g 212 := nn_e (E 212 (by omega))
  refine ⟨h.i.same (fun k hk => E k (by unfold gStr at hk; omega)), fun q hq => ?_, h.a2.same (fun k _ _ => E k (by omega)), h.a3.same (E 1 (by omega)),
    h.a4.same (fun k _ _ => E k (by omega)), h.a5.same (by omega) (fun c _ _ => ⟨E _ (by omega), E _ (by omega), E _ (by omega)⟩), h.a6.same (by omega) (fun k _ _ => E k (by omega)),
    h.a7.same n2 (fun c q hc hq => E _ (by omega)), h.a8.same n1 (fun m hm => E _ (by omega)), h.a9.same (by omega) (fun m _ _ => ⟨E _ (by omega), E _ (by omega)⟩),
    h.a10.same (E _ (by omega)) (fun k _ _ => E k (by omega)), h.a11.same h.i (fun k _ => E k (by omega)) (fun c hc => E _ (by omega))⟩
  by_cases e : q = j
  · subst e; exact ⟨d, hd, upd_s⟩
  · rw [E _ (by omega)]; exact h.a1 q hq
theorem gJ.worn {g : gG} (h : gJ g) {j d : Nat} (hj : j < 6) (hd : d ≤ 9) : gJ (upd g (20 + j) (nI d)) := by
  have E : ∀ k, k ≠ 20 + j → upd g (20 + j) (nI d) k = g k := fun k hk => upd_n hk
  have n5 : nn (upd g (20 + j) (nI d)) 50 = nn g 50 := nn_e (E 50 (by omega))
  have n1 : nn (upd g (20 + j) (nI d)) 191 = nn g 191 := nn_e (E 191 (by omega))
  have n2 : nn (upd g (20 + j) (nI d)) 212 = nn g 212 := nn_e (E 212 (by omega))
  refine ⟨h.i.same (fun k hk => E k (by unfold gStr at hk; omega)), h.a1.same (fun k _ _ => E k (by omega)), fun q hq => ?_, h.a3.same (E 1 (by omega)),
    h.a4.same (fun k _ _ => E k (by omega)), h.a5.same (by omega) (fun c _ _ => ⟨E _ (by omega), E _ (by omega), E _ (by omega)⟩), h.a6.same (by omega) (fun k _ _ => E k (by omega)),
    h.a7.same n2 (fun c q hc hq => E _ (by omega)), h.a8.same n1 (fun m hm => E _ (by omega)), h.a9.same (by omega) (fun m _ _ => ⟨E _ (by omega), E _ (by omega)⟩),
    h.a10.same (E _ (by omega)) (fun k _ _ => E k (by omega)), h.a11.same h.i (fun k _ => E k (by omega)) (fun c hc => E _ (by omega))⟩
  by_cases e : q = j
  · subst e; exact ⟨d, hd, upd_s⟩
  · rw [E _ (by omega)]; exact h.a2 q hq
theorem gJ.rain {g : gG} (h : gJ g) {d : Nat} (hd : d ≤ 9) : gJ (upd g 1 (nI d)) := by
  have E : ∀ k, k ≠ 1 → upd g 1 (nI d) k = g k := fun k hk => upd_n hk
  have n5 : nn (upd g 1 (nI d)) 50 = nn g 50 := nn_e (E 50 (by omega))
  have n1 : nn (upd g 1 (nI d)) 191 = nn g 191 := nn_e (E 191 (by omega))
  have n2 : nn (upd g 1 (nI d)) 212 = nn g 212 := nn_e (E 212 (by omega))
  exact ⟨h.i.same (fun k hk => E k (by unfold gStr at hk; omega)), h.a1.same (fun k _ _ => E k (by omega)), h.a2.same (fun k _ _ => E k (by omega)), ⟨d, hd, upd_s⟩,
    h.a4.same (fun k _ _ => E k (by omega)), h.a5.same (by omega) (fun c _ _ => ⟨E _ (by omega), E _ (by omega), E _ (by omega)⟩), h.a6.same (by omega) (fun k _ _ => E k (by omega)),
    h.a7.same n2 (fun c q hc hq => E _ (by omega)), h.a8.same n1 (fun m hm => E _ (by omega)), h.a9.same (by omega) (fun m _ _ => ⟨E _ (by omega), E _ (by omega)⟩),
    h.a10.same (E _ (by omega)) (fun k _ _ => E k (by omega)), h.a11.same h.i (fun k _ => E k (by omega)) (fun c hc => E _ (by omega))⟩
theorem gJ.cast {g g' : gG} {j : Nat} (h : gJ g) (hn : nn g 50 < 10) (hj : j < 6) (e50 : g' 50 = nI (nn g 50 + 1)) (e51 : g' (51 + nn g 50) = nI j)
    (e : ∀ k, k < 310 → ¬ gFree k → k ≠ 50 → k ≠ 51 + nn g 50 → g' k = g k) : gJ g' := by
  have E : ∀ k, k < 310 → ¬ (k = 0 ∨ (2 ≤ k ∧ k < 8) ∨ (26 ≤ k ∧ k < 44) ∨ (91 ≤ k ∧ k < 191) ∨ (200 ≤ k ∧ k < 204) ∨ (208 ≤ k ∧ k < 212)) → k ≠ 50 → k ≠ 51 + nn g 50 → g' k = g k := e
  have n5 : nn g' 50 = nn g 50 + 1 := nn_v (by omega) e50
  have n1 : nn g' 191 = nn g 191 := nn_e (E 191 (by omega) (by omega) (by omega) (by omega))
  have n2 : nn g' 212 = nn g 212 := nn_e (E 212 (by omega) (by omega) (by omega) (by omega))
  have b2 := h.i.m.2
  have b3 := h.i.k.2
  refine ⟨⟨by rw [n5, e50]; exact ⟨rfl, hn⟩, by rw [n1, E 191 (by omega) (by omega) (by omega) (by omega)]; exact h.i.m, by rw [n2, E 212 (by omega) (by omega) (by omega) (by omega)]; exact h.i.k, fun c hc => ?_, fun c hc => ?_, fun l hl => ?_⟩,
    h.a1.same (fun k _ _ => E k (by omega) (by omega) (by omega) (by omega)), h.a2.same (fun k _ _ => E k (by omega) (by omega) (by omega) (by omega)), h.a3.same (E 1 (by omega) (by omega) (by omega) (by omega)),
    h.a4.same (fun k _ _ => E k (by omega) (by omega) (by omega) (by omega)), h.a5.same (by omega) (fun c _ _ => ⟨E _ (by omega) (by omega) (by omega) (by omega), E _ (by omega) (by omega) (by omega) (by omega), E _ (by omega) (by omega) (by omega) (by omega)⟩), h.a6.same (by omega) (fun k _ _ => E k (by omega) (by omega) (by omega) (by omega)),
    h.a7.same n2 (fun c q hc hq => E _ (by omega) (by omega) (by omega) (by omega)), h.a8.same n1 (fun m hm => E _ (by omega) (by omega) (by omega) (by omega)), h.a9.same (by omega) (fun m _ _ => ⟨E _ (by omega) (by omega) (by omega) (by omega), E _ (by omega) (by omega) (by omega) (by omega)⟩),
    h.a10.same (E _ (by omega) (by omega) (by omega) (by omega)) (fun k _ _ => E k (by omega) (by omega) (by omega) (by omega)), h.a11.same h.i (fun k _ => E k (by omega) (by omega) (by omega) (by omega)) (fun c hc => E _ (by omega) (by omega) (by omega) (by omega))⟩
  · rw [n2] at hc
    have e1 := E (213 + c) (by omega) (by omega) (by omega) (by omega)
    rw [nn_e e1, e1, n5]
    exact ⟨(h.i.kc hc).1, by have := (h.i.kc hc).2; omega⟩
  · by_cases q : c = nn g 50
    · subst q
      rw [e51, nn_v (by omega) e51]; exact ⟨rfl, hj⟩
    · have e1 := E (51 + c) (by omega) (by omega) (by omega) (by omega)
      rw [nn_e e1, e1]; exact h.i.cl (by omega)
  · have e1 := E (14 + l) (by omega) (by omega) (by omega) (by omega)
    have e2 := E (44 + l) (by omega) (by omega) (by omega) (by omega)
    rw [e1, e2, nn_e e2, n2]; exact h.i.st hl
theorem gJ.begin {g g' : gG} {c : Nat} (h : gJ g) (hn : nn g 212 < 8) (hc : c < nn g 50) (e212 : g' 212 = nI (nn g 212 + 1)) (e213 : g' (213 + nn g 212) = nI c) (ed : ∀ q, q < 10 → g' (229 + 10 * nn g 212 + q) = -1)
    (e : ∀ k, k < 310 → ¬ gFree k → k ≠ 212 → k ≠ 213 + nn g 212 → k ≠ 81 + c → ¬ (229 + 10 * nn g 212 ≤ k ∧ k < 239 + 10 * nn g 212) → g' k = g k) : gJ g' := by
  have b1 := h.i.c.2
  have b2 := h.i.m.2
  have E : ∀ k, k < 310 → ¬ (k = 0 ∨ (2 ≤ k ∧ k < 8) ∨ (26 ≤ k ∧ k < 44) ∨ (91 ≤ k ∧ k < 191) ∨ (200 ≤ k ∧ k < 204) ∨ (208 ≤ k ∧ k < 212)) ∧ k ≠ 212 ∧ k ≠ 213 + nn g 212 ∧ k ≠ 81 + c ∧ ¬ (229 + 10 * nn g 212 ≤ k ∧ k < 239 + 10 * nn g 212) → g' k = g k := fun k a b => e k a b.1 b.2.1 b.2.2.1 b.2.2.2.1 b.2.2.2.2
  have n5 : nn g' 50 = nn g 50 := nn_e (E 50 (by omega) (by omega))
  have n1 : nn g' 191 = nn g 191 := nn_e (E 191 (by omega) (by omega))
  have n2 : nn g' 212 = nn g 212 + 1 := nn_v (by omega) e212
  refine ⟨⟨by rw [n5, E 50 (by omega) (by omega)]; exact h.i.c, by rw [n1, E 191 (by omega) (by omega)]; exact h.i.m, by rw [n2, e212]; exact ⟨rfl, hn⟩, fun k hk => ?_, fun k hk => ?_, fun l hl => ?_⟩,
    h.a1.same (fun k _ _ => E k (by omega) (by omega)), h.a2.same (fun k _ _ => E k (by omega) (by omega)), h.a3.same (E 1 (by omega) (by omega)),
    h.a4.same (fun k _ _ => E k (by omega) (by omega)), h.a5.same (by omega) (fun c _ _ => ⟨E _ (by omega) (by omega), E _ (by omega) (by omega), E _ (by omega) (by omega)⟩), h.a6.same (by omega) (fun k _ _ => E k (by omega) (by omega)),
    fun k hk q hq => ?_, h.a8.same n1 (fun m hm => E _ (by omega) (by omega)), h.a9.same (by omega) (fun m _ _ => ⟨E _ (by omega) (by omega), E _ (by omega) (by omega)⟩),
    h.a10.same (E _ (by omega) (by omega)) (fun k _ _ => E k (by omega) (by omega)), h.a11.same h.i (fun k _ => E k (by omega) (by omega)) (fun c hc => E _ (by omega) (by omega))⟩
  · by_cases q : k = nn g 212
    · subst q
      rw [e213, nn_v (by omega) e213, n5]; exact ⟨rfl, hc⟩
    · have e1 := E (213 + k) (by omega) (by omega)
      rw [nn_e e1, e1, n5]; exact h.i.kc (by omega)
  · rw [n5] at hk
    have e1 := E (51 + k) (by omega) (by omega)
    rw [nn_e e1, e1]; exact h.i.cl hk
  · have e1 := E (14 + l) (by omega) (by omega)
    have e2 := E (44 + l) (by omega) (by omega)
    rw [e1, e2, nn_e e2, n2]
    rcases h.i.st hl with q | q | q
    · exact Or.inl q
    · exact Or.inr (Or.inl q)
    · exact Or.inr (Or.inr ⟨q.1, q.2.1, by omega⟩)
  · by_cases q2 : k = nn g 212
    · subst q2; exact Or.inl (ed q hq)
    · rw [E (229 + 10 * k + q) (by omega) (by omega)]; exact h.a7 k (by omega) q hq
theorem gJ.come {g g' : gG} (h : gJ g) (hn : nn g 191 < 4) (e191 : g' 191 = nI (nn g 191 + 1)) (eh : g' (192 + nn g 191) = 0 ∨ g' (192 + nn g 191) = 1 ∨ g' (192 + nn g 191) = 2)
    (e : ∀ k, k < 310 → ¬ gFree k → k ≠ 191 → k ≠ 192 + nn g 191 → g' k = g k) : gJ g' := by
  have E : ∀ k, k < 310 → ¬ (k = 0 ∨ (2 ≤ k ∧ k < 8) ∨ (26 ≤ k ∧ k < 44) ∨ (91 ≤ k ∧ k < 191) ∨ (200 ≤ k ∧ k < 204) ∨ (208 ≤ k ∧ k < 212)) ∧ k ≠ 191 ∧ k ≠ 192 + nn g 191 → g' k = g k := fun k a b => e k a b.1 b.2.1 b.2.2
  have n5 : nn g' 50 = nn g 50 := nn_e (E 50 (by omega) (by omega))
  have n1 : nn g' 191 = nn g 191 + 1 := nn_v (by omega) e191
  have n2 : nn g' 212 = nn g 212 := nn_e (E 212 (by omega) (by omega))
  have b1 := h.i.c.2
  have b3 := h.i.k.2
  refine ⟨⟨by rw [n5, E 50 (by omega) (by omega)]; exact h.i.c, by rw [n1, e191]; exact ⟨rfl, hn⟩, by rw [n2, E 212 (by omega) (by omega)]; exact h.i.k, fun k hk => ?_, fun k hk => ?_, fun l hl => ?_⟩,
    h.a1.same (fun k _ _ => E k (by omega) (by omega)), h.a2.same (fun k _ _ => E k (by omega) (by omega)), h.a3.same (E 1 (by omega) (by omega)),
    h.a4.same (fun k _ _ => E k (by omega) (by omega)), h.a5.same (by omega) (fun c _ _ => ⟨E _ (by omega) (by omega), E _ (by omega) (by omega), E _ (by omega) (by omega)⟩), h.a6.same (by omega) (fun k _ _ => E k (by omega) (by omega)),
    h.a7.same n2 (fun c q hc hq => E _ (by omega) (by omega)), fun m hm => ?_, h.a9.same (by omega) (fun m _ _ => ⟨E _ (by omega) (by omega), E _ (by omega) (by omega)⟩),
    h.a10.same (E _ (by omega) (by omega)) (fun k _ _ => E k (by omega) (by omega)), h.a11.same h.i (fun k _ => E k (by omega) (by omega)) (fun c hc => E _ (by omega) (by omega))⟩
  · rw [n2] at hk
    have e1 := E (213 + k) (by omega) (by omega)
    rw [nn_e e1, e1, n5]; exact h.i.kc hk
  · rw [n5] at hk
    have e1 := E (51 + k) (by omega) (by omega)
    rw [nn_e e1, e1]; exact h.i.cl hk
  · have e1 := E (14 + l) (by omega) (by omega)
    have e2 := E (44 + l) (by omega) (by omega)
    rw [e1, e2, nn_e e2, n2]; exact h.i.st hl
  · by_cases q : m = nn g 191
    · subst q; exact eh
    · rw [E (192 + m) (by omega) (by omega)]; exact h.a8 m (by omega)
theorem gJ.cut {g g' : gG} {m c q : Nat} (h : gJ g) (hm : m < nn g 191) (hc : c < nn g 212) (hq : q < 10) (ed : ¬ g' (229 + 10 * c + q) < 0) (e4 : g' (204 + m) = g (204 + m) + 1) (e9 : g' 309 = g 309 + 1)
    (e : ∀ k, k < 310 → ¬ gFree k → k ≠ 196 + m → k ≠ 204 + m → k ≠ 309 → k ≠ 229 + 10 * c + q → g' k = g k) : gJ g' := by
  have E : ∀ k, k < 310 → ¬ (k = 0 ∨ (2 ≤ k ∧ k < 8) ∨ (26 ≤ k ∧ k < 44) ∨ (91 ≤ k ∧ k < 191) ∨ (200 ≤ k ∧ k < 204) ∨ (208 ≤ k ∧ k < 212)) ∧ k ≠ 196 + m ∧ k ≠ 204 + m ∧ k ≠ 309 ∧ k ≠ 229 + 10 * c + q → g' k = g k := fun k a b => e k a b.1 b.2.1 b.2.2.1 b.2.2.2.1 b.2.2.2.2
  have b1 := h.i.c.2
  have b2 := h.i.m.2
  have b3 := h.i.k.2
  have n5 : nn g' 50 = nn g 50 := nn_e (E 50 (by omega) (by omega))
  have n1 : nn g' 191 = nn g 191 := nn_e (E 191 (by omega) (by omega))
  have n2 : nn g' 212 = nn g 212 := nn_e (E 212 (by omega) (by omega))
  refine ⟨h.i.same (fun k hk => E k (by unfold gStr at hk; omega) (by unfold gStr at hk; omega)),
    h.a1.same (fun k _ _ => E k (by omega) (by omega)), h.a2.same (fun k _ _ => E k (by omega) (by omega)), h.a3.same (E 1 (by omega) (by omega)),
    h.a4.same (fun k _ _ => E k (by omega) (by omega)), h.a5.same (by omega) (fun c _ _ => ⟨E _ (by omega) (by omega), E _ (by omega) (by omega), E _ (by omega) (by omega)⟩), h.a6.same (by omega) (fun k _ _ => E k (by omega) (by omega)),
    fun k hk p hp => ?_, h.a8.same n1 (fun m hm => E _ (by omega) (by omega)), h.a9.same (by omega) (fun m _ _ => ⟨E _ (by omega) (by omega), E _ (by omega) (by omega)⟩), ?_, fun j hj h2 => ?_⟩
  · rw [n2] at hk
    by_cases q2 : k = c ∧ p = q
    · obtain ⟨rfl, rfl⟩ := q2; exact Or.inr ed
    · rw [E (229 + 10 * k + p) (by omega) (by omega)]; exact h.a7 k hk p hp
  · have h10 := h.a10
    unfold J10 at h10 ⊢
    rw [e9, h10]
    rcases (show m = 0 ∨ m = 1 ∨ m = 2 ∨ m = 3 by omega) with rfl | rfl | rfl | rfl
    · rw [show g' 204 = g 204 + 1 from e4, E 205 (by omega) (by omega), E 206 (by omega) (by omega), E 207 (by omega) (by omega)]; ac_rfl
    · rw [show g' 205 = g 205 + 1 from e4, E 204 (by omega) (by omega), E 206 (by omega) (by omega), E 207 (by omega) (by omega)]; ac_rfl
    · rw [show g' 206 = g 206 + 1 from e4, E 205 (by omega) (by omega), E 204 (by omega) (by omega), E 207 (by omega) (by omega)]; ac_rfl
    · rw [show g' 207 = g 207 + 1 from e4, E 205 (by omega) (by omega), E 206 (by omega) (by omega), E 204 (by omega) (by omega)]; ac_rfl
  · have e1 := E (14 + j) (by omega) (by omega)
    have e5 := nn_e (E (44 + j) (by omega) (by omega))
    rw [e1] at h2
    rw [e5]
    by_cases q2 : nn g (44 + j) = c ∧ q = 0
    · rw [show 229 + 10 * nn g (44 + j) = 229 + 10 * c + q by omega]; exact ed
    · have hs : nn g (44 + j) < nn g 212 := by
        rcases h.i.st hj with z | z | z
        · rw [z] at h2; exact absurd h2 (by decide)
        · rw [z] at h2; exact absurd h2 (by decide)
        · exact z.2.2
      rw [E _ (by omega) (by omega)]; exact h.a11 j hj h2
theorem gJ.blunt {g : gG} {m : Nat} {x : Int32} (h : gJ g) (hm : m < nn g 191) : gJ (upd g (196 + m) x) := by
  have b2 := h.i.m.2
  have b1 := h.i.c.2
  have b3 := h.i.k.2
  have E : ∀ k, k ≠ 196 + m → upd g (196 + m) x k = g k := fun k hk => upd_n hk
  have n5 : nn (upd g (196 + m) x) 50 = nn g 50 := nn_e (E 50 (by omega))
  have n1 : nn (upd g (196 + m) x) 191 = nn g 191 := nn_e (E 191 (by omega))
  have n2 : nn (upd g (196 + m) x) 212 = nn g 212 := nn_e (E 212 (by omega))
  exact ⟨h.i.same (fun k hk => E k (by unfold gStr at hk; omega)), h.a1.same (fun k _ _ => E k (by omega)), h.a2.same (fun k _ _ => E k (by omega)), h.a3.same (E 1 (by omega)),
    h.a4.same (fun k _ _ => E k (by omega)), h.a5.same (by omega) (fun c _ _ => ⟨E _ (by omega), E _ (by omega), E _ (by omega)⟩), h.a6.same (by omega) (fun k _ _ => E k (by omega)),
    h.a7.same n2 (fun c q hc hq => E _ (by omega)), h.a8.same n1 (fun m hm => E _ (by omega)), h.a9.same (by omega) (fun m _ _ => ⟨E _ (by omega), E _ (by omega)⟩),
    h.a10.same (E _ (by omega)) (fun k _ _ => E k (by omega)), h.a11.same h.i (fun k _ => E k (by omega)) (fun c hc => E _ (by omega))⟩
theorem gJ.down {g : gG} {j : Nat} (h : gJ g) (hj : j < 6) : gJ (upd g (14 + j) 1) := by
  have b2 := h.i.m.2
  have b1 := h.i.c.2
  have b3 := h.i.k.2
  have E : ∀ k, k ≠ 14 + j → upd g (14 + j) 1 k = g k := fun k hk => upd_n hk
  have n5 : nn (upd g (14 + j) 1) 50 = nn g 50 := nn_e (E 50 (by omega))
  have n1 : nn (upd g (14 + j) 1) 191 = nn g 191 := nn_e (E 191 (by omega))
  have n2 : nn (upd g (14 + j) 1) 212 = nn g 212 := nn_e (E 212 (by omega))
  refine ⟨⟨by rw [n5, E 50 (by omega)]; exact h.i.c, by rw [n1, E 191 (by omega)]; exact h.i.m, by rw [n2, E 212 (by omega)]; exact h.i.k, fun k hk => ?_, fun k hk => ?_, fun l hl => ?_⟩, h.a1.same (fun k _ _ => E k (by omega)), h.a2.same (fun k _ _ => E k (by omega)), h.a3.same (E 1 (by omega)),
    h.a4.same (fun k _ _ => E k (by omega)), h.a5.same (by omega) (fun c _ _ => ⟨E _ (by omega), E _ (by omega), E _ (by omega)⟩), h.a6.same (by omega) (fun k _ _ => E k (by omega)),
    h.a7.same n2 (fun c q hc hq => E _ (by omega)), h.a8.same n1 (fun m hm => E _ (by omega)), h.a9.same (by omega) (fun m _ _ => ⟨E _ (by omega), E _ (by omega)⟩),
    h.a10.same (E _ (by omega)) (fun k _ _ => E k (by omega)), fun l hl h2 => ?_⟩
  · rw [n2] at hk
    have e1 := E (213 + k) (by omega)
    rw [nn_e e1, e1, n5]; exact h.i.kc hk
  · rw [n5] at hk
    have e1 := E (51 + k) (by omega)
    rw [nn_e e1, e1]; exact h.i.cl hk
  · have e2 := E (44 + l) (by omega)
    rw [e2, nn_e e2, n2]
    by_cases q : l = j
    · subst q; exact Or.inr (Or.inl upd_s)
    · rw [E (14 + l) (by omega)]; exact h.i.st hl
  · by_cases q : l = j
    · subst q; rw [upd_s] at h2; exact absurd h2 (by decide)
    · rw [E (14 + l) (by omega)] at h2
      have e2 := nn_e (E (44 + l) (by omega))
      have hs : nn g (44 + l) < nn g 212 := by
        rcases h.i.st hl with z | z | z
        · rw [z] at h2; exact absurd h2 (by decide)
        · rw [z] at h2; exact absurd h2 (by decide)
        · exact z.2.2
      rw [e2, E _ (by omega)]; exact h.a11 l hl h2
theorem gJ.lift {g g' : gG} {c l : Nat} (h : gJ g) (hc : c < nn g 212) (hl6 : l < 6) (hd : ¬ g (229 + 10 * c) < 0) (e1 : g' (221 + c) = 1) (e2 : g' (14 + l) = 2) (e3 : g' (44 + l) = nI c)
    (e : ∀ k, k < 310 → ¬ gFree k → k ≠ 221 + c → k ≠ 14 + l → k ≠ 44 + l → g' k = g k) : gJ g' := by
  have E : ∀ k, k < 310 → ¬ (k = 0 ∨ (2 ≤ k ∧ k < 8) ∨ (26 ≤ k ∧ k < 44) ∨ (91 ≤ k ∧ k < 191) ∨ (200 ≤ k ∧ k < 204) ∨ (208 ≤ k ∧ k < 212)) ∧ k ≠ 221 + c ∧ k ≠ 14 + l ∧ k ≠ 44 + l → g' k = g k := fun k a b => e k a b.1 b.2.1 b.2.2.1 b.2.2.2
  have b1 := h.i.c.2
  have b2 := h.i.m.2
  have b3 := h.i.k.2
  have n5 : nn g' 50 = nn g 50 := nn_e (E 50 (by omega) (by omega))
  have n1 : nn g' 191 = nn g 191 := nn_e (E 191 (by omega) (by omega))
  have n2 : nn g' 212 = nn g 212 := nn_e (E 212 (by omega) (by omega))
  refine ⟨⟨by rw [n5, E 50 (by omega) (by omega)]; exact h.i.c, by rw [n1, E 191 (by omega) (by omega)]; exact h.i.m, by rw [n2, E 212 (by omega) (by omega)]; exact h.i.k, fun k hk => ?_, fun k hk => ?_, fun j hj => ?_⟩,
    h.a1.same (fun k _ _ => E k (by omega) (by omega)), h.a2.same (fun k _ _ => E k (by omega) (by omega)), h.a3.same (E 1 (by omega) (by omega)),
    h.a4.same (fun k _ _ => E k (by omega) (by omega)), h.a5.same (by omega) (fun c _ _ => ⟨E _ (by omega) (by omega), E _ (by omega) (by omega), E _ (by omega) (by omega)⟩), fun k hk => ?_,
    h.a7.same n2 (fun c q hc hq => E _ (by omega) (by omega)), h.a8.same n1 (fun m hm => E _ (by omega) (by omega)), h.a9.same (by omega) (fun m _ _ => ⟨E _ (by omega) (by omega), E _ (by omega) (by omega)⟩),
    h.a10.same (E _ (by omega) (by omega)) (fun k _ _ => E k (by omega) (by omega)), fun j hj h2 => ?_⟩
  · rw [n2] at hk
    have q1 := E (213 + k) (by omega) (by omega)
    rw [nn_e q1, q1, n5]; exact h.i.kc hk
  · rw [n5] at hk
    have q1 := E (51 + k) (by omega) (by omega)
    rw [nn_e q1, q1]; exact h.i.cl hk
  · by_cases q : j = l
    · subst q
      refine Or.inr (Or.inr ⟨e2, ?_, ?_⟩)
      · rw [nn_v (by omega) e3]; exact e3
      · rw [nn_v (by omega) e3, n2]; exact hc
    · have q1 := E (14 + j) (by omega) (by omega)
      have q2 := E (44 + j) (by omega) (by omega)
      rw [q1, q2, nn_e q2, n2]; exact h.i.st hj
  · by_cases q : k = c
    · subst q; exact ⟨Or.inr e1, fun q => by omega⟩
    · rw [E (221 + k) (by omega) (by omega), n2]; exact h.a6 k hk
  · by_cases q : j = l
    · subst q
      rw [nn_v (by omega) e3, E _ (by omega) (by omega)]; exact hd
    · rw [E (14 + j) (by omega) (by omega)] at h2
      have q2 := nn_e (E (44 + j) (by omega) (by omega))
      have hs : nn g (44 + j) < nn g 212 := by
        rcases h.i.st hj with z | z | z
        · rw [z] at h2; exact absurd h2 (by decide)
        · rw [z] at h2; exact absurd h2 (by decide)
        · exact z.2.2
      rw [q2, E _ (by omega) (by omega)]; exact h.a11 j hj h2
theorem gJ.setd {g g' : gG} {c : Nat} (h : gJ g) (hc : c < nn g 50) (hs : (g' (71 + c) = 0 ∧ ¬ g' (61 + c) = 4) ∨ (g' (71 + c) = 1 ∧ g' (61 + c) = 4)) (e : ∀ k, k ≠ 61 + c → k ≠ 71 + c → g' k = g k) : gJ g' := by
  have b1 := h.i.c.2
  have b2 := h.i.m.2
  have b3 := h.i.k.2
  have E : ∀ k, k ≠ 61 + c ∧ k ≠ 71 + c → g' k = g k := fun k q => e k q.1 q.2
  have n5 : nn g' 50 = nn g 50 := nn_e (E 50 (by omega))
  have n1 : nn g' 191 = nn g 191 := nn_e (E 191 (by omega))
  have n2 : nn g' 212 = nn g 212 := nn_e (E 212 (by omega))
  refine ⟨h.i.same (fun k hk => E k (by unfold gStr at hk; omega)), h.a1.same (fun k _ _ => E k (by omega)), h.a2.same (fun k _ _ => E k (by omega)), h.a3.same (E 1 (by omega)),
    fun k hk => ?_, h.a5.same (by omega) (fun k hk _ => ⟨E _ (by omega), E _ (by omega), E _ (by omega)⟩), h.a6.same (by omega) (fun k _ _ => E k (by omega)),
    h.a7.same n2 (fun c q hc hq => E _ (by omega)), h.a8.same n1 (fun m hm => E _ (by omega)), h.a9.same (by omega) (fun m _ _ => ⟨E _ (by omega), E _ (by omega)⟩),
    h.a10.same (E _ (by omega)) (fun k _ _ => E k (by omega)), h.a11.same h.i (fun k _ => E k (by omega)) (fun c hc => E _ (by omega))⟩
  by_cases q : k = c
  · subst q; exact hs
  · rw [E (71 + k) (by omega), E (61 + k) (by omega)]; exact h.a4 k hk
theorem beginLoop_in {g : gG} {n : Nat} : ∀ (i : Nat) {q : Nat}, q < i → beginLoop g n i (229 + 10 * n + q) = -1
  | 0, _, h => absurd h (Nat.not_lt_zero _)
  | i + 1, q, h => by
    show upd (beginLoop g n i) (229 + 10 * n + i) (-1) (229 + 10 * n + q) = -1
    by_cases e : q = i
    · subst e; exact upd_s
    · rw [upd_n (by omega)]; exact beginLoop_in i (by omega)
theorem nn_succ {g : gG} {k n : Nat} (h : g k = nI n) : g k + 1 = nI (n + 1) := by rw [h]; exact nI_1 n
theorem cnt_lt {g : gG} {k m : Nat} (h : g k = nI (nn g k) ∧ nn g k ≤ m) (h2 : ¬ g k = nI m) : nn g k < m := by
  rcases Nat.lt_or_ge (nn g k) m with q | q
  · exact q
  · exact absurd (by rw [h.1]; congr 1; omega) h2
theorem gJ.o_casts {g : gG} (h : gJ g) (v : Int32) : gJ (gr_g g (p_castsI g v)) := by
  unfold p_castsI
  split
  · rename_i hv
    obtain ⟨j, hj, rfl⟩ := inR6 hv
    rw [nI_clamp (by omega)]
    unfold p_casts
    split
    · exact h
    split
    · exact h
    split
    · exact h
    split
    · exact h
    rename_i h10 _ _ _
    have hn : nn g 50 < 10 := cnt_lt h.i.c h10
    refine h.cast (j := j) hn hj ?_ ?_ ?_
    · simp only [gr_g]
      exact upd_s.trans (nn_succ h.i.c.1)
    · exact (upd_n (by omega)).trans ((castLoop_n 10 (by omega)).trans upd_s)
    · intro k hk hf h50 h51
      unfold gFree at hf
      exact (upd_n h50).trans ((castLoop_n 10 (by omega)).trans ((upd_n h51).trans (upd_n (by omega))))
  · exact h
theorem gJ.o_begins {g : gG} (h : gJ g) (v : Int32) : gJ (gr_g g (p_beginsI g v)) := by
  have b1 := h.i.c.2
  have b3 := h.i.k.2
  unfold p_beginsI
  split
  · rename_i hv
    obtain ⟨c, hc, rfl⟩ := h.i.inC hv
    rw [nI_clamp (by omega)]
    unfold p_begins
    split
    · exact h
    split
    · exact h
    rename_i h8 _
    have hn : nn g 212 < 8 := cnt_lt h.i.k h8
    refine h.begin (c := c) hn hc ?_ ?_ ?_ ?_
    · simp only [gr_g]
      exact upd_s.trans (nn_succ h.i.k.1)
    · exact (upd_n (by omega)).trans ((upd_n (by omega)).trans ((beginLoop_n 10 (by omega)).trans upd_s))
    · intro q hq
      exact (upd_n (by omega)).trans ((upd_n (by omega)).trans (beginLoop_in 10 hq))
    · intro k hk hf h1 h2 h3 h4
      exact (upd_n h1).trans ((upd_n h3).trans ((beginLoop_n 10 (by omega)).trans (upd_n h2)))
  · exact h
theorem would_ge {a b : Int32} : ¬ wouldI a b < 0 := by
  unfold wouldI
  split
  · decide
  · assumption
theorem gJ.o_cuts {g : gG} (h : gJ g) (x y z : Int32) : gJ (gr_g g (p_cutsI g x y z)) := by
  have b2 := h.i.m.2
  have b3 := h.i.k.2
  unfold p_cutsI
  split
  · rename_i hx
    obtain ⟨m, hm, rfl⟩ := h.i.inM hx
    split
    · rename_i hy
      obtain ⟨c, hc, rfl⟩ := h.i.inK hy
      split
      · rename_i hz
        obtain ⟨q, hq, rfl⟩ := inR10 hz
        rw [nI_clamp (by omega), nI_clamp (by omega), nI_clamp (by omega)]
        unfold p_cuts
        split
        · exact h
        split
        · exact h
        split
        · exact h
        split
        · exact h
        refine h.cut (m := m) (c := c) (q := q) hm hc hq ?_ ?_ ?_ ?_
        · show ¬ p_cut5 g m (229 + 10 * c + q) _ _ < 0
          unfold p_cut5
          rw [upd_n (by omega), upd_n (by omega), upd_n (by omega), upd_n (by omega), upd_s]
          exact would_ge
        · show p_cut5 g m (229 + 10 * c + q) _ _ = _
          unfold p_cut5
          rw [upd_n (by omega), upd_s]
        · simp only [gr_g, p_cut5]
          exact upd_s
        · intro k hk hf h1 h2 h3 h4
          show p_cut5 g m (229 + 10 * c + q) _ k = _
          unfold gFree at hf
          unfold p_cut5
          rw [upd_n h3, upd_n h2, upd_n h1, upd_n (by omega), upd_n h4]
      · exact h
    · exact h
  · exact h
theorem gJ.o_down {g : gG} (h : gJ g) (v : Int32) : gJ (gr_g g (p_takesDownI g v)) := by
  unfold p_takesDownI
  split
  · rename_i hv
    obtain ⟨j, hj, rfl⟩ := inR6 hv
    rw [nI_clamp (by omega)]
    unfold p_takesDown
    split
    · exact h
    split
    · exact h
    exact h.down hj
  · exact h
theorem gJ.o_renews {g : gG} (h : gJ g) (v : Int32) : gJ (gr_g g (p_renewsI g v)) := by
  have b2 := h.i.m.2
  unfold p_renewsI
  split
  · rename_i hv
    obtain ⟨m, hm, rfl⟩ := h.i.inM hv
    rw [nI_clamp (by omega)]
    unfold p_renews
    split
    · exact h
    have e : nn (p_pays g 1) 191 = nn g 191 := nn_e ((upd_n (by omega)).trans (upd_n (by omega)))
    exact ((h.pays (n := 1)).blunt (m := m) (x := 0) (by rw [e]; exact hm)).free (by unfold gFree; omega)
  · exact h
theorem gJ.o_drives {g : gG} (h : gJ g) (v : Int32) : gJ (gr_g g (p_drivesI g v)) := by
  unfold p_drivesI
  split
  · rename_i hv
    obtain ⟨j, hj, rfl⟩ := inR6 hv
    rw [nI_clamp (by omega)]
    unfold p_drives
    split
    · exact h
    exact (h.pays (n := 1)).pigeons (d := 0) hj (by omega)
  · exact h
theorem gJ.o_tells {g : gG} (h : gJ g) (x y : Int32) : gJ (gr_g g (p_tellsI g x y)) := by
  unfold p_tellsI
  split
  · rename_i hx
    obtain ⟨d, hd, rfl⟩ := inR10 hx
    split
    · exact (h.rain (d := d) (by omega)).free (by unfold gFree; omega)
    · exact h
  · exact h
theorem uncutL_all {g : gG} {c : Nat} : ∀ (f p : Nat), p + f = 10 → ¬ uncutL g c f p < 10 → ∀ q, p ≤ q → q < 10 → ¬ g (229 + 10 * c + q) < 0
  | 0, p, h, _, q, h1, h2 => by omega
  | f + 1, p, h, hu, q, h1, h2 => by
    have hu : ¬ (if p < 10 ∧ ¬ g (229 + 10 * c + p) < 0 then uncutL g c f (p + 1) else p) < 10 := hu
    by_cases e : p < 10 ∧ ¬ g (229 + 10 * c + p) < 0
    · rw [if_pos e] at hu
      by_cases e2 : q = p
      · subst e2; exact e.2
      · exact uncutL_all f (p + 1) (by omega) hu q (by omega) h2
    · rw [if_neg e] at hu
      omega
theorem gJ.o_lifts {g : gG} (h : gJ g) (v : Int32) : gJ (gr_g g (p_liftsI g v)) := by
  have b3 := h.i.k.2
  unfold p_liftsI
  split
  · rename_i hv
    obtain ⟨c, hc, rfl⟩ := h.i.inK hv
    rw [nI_clamp (by omega)]
    unfold p_lifts
    split
    · exact h
    split
    · exact h
    split
    · exact h
    split
    · exact h
    split
    · exact h
    rename_i _ hu _ _ _
    have hl : ledgeFor g c < 6 := (h.i.cl (h.i.kc hc).2).2
    refine h.lift (c := c) (l := ledgeFor g c) hc hl (by have := uncutL_all 10 0 rfl hu 0 (by omega) (by omega); exact this) ?_ ?_ ?_ ?_
    · show p_lift4 g c (ledgeFor g c) _ _ = _
      unfold p_lift4
      rw [upd_n (by omega), upd_n (by omega), upd_n (by omega), upd_n (by omega), upd_s]
    · show p_lift4 g c (ledgeFor g c) _ _ = _
      unfold p_lift4
      rw [upd_n (by omega), upd_n (by omega), upd_n (by omega), upd_s]
    · show p_lift4 g c (ledgeFor g c) _ _ = _
      unfold p_lift4
      rw [upd_n (by omega), upd_n (by omega), upd_s]
    · intro k hk hf h1 h2 h3
      show p_lift4 g c (ledgeFor g c) _ k = _
      unfold gFree at hf
      unfold p_lift4
      rw [upd_n (by omega), upd_n (by omega), upd_n h3, upd_n h2, upd_n h1]
  · exact h
theorem J2.at {g : gG} (h : J2 g) {l : Nat} (hl : l < 6) : ∃ d, d ≤ 9 ∧ g (20 + l) = nI d := h l hl
theorem gJ.rain1 {g : gG} (h : gJ g) {l : Nat} (hl : l < 6) : gJ (rain1 g l) := ((h.free (by unfold gFree; omega)).free (by unfold gFree; omega)).free (by unfold gFree; omega)
theorem gJ.o_rainsOn {g : gG} (h : gJ g) {l : Nat} (hl : l < 6) : gJ (p_rainsOn g l) := by
  obtain ⟨d, hd, ed⟩ := h.a2 l hl
  unfold p_rainsOn
  split
  · exact h.rain1 hl
  split
  · exact h.rain1 hl
  split
  · split
    · rename_i h9
      have : d < 9 := (nI_ltI (a := d) (b := 9) (by omega) (by omega)).mp (by rw [← ed]; exact h9)
      rw [ed, nI_1]
      exact (((h.rain1 hl).free (by unfold gFree; omega)).free (by unfold gFree; omega)).worn hl (by omega)
    · rw [ed, Int32.add_zero]
      exact (((h.rain1 hl).free (by unfold gFree; omega)).free (by unfold gFree; omega)).worn hl hd
  · exact (h.rain1 hl).free (by unfold gFree; omega)
theorem gJ.o_rainL {g : gG} (h : gJ g) : ∀ i, i ≤ 6 → gJ (rainL g i)
  | 0, _ => h
  | i + 1, hi => (h.o_rainL i (by omega)).o_rainsOn (by omega)
theorem gJ.o_hrain {g : gG} (h : gJ g) : gJ (hourRain g) := by
  unfold hourRain
  split
  · exact h.o_rainL 6 (by omega)
  · exact h
theorem gJ.o_sets {g : gG} (h : gJ g) {c : Nat} (hc : c < nn g 50) : gJ (p_sets g c) := by
  unfold p_sets
  split
  · rename_i h0
    refine h.setd hc ?_ (fun k h1 h2 => (upd_n h2).trans (upd_n h1))
    rw [upd_s, upd_n (by omega), upd_s]
    generalize (if 0 < g 1 then (0 : Int32) else g (61 + c) + 1) = x
    by_cases e : x = 4
    · right; rw [if_pos e]; exact ⟨rfl, e⟩
    · left; rw [if_neg e]; exact ⟨rfl, e⟩
  · exact h
theorem gJ.o_setsL {g : gG} (h : gJ g) : ∀ i, i ≤ nn g 50 → gJ (setsL g i)
  | 0, _ => h
  | i + 1, hi => by
    have b := h.i.c.2
    refine (h.o_setsL i (by omega)).o_sets ?_
    rw [nn_e (setsL_n i (by omega) (by omega))]; omega
theorem gJ.o_dayP {g : gG} (h : gJ g) : ∀ i, i ≤ 6 → gJ (dayP g i)
  | 0, _ => h
  | i + 1, hi => by
    have ih := h.o_dayP i (by omega)
    obtain ⟨d, hd, ed⟩ := ih.a1 i (by omega)
    show gJ (upd (dayP g i) (8 + i) _)
    rw [ed]
    have key : ∀ x : Nat, x ≤ 2 → gJ (upd (dayP g i) (8 + i) (if 9 < nI d + nI x then 9 else nI d + nI x)) := fun x hx => by
      rw [nI_add]
      split
      · exact ih.pigeons (d := 9) (by omega) (by omega)
      · rename_i q
        have : ¬ 9 < d + x := fun z => q (nI_lt (a := 9) (b := d + x) z (by omega))
        exact ih.pigeons (by omega) (by omega)
    by_cases e : dayP g i (14 + i) = 1
    · simp only [if_pos e]; exact key 2 (by omega)
    · simp only [if_neg e]; exact key 1 (by omega)
theorem gJ.o_dayM {g : gG} (h : gJ g) : ∀ i, i ≤ 4 → gJ (dayM g i)
  | 0, _ => h
  | i + 1, hi => (h.o_dayM i (by omega)).free (by unfold gFree; omega)
theorem gJ.o_day {g : gG} (h : gJ g) : gJ (p_endsDay g) := (h.o_dayP 6 (by omega)).o_dayM _ h.i.m.2
theorem gJ.o_hour {g : gG} (h : gJ g) : gJ (p_hour g) := by
  have h1 : gJ (hourTick (setsL (hourRain g) (nn g 50))) := (h.o_hrain.o_setsL (nn g 50) (by rw [nn_e (hourRain_n (by omega))]; omega)).free (by unfold gFree; omega)
  unfold p_hour
  split
  · exact h1.o_day
  · exact h1
theorem gJ.o_hours {g : gG} (h : gJ g) : ∀ i, gJ (hoursG g i)
  | 0 => h
  | i + 1 => (h.o_hours i).o_hour
theorem gJ.o_passes {g : gG} (h : gJ g) (v : Int32) : gJ (gr_g g (p_passesI g v)) := by
  unfold p_passesI
  split
  · exact h.o_hours _
  · exact h
theorem gJ.o_sacks {g : gG} (h : gJ g) (v : Int32) : gJ (gr_g g (p_sacksI g v)) := by
  unfold p_sacksI
  split
  · unfold p_sacks
    split
    · exact h
    · exact (h.pays).free (by unfold gFree; omega)
  · exact h
theorem inR3 {v : Int32} (h : inR v 0 2 = true) : ∃ j, j < 3 ∧ v = nI j := (inR_k 3 (by decide) (by decide)).mp h
theorem gJ.o_comes {g : gG} (h : gJ g) (v : Int32) : gJ (gr_g g (p_copyistI g v)) := by
  have b2 := h.i.m.2
  unfold p_copyistI
  split
  · rename_i hv
    obtain ⟨j, hj, rfl⟩ := inR3 hv
    unfold p_comes
    split
    · exact h
    rename_i h4
    have hn : nn g 191 < 4 := cnt_lt h.i.m h4
    refine h.come hn ?_ ?_ ?_
    · simp only [gr_g]
      exact upd_s.trans (nn_succ h.i.m.1)
    · have e : ∀ q : gG, upd (upd (upd (upd g (192 + nn g 191) (nI j)) (200 + nn g 191) 600) (208 + nn g 191) 1) 191 (g 191 + 1) (192 + nn g 191) = nI j := fun _ => (upd_n (by omega)).trans ((upd_n (by omega)).trans ((upd_n (by omega)).trans upd_s))
      rcases (show j = 0 ∨ j = 1 ∨ j = 2 by omega) with rfl | rfl | rfl
      · exact Or.inl (e g)
      · exact Or.inr (Or.inl (e g))
      · exact Or.inr (Or.inr (e g))
    · intro k hk hf h1 h2
      unfold gFree at hf
      exact (upd_n h1).trans ((upd_n (by omega)).trans ((upd_n (by omega)).trans (upd_n h2)))
  · exact h
theorem gJ.o_do {g : gG} (h : gJ g) (w v x y : Int32) : gJ (gr_g g (doP g w v x y)) := by
  unfold doP
  split
  · exact h.o_casts v
  split
  · exact h.o_begins v
  split
  · exact h.o_cuts v x y
  split
  · exact h.o_down v
  split
  · exact h.o_lifts v
  split
  · exact h.o_renews v
  split
  · exact h.o_drives v
  split
  · exact h.o_tells v x
  · exact h.o_passes v
theorem gJ.o_run {g td : gG} (h : gJ g) : ∀ k, gJ (runG g td k)
  | 0 => h
  | k + 1 => (h.o_run k).o_do _ _ _ _
