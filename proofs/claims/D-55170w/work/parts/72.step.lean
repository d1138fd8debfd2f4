/-! A STEP OF THE COMPONENT: what it answers, what is left, what is kept of the past -/
theorem dq_ne {df : Nat → Option Nat} {dh dt n v : Nat} {r : Nat → Nat} (h : dqP df dh dt (n + 1) (fun i => if i = n then v else r i)) (hn : n ≠ 8) : dqP df dh dt (pushN n) (pushP r n v) := by
  rw [show pushN n = n + 1 from if_neg hn]
  refine h.c (fun i hi => ?_)
  show (if i = n then v else r i) = pushP r n v i
  unfold pushP
  rw [if_neg hn]
theorem dq_8 {df : Nat → Option Nat} {dh dt n v : Nat} {r : Nat → Nat} (h : dqP df dh dt (n + 1) (fun i => if i = n then v else r i)) (hn : n = 8) : dqP (va_up df dh none) (incN dh 17) dt (pushN n) (pushP r n v) := by
  subst hn
  refine (h.shift).c (fun i hi => ?_)
  show (if i + 1 = 8 then v else r (i + 1)) = pushP r 8 v i
  unfold pushP
  rw [if_pos rfl]
  by_cases e : i = 7
  · subst e; rfl
  · rw [if_neg (by omega), if_neg e]
theorem dq_0 {df : Nat → Option Nat} {dh dt n m : Nat} {hp : Nat → Nat → Nat} {bd : Nat → Nat} (h : dqP df dh dt m (pushP (fun i => hp i 0) n (bd 0))) : dqP df dh dt m (fun i => pushP hp n bd i 0) := by
  refine h.c (fun i hi => ?_)
  show pushP (fun i => hp i 0) n (bd 0) i = pushP hp n bd i 0
  unfold pushP
  split <;> split <;> rfl
theorem pushN_8 {n : Nat} (h : n ≤ 8) : pushN n ≤ 8 := by
  unfold pushN; split <;> omega
/-- places, row, why, detail, the deque, how many are kept, their places and rows -/
abbrev xS : Type := (Nat → Nat) × gG × Int32 × Int32 × (Nat → Option Nat) × Nat × Nat × Nat × (Nat → Nat → Nat) × (Nat → gG)
def stepQ (g : gG) (n : Nat) (hh : Nat → gG) (wy wd : Int32) (res : gRes) (r : Int32) (u : xS) : Prop :=
  r = gr_v res ∧ u.2.1 = gr_g g res ∧ u.2.2.1 = gr_w wy res ∧ u.2.2.2.1 = gr_d wd res ∧ u.2.2.2.2.2.2.2.1 ≤ 8 ∧ dqP u.2.2.2.2.1 u.2.2.2.2.2.1 u.2.2.2.2.2.2.1 u.2.2.2.2.2.2.2.1 (fun i => u.2.2.2.2.2.2.2.2.1 i 0) ∧
  (gr_v res < 0 → u.2.2.2.2.2.2.2.1 = n ∧ u.2.2.2.2.2.2.2.2.2 = hh) ∧ (¬ gr_v res < 0 → u.2.2.2.2.2.2.2.1 = pushN n ∧ u.2.2.2.2.2.2.2.2.2 = pushP hh n g)
theorem step_no {g : gG} {n : Nat} {hh : Nat → gG} {wy wd : Int32} {res : gRes} {v : Int32} {ad : Nat → Nat} {df : Nat → Option Nat} {dh dt : Nat} {hp : Nat → Nat → Nat} (hq : dqP df dh dt n (fun i => hp i 0)) (hn : n ≤ 8) (e : res = .inr (v, g)) (hv : v < 0) :
    stepQ g n hh wy wd res v (ad, g, wy, wd, df, dh, dt, n, hp, hh) := by
  subst e
  exact ⟨rfl, rfl, rfl, rfl, hn, hq, fun _ => ⟨rfl, rfl⟩, fun h => absurd hv h⟩
theorem step_ref {g : gG} {n : Nat} {hh : Nat → gG} {wy wd a b : Int32} {res : gRes} {ad : Nat → Nat} {df : Nat → Option Nat} {dh dt : Nat} {hp : Nat → Nat → Nat} (hq : dqP df dh dt n (fun i => hp i 0)) (hn : n ≤ 8) (e : res = .inl (a, b)) :
    stepQ g n hh wy wd res (-14) (ad, g, a, b, df, dh, dt, n, hp, hh) := by
  subst e
  exact ⟨rfl, rfl, rfl, rfl, hn, hq, fun _ => ⟨rfl, rfl⟩, fun h => absurd (by decide : (-14 : Int32) < 0) h⟩
theorem step_ok {g g2 : gG} {n : Nat} {hh : Nat → gG} {wy wd : Int32} {res : gRes} {v r : Int32} {ad bd : Nat → Nat} {df : Nat → Option Nat} {dh dt : Nat} {hp : Nat → Nat → Nat} (hn : n ≤ 8) (hq : dqP df dh dt (pushN n) (pushP (fun i => hp i 0) n (bd 0))) (e : res = .inr (v, g2)) (hr : r = v) (hv : ¬ v < 0) :
    stepQ g n hh wy wd res r (ad, g2, wy, wd, df, dh, dt, pushN n, pushP hp n bd, pushP hh n g) := by
  subst e hr
  exact ⟨rfl, rfl, rfl, rfl, pushN_8 hn, dq_0 hq, fun h => absurd h hv, fun _ => ⟨rfl, rfl⟩⟩
theorem cuts_no {g : gG} {x y z : Int32} (h : (inR x 0 (g 191 - 1) && (inR y 0 (g 212 - 1) && inR z 0 9)) = false) : p_cutsI g x y z = .inr (-11, g) := by
  unfold p_cutsI
  split
  · rename_i a
    split
    · rename_i b
      split
      · rename_i c9
        rw [a, b, c9] at h; exact absurd h (by decide)
      · rfl
    · rfl
  · rfl
theorem cuts_yes {g : gG} {x y z : Int32} (h : (inR x 0 (g 191 - 1) && (inR y 0 (g 212 - 1) && inR z 0 9)) = true) : inR x 0 (g 191 - 1) = true ∧ inR y 0 (g 212 - 1) = true ∧ inR z 0 9 = true := by
  rw [Bool.and_eq_true, Bool.and_eq_true] at h; exact h
theorem sky_no {g : gG} {x y : Int32} (h : (inR x 0 9 && inR y 0 9) = false) : p_tellsI g x y = .inr (-12, g) := by
  unfold p_tellsI
  split
  · rename_i a
    split
    · rename_i b
      rw [a, b] at h; exact absurd h (by decide)
    · rfl
  · rfl
theorem sky_yes {g : gG} {x y : Int32} (h : (inR x 0 9 && inR y 0 9) = true) : p_tellsI g x y = .inr (10 * g 1 + g 2, p_tells g x y) := by
  rw [Bool.and_eq_true] at h
  rw [p_tellsI, if_pos h.1, if_pos h.2]
