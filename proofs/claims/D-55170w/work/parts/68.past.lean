/-! THE PAST: churches kept in a deque -/
/-- the deque's ring of seventeen: n things, the i-th at r i -/
def dqP (df : Nat → Option Nat) (dh dt n : Nat) (r : Nat → Nat) : Prop := dh < 17 ∧ dt < 17 ∧ n ≤ 16 ∧ dt = (dh + n) % 17 ∧ (∀ i, i < n → df ((dh + i) % 17) = some (r i)) ∧ ∀ k, k < 17 → ¬ segN dh dt k → df k = none
theorem dqP.size {df : Nat → Option Nat} {dh dt n : Nat} {r : Nat → Nat} (h : dqP df dh dt n r) : subN dt dh 17 = n := by
  obtain ⟨h1, h2, h3, h4, -⟩ := h
  unfold subN
  split <;> omega
theorem dqP.emp {df : Nat → Option Nat} {dh dt n : Nat} {r : Nat → Nat} (h : dqP df dh dt n r) : dh = dt ↔ n = 0 := by
  obtain ⟨h1, h2, h3, h4, -⟩ := h
  omega
theorem dqP.room {df : Nat → Option Nat} {dh dt n : Nat} {r : Nat → Nat} (h : dqP df dh dt n r) (hn : n ≤ 15) : ¬ dh = incN dt 17 := by
  obtain ⟨h1, h2, h3, h4, -⟩ := h
  unfold incN
  split <;> omega
theorem dqP.push {df : Nat → Option Nat} {dh dt n : Nat} {r : Nat → Nat} (h : dqP df dh dt n r) (hn : n ≤ 15) (v : Nat) : dqP (va_up df dt (some v)) dh (incN dt 17) (n + 1) (fun i => if i = n then v else r i) := by
  obtain ⟨h1, h2, h3, h4, h5, h6⟩ := h
  have hi : incN dt 17 = (dt + 1) % 17 := by unfold incN; split <;> omega
  refine ⟨h1, by omega, by omega, by omega, fun i hi' => ?_, fun k hk hs => ?_⟩
  · by_cases e : i = n
    · subst e
      rw [show (dh + i) % 17 = dt by omega, va_up_self]; exact congrArg some (if_pos rfl).symm
    · rw [va_up_ne _ _ (show (dh + i) % 17 ≠ dt by omega)]
      exact (h5 i (by omega)).trans (congrArg some (if_neg e).symm)
  · have hkd : k ≠ dt := by
      intro e; apply hs; unfold segN
      split <;> omega
    rw [va_up_ne _ _ hkd]
    refine h6 k hk (fun q => hs ?_)
    unfold segN at q ⊢
    split at q <;> split <;> omega
theorem dqP.head {df : Nat → Option Nat} {dh dt n : Nat} {r : Nat → Nat} (h : dqP df dh dt n r) (hn : 0 < n) : df dh = some (r 0) := by
  obtain ⟨h1, h2, h3, h4, h5, h6⟩ := h
  have := h5 0 hn
  rw [show (dh + 0) % 17 = dh by omega] at this
  exact this
theorem dqP.shift {df : Nat → Option Nat} {dh dt n : Nat} {r : Nat → Nat} (h : dqP df dh dt (n + 1) r) : dqP (va_up df dh none) (incN dh 17) dt n (fun i => r (i + 1)) := by
  obtain ⟨h1, h2, h3, h4, h5, h6⟩ := h
  have hi : incN dh 17 = (dh + 1) % 17 := by unfold incN; split <;> omega
  refine ⟨by omega, h2, by omega, by omega, fun i hi' => ?_, fun k hk hs => ?_⟩
  · rw [hi, show ((dh + 1) % 17 + i) % 17 = (dh + (i + 1)) % 17 by omega, va_up_ne _ _ (show (dh + (i + 1)) % 17 ≠ dh by omega)]
    exact h5 (i + 1) (by omega)
  · by_cases e : k = dh
    · subst e; exact va_up_self ..
    · rw [va_up_ne _ _ e]
      refine h6 k hk (fun q => hs ?_)
      rw [hi]
      unfold segN at q ⊢
      split at q <;> split <;> omega
theorem dqP.last {df : Nat → Option Nat} {dh dt n : Nat} {r : Nat → Nat} (h : dqP df dh dt (n + 1) r) : df (decN dt 17) = some (r n) := by
  obtain ⟨h1, h2, h3, h4, h5, h6⟩ := h
  have hd : decN dt 17 = (dh + n) % 17 := by unfold decN; split <;> omega
  rw [hd]; exact h5 n (by omega)
theorem dqP.pop {df : Nat → Option Nat} {dh dt n : Nat} {r : Nat → Nat} (h : dqP df dh dt (n + 1) r) : dqP (va_up df (decN dt 17) none) dh (decN dt 17) n r := by
  obtain ⟨h1, h2, h3, h4, h5, h6⟩ := h
  have hd : decN dt 17 = (dh + n) % 17 := by unfold decN; split <;> omega
  refine ⟨h1, by omega, by omega, hd, fun i hi' => ?_, fun k hk hs => ?_⟩
  · rw [hd, va_up_ne _ _ (show (dh + i) % 17 ≠ (dh + n) % 17 by omega)]
    exact h5 i (by omega)
  · by_cases e : k = decN dt 17
    · subst e; exact va_up_self ..
    · rw [va_up_ne _ _ e]
      refine h6 k hk (fun q => hs ?_)
      rw [hd] at e ⊢
      unfold segN at q ⊢
      split at q <;> split <;> omega
theorem dqP.zero {df : Nat → Option Nat} {r : Nat → Nat} (h : ∀ k, k < 17 → df k = none) : dqP df 0 0 0 r := ⟨by omega, by omega, by omega, rfl, fun i hi => absurd hi (Nat.not_lt_zero i), fun k hk _ => h k hk⟩
theorem dqP.c {df : Nat → Option Nat} {dh dt n : Nat} {r r' : Nat → Nat} (h : dqP df dh dt n r) (e : ∀ i, i < n → r i = r' i) : dqP df dh dt n r' := ⟨h.1, h.2.1, h.2.2.1, h.2.2.2.1, fun i hi => by rw [← e i hi]; exact h.2.2.2.2.1 i hi, h.2.2.2.2.2⟩
/-- one more; the first goes if there were eight -/
def pushP {α : Type} (f : Nat → α) (n : Nat) (x : α) : Nat → α := fun i => if n = 8 then (if i = 7 then x else f (i + 1)) else if i = n then x else f i
/-- a whole church -/
def chW (dA : Nat → ClassId) (ad : Nat → Nat) (g : gG) : va_W := chO dA ad g ++ chB dA ad g []
def pastW (dA : Nat → ClassId) (hp : Nat → Nat → Nat) (hh : Nat → gG) (n : Nat) (R : va_W) : va_W := blob (fun i => chW dA (hp i) (hh i)) n ++ R
theorem chB_R {dA : Nat → ClassId} {ad : Nat → Nat} {g : gG} {R : va_W} : chB dA ad g R = chB dA ad g [] ++ R := by
  unfold chB chT
  simp only [List.append_assoc, List.nil_append, List.append_nil]
theorem chW_R {dA : Nat → ClassId} {ad : Nat → Nat} {g : gG} {R : va_W} : chW dA ad g ++ R = chO dA ad g ++ chB dA ad g R := by
  rw [chW, List.append_assoc, ← chB_R]
theorem blob_first {f : Nat → va_W} : ∀ n, (blob f (n + 1)).Perm (f 0 ++ blob (fun i => f (i + 1)) n)
  | 0 => by show (([] : va_W) ++ f 0).Perm (f 0 ++ []); rw [List.nil_append, List.append_nil]
  | n + 1 => by
    show (blob f (n + 1) ++ f (n + 1)).Perm (f 0 ++ (blob (fun i => f (i + 1)) n ++ f (n + 1)))
    rw [← List.append_assoc]
    exact (blob_first n).append_right _
/-- cells that nobody needs any more -/
theorem g_drop {A : Nat → Prop} {D : va_G} {ws ws' q : va_W} {s : State} {H : Heap} {locs : List Loc} (hw : gW D A ws s H locs) (hp : ws.Perm (q ++ ws')) : gW D A ws' s H locs := by
  have h := g_prm hp hw
  refine ⟨fun k z hk => h.1 (q.length + k) z (by rw [List.getElem?_append_right (by omega)]; simpa using hk), ⟨fun i j x y hi hj e => ?_, fun k z hk => h.2.1.2 (q.length + k) z (by rw [List.getElem?_append_right (by omega)]; simpa using hk)⟩, h.2.2⟩
  have := h.2.1.1 (q.length + i) (q.length + j) x y (by rw [List.getElem?_append_right (by omega)]; simpa using hi) (by rw [List.getElem?_append_right (by omega)]; simpa using hj) e
  omega
theorem blob_push {f : Nat → va_W} {x : va_W} {n : Nat} (h : n ≠ 8) {f' : Nat → va_W} (e : ∀ i, i < n → f' i = f i) (ex : f' n = x) : blob f n ++ x = blob f' (n + 1) := by
  show blob f n ++ x = blob f' n ++ f' n
  rw [ex, blob_c n e]
/-- the church of before goes into the past -/
theorem past_push {A : Nat → Prop} {D : va_G} {dA : Nat → ClassId} {ad bd : Nat → Nat} {g g' : gG} {hp : Nat → Nat → Nat} {hh : Nat → gG} {n : Nat} {R pre : va_W} {s : State} {H : Heap} {locs : List Loc} (hn : n ≤ 8)
    (hw : gW D A (pre ++ (chO dA bd g ++ chB dA ad g' (chB dA bd g (pastW dA hp hh n R)))) s H locs) : gW D A (pre ++ chB dA ad g' (pastW dA (pushP hp n bd) (pushP hh n g) (pushN n) R)) s H locs := by
  have h1 : (chO dA bd g ++ chB dA ad g' (chB dA bd g (pastW dA hp hh n R))).Perm (chB dA ad g' (chW dA bd g ++ pastW dA hp hh n R)) := by
    rw [chW_R]; exact chB_in
  have h2 := g_prm (h1.append_left pre) hw
  unfold pastW at h2
  by_cases e : n = 8
  · subst e
    -- the first of eight goes
    have h3 : (chW dA bd g ++ (blob (fun i => chW dA (hp i) (hh i)) 8 ++ R)).Perm (chW dA (hp 0) (hh 0) ++ (blob (fun i => chW dA (pushP hp 8 bd i) (pushP hh 8 g i)) 8 ++ R)) := by
      have a := (blob_first (f := fun i => chW dA (hp i) (hh i)) 7).append_right R
      have b : blob (fun i => chW dA (pushP hp 8 bd i) (pushP hh 8 g i)) 8 = blob (fun i => chW dA (hp (i + 1)) (hh (i + 1))) 7 ++ chW dA bd g := by
        show blob (fun i => chW dA (pushP hp 8 bd i) (pushP hh 8 g i)) 7 ++ chW dA (pushP hp 8 bd 7) (pushP hh 8 g 7) = _
        rw [blob_c (f := fun i => chW dA (pushP hp 8 bd i) (pushP hh 8 g i)) (f' := fun i => chW dA (hp (i + 1)) (hh (i + 1))) 7 (fun i hi => by
          show chW dA (pushP hp 8 bd i) (pushP hh 8 g i) = _
          rw [show pushP hp 8 bd i = hp (i + 1) from by unfold pushP; rw [if_pos rfl, if_neg (by omega)], show pushP hh 8 g i = hh (i + 1) from by unfold pushP; rw [if_pos rfl, if_neg (by omega)]])]
        rfl
      rw [b]
      refine ((a.append_left (chW dA bd g)).trans ?_)
      rw [List.append_assoc, List.append_assoc]
      refine (pf2 (z := chW dA bd g) (q := chW dA (hp 0) (hh 0)) (List.Perm.refl _)).trans ?_
      exact List.Perm.append_left _ (pf2 (z := chW dA bd g) (q := blob (fun i => chW dA (hp (i + 1)) (hh (i + 1))) 7) (y := R) (List.Perm.refl _))
    have h4 := chB_cong (dA := dA) (ad := ad) (g := g') h3
    have h5 : (pre ++ chB dA ad g' (chW dA bd g ++ (blob (fun i => chW dA (hp i) (hh i)) 8 ++ R))).Perm (chW dA (hp 0) (hh 0) ++ (pre ++ chB dA ad g' (blob (fun i => chW dA (pushP hp 8 bd i) (pushP hh 8 g i)) 8 ++ R))) :=
      (h4.append_left pre).trans (((chB_in (dA := dA) (ad := ad) (g := g') (ex := chW dA (hp 0) (hh 0))).symm.append_left pre).trans (pf2 (z := pre) (List.Perm.refl _)))
    exact g_drop h2 h5
  · have b : blob (fun i => chW dA (hp i) (hh i)) n ++ chW dA bd g = blob (fun i => chW dA (pushP hp n bd i) (pushP hh n g i)) (n + 1) := blob_push e (fun i hi => by
        show chW dA (pushP hp n bd i) (pushP hh n g i) = _
        rw [show pushP hp n bd i = hp i from by unfold pushP; rw [if_neg e, if_neg (by omega)], show pushP hh n g i = hh i from by unfold pushP; rw [if_neg e, if_neg (by omega)]]) (by
        show chW dA (pushP hp n bd n) (pushP hh n g n) = _
        rw [show pushP hp n bd n = bd from by unfold pushP; rw [if_neg e, if_pos rfl], show pushP hh n g n = g from by unfold pushP; rw [if_neg e, if_pos rfl]])
    have h3 : (chW dA bd g ++ (blob (fun i => chW dA (hp i) (hh i)) n ++ R)).Perm (blob (fun i => chW dA (pushP hp n bd i) (pushP hh n g i)) (n + 1) ++ R) := by
      rw [← b, List.append_assoc]
      exact pf2 (z := chW dA bd g) (q := blob (fun i => chW dA (hp i) (hh i)) n) (y := R) (List.Perm.refl _)
    have h4 := g_prm ((chB_cong (dA := dA) (ad := ad) (g := g') h3).append_left pre) h2
    unfold pastW pushN
    rw [if_neg e]
    exact h4
/-- .. or is dropped -/
theorem past_drop {A : Nat → Prop} {D : va_G} {dA : Nat → ClassId} {ad bd : Nat → Nat} {g g' : gG} {R pre : va_W} {s : State} {H : Heap} {locs : List Loc}
    (hw : gW D A (pre ++ (chO dA bd g ++ chB dA ad g' (chB dA bd g R))) s H locs) : gW D A (pre ++ chB dA ad g' R) s H locs := by
  have h1 : (chO dA bd g ++ chB dA ad g' (chB dA bd g R)).Perm (chB dA ad g' (chW dA bd g ++ R)) := by
    rw [chW_R]; exact chB_in
  refine g_drop (q := chW dA bd g) hw ?_
  exact (h1.append_left pre).trans (((chB_in (dA := dA) (ad := ad) (g := g') (ex := chW dA bd g)).symm.append_left pre).trans (pf2 (z := pre) (List.Perm.refl _)))
theorem dq_new {df : Nat → Option Nat} {dh dt n : Nat} {hp : Nat → Nat → Nat} {bd : Nat → Nat} (h : dqP df dh dt (n + 1) (fun i => if i = n then bd 0 else hp i 0)) (hn : n ≠ 8) : dqP df dh dt (pushN n) (fun i => pushP hp n bd i 0) := by
  rw [show pushN n = n + 1 from if_neg hn]
  refine h.c (fun i hi => ?_)
  show (if i = n then bd 0 else hp i 0) = pushP hp n bd i 0
  unfold pushP
  rw [if_neg hn]
  split <;> rfl
theorem dq_new8 {df : Nat → Option Nat} {dh dt : Nat} {hp : Nat → Nat → Nat} {bd : Nat → Nat} (h : dqP df dh dt 8 (fun i => if i + 1 = 8 then bd 0 else hp (i + 1) 0)) : dqP df dh dt (pushN 8) (fun i => pushP hp 8 bd i 0) := by
  refine h.c (fun i hi => ?_)
  show (if i + 1 = 8 then bd 0 else hp (i + 1) 0) = pushP hp 8 bd i 0
  unfold pushP
  rw [if_pos rfl]
  by_cases e : i = 7
  · subst e; rfl
  · rw [if_neg (by omega), if_neg e]
