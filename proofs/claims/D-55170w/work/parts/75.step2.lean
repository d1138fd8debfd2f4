/-! STEPS BACK: undo, save, restore -/
/-- the last church of the past is the church again -/
theorem past_pop {A : Nat → Prop} {D : va_G} {dA : Nat → ClassId} {ad : Nat → Nat} {g : gG} {hp : Nat → Nat → Nat} {hh : Nat → gG} {n : Nat} {R pre : va_W} {s : State} {H : Heap} {locs : List Loc}
    (hw : gW D A (pre ++ (chO dA ad g ++ chB dA ad g (pastW dA hp hh (n + 1) R))) s H locs) : gW D A (pre ++ (chO dA (hp n) (hh n) ++ chB dA (hp n) (hh n) (pastW dA hp hh n R))) s H locs := by
  refine g_drop (q := chW dA ad g) hw ?_
  rw [← chW_R, ← chW_R]
  refine (pf2 (z := pre) (q := chW dA ad g) (List.Perm.refl _)).trans ?_
  refine (List.Perm.append_left _ ?_)
  refine List.Perm.append_left pre ?_
  show (((blob (fun i => chW dA (hp i) (hh i)) n) ++ chW dA (hp n) (hh n)) ++ R).Perm (chW dA (hp n) (hh n) ++ (blob (fun i => chW dA (hp i) (hh i)) n ++ R))
  rw [List.append_assoc]
  exact pf2 (z := blob (fun i => chW dA (hp i) (hh i)) n) (q := chW dA (hp n) (hh n)) (List.Perm.refl _)
theorem chB_chW {dA : Nat → ClassId} {ad bd : Nat → Nat} {g g' : gG} {R : va_W} : (chO dA bd g ++ chB dA ad g' (chB dA bd g R)).Perm (chB dA ad g' (chW dA bd g ++ R)) := by
  rw [chW_R]; exact chB_in
theorem pastW_in {dA : Nat → ClassId} {hp : Nat → Nat → Nat} {hh : Nat → gG} {n : Nat} {ex R : va_W} : (ex ++ pastW dA hp hh n R).Perm (pastW dA hp hh n (ex ++ R)) := by
  unfold pastW
  exact (pf2 (z := blob (fun i => chW dA (hp i) (hh i)) n) (q := ex) (y := R) (List.Perm.refl _)).symm
def undoQ (g : gG) (n : Nat) (hh : Nat → gG) (wy wd r : Int32) (u : xS) : Prop :=
  u.2.2.1 = wy ∧ u.2.2.2.1 = wd ∧ dqP u.2.2.2.2.1 u.2.2.2.2.2.1 u.2.2.2.2.2.2.1 u.2.2.2.2.2.2.2.1 (fun i => u.2.2.2.2.2.2.2.2.1 i 0) ∧ u.2.2.2.2.2.2.2.2.2 = hh ∧
  (n = 0 → r = -15 ∧ u.2.1 = g ∧ u.2.2.2.2.2.2.2.1 = 0) ∧ (∀ m, n = m + 1 → r = nI m ∧ u.2.1 = hh m ∧ u.2.2.2.2.2.2.2.1 = m)
