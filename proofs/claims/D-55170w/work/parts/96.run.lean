/-! RUN: churches and orders side by side -/
theorem chB_swap {dA : Nat → ClassId} {ad bd : Nat → Nat} {g g' : gG} {R : va_W} : (chB dA ad g (chB dA bd g' R)).Perm (chB dA bd g' (chB dA ad g R)) := by
  rw [chB_R (ad := ad) (g := g) (R := chB dA bd g' R), chB_R (ad := bd) (g := g') (R := R), chB_R (ad := bd) (g := g') (R := chB dA ad g R), chB_R (ad := ad) (g := g) (R := R)]
  exact pf2 (z := chB dA ad g []) (q := chB dA bd g' []) (List.Perm.refl _)
theorem blob_mv {ex b R : va_W} : (ex ++ (b ++ R)).Perm (b ++ (ex ++ R)) := (pf2 (z := b) (q := ex) (y := R) (List.Perm.refl _)).symm
theorem past_in {dA : Nat → ClassId} {ad : Nat → Nat} {g : gG} {hp : Nat → Nat → Nat} {hh : Nat → gG} {n : Nat} {ex R : va_W} : (ex ++ chB dA ad g (pastW dA hp hh n R)).Perm (chB dA ad g (pastW dA hp hh n (ex ++ R))) := chB_in.trans (chB_cong pastW_in)
theorem past_in2 {dA : Nat → ClassId} {at_ ad : Nat → Nat} {g' g : gG} {hp : Nat → Nat → Nat} {hh : Nat → gG} {n : Nat} {ex R : va_W} : (ex ++ chB dA at_ g' (chB dA ad g (pastW dA hp hh n R))).Perm (chB dA at_ g' (chB dA ad g (pastW dA hp hh n (ex ++ R)))) := chB_in.trans (chB_cong past_in)
theorem ord_open {dA : Nat → ClassId} {at_ ad : Nat → Nat} {g' g : gG} {hp : Nat → Nat → Nat} {hh : Nat → gG} {n N k : Nat} {f : Nat → va_W} {R : va_W} (hk : k < N) : (chB dA at_ g' (chB dA ad g (pastW dA hp hh n (blob f N ++ R)))).Perm (f k ++ chB dA at_ g' (chB dA ad g (pastW dA hp hh n (blobE f k N ++ R)))) := by
  refine List.Perm.trans ?_ past_in2.symm
  refine chB_cong (chB_cong ?_)
  unfold pastW
  refine List.Perm.append_left _ ?_
  rw [← List.append_assoc]
  exact (blob_open N hk).append_right R
theorem past_dropR {A : Nat → Prop} {D : va_G} {dA : Nat → ClassId} {ad : Nat → Nat} {g : gG} {hp : Nat → Nat → Nat} {hh : Nat → gG} {n : Nat} {ex R pre : va_W} {s : State} {H : Heap} {locs : List Loc}
    (hw : gW D A (pre ++ chB dA ad g (pastW dA hp hh n (ex ++ R))) s H locs) : gW D A (pre ++ chB dA ad g (pastW dA hp hh n R)) s H locs :=
  g_drop (q := ex) hw (((past_in (dA := dA) (ad := ad) (g := g) (ex := ex)).symm.append_left pre).trans (pf2 (z := pre) (List.Perm.refl _)))
theorem do_eq {g td : gG} {i w : Nat} {x y z : Int32} (h0 : td (4 * i) = nI w) (h1 : td (4 * i + 1) = x) (h2 : w = 2 → td (4 * i + 2) = y ∧ td (4 * i + 3) = z) (h7 : w = 7 → td (4 * i + 2) = y ∧ inR x 0 9 = true ∧ inR y 0 9 = true) (hw : w < 9) : doP g (nI w) x y z = doK g td i := by
  unfold doK
  rw [h0, h1]
  rcases (show w = 0 ∨ w = 1 ∨ w = 2 ∨ w = 3 ∨ w = 4 ∨ w = 5 ∨ w = 6 ∨ w = 7 ∨ w = 8 by omega) with rfl | rfl | rfl | rfl | rfl | rfl | rfl | rfl | rfl
  · rw [do_0, do_0]
  · rw [do_1, do_1]
  · rw [(h2 rfl).1, (h2 rfl).2]
  · rw [do_3, do_3]
  · rw [do_4, do_4]
  · rw [do_5, do_5]
  · rw [do_6, do_6]
  · rw [do_7, do_7, (h7 rfl).1]
  · rw [do_8, do_8]
theorem dn_1 {x : gRes} (h : dnB x = true) : ¬ gr_v x < 0 := by
  unfold dnB at h
  intro q; rw [decide_eq_true q] at h; exact absurd h (by decide)
theorem dn_0 {x : gRes} (h : dnB x = false) : gr_v x < 0 := by
  unfold dnB at h
  rcases Decidable.em (gr_v x < 0) with q | q
  · exact q
  · rw [decide_eq_false q] at h; exact absurd h (by decide)
theorem run_t2 {g tf td t : gG} {tn n z k : Nat} (h : textP tf tn td = (n, t, z, false)) (hk : runF g t n = k) (hn : ¬ k < n) : runP g tf tn td = .inr (nI n, runG g t n) := by
  have e := run_t (g := g) (k := k) (tf := tf) (td := td) (tn := tn) (by rw [h]) (by rw [h]; exact hk) (by rw [h]; exact hn)
  rw [h] at e; exact e
theorem run_f2 {g tf td t : gG} {tn n z k : Nat} (h : textP tf tn td = (n, t, z, false)) (hk : runF g t n = k) (hn : k < n) : runP g tf tn td = .inl (15, nI k) :=
  run_f (g := g) (k := k) (tf := tf) (td := td) (tn := tn) (by rw [h]) (by rw [h]; exact hk) (by rw [h]; exact hn)
theorem run_w2 {g tf td : gG} {tn z : Nat} (h : (textP tf tn td).2.2.2 = true) (hz : (textP tf tn td).2.2.1 = z) : runP g tf tn td = .inr (-1000 - nI z, g) := by rw [run_w h, hz]
