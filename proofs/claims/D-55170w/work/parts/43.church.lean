/-! CHURCHES: a church's things as blobs of cells, opened one by one -/
theorem vD_pw {ws : va_W} (h : ∀ (i j : Nat) (p q : Nat × va_E), ws[i]? = some p → ws[j]? = some q → p.1 = q.1 → i = j) : ws.Pairwise (fun p q => p.1 ≠ q.1) := by
  rw [List.pairwise_iff_getElem]
  intro i j hi hj hij e
  have := h i j _ _ (List.getElem?_eq_getElem hi) (List.getElem?_eq_getElem hj) e
  omega
theorem vD_of {ws : va_W} (h : ws.Pairwise (fun p q => p.1 ≠ q.1)) : ∀ (i j : Nat) (p q : Nat × va_E), ws[i]? = some p → ws[j]? = some q → p.1 = q.1 → i = j := by
  rw [List.pairwise_iff_getElem] at h
  intro i j p q hi hj e
  obtain ⟨hi1, rfl⟩ := List.getElem?_eq_some_iff.mp hi
  obtain ⟨hj1, rfl⟩ := List.getElem?_eq_some_iff.mp hj
  rcases Nat.lt_trichotomy i j with z | z | z
  · exact absurd e (h i j hi1 hj1 z)
  · exact z
  · exact absurd e.symm (h j i hj1 hi1 z)
theorem g_prm {A : Nat → Prop} {D : va_G} {ws ws' : va_W} {s : State} {H : Heap} {locs : List Loc} (hp : ws.Perm ws') (hw : gW D A ws s H locs) : gW D A ws' s H locs := by
  obtain ⟨h1, ⟨h2, h3⟩, h4⟩ := hw
  have hm : ∀ (k : Nat) (q : Nat × va_E), ws'[k]? = some q → ∃ i, ws[i]? = some q := fun k q hk => List.getElem?_of_mem (hp.mem_iff.mpr (List.mem_of_getElem? hk))
  refine ⟨fun k q hk => ?_, ⟨vD_of ((hp.pairwise_iff (fun h e => h e.symm)).mp (vD_pw h2)), fun k q hk => ?_⟩, h4⟩
  · obtain ⟨i, hi⟩ := hm k q hk; exact h1 i q hi
  · obtain ⟨i, hi⟩ := hm k q hk; exact h3 i q hi
def blob (f : Nat → va_W) : Nat → va_W
  | 0 => []
  | n + 1 => blob f n ++ f n
/-- the blob but for its j-th thing -/
def blobE (f : Nat → va_W) (j : Nat) : Nat → va_W
  | 0 => []
  | n + 1 => if n = j then blobE f j n else blobE f j n ++ f n
theorem blobE_ge {f : Nat → va_W} {j : Nat} : ∀ n, n ≤ j → blobE f j n = blob f n
  | 0, _ => rfl
  | n + 1, h => by
    show (if n = j then blobE f j n else blobE f j n ++ f n) = blob f n ++ f n
    rw [if_neg (by omega), blobE_ge n (by omega)]
theorem blob_open {f : Nat → va_W} {j : Nat} : ∀ n, j < n → (blob f n).Perm (f j ++ blobE f j n)
  | 0, h => absurd h (Nat.not_lt_zero _)
  | n + 1, h => by
    show (blob f n ++ f n).Perm (f j ++ (if n = j then blobE f j n else blobE f j n ++ f n))
    by_cases e : n = j
    · subst e
      rw [if_pos rfl, blobE_ge n (Nat.le_refl _)]
      exact List.perm_append_comm
    · rw [if_neg e, ← List.append_assoc]
      exact List.Perm.append_right _ (blob_open n (by omega))
theorem blob_c {f f' : Nat → va_W} : ∀ n, (∀ i, i < n → f i = f' i) → blob f n = blob f' n
  | 0, _ => rfl
  | n + 1, h => by
    show blob f n ++ f n = blob f' n ++ f' n
    rw [blob_c n (fun i hi => h i (by omega)), h n (by omega)]
theorem blobE_c {f f' : Nat → va_W} {j : Nat} : ∀ n, (∀ i, i < n → i ≠ j → f i = f' i) → blobE f j n = blobE f' j n
  | 0, _ => rfl
  | n + 1, h => by
    show (if n = j then blobE f j n else blobE f j n ++ f n) = (if n = j then blobE f' j n else blobE f' j n ++ f' n)
    rw [blobE_c n (fun i hi => h i (by omega))]
    by_cases e : n = j
    · rw [if_pos e, if_pos e]
    · rw [if_neg e, if_neg e, h n (by omega) e]
/-- the four blobs of a church, and what lies behind -/
def chT (b0 b1 b2 b3 R : va_W) : va_W := b0 ++ (b1 ++ (b2 ++ (b3 ++ R)))
theorem pf1 {x q y : va_W} {z : va_W} (h : x.Perm (q ++ y)) : (x ++ z).Perm (q ++ (y ++ z)) := by
  rw [← List.append_assoc]; exact h.append_right _
theorem pf2 {x q y : va_W} {z : va_W} (h : x.Perm (q ++ y)) : (z ++ x).Perm (q ++ (z ++ y)) := by
  refine (h.append_left z).trans ?_
  rw [← List.append_assoc, ← List.append_assoc]
  exact List.perm_append_comm.append_right _
theorem chT_0 {b0 b0' b1 b2 b3 R q : va_W} (h : b0.Perm (q ++ b0')) : (chT b0 b1 b2 b3 R).Perm (q ++ chT b0' b1 b2 b3 R) := pf1 h
theorem chT_1 {b0 b1 b1' b2 b3 R q : va_W} (h : b1.Perm (q ++ b1')) : (chT b0 b1 b2 b3 R).Perm (q ++ chT b0 b1' b2 b3 R) := pf2 (pf1 h)
theorem chT_2 {b0 b1 b2 b2' b3 R q : va_W} (h : b2.Perm (q ++ b2')) : (chT b0 b1 b2 b3 R).Perm (q ++ chT b0 b1 b2' b3 R) := pf2 (pf2 (pf1 h))
theorem chT_3 {b0 b1 b2 b3 b3' R q : va_W} (h : b3.Perm (q ++ b3')) : (chT b0 b1 b2 b3 R).Perm (q ++ chT b0 b1 b2 b3' R) := pf2 (pf2 (pf2 (pf1 h)))
/-- things are taken out of the tail, to the front -/
theorem g_open {A : Nat → Prop} {D : va_G} {ws ws' : va_W} {s : State} {H : Heap} {locs : List Loc} (hw : gW D A ws s H locs) (pre : va_W) {q T T' : va_W} (hp : T.Perm (q ++ T')) (e : ws = pre ++ T) (e' : q ++ (pre ++ T') = ws') : gW D A ws' s H locs := by
  subst e; subst e'
  exact g_prm (pf2 hp) hw
/-- .. and put back -/
theorem g_close {A : Nat → Prop} {D : va_G} {ws ws' : va_W} {s : State} {H : Heap} {locs : List Loc} (hw : gW D A ws s H locs) (pre : va_W) {q T T' : va_W} (hp : T.Perm (q ++ T')) (e : ws = q ++ (pre ++ T')) (e' : pre ++ T = ws') : gW D A ws' s H locs := by
  subst e; subst e'
  exact g_prm (pf2 hp).symm hw
/-- ten places of the row -/
def d10 (g : gG) (b : Nat) : gG := fun q => if q < 10 then g (b + q) else 0
theorem d10_at {g : gG} {b q : Nat} (h : q < 10) : d10 g b q = g (b + q) := if_pos h
theorem d10_c {g g' : gG} {b : Nat} (h : ∀ q, q < 10 → g (b + q) = g' (b + q)) : d10 g b = d10 g' b := by
  funext q
  unfold d10
  by_cases e : q < 10
  · rw [if_pos e, if_pos e, h q e]
  · rw [if_neg e, if_neg e]
def copI (x : Int32) : Int32 := if x < 0 then -15 else x
def ledC (ad : Nat → Nat) (g : gG) (j : Nat) : va_W := [(ad (20 + j), .inr (3, [.int (nI j), .int (g (8 + j)), .int (g (14 + j)), .int (g (20 + j)), .int (g (26 + j)), .int (copI (g (44 + j))), .int (g (32 + j)), .int (g (38 + j))]))]
def casC (dA : Nat → ClassId) (ad : Nat → Nat) (g : gG) (c : Nat) : va_W := [(ad (30 + c), .inr (6, [.int (g (51 + c)), .ref (ad (40 + c)), .int (g (61 + c)), .int (g (81 + c))])), (ad (40 + c), .inl (dA 0, 10, .inl (d10 g (91 + 10 * c))))]
def mycC (ad : Nat → Nat) (g : gG) (m : Nat) : va_W := [(ad (50 + m), .inr (7, [.int (g (192 + m)), .int (g (196 + m)), .int (600 - g (200 + m)), .int (g (204 + m)), .int (g (208 + m))]))]
def copC (dA : Nat → ClassId) (ad : Nat → Nat) (g : gG) (c : Nat) : va_W := [(ad (60 + c), .inr (8, [.int (nI c), .int (g (213 + c)), .ref (ad (70 + c)), .int (g (221 + c))])), (ad (70 + c), .inl (dA 0, 10, .inl (d10 g (229 + 10 * c))))]
/-- all the things of the church whose numbers are g, at the places ad -/
def chB (dA : Nat → ClassId) (ad : Nat → Nat) (g : gG) (R : va_W) : va_W := chT (blob (ledC ad g) 6) (blob (casC dA ad g) (nn g 50)) (blob (mycC ad g) (nn g 191)) (blob (copC dA ad g) (nn g 212)) R
/-- what a row's array holds -/
def rowF (ad : Nat → Nat) (b n : Nat) : Nat → Option Nat := fun k => if k < n then some (ad (b + k)) else none
theorem rowF_at {ad : Nat → Nat} {b n k : Nat} (h : k < n) : rowF ad b n k = some (ad (b + k)) := if_pos h
theorem rowF_s {ad : Nat → Nat} {b n : Nat} : va_up (rowF ad b n) n (some (ad (b + n))) = rowF ad b (n + 1) := by
  funext k
  by_cases e : k = n
  · subst e; rw [va_up_self]; unfold rowF; rw [if_pos (by omega)]
  · rw [va_up_ne _ _ e]
    unfold rowF
    by_cases e2 : k < n
    · rw [if_pos e2, if_pos (by omega)]
    · rw [if_neg e2, if_neg (by omega)]
/-- nothing of a church's things but plain numbers has changed -/
theorem chB_same {dA : Nat → ClassId} {ad : Nat → Nat} {g g' : gG} {R : va_W} (h5 : nn g' 50 = nn g 50) (h1 : nn g' 191 = nn g 191) (h2 : nn g' 212 = nn g 212) (e0 : ∀ j, j < 6 → ledC ad g j = ledC ad g' j) (e1 : ∀ c, c < nn g 50 → casC dA ad g c = casC dA ad g' c) (e2 : ∀ m, m < nn g 191 → mycC ad g m = mycC ad g' m) (e3 : ∀ c, c < nn g 212 → copC dA ad g c = copC dA ad g' c) : chB dA ad g R = chB dA ad g' R := by
  unfold chB
  rw [h5, h1, h2, blob_c 6 e0, blob_c _ e1, blob_c _ e2, blob_c _ e3]
theorem chT_in {b0 b1 b2 b3 R ex : va_W} : (ex ++ chT b0 b1 b2 b3 R).Perm (chT b0 b1 b2 b3 (ex ++ R)) := by
  have h3 : (ex ++ (b3 ++ R)).Perm (b3 ++ (ex ++ R)) := pf2 (z := ex) (q := b3) (y := R) (List.Perm.refl _)
  have h2 : (ex ++ (b2 ++ (b3 ++ R))).Perm (b2 ++ (b3 ++ (ex ++ R))) := (pf2 (z := ex) (q := b2) (List.Perm.refl _)).trans (h3.append_left b2)
  have h1 : (ex ++ (b1 ++ (b2 ++ (b3 ++ R)))).Perm (b1 ++ (b2 ++ (b3 ++ (ex ++ R)))) := (pf2 (z := ex) (q := b1) (List.Perm.refl _)).trans (h2.append_left b1)
  exact (pf2 (z := ex) (q := b0) (List.Perm.refl _)).trans (h1.append_left b0)
theorem chB_in {dA : Nat → ClassId} {ad : Nat → Nat} {g : gG} {R ex : va_W} : (ex ++ chB dA ad g R).Perm (chB dA ad g (ex ++ R)) := chT_in
/-- a thing taken out has changed, and with it the row of numbers -/
theorem g_mut {A : Nat → Prop} {D : va_G} {ws ws' : va_W} {s : State} {H : Heap} {locs : List Loc} (hw : gW D A ws s H locs) (q q' pre pre' : va_W) {T T' : va_W} (hq : q = q') (hp : pre = pre') (hT : T = T') (e : ws = q ++ (pre ++ T)) (e' : q' ++ (pre' ++ T') = ws') : gW D A ws' s H locs := by
  subst hq; subst hp; subst hT; subst e; subst e'; exact hw
theorem mut_led {dA : Nat → ClassId} {ad : Nat → Nat} {g g' : gG} {R : va_W} {j : Nat} (h5 : nn g 50 ≤ 10) (h1 : nn g 191 ≤ 4) (h2 : nn g 212 ≤ 8) (hj : j < 6) (e : ∀ k, 8 ≤ k → k ≠ 8 + j → k ≠ 14 + j → k ≠ 20 + j → k ≠ 26 + j → k ≠ 44 + j → k ≠ 32 + j → k ≠ 38 + j → g' k = g k) :
    chT (blobE (ledC ad g) j 6) (blob (casC dA ad g) (nn g 50)) (blob (mycC ad g) (nn g 191)) (blob (copC dA ad g) (nn g 212)) R = chT (blobE (ledC ad g') j 6) (blob (casC dA ad g') (nn g' 50)) (blob (mycC ad g') (nn g' 191)) (blob (copC dA ad g') (nn g' 212)) R := by
  have E : ∀ k, 8 ≤ k ∧ k ≠ 8 + j ∧ k ≠ 14 + j ∧ k ≠ 20 + j ∧ k ≠ 26 + j ∧ k ≠ 44 + j ∧ k ≠ 32 + j ∧ k ≠ 38 + j → g' k = g k := fun k q => e k q.1 q.2.1 q.2.2.1 q.2.2.2.1 q.2.2.2.2.1 q.2.2.2.2.2.1 q.2.2.2.2.2.2.1 q.2.2.2.2.2.2.2
  have n5 : nn g' 50 = nn g 50 := nn_e (E 50 (by omega))
  have n1 : nn g' 191 = nn g 191 := nn_e (E 191 (by omega))
  have n2 : nn g' 212 = nn g 212 := nn_e (E 212 (by omega))
  rw [n5, n1, n2]
  rw [blobE_c (f := ledC ad g) (f' := ledC ad g') 6 (fun i hi hij => by
      simp only [ledC]
      rw [E (8 + i) (by omega), E (14 + i) (by omega), E (20 + i) (by omega), E (26 + i) (by omega), E (44 + i) (by omega), E (32 + i) (by omega), E (38 + i) (by omega)]),
    blob_c (f := casC dA ad g) (f' := casC dA ad g') _ (fun i hi => by
      simp only [casC]
      rw [E (51 + i) (by omega), E (61 + i) (by omega), E (81 + i) (by omega), d10_c (g := g') (g' := g) (b := 91 + 10 * i) (fun q hq => E _ (by omega))]),
    blob_c (f := mycC ad g) (f' := mycC ad g') _ (fun i hi => by
      simp only [mycC]
      rw [E (192 + i) (by omega), E (196 + i) (by omega), E (200 + i) (by omega), E (204 + i) (by omega), E (208 + i) (by omega)]),
    blob_c (f := copC dA ad g) (f' := copC dA ad g') _ (fun i hi => by
      simp only [copC]
      rw [E (213 + i) (by omega), E (221 + i) (by omega), d10_c (g := g') (g' := g) (b := 229 + 10 * i) (fun q hq => E _ (by omega))])]
theorem mut_myc {dA : Nat → ClassId} {ad : Nat → Nat} {g g' : gG} {R : va_W} {j : Nat} (h5 : nn g 50 ≤ 10) (h1 : nn g 191 ≤ 4) (h2 : nn g 212 ≤ 8) (hj : j < 4) (e : ∀ k, 8 ≤ k → k ≠ 192 + j → k ≠ 196 + j → k ≠ 200 + j → k ≠ 204 + j → k ≠ 208 + j → k ≠ 309 → g' k = g k) :
    chT (blob (ledC ad g) 6) (blob (casC dA ad g) (nn g 50)) (blobE (mycC ad g) j (nn g 191)) (blob (copC dA ad g) (nn g 212)) R = chT (blob (ledC ad g') 6) (blob (casC dA ad g') (nn g' 50)) (blobE (mycC ad g') j (nn g' 191)) (blob (copC dA ad g') (nn g' 212)) R := by
  have E : ∀ k, 8 ≤ k ∧ k ≠ 309 ∧ k ≠ 192 + j ∧ k ≠ 196 + j ∧ k ≠ 200 + j ∧ k ≠ 204 + j ∧ k ≠ 208 + j → g' k = g k := fun k q => e k q.1 q.2.2.1 q.2.2.2.1 q.2.2.2.2.1 q.2.2.2.2.2.1 q.2.2.2.2.2.2 q.2.1
  have n5 : nn g' 50 = nn g 50 := nn_e (E 50 (by omega))
  have n1 : nn g' 191 = nn g 191 := nn_e (E 191 (by omega))
  have n2 : nn g' 212 = nn g 212 := nn_e (E 212 (by omega))
  rw [n5, n1, n2]
  rw [blob_c (f := ledC ad g) (f' := ledC ad g') 6 (fun i hi => by
      simp only [ledC]
      rw [E (8 + i) (by omega), E (14 + i) (by omega), E (20 + i) (by omega), E (26 + i) (by omega), E (44 + i) (by omega), E (32 + i) (by omega), E (38 + i) (by omega)]),
    blobE_c (f := mycC ad g) (f' := mycC ad g') _ (fun i hi hij => by
      simp only [mycC]
      rw [E (192 + i) (by omega), E (196 + i) (by omega), E (200 + i) (by omega), E (204 + i) (by omega), E (208 + i) (by omega)]),
    blob_c (f := casC dA ad g) (f' := casC dA ad g') _ (fun i hi => by
      simp only [casC]
      rw [E (51 + i) (by omega), E (61 + i) (by omega), E (81 + i) (by omega), d10_c (g := g') (g' := g) (b := 91 + 10 * i) (fun q hq => E _ (by omega))]),
    blob_c (f := copC dA ad g) (f' := copC dA ad g') _ (fun i hi => by
      simp only [copC]
      rw [E (213 + i) (by omega), E (221 + i) (by omega), d10_c (g := g') (g' := g) (b := 229 + 10 * i) (fun q hq => E _ (by omega))])]
