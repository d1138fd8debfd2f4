/-! CHURCH 2: a church of other numbers, at other places; its parts one by one -/
def upA (ad : Nat → Nat) (k v : Nat) : Nat → Nat := fun i => if i = k then v else ad i
theorem upA_s {ad : Nat → Nat} {k v : Nat} : upA ad k v k = v := if_pos rfl
theorem upA_n {ad : Nat → Nat} {k v i : Nat} (h : i ≠ k) : upA ad k v i = ad i := if_neg h
/-- the church's own cells, with all that can differ -/
def chX (dA : Nat → ClassId) (ad : Nat → Nat) (n0 n1 n2 n3 n4 n5 n6 n7 : Int32) (c0 c1 c2 c3 : Nat) (f0 f1 f2 f3 : Nat → Option Nat) : va_W := [(ad 0, .inr (1, [.ref (ad 1), .ref (ad 2), .ref (ad 3), .ref (ad 4), .int n3, .int n4, .int n5, .int n6, .int n1, .int n2, .int n0, .int n7])), (ad 1, .inr (2, [.ref (ad 5), .int 6])), (ad 5, .inr (14, [.int (nI c0), .ref (ad 9), .int (nI c0)])), (ad 9, .inl (dA 3, 6, .inr (.inr (.inr (.inr f0))))), (ad 2, .inr (2, [.ref (ad 6), .int 10])), (ad 6, .inr (14, [.int (nI c1), .ref (ad 10), .int (nI c1)])), (ad 10, .inl (dA 3, 10, .inr (.inr (.inr (.inr f1))))), (ad 3, .inr (2, [.ref (ad 7), .int 4])), (ad 7, .inr (14, [.int (nI c2), .ref (ad 11), .int (nI c2)])), (ad 11, .inl (dA 3, 4, .inr (.inr (.inr (.inr f2))))), (ad 4, .inr (2, [.ref (ad 8), .int 8])), (ad 8, .inr (14, [.int (nI c3), .ref (ad 12), .int (nI c3)])), (ad 12, .inl (dA 3, 8, .inr (.inr (.inr (.inr f3)))))]
theorem chX_to {dA : Nat → ClassId} {ad ad' : Nat → Nat} {g' : gG} {n0 n1 n2 n3 n4 n5 n6 n7 : Int32} {c0 c1 c2 c3 : Nat} {f0 f1 f2 f3 : Nat → Option Nat} (ea : ∀ k, k < 13 → ad' k = ad k) (e0 : n0 = g' 0) (e1 : n1 = g' 1) (e2 : n2 = g' 2) (e3 : n3 = g' 3) (e4 : n4 = g' 4) (e5 : n5 = g' 5) (e6 : n6 = g' 6) (e7 : n7 = g' 7) (h0 : c0 = 6) (h1 : c1 = nn g' 50) (h2 : c2 = nn g' 191) (h3 : c3 = nn g' 212) (k0 : f0 = rowF ad' 20 6) (k1 : f1 = rowF ad' 30 (nn g' 50)) (k2 : f2 = rowF ad' 50 (nn g' 191)) (k3 : f3 = rowF ad' 60 (nn g' 212)) : chX dA ad n0 n1 n2 n3 n4 n5 n6 n7 c0 c1 c2 c3 f0 f1 f2 f3 = chO dA ad' g' := by
  subst h0; subst h1; subst h2; subst h3; subst k0; subst k1; subst k2; subst k3; subst e0; subst e1; subst e2; subst e3; subst e4; subst e5; subst e6; subst e7
  unfold chX chO
  rw [ea 0 (by omega), ea 1 (by omega), ea 2 (by omega), ea 3 (by omega), ea 4 (by omega), ea 5 (by omega), ea 6 (by omega), ea 7 (by omega), ea 8 (by omega), ea 9 (by omega), ea 10 (by omega), ea 11 (by omega), ea 12 (by omega)]
  all_goals rfl
theorem rowF_a {ad ad' : Nat → Nat} {b n : Nat} (h : ∀ k, k < n → ad' (b + k) = ad (b + k)) : rowF ad b n = rowF ad' b n := by
  funext k
  unfold rowF
  by_cases e : k < n
  · rw [if_pos e, if_pos e, h k e]
  · rw [if_neg e, if_neg e]
/-- a row that has grown by one -/
theorem rowF_g {ad ad' : Nat → Nat} {b n m q : Nat} (hm : m = n + 1) (h : ∀ k, k < n → ad' (b + k) = ad (b + k)) (hq : ad' (b + n) = q) : va_up (rowF ad b n) n (some q) = rowF ad' b m := by
  subst hm; subst hq
  rw [rowF_a h]
  exact rowF_s
theorem led_x {ad ad' : Nat → Nat} {g g' : gG} {i : Nat} (ea : ad' (20 + i) = ad (20 + i)) (e : ∀ k, (k = 8 + i ∨ k = 14 + i ∨ k = 20 + i ∨ k = 26 + i ∨ k = 32 + i ∨ k = 38 + i ∨ k = 44 + i) → g' k = g k) : ledC ad g i = ledC ad' g' i := by
  simp only [ledC]
  rw [ea, e (8 + i) (by omega), e (14 + i) (by omega), e (20 + i) (by omega), e (26 + i) (by omega), e (44 + i) (by omega), e (32 + i) (by omega), e (38 + i) (by omega)]
theorem cas_x {dA : Nat → ClassId} {ad ad' : Nat → Nat} {g g' : gG} {i : Nat} (ea : ad' (30 + i) = ad (30 + i) ∧ ad' (40 + i) = ad (40 + i)) (e : ∀ k, (k = 51 + i ∨ k = 61 + i ∨ k = 81 + i ∨ (91 + 10 * i ≤ k ∧ k < 101 + 10 * i)) → g' k = g k) : casC dA ad g i = casC dA ad' g' i := by
  simp only [casC]
  rw [ea.1, ea.2, e (51 + i) (by omega), e (61 + i) (by omega), e (81 + i) (by omega), d10_c (g := g') (g' := g) (b := 91 + 10 * i) (fun q hq => e _ (by omega))]
theorem myc_x {ad ad' : Nat → Nat} {g g' : gG} {i : Nat} (ea : ad' (50 + i) = ad (50 + i)) (e : ∀ k, (k = 192 + i ∨ k = 196 + i ∨ k = 200 + i ∨ k = 204 + i ∨ k = 208 + i) → g' k = g k) : mycC ad g i = mycC ad' g' i := by
  simp only [mycC]
  rw [ea, e (192 + i) (by omega), e (196 + i) (by omega), e (200 + i) (by omega), e (204 + i) (by omega), e (208 + i) (by omega)]
theorem cop_x {dA : Nat → ClassId} {ad ad' : Nat → Nat} {g g' : gG} {i : Nat} (ea : ad' (60 + i) = ad (60 + i) ∧ ad' (70 + i) = ad (70 + i)) (e : ∀ k, (k = 213 + i ∨ k = 221 + i ∨ (229 + 10 * i ≤ k ∧ k < 239 + 10 * i)) → g' k = g k) : copC dA ad g i = copC dA ad' g' i := by
  simp only [copC]
  rw [ea.1, ea.2, e (213 + i) (by omega), e (221 + i) (by omega), d10_c (g := g') (g' := g) (b := 229 + 10 * i) (fun q hq => e _ (by omega))]
theorem led_b {ad ad' : Nat → Nat} {g g' : gG} (ea : ∀ k, 20 ≤ k → k < 26 → ad' k = ad k) (e : ∀ k, 8 ≤ k → k < 50 → g' k = g k) : blob (ledC ad g) 6 = blob (ledC ad' g') 6 :=
  blob_c 6 (fun i hi => led_x (ea _ (by omega) (by omega)) (fun k hk => e k (by omega) (by omega)))
theorem led_e {ad ad' : Nat → Nat} {g g' : gG} {j : Nat} (ea : ∀ k, 20 ≤ k → k < 26 → ad' k = ad k) (e : ∀ k, 8 ≤ k → k < 50 → (k - 8) % 6 ≠ j → g' k = g k) : blobE (ledC ad g) j 6 = blobE (ledC ad' g') j 6 :=
  blobE_c 6 (fun i hi hij => led_x (ea _ (by omega) (by omega)) (fun k hk => e k (by omega) (by omega) (by omega)))
theorem cas_b {dA : Nat → ClassId} {ad ad' : Nat → Nat} {g g' : gG} {n n' : Nat} (hn : n' = n) (h : n ≤ 10) (ea : ∀ k, 30 ≤ k → k < 50 → (k - 30) % 10 < n → ad' k = ad k) (e : ∀ k, ((51 ≤ k ∧ k < 51 + n) ∨ (61 ≤ k ∧ k < 61 + n) ∨ (81 ≤ k ∧ k < 81 + n) ∨ (91 ≤ k ∧ k < 91 + 10 * n)) → g' k = g k) : blob (casC dA ad g) n = blob (casC dA ad' g') n' := by
  subst hn
  exact blob_c _ (fun i hi => cas_x ⟨ea _ (by omega) (by omega) (by omega), ea _ (by omega) (by omega) (by omega)⟩ (fun k hk => e k (by omega)))
theorem cas_e {dA : Nat → ClassId} {ad ad' : Nat → Nat} {g g' : gG} {n n' j : Nat} (hn : n' = n) (h : n ≤ 10) (hj : j < n) (ea : ∀ k, 30 ≤ k → k < 50 → (k - 30) % 10 < n → ad' k = ad k) (e : ∀ k, ((51 ≤ k ∧ k < 51 + n) ∨ (61 ≤ k ∧ k < 61 + n) ∨ (81 ≤ k ∧ k < 81 + n) ∨ (91 ≤ k ∧ k < 91 + 10 * n)) → k ≠ 51 + j → k ≠ 61 + j → k ≠ 81 + j → ¬ (91 + 10 * j ≤ k ∧ k < 101 + 10 * j) → g' k = g k) : blobE (casC dA ad g) j n = blobE (casC dA ad' g') j n' := by
  subst hn
  exact blobE_c _ (fun i hi hij => cas_x ⟨ea _ (by omega) (by omega) (by omega), ea _ (by omega) (by omega) (by omega)⟩ (fun k hk => e k (by omega) (by omega) (by omega) (by omega) (by omega)))
theorem myc_b {ad ad' : Nat → Nat} {g g' : gG} {n n' : Nat} (hn : n' = n) (h : n ≤ 4) (ea : ∀ k, 50 ≤ k → k < 50 + n → ad' k = ad k) (e : ∀ k, 192 ≤ k → k < 212 → (k - 192) % 4 < n → g' k = g k) : blob (mycC ad g) n = blob (mycC ad' g') n' := by
  subst hn
  exact blob_c _ (fun i hi => myc_x (ea _ (by omega) (by omega)) (fun k hk => e k (by omega) (by omega) (by omega)))
theorem myc_e {ad ad' : Nat → Nat} {g g' : gG} {n n' j : Nat} (hn : n' = n) (h : n ≤ 4) (ea : ∀ k, 50 ≤ k → k < 50 + n → ad' k = ad k) (e : ∀ k, 192 ≤ k → k < 212 → (k - 192) % 4 < n → (k - 192) % 4 ≠ j → g' k = g k) : blobE (mycC ad g) j n = blobE (mycC ad' g') j n' := by
  subst hn
  exact blobE_c _ (fun i hi hij => myc_x (ea _ (by omega) (by omega)) (fun k hk => e k (by omega) (by omega) (by omega) (by omega)))
theorem cop_b {dA : Nat → ClassId} {ad ad' : Nat → Nat} {g g' : gG} {n n' : Nat} (hn : n' = n) (h : n ≤ 8) (ea : ∀ k, 60 ≤ k → k < 80 → (k - 60) % 10 < n → ad' k = ad k) (e : ∀ k, ((213 ≤ k ∧ k < 213 + n) ∨ (221 ≤ k ∧ k < 221 + n) ∨ (229 ≤ k ∧ k < 229 + 10 * n)) → g' k = g k) : blob (copC dA ad g) n = blob (copC dA ad' g') n' := by
  subst hn
  exact blob_c _ (fun i hi => cop_x ⟨ea _ (by omega) (by omega) (by omega), ea _ (by omega) (by omega) (by omega)⟩ (fun k hk => e k (by omega)))
theorem cop_e {dA : Nat → ClassId} {ad ad' : Nat → Nat} {g g' : gG} {n n' j : Nat} (hn : n' = n) (h : n ≤ 8) (hj : j < n) (ea : ∀ k, 60 ≤ k → k < 80 → (k - 60) % 10 < n → ad' k = ad k) (e : ∀ k, ((213 ≤ k ∧ k < 213 + n) ∨ (221 ≤ k ∧ k < 221 + n) ∨ (229 ≤ k ∧ k < 229 + 10 * n)) → k ≠ 213 + j → k ≠ 221 + j → ¬ (229 + 10 * j ≤ k ∧ k < 239 + 10 * j) → g' k = g k) : blobE (copC dA ad g) j n = blobE (copC dA ad' g') j n' := by
  subst hn
  exact blobE_c _ (fun i hi hij => cop_x ⟨ea _ (by omega) (by omega) (by omega), ea _ (by omega) (by omega) (by omega)⟩ (fun k hk => e k (by omega) (by omega) (by omega) (by omega)))
theorem chT_c {b0 b1 b2 b3 c0 c1 c2 c3 R : va_W} (h0 : b0 = c0) (h1 : b1 = c1) (h2 : b2 = c2) (h3 : b3 = c3) : chT b0 b1 b2 b3 R = chT c0 c1 c2 c3 R := by
  rw [h0, h1, h2, h3]
/-- a thing more: behind its blob -/
theorem add_1 {b0 b1 b2 b3 R q : va_W} : (q ++ chT b0 b1 b2 b3 R).Perm (chT b0 (b1 ++ q) b2 b3 R) := (chT_1 (b1 := b1 ++ q) (q := q) (b1' := b1) List.perm_append_comm).symm
theorem add_0 {b0 b1 b2 b3 R q : va_W} : (q ++ chT b0 b1 b2 b3 R).Perm (chT (b0 ++ q) b1 b2 b3 R) := (chT_0 (b0 := b0 ++ q) (q := q) (b0' := b0) List.perm_append_comm).symm
theorem add_2 {b0 b1 b2 b3 R q : va_W} : (q ++ chT b0 b1 b2 b3 R).Perm (chT b0 b1 (b2 ++ q) b3 R) := (chT_2 (b2 := b2 ++ q) (q := q) (b2' := b2) List.perm_append_comm).symm
theorem add_3 {b0 b1 b2 b3 R q : va_W} : (q ++ chT b0 b1 b2 b3 R).Perm (chT b0 b1 b2 (b3 ++ q) R) := (chT_3 (b3 := b3 ++ q) (q := q) (b3' := b3) List.perm_append_comm).symm
/-- new things ahead of the tail go into it -/
theorem g_into {A : Nat → Prop} {D : va_G} {ws ws' : va_W} {s : State} {H : Heap} {locs : List Loc} (hw : gW D A ws s H locs) (pre q : va_W) {T T' : va_W} (hp : (q ++ T).Perm T') (e : ws = pre ++ (q ++ T)) (e' : pre ++ T' = ws') : gW D A ws' s H locs := by
  subst e; subst e'
  exact g_prm (hp.append_left pre) hw
theorem bl_s {f : Nat → va_W} {n m : Nat} {q : va_W} (hm : m = n + 1) (hq : q = f n) : blob f n ++ q = blob f m := by
  subst hm; subst hq; rfl
theorem nn_s {g g' : gG} {k n : Nat} (e : g k = nI (nn g k)) (h : nn g k ≤ n) (hn : n < 2 ^ 31 - 1) (e' : g' k = g k + 1) : nn g' k = nn g k + 1 := by
  have h1 : g' k = nI (nn g k + 1) := by rw [e', ← nI_add, ← e]; rfl
  unfold nn at h1 ⊢
  rw [h1, nI_clamp (by unfold nn at h; omega)]
theorem ap_c {a a' b b' : va_W} (h1 : a = a') (h2 : b = b') : a ++ b = a' ++ b' := by rw [h1, h2]
theorem d10_u {g : gG} {b q : Nat} {x : Int32} (h : q < 10) : upd (d10 g b) q x = d10 (upd g (b + q) x) b := by
  funext k
  by_cases e : k = q
  · subst e; rw [upd_s, d10_at h, upd_s]
  · rw [upd_n e]
    unfold d10
    by_cases e2 : k < 10
    · rw [if_pos e2, if_pos e2, upd_n (by omega)]
    · rw [if_neg e2, if_neg e2]
