/-! CHURCH 3: a church that grows behind another -/
def chP (dA : Nat → ClassId) (bd : Nat → Nat) (g : gG) (n0 n1 n2 n3 : Nat) (R : va_W) : va_W := chT (blob (ledC bd g) n0) (blob (casC dA bd g) n1) (blob (mycC bd g) n2) (blob (copC dA bd g) n3) R
def mkA (l : List Nat) : Nat → Nat := fun k => l.getD k 0
theorem rowF_0 {ad : Nat → Nat} {b : Nat} : (fun _ => none) = rowF ad b 0 := by
  funext k
  exact (if_neg (Nat.not_lt_zero k)).symm
theorem chP_0 {dA : Nat → ClassId} {bd : Nat → Nat} {g : gG} {R : va_W} : chP dA bd g 0 0 0 0 R = R := rfl
theorem chP_B {dA : Nat → ClassId} {bd : Nat → Nat} {g : gG} {n0 n1 n2 n3 : Nat} {R : va_W} (h0 : n0 = 6) (h1 : n1 = nn g 50) (h2 : n2 = nn g 191) (h3 : n3 = nn g 212) : chP dA bd g n0 n1 n2 n3 R = chB dA bd g R := by
  subst h0; subst h1; subst h2; subst h3; rfl
theorem blob_z {f f' : Nat → va_W} (n : Nat) (h : ∀ i, i < n → f i = f' i) : blob f n = blob f' n := blob_c n h
theorem chP_ad {dA : Nat → ClassId} {bd bd' : Nat → Nat} {g : gG} {n0 n1 n2 n3 : Nat} {R : va_W} (e0 : ∀ i, i < n0 → bd' (20 + i) = bd (20 + i)) (e1 : ∀ i, i < n1 → bd' (30 + i) = bd (30 + i) ∧ bd' (40 + i) = bd (40 + i)) (e2 : ∀ i, i < n2 → bd' (50 + i) = bd (50 + i)) (e3 : ∀ i, i < n3 → bd' (60 + i) = bd (60 + i) ∧ bd' (70 + i) = bd (70 + i)) : chP dA bd g n0 n1 n2 n3 R = chP dA bd' g n0 n1 n2 n3 R := by
  unfold chP
  rw [blob_c n0 (fun i hi => led_x (ad := bd) (ad' := bd') (g := g) (g' := g) (e0 i hi) (fun _ _ => rfl)), blob_c n1 (fun i hi => cas_x (dA := dA) (ad := bd) (ad' := bd') (g := g) (g' := g) (e1 i hi) (fun _ _ => rfl)), blob_c n2 (fun i hi => myc_x (ad := bd) (ad' := bd') (g := g) (g' := g) (e2 i hi) (fun _ _ => rfl)), blob_c n3 (fun i hi => cop_x (dA := dA) (ad := bd) (ad' := bd') (g := g) (g' := g) (e3 i hi) (fun _ _ => rfl))]
theorem chB_cong {dA : Nat → ClassId} {ad : Nat → Nat} {g : gG} {T T' : va_W} (h : T.Perm T') : (chB dA ad g T).Perm (chB dA ad g T') := (((h.append_left _).append_left _).append_left _).append_left _
theorem grow_0 {dA : Nat → ClassId} {ad bd bd' : Nat → Nat} {g : gG} {n0 n1 n2 n3 : Nat} {R q : va_W} (hq : q = ledC bd' g n0) (e0 : ∀ i, i < n0 → bd' (20 + i) = bd (20 + i)) (e1 : ∀ i, i < n1 → bd' (30 + i) = bd (30 + i) ∧ bd' (40 + i) = bd (40 + i)) (e2 : ∀ i, i < n2 → bd' (50 + i) = bd (50 + i)) (e3 : ∀ i, i < n3 → bd' (60 + i) = bd (60 + i) ∧ bd' (70 + i) = bd (70 + i)) : (q ++ chP dA bd g n0 n1 n2 n3 R).Perm (chP dA bd' g (n0 + 1) n1 n2 n3 R) := by
  subst hq; rw [chP_ad e0 e1 e2 e3]; exact add_0
theorem grow_1 {dA : Nat → ClassId} {ad bd bd' : Nat → Nat} {g : gG} {n0 n1 n2 n3 : Nat} {R q : va_W} (hq : q = casC dA bd' g n1) (e0 : ∀ i, i < n0 → bd' (20 + i) = bd (20 + i)) (e1 : ∀ i, i < n1 → bd' (30 + i) = bd (30 + i) ∧ bd' (40 + i) = bd (40 + i)) (e2 : ∀ i, i < n2 → bd' (50 + i) = bd (50 + i)) (e3 : ∀ i, i < n3 → bd' (60 + i) = bd (60 + i) ∧ bd' (70 + i) = bd (70 + i)) : (q ++ chP dA bd g n0 n1 n2 n3 R).Perm (chP dA bd' g n0 (n1 + 1) n2 n3 R) := by
  subst hq; rw [chP_ad e0 e1 e2 e3]; exact add_1
theorem grow_2 {dA : Nat → ClassId} {ad bd bd' : Nat → Nat} {g : gG} {n0 n1 n2 n3 : Nat} {R q : va_W} (hq : q = mycC bd' g n2) (e0 : ∀ i, i < n0 → bd' (20 + i) = bd (20 + i)) (e1 : ∀ i, i < n1 → bd' (30 + i) = bd (30 + i) ∧ bd' (40 + i) = bd (40 + i)) (e2 : ∀ i, i < n2 → bd' (50 + i) = bd (50 + i)) (e3 : ∀ i, i < n3 → bd' (60 + i) = bd (60 + i) ∧ bd' (70 + i) = bd (70 + i)) : (q ++ chP dA bd g n0 n1 n2 n3 R).Perm (chP dA bd' g n0 n1 (n2 + 1) n3 R) := by
  subst hq; rw [chP_ad e0 e1 e2 e3]; exact add_2
theorem grow_3 {dA : Nat → ClassId} {ad bd bd' : Nat → Nat} {g : gG} {n0 n1 n2 n3 : Nat} {R q : va_W} (hq : q = copC dA bd' g n3) (e0 : ∀ i, i < n0 → bd' (20 + i) = bd (20 + i)) (e1 : ∀ i, i < n1 → bd' (30 + i) = bd (30 + i) ∧ bd' (40 + i) = bd (40 + i)) (e2 : ∀ i, i < n2 → bd' (50 + i) = bd (50 + i)) (e3 : ∀ i, i < n3 → bd' (60 + i) = bd (60 + i) ∧ bd' (70 + i) = bd (70 + i)) : (q ++ chP dA bd g n0 n1 n2 n3 R).Perm (chP dA bd' g n0 n1 n2 (n3 + 1) R) := by
  subst hq; rw [chP_ad e0 e1 e2 e3]; exact add_3
/-- .. behind another church's things -/
theorem grow_B {dA : Nat → ClassId} {ad : Nat → Nat} {g : gG} {q T T' : va_W} (h : (q ++ T).Perm T') : (q ++ chB dA ad g T).Perm (chB dA ad g T') := chB_in.trans (chB_cong h)
/-- the first row of numbers -/
theorem initL_n0 : initL 6 0 = 0 := by decide +kernel
theorem initL_n1 : initL 6 1 = 0 := by decide +kernel
theorem initL_n2 : initL 6 2 = 0 := by decide +kernel
theorem initL_n3 : initL 6 3 = 12 := by decide +kernel
theorem initL_n4 : initL 6 4 = 20 := by decide +kernel
theorem initL_n5 : initL 6 5 = 0 := by decide +kernel
theorem initL_n6 : initL 6 6 = 0 := by decide +kernel
theorem initL_n7 : initL 6 7 = 0 := by decide +kernel
theorem initL_8 {i : Nat} (hi : i < 6) : initL 6 (8 + i) = 2 := (by decide +kernel : ∀ i, i < 6 → initL 6 (8 + i) = 2) i hi
theorem initL_14 {i : Nat} (hi : i < 6) : initL 6 (14 + i) = 0 := (by decide +kernel : ∀ i, i < 6 → initL 6 (14 + i) = 0) i hi
theorem initL_20 {i : Nat} (hi : i < 6) : initL 6 (20 + i) = 0 := (by decide +kernel : ∀ i, i < 6 → initL 6 (20 + i) = 0) i hi
theorem initL_26 {i : Nat} (hi : i < 6) : initL 6 (26 + i) = 0 := (by decide +kernel : ∀ i, i < 6 → initL 6 (26 + i) = 0) i hi
theorem initL_32 {i : Nat} (hi : i < 6) : initL 6 (32 + i) = 0 := (by decide +kernel : ∀ i, i < 6 → initL 6 (32 + i) = 0) i hi
theorem initL_38 {i : Nat} (hi : i < 6) : initL 6 (38 + i) = 0 := (by decide +kernel : ∀ i, i < 6 → initL 6 (38 + i) = 0) i hi
theorem initL_44 {i : Nat} (hi : i < 6) : initL 6 (44 + i) = -1 := (by decide +kernel : ∀ i, i < 6 → initL 6 (44 + i) = -1) i hi
theorem initL_50 : 0 = nn (initL 6) 50 := by decide +kernel
theorem initL_191 : 0 = nn (initL 6) 191 := by decide +kernel
theorem initL_212 : 0 = nn (initL 6) 212 := by decide +kernel
theorem copI_m1 : copI (-1) = -15 := by decide
