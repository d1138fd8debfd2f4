/-! PURE 1: what the reference computes on its row of numbers g -/
abbrev gG : Type := Nat → Int32
abbrev gRes : Type := (Int32 × Int32) ⊕ (Int32 × gG)
def gr_v (x : gRes) : Int32 := match x with
  | .inl _ => -14
  | .inr q => q.1
def gr_g (g : gG) (x : gRes) : gG := match x with
  | .inl _ => g
  | .inr q => q.2
def gr_w (w : Int32) (x : gRes) : Int32 := match x with
  | .inl q => q.1
  | .inr _ => w
def gr_d (w : Int32) (x : gRes) : Int32 := match x with
  | .inl q => q.2
  | .inr _ => w
def nn (g : gG) (i : Nat) : Nat := (g i).toNatClampNeg
def inR (v lo hi : Int32) : Bool := !decide (v < lo) && !decide (hi < v)
theorem inR_nat {v : Int32} {n : Nat} (hn : n < 2 ^ 31) : inR v 0 (nI n - 1) = true ↔ ∃ j, j < n ∧ v = nI j := by
  constructor
  · intro h
    simp only [inR, Bool.and_eq_true, Bool.not_eq_true', decide_eq_false_iff_not] at h
    obtain ⟨j, hj, rfl⟩ := nI_of h.1
    refine ⟨j, ?_, rfl⟩
    have h2 := h.2
    rcases Nat.lt_or_ge j n with q | q
    · exact q
    · exfalso
      apply h2
      cases n with
      | zero => 
        have e : nI 0 - 1 = -1 := by decide
        rw [e, Int32.lt_iff_toInt_lt, nI_toInt hj]
        have e2 : (-1 : Int32).toInt = -1 := by decide
        rw [e2]; omega
      | succ m =>
        rw [nI_pred, nI_ltI (by omega) hj]; omega
  · rintro ⟨j, hj, rfl⟩
    simp only [inR, Bool.and_eq_true, Bool.not_eq_true', decide_eq_false_iff_not]
    refine ⟨nI_pos (by omega), ?_⟩
    cases n with
    | zero => omega
    | succ m => rw [nI_pred, nI_ltI (by omega) (by omega)]; omega
theorem inR_k {v : Int32} (n : Nat) {hi : Int32} (hn : n < 2 ^ 31) (e : nI n - 1 = hi) : inR v 0 hi = true ↔ ∃ j, j < n ∧ v = nI j := by rw [← e]; exact inR_nat hn
def apartI (x y : Int32) : Int32 := if x < y then y - x else x - y
def depthI (g : gG) (j p : Nat) : Int32 := nI (9 + (11 * j + 7 * p) % 30) - g (20 + j)
def heightI (j : Nat) : Int32 := nI (4 + 3 * j)
def p_pays (g : gG) (n : Int32) : gG := upd (upd g 4 (g 4 - n)) 6 (g 6 + n)
def p_sacks (g : gG) (n : Int32) : gRes := if g 4 < 2 * n then .inl (14, 2 * n - g 4) else .inr (if 60 < g 3 + n then 60 else g 3 + n, upd (p_pays g (2 * n)) 3 (if 60 < g 3 + n then 60 else g 3 + n))
def castLoop (g : gG) (j n : Nat) : Nat → gG
  | 0 => g
  | i + 1 => upd (castLoop g j n i) (91 + 10 * n + i) (depthI g j i)
def p_casts (g : gG) (j : Nat) : gRes := if g 50 = 10 then .inl (1, 10) else if ¬ g (14 + j) = 0 then .inl (2, g (14 + j)) else if ¬ g (8 + j) < 6 then .inl (3, g (8 + j)) else if g 3 < 3 then .inl (4, 3 - g 3) else
  .inr (g 50, upd (castLoop (upd (upd g 3 (g 3 - 3)) (51 + nn g 50) (nI j)) j (nn g 50) 10) 50 (g 50 + 1))
def p_comes (g : gG) (hand : Int32) : gRes := if g 191 = 4 then .inl (1, 4) else .inr (g 191, upd (upd (upd (upd g (192 + nn g 191) hand) (200 + nn g 191) 600) (208 + nn g 191) 1) 191 (g 191 + 1))
def beginLoop (g : gG) (n : Nat) : Nat → gG
  | 0 => g
  | i + 1 => upd (beginLoop g n i) (229 + 10 * n + i) (-1)
def p_begins (g : gG) (c : Nat) : gRes := if g 212 = 8 then .inl (1, 8) else if g (71 + c) = 0 then .inl (5, g (61 + c)) else
  .inr (g 212, upd (upd (beginLoop (upd g (213 + nn g 212) (nI c)) (nn g 212) 10) (81 + c) (g (81 + c) + 1)) 212 (g 212 + 1))
def moreI (hand worn : Int32) : Int32 := if hand = 0 then worn / 5 else if hand = 1 then worn / 4 - 1 else worn / 3 + 1
def wouldI (due more : Int32) : Int32 := if due + more < 0 then 0 else due + more
def wouldBe (g : gG) (m c p : Nat) : Int32 := wouldI (g (91 + 10 * c + p)) (moreI (g (192 + m)) (g (196 + m)))
def minutesI (hand depth : Int32) : Int32 := if hand = 1 then (depth + 1) / 2 else depth
def wornMore (worn depth : Int32) : Int32 := if 20 < worn + (if 30 < depth then 2 else 1) then 20 else worn + (if 30 < depth then 2 else 1)
def p_cut5 (g : gG) (m at_ : Nat) (depth : Int32) : gG := upd (upd (upd (upd (upd g at_ depth) (200 + m) (g (200 + m) - minutesI (g (192 + m)) depth)) (196 + m) (wornMore (g (196 + m)) depth)) (204 + m) (g (204 + m) + 1)) 309 (g 309 + 1)
def ledgeFor (g : gG) (c : Nat) : Nat := nn g (51 + nn g (213 + c))
def p_cuts (g : gG) (m c p : Nat) : gRes := if g (221 + c) = 1 then .inl (9, nI (ledgeFor g c)) else
  if ¬ g (229 + 10 * c + p) < 0 ∧ ¬ g (229 + 10 * c + p) < g (91 + 10 * nn g (213 + c) + p) then .inl (7, g (229 + 10 * c + p)) else
  if g (196 + m) = 20 then .inl (6, nI m) else
  if g (200 + m) < minutesI (g (192 + m)) (wouldBe g m (nn g (213 + c)) p) then .inl (8, g (200 + m)) else
  .inr (wouldBe g m (nn g (213 + c)) p, p_cut5 g m (229 + 10 * c + p) (wouldBe g m (nn g (213 + c)) p))
def p_renews (g : gG) (m : Nat) : gRes := if g 4 < 1 then .inl (14, 1 - g 4) else .inr (g (196 + m), upd (upd (p_pays g 1) (196 + m) 0) (208 + m) (g (208 + m) + 1))
def p_takesDown (g : gG) (j : Nat) : gRes := if ¬ g (14 + j) = 0 then .inl (2, g (14 + j)) else if ¬ g 2 < 7 then .inl (12, g 2) else .inr (g (20 + j), upd g (14 + j) 1)
def p_drives (g : gG) (j : Nat) : gRes := if g 4 < 1 then .inl (14, 1 - g 4) else .inr (g (8 + j), upd (p_pays g 1) (8 + j) 0)
def p_tells (g : gG) (rain wind : Int32) : gG := upd (upd g 1 rain) 2 wind
/-- one point's share of 'ofPoints' -/
def ofPoint (what depth more : Int32) : Int32 := if what = 0 then 1 else if what = 1 then (if more = 0 then 1 else 0) else if what = 2 then depth else if what = 3 then (if 0 < more then more else 0) else (if more < 0 then -more else 0)
def ofPointsL (g : gG) (c : Nat) (what : Int32) : Nat → Int32
  | 0 => 0
  | i + 1 => if g (229 + 10 * c + i) < 0 then ofPointsL g c what i else ofPointsL g c what i + ofPoint what (g (229 + 10 * c + i)) (g (229 + 10 * c + i) - g (91 + 10 * nn g (213 + c) + i))
def ofPoints (g : gG) (c : Nat) (what : Int32) : Int32 := ofPointsL g c what 10
def weightI (g : gG) (c : Nat) : Int32 := 120 - ofPoints g c 2 / 10
def uncutL (g : gG) (c : Nat) : Nat → Nat → Nat
  | 0, p => p
  | f + 1, p => if p < 10 ∧ ¬ g (229 + 10 * c + p) < 0 then uncutL g c f (p + 1) else p
def uncut (g : gG) (c : Nat) : Nat := uncutL g c 10 0
def overI (g : gG) (c : Nat) : Int32 := weightI g c - 120 + 3 * heightI (ledgeFor g c) / 2
def p_lift4 (g : gG) (c l : Nat) (coins : Int32) : gG := upd (upd (upd (upd (upd g (221 + c) 1) (14 + l) 2) (44 + l) (nI c)) 4 (g 4 + coins)) 5 (g 5 + coins)
def p_lifts (g : gG) (c : Nat) : gRes := if g (221 + c) = 1 then .inl (9, nI (ledgeFor g c)) else if uncut g c < 10 then .inl (10, nI (uncut g c)) else
  if ¬ g (14 + ledgeFor g c) = 1 then .inl (11, g (14 + ledgeFor g c)) else if ¬ g 2 < 7 then .inl (12, g 2) else if 0 < overI g c then .inl (13, overI g c) else
  .inr (10 + 2 * ofPoints g c 1, p_lift4 g c (ledgeFor g c) (10 + 2 * ofPoints g c 1))
/-- rain on one ledge -/
def pointAt (g : gG) (l : Nat) : Int32 := if g (14 + l) = 0 then depthI g l 0 else if g (14 + l) = 1 then 0 else g (229 + 10 * nn g (44 + l))
def throughI (g : gG) (l : Nat) : Int32 := if 3 * pointAt g l < 10 * g 1 then 3 * pointAt g l else 10 * g 1
def rain1 (g : gG) (l : Nat) : gG := upd (upd (upd g 7 (g 7 + 10 * g 1)) (32 + l) (g (32 + l) + throughI g l)) (38 + l) (g (38 + l) + (10 * g 1 - throughI g l))
def p_rainsOn (g : gG) (l : Nat) : gG := if g 1 < 5 then rain1 g l else if ¬ g (14 + l) = 0 then rain1 g l else if g (26 + l) + 1 = 8 then
  (if g (20 + l) < 9 then upd (upd (upd (rain1 g l) (26 + l) (g (26 + l) + 1)) (26 + l) 0) (20 + l) (g (20 + l) + 1) else upd (upd (upd (rain1 g l) (26 + l) (g (26 + l) + 1)) (26 + l) 0) (20 + l) (g (20 + l) + 0))
  else upd (rain1 g l) (26 + l) (g (26 + l) + 1)
def wallI (g : gG) (l : Nat) : Int32 := 10 * g 1 - throughI g l
def p_sets (g : gG) (c : Nat) : gG := if g (71 + c) = 0 then upd (upd g (61 + c) (if 0 < g 1 then 0 else g (61 + c) + 1)) (71 + c) (if (if 0 < g 1 then 0 else g (61 + c) + 1) = 4 then 1 else 0) else g
def rainL (g : gG) : Nat → gG
  | 0 => g
  | i + 1 => p_rainsOn (rainL g i) i
def wallL (g : gG) : Nat → Int32
  | 0 => 0
  | i + 1 => wallL g i + wallI (rainL g i) i
def setsL (g : gG) : Nat → gG
  | 0 => g
  | i + 1 => p_sets (setsL g i) i
def dayP (g : gG) : Nat → gG
  | 0 => g
  | i + 1 => upd (dayP g i) (8 + i) (if 9 < dayP g i (8 + i) + (if dayP g i (14 + i) = 1 then 2 else 1) then 9 else dayP g i (8 + i) + (if dayP g i (14 + i) = 1 then 2 else 1))
def dayM (g : gG) : Nat → gG
  | 0 => g
  | i + 1 => upd (dayM g i) (200 + i) 600
def p_endsDay (g : gG) : gG := dayM (dayP g 6) (nn g 191)
def hourRain (g : gG) : gG := if 0 < g 1 then rainL g 6 else g
def hourWall (g : gG) : Int32 := if 0 < g 1 then wallL g 6 else 0
def hourTick (g : gG) : gG := upd g 0 (g 0 + 1)
def p_hour (g : gG) : gG := if hourTick (setsL (hourRain g) (nn g 50)) 0 - hourTick (setsL (hourRain g) (nn g 50)) 0 / 24 * 24 = 0 then p_endsDay (hourTick (setsL (hourRain g) (nn g 50))) else hourTick (setsL (hourRain g) (nn g 50))
def hoursG (g : gG) : Nat → gG
  | 0 => g
  | i + 1 => p_hour (hoursG g i)
def hoursW (g : gG) : Nat → Int32
  | 0 => 0
  | i + 1 => hoursW g i + hourWall (hoursG g i)
def sumL (g : gG) (from_ : Nat) : Nat → Int32
  | 0 => 0
  | i + 1 => sumL g from_ i + g (from_ + i)
/-- what holds of the row at every call -/
def gInv (g : gG) : Prop := (g 50 = nI (nn g 50) ∧ nn g 50 ≤ 10) ∧ (g 191 = nI (nn g 191) ∧ nn g 191 ≤ 4) ∧ (g 212 = nI (nn g 212) ∧ nn g 212 ≤ 8) ∧
  (∀ c, c < nn g 212 → g (213 + c) = nI (nn g (213 + c)) ∧ nn g (213 + c) < nn g 50) ∧
  (∀ c, c < nn g 50 → g (51 + c) = nI (nn g (51 + c)) ∧ nn g (51 + c) < 6) ∧
  (∀ l, l < 6 → (g (14 + l) = 0 ∨ g (14 + l) = 1 ∨ (g (14 + l) = 2 ∧ g (44 + l) = nI (nn g (44 + l)) ∧ nn g (44 + l) < nn g 212)))
theorem gInv.c {g : gG} (h : gInv g) : g 50 = nI (nn g 50) ∧ nn g 50 ≤ 10 := h.1
theorem gInv.m {g : gG} (h : gInv g) : g 191 = nI (nn g 191) ∧ nn g 191 ≤ 4 := h.2.1
theorem gInv.k {g : gG} (h : gInv g) : g 212 = nI (nn g 212) ∧ nn g 212 ≤ 8 := h.2.2.1
theorem gInv.kc {g : gG} (h : gInv g) {c : Nat} (hc : c < nn g 212) : g (213 + c) = nI (nn g (213 + c)) ∧ nn g (213 + c) < nn g 50 := h.2.2.2.1 c hc
theorem gInv.cl {g : gG} (h : gInv g) {c : Nat} (hc : c < nn g 50) : g (51 + c) = nI (nn g (51 + c)) ∧ nn g (51 + c) < 6 := h.2.2.2.2.1 c hc
theorem gInv.st {g : gG} (h : gInv g) {l : Nat} (hl : l < 6) : g (14 + l) = 0 ∨ g (14 + l) = 1 ∨ (g (14 + l) = 2 ∧ g (44 + l) = nI (nn g (44 + l)) ∧ nn g (44 + l) < nn g 212) := h.2.2.2.2.2 l hl
theorem upd_s {f : gG} {k : Nat} {x : Int32} : upd f k x k = x := by simp [upd]
theorem upd_n {f : gG} {k j : Nat} {x : Int32} (h : j ≠ k) : upd f k x j = f j := by simp [upd, h]
theorem upd_self {f : gG} {k : Nat} : upd f k (f k) = f := by
  funext j
  by_cases h : j = k
  · rw [h, upd_s]
  · rw [upd_n h]
theorem upd_upd {f : gG} {k : Nat} {x y : Int32} : upd (upd f k x) k y = upd f k y := by
  funext j
  by_cases h : j = k
  · rw [h, upd_s, upd_s]
  · rw [upd_n h, upd_n h, upd_n h]
theorem pays_no {g : gG} : upd (upd g 4 (g 4 - 0)) 6 (g 6 + 0) = g := by
  rw [Int32.sub_zero, upd_self, Int32.add_zero, upd_self]
theorem bZ_1 {b : Bool} (h : ¬ bZ b = 0) : b = true := by cases b with
  | true => rfl
  | false => exact absurd rfl h
theorem bnd_t {P : Prop} {_ : Decidable P} (h : (!decide P) = true) : ¬ P := fun q => by simp [q] at h
theorem bnd_f {P : Prop} {_ : Decidable P} (h : (!decide P) = false) : P := by
  by_cases q : P
  · exact q
  · simp [q] at h
theorem rem_k {n k : Nat} (hk0 : 0 < k) (hk : k < 2 ^ 31) (h : n < 2 ^ 31) : nI n - nI n / nI k * nI k = nI (n % k) := pk_rem h hk0 hk
theorem depth_eq {g : gG} {j q : Nat} (hj : j < 1000) (hq : q < 1000) : 9 + (nI (11 * j + 7 * q) - nI (11 * j + 7 * q) / 30 * 30) - g (20 + j) = depthI g j q := by
  have h1 : nI (11 * j + 7 * q) - nI (11 * j + 7 * q) / 30 * 30 = nI ((11 * j + 7 * q) % 30) := rem_k (k := 30) (by decide) (by decide) (by omega)
  rw [h1, depthI, ← nI_add]
  rfl
def p_castsI (g : gG) (v : Int32) : gRes := if inR v 0 5 = true then p_casts g v.toNatClampNeg else .inr (-11, g)
def p_beginsI (g : gG) (v : Int32) : gRes := if inR v 0 (g 50 - 1) = true then p_begins g v.toNatClampNeg else .inr (-11, g)
def p_cutsI (g : gG) (x y z : Int32) : gRes := if inR x 0 (g 191 - 1) = true then (if inR y 0 (g 212 - 1) = true then (if inR z 0 9 = true then p_cuts g x.toNatClampNeg y.toNatClampNeg z.toNatClampNeg else .inr (-11, g)) else .inr (-11, g)) else .inr (-11, g)
def p_renewsI (g : gG) (v : Int32) : gRes := if inR v 0 (g 191 - 1) = true then p_renews g v.toNatClampNeg else .inr (-11, g)
def p_takesDownI (g : gG) (v : Int32) : gRes := if inR v 0 5 = true then p_takesDown g v.toNatClampNeg else .inr (-11, g)
def p_liftsI (g : gG) (v : Int32) : gRes := if inR v 0 (g 212 - 1) = true then p_lifts g v.toNatClampNeg else .inr (-11, g)
def p_drivesI (g : gG) (v : Int32) : gRes := if inR v 0 5 = true then p_drives g v.toNatClampNeg else .inr (-11, g)
def p_tellsI (g : gG) (x y : Int32) : gRes := if inR x 0 9 = true then (if inR y 0 9 = true then .inr (10 * g 1 + g 2, p_tells g x y) else .inr (-12, g)) else .inr (-12, g)
def p_passesI (g : gG) (v : Int32) : gRes := if inR v 1 72 = true then .inr (hoursW g v.toNatClampNeg, hoursG g v.toNatClampNeg) else .inr (-12, g)
theorem inR6 {v : Int32} (h : inR v 0 5 = true) : ∃ j, j < 6 ∧ v = nI j := (inR_k 6 (by decide) (by decide)).mp h
theorem inR10 {v : Int32} (h : inR v 0 9 = true) : ∃ j, j < 10 ∧ v = nI j := (inR_k 10 (by decide) (by decide)).mp h
theorem gInv.inC {g : gG} (hI : gInv g) {v : Int32} (h : inR v 0 (g 50 - 1) = true) : ∃ j, j < nn g 50 ∧ v = nI j := (inR_k (nn g 50) (by have := hI.c.2; omega) (by rw [← hI.c.1])).mp h
theorem gInv.inM {g : gG} (hI : gInv g) {v : Int32} (h : inR v 0 (g 191 - 1) = true) : ∃ j, j < nn g 191 ∧ v = nI j := (inR_k (nn g 191) (by have := hI.m.2; omega) (by rw [← hI.m.1])).mp h
theorem gInv.inK {g : gG} (hI : gInv g) {v : Int32} (h : inR v 0 (g 212 - 1) = true) : ∃ j, j < nn g 212 ∧ v = nI j := (inR_k (nn g 212) (by have := hI.k.2; omega) (by rw [← hI.k.1])).mp h
theorem castLoop_n {g : gG} {j n : Nat} : ∀ (i : Nat) {k : Nat}, (k < 91 + 10 * n ∨ 91 + 10 * n + i ≤ k) → castLoop g j n i k = g k
  | 0, _, _ => rfl
  | i + 1, k, h => by
    show upd (castLoop g j n i) (91 + 10 * n + i) _ k = g k
    rw [upd_n (by omega)]
    exact castLoop_n i (by omega)
theorem beginLoop_n {g : gG} {n : Nat} : ∀ (i : Nat) {k : Nat}, (k < 229 + 10 * n ∨ 229 + 10 * n + i ≤ k) → beginLoop g n i k = g k
  | 0, _, _ => rfl
  | i + 1, k, h => by
    show upd (beginLoop g n i) (229 + 10 * n + i) _ k = g k
    rw [upd_n (by omega)]
    exact beginLoop_n i (by omega)
theorem cpy_0 {α : Type} {f g : Nat → α} {a b : Nat} : va_cpy f g a b 0 = g := by
  funext k
  simp only [va_cpy]
  rw [if_neg (by omega)]
theorem cpy_s {f g : gG} {a b i : Nat} : upd (va_cpy f g a b i) (b + i) (f (a + i)) = va_cpy f g a b (i + 1) := by
  funext k
  by_cases h : k = b + i
  · subst h
    rw [upd_s]
    simp only [va_cpy]
    rw [if_pos (by omega), show b + i - b = i by omega]
  · rw [upd_n h]
    simp only [va_cpy]
    by_cases h2 : b ≤ k ∧ k < b + i
    · rw [if_pos h2, if_pos (by omega)]
    · rw [if_neg h2, if_neg (by omega)]
/-- arrays hold what they hold below their lengths alone -/
theorem arr_eq {cA : ClassId} {n : Nat} {f g : gG} (h : ∀ k, k < n → f k = g k) : vp_cell cA (n, .inl f) = vp_cell cA (n, .inl g) := by
  rw [vp_cell_i, vp_cell_i]
  unfold arrV
  congr 1
  apply Array.ext
  · simp
  · intro i h1 h2
    simp only [Array.size_ofFn] at h1
    simp [h i h1]
theorem g_arr {D : va_G} {A : Nat → Prop} {ws ws' : va_W} {s : State} {H : Heap} {locs : List Loc} (hw : gW D A ws s H locs) (q0 : Nat) {a : Nat} {cA : ClassId} {n : Nat} {f : gG} (f' : gG) (he : ws[q0]? = some (a, .inl (cA, n, .inl f))) (h : ∀ k, k < n → f k = f' k) (ew : ws.set q0 (a, .inl (cA, n, .inl f')) = ws') : gW D A ws' s H locs := by
  subst ew
  refine ⟨hw.1.set hw.2.1 he ?_ (fun _ _ => rfl), hw.2.1.set he, hw.2.2⟩
  have h1 : H[a]? = some (vp_cell cA (n, .inl f)) := hw.1 q0 _ he
  show H[a]? = some (vp_cell cA (n, .inl f'))
  rw [h1, arr_eq h]
theorem rain1_n {g : gG} {l k : Nat} (h : k ≠ 7 ∧ k ≠ 32 + l ∧ k ≠ 38 + l) : rain1 g l k = g k := by
  unfold rain1
  rw [upd_n h.2.2, upd_n h.2.1, upd_n h.1]
theorem rainsOn_n {g : gG} {l k : Nat} (h : k ≠ 7 ∧ k ≠ 32 + l ∧ k ≠ 38 + l ∧ k ≠ 26 + l ∧ k ≠ 20 + l) : p_rainsOn g l k = g k := by
  have h1 := rain1_n (g := g) (l := l) (k := k) ⟨h.1, h.2.1, h.2.2.1⟩
  unfold p_rainsOn
  split
  · exact h1
  split
  · exact h1
  split
  · split <;> rw [upd_n h.2.2.2.2, upd_n h.2.2.2.1, upd_n h.2.2.2.1, h1]
  · rw [upd_n h.2.2.2.1, h1]
theorem sets_n {g : gG} {c k : Nat} (h : k ≠ 61 + c ∧ k ≠ 71 + c) : p_sets g c k = g k := by
  unfold p_sets
  split
  · rw [upd_n h.2, upd_n h.1]
  · rfl
theorem rainL_n {g : gG} : ∀ (i : Nat) {k : Nat}, i ≤ 6 → (k < 7 ∨ (7 < k ∧ k < 20) ∨ 44 ≤ k) → rainL g i k = g k
  | 0, _, _, _ => rfl
  | i + 1, k, hi, h => by
    show p_rainsOn (rainL g i) i k = g k
    rw [rainsOn_n (by omega)]
    exact rainL_n i (by omega) h
theorem setsL_n {g : gG} : ∀ (i : Nat) {k : Nat}, i ≤ 10 → (k < 61 ∨ 81 ≤ k) → setsL g i k = g k
  | 0, _, _, _ => rfl
  | i + 1, k, hi, h => by
    show p_sets (setsL g i) i k = g k
    rw [sets_n (by omega)]
    exact setsL_n i (by omega) h
theorem dayP_n {g : gG} : ∀ (i : Nat) {k : Nat}, i ≤ 6 → (k < 8 ∨ 14 ≤ k) → dayP g i k = g k
  | 0, _, _, _ => rfl
  | i + 1, k, hi, h => by
    show upd (dayP g i) (8 + i) _ k = g k
    rw [upd_n (by omega)]
    exact dayP_n i (by omega) h
theorem dayM_n {g : gG} : ∀ (i : Nat) {k : Nat}, i ≤ 4 → (k < 200 ∨ 204 ≤ k) → dayM g i k = g k
  | 0, _, _, _ => rfl
  | i + 1, k, hi, h => by
    show upd (dayM g i) (200 + i) _ k = g k
    rw [upd_n (by omega)]
    exact dayM_n i (by omega) h
/-- the places that gInv speaks of -/
def gStr (k : Nat) : Prop := k = 50 ∨ k = 191 ∨ k = 212 ∨ (213 ≤ k ∧ k < 221) ∨ (51 ≤ k ∧ k < 61) ∨ (14 ≤ k ∧ k < 20) ∨ (44 ≤ k ∧ k < 50)
theorem gInv.same {g g' : gG} (h : gInv g) (e : ∀ k, gStr k → g' k = g k) : gInv g' := by
  have e50 := e 50 (by unfold gStr; omega)
  have e191 := e 191 (by unfold gStr; omega)
  have e212 := e 212 (by unfold gStr; omega)
  have n50 : nn g' 50 = nn g 50 := by unfold nn; rw [e50]
  have n191 : nn g' 191 = nn g 191 := by unfold nn; rw [e191]
  have n212 : nn g' 212 = nn g 212 := by unfold nn; rw [e212]
  have b1 := h.c.2
  have b3 := h.k.2
  refine ⟨by rw [n50, e50]; exact h.c, by rw [n191, e191]; exact h.m, by rw [n212, e212]; exact h.k, fun c hc => ?_, fun c hc => ?_, fun l hl => ?_⟩
  · rw [n212] at hc
    have e1 := e (213 + c) (by unfold gStr; omega)
    have n1 : nn g' (213 + c) = nn g (213 + c) := by unfold nn; rw [e1]
    rw [n1, e1, n50]
    exact h.kc hc
  · rw [n50] at hc
    have e1 := e (51 + c) (by unfold gStr; omega)
    have n1 : nn g' (51 + c) = nn g (51 + c) := by unfold nn; rw [e1]
    rw [n1, e1]
    exact h.cl hc
  · have e1 := e (14 + l) (by unfold gStr; omega)
    have e2 := e (44 + l) (by unfold gStr; omega)
    have n2 : nn g' (44 + l) = nn g (44 + l) := by unfold nn; rw [e2]
    rw [e1, e2, n2, n212]
    exact h.st hl
theorem gInv.l_rain {g : gG} (h : gInv g) {i : Nat} (hi : i ≤ 6) : gInv (rainL g i) := h.same (fun k hk => rainL_n i hi (by unfold gStr at hk; omega))
theorem gInv.l_sets {g : gG} (h : gInv g) {i : Nat} (hi : i ≤ 10) : gInv (setsL g i) := h.same (fun k hk => setsL_n i hi (by unfold gStr at hk; omega))
theorem endsDay_n {g : gG} (h : nn g 191 ≤ 4) {k : Nat} (hk : (k < 8 ∨ 14 ≤ k) ∧ (k < 200 ∨ 204 ≤ k)) : p_endsDay g k = g k := by
  unfold p_endsDay
  rw [dayM_n _ h hk.2, dayP_n 6 (by omega) hk.1]
theorem gInv.l_day {g : gG} (h : gInv g) : gInv (p_endsDay g) := h.same (fun k hk => endsDay_n h.m.2 (by unfold gStr at hk; omega))
theorem gInv.l_tick {g : gG} (h : gInv g) : gInv (hourTick g) := h.same (fun k hk => by unfold hourTick; exact upd_n (by unfold gStr at hk; omega))
theorem gInv.l_hrain {g : gG} (h : gInv g) : gInv (hourRain g) := by
  unfold hourRain
  split
  · exact h.l_rain (by omega)
  · exact h
theorem hourRain_n {g : gG} {k : Nat} (h : k < 7 ∨ (7 < k ∧ k < 20) ∨ 44 ≤ k) : hourRain g k = g k := by
  unfold hourRain
  split
  · exact rainL_n 6 (by omega) h
  · rfl
theorem gInv.l_hour {g : gG} (h : gInv g) : gInv (p_hour g) := by
  have h1 : gInv (hourTick (setsL (hourRain g) (nn g 50))) := (h.l_hrain.l_sets (i := nn g 50) h.c.2).l_tick
  unfold p_hour
  split
  · exact h1.l_day
  · exact h1
theorem gInv.l_hours {g : gG} (h : gInv g) : ∀ i, gInv (hoursG g i)
  | 0 => h
  | i + 1 => (h.l_hours i).l_hour
def bestStep (g : gG) (c q m : Nat) (x : Int32 × Int32) : Int32 × Int32 :=
  if x.1 = -15 then (nI m, apartI (wouldBe g m c q) (g (91 + 10 * c + q))) else if apartI (wouldBe g m c q) (g (91 + 10 * c + q)) < x.2 then (nI m, apartI (wouldBe g m c q) (g (91 + 10 * c + q))) else
  if ¬ apartI (wouldBe g m c q) (g (91 + 10 * c + q)) = x.2 then x else if g (200 + x.1.toNatClampNeg) < g (200 + m) then (nI m, apartI (wouldBe g m c q) (g (91 + 10 * c + q))) else x
def bestL (g : gG) (c q : Nat) : Nat → Int32 × Int32
  | 0 => (-15, 0)
  | i + 1 => bestStep g c q i (bestL g c q i)
theorem best_in {g : gG} {c q : Nat} : ∀ i, i ≤ 4 → (bestL g c q i).1 = -15 ∨ ∃ b, b < i ∧ (bestL g c q i).1 = nI b
  | 0, _ => Or.inl rfl
  | i + 1, h => by
    have ih := best_in (g := g) (c := c) (q := q) i (by omega)
    have lift : ((bestL g c q i).1 = -15 ∨ ∃ b, b < i ∧ (bestL g c q i).1 = nI b) → ((bestL g c q i).1 = -15 ∨ ∃ b, b < i + 1 ∧ (bestL g c q i).1 = nI b) := fun z => z.imp id (fun ⟨b, h1, h2⟩ => ⟨b, by omega, h2⟩)
    show (bestStep g c q i (bestL g c q i)).1 = -15 ∨ ∃ b, b < i + 1 ∧ (bestStep g c q i (bestL g c q i)).1 = nI b
    unfold bestStep
    split
    · exact Or.inr ⟨i, by omega, rfl⟩
    split
    · exact Or.inr ⟨i, by omega, rfl⟩
    split
    · exact lift ih
    split
    · exact Or.inr ⟨i, by omega, rfl⟩
    · exact lift ih
def q_best (g : gG) (v w : Int32) : Int32 := if inR v 0 (g 50 - 1) = true then (if inR w 0 9 = true then (bestL g v.toNatClampNeg w.toNatClampNeg (nn g 191)).1 else -11) else -11
def q_ledgeOf (g : gG) (v w : Int32) : Int32 := if inR v 0 5 = true then (if w = 0 then heightI v.toNatClampNeg else if w = 1 then g (8 + v.toNatClampNeg) else if w = 2 then g (14 + v.toNatClampNeg) else if w = 3 then g (20 + v.toNatClampNeg) else
  if w = 4 then (if g (44 + v.toNatClampNeg) = -1 then -15 else g (44 + v.toNatClampNeg)) else if w = 5 then g (32 + v.toNatClampNeg) else if w = 6 then g (38 + v.toNatClampNeg) else -12) else -11
def q_depth (g : gG) (v w : Int32) : Int32 := if inR v 0 5 = true then (if inR w 0 9 = true then depthI g v.toNatClampNeg w.toNatClampNeg else -11) else -11
def q_castOf (g : gG) (v w : Int32) : Int32 := if inR v 0 (g 50 - 1) = true then (if w = 0 then g (51 + v.toNatClampNeg) else if w = 1 then g (71 + v.toNatClampNeg) else if w = 2 then g (61 + v.toNatClampNeg) else if w = 3 then g (81 + v.toNatClampNeg) else -12) else -11
def q_castDepth (g : gG) (v w : Int32) : Int32 := if inR v 0 (g 50 - 1) = true then (if inR w 0 9 = true then g (91 + 10 * v.toNatClampNeg + w.toNatClampNeg) else -11) else -11
def q_would (g : gG) (x y z : Int32) : Int32 := if inR x 0 (g 191 - 1) = true then (if inR y 0 (g 50 - 1) = true then (if inR z 0 9 = true then wouldBe g x.toNatClampNeg y.toNatClampNeg z.toNatClampNeg else -11) else -11) else -11
def q_copyistOf (g : gG) (v w : Int32) : Int32 := if inR v 0 (g 191 - 1) = true then (if inR w 0 4 = true then g (192 + 4 * w.toNatClampNeg + v.toNatClampNeg) else -12) else -11
def q_copyOf (g : gG) (v w : Int32) : Int32 := if inR v 0 (g 212 - 1) = true then (if w = 0 then g (213 + v.toNatClampNeg) else if w = 1 then g (221 + v.toNatClampNeg) else if w = 2 then ofPoints g v.toNatClampNeg 0 else if w = 3 then ofPoints g v.toNatClampNeg 1 else if w = 4 then weightI g v.toNatClampNeg else -12) else -11
def q_copyDepth (g : gG) (v w : Int32) : Int32 := if inR v 0 (g 212 - 1) = true then (if inR w 0 9 = true then (if g (229 + 10 * v.toNatClampNeg + w.toNatClampNeg) < 0 then -15 else g (229 + 10 * v.toNatClampNeg + w.toNatClampNeg)) else -11) else -11
def wrongL (g : gG) (c : Nat) : Nat → Int32
  | 0 => 0
  | i + 1 => wrongL g c i + (if g (229 + 10 * c + i) < 0 then 0 else apartI (g (229 + 10 * c + i)) (g (91 + 10 * nn g (213 + c) + i)))
def q_wrong (g : gG) (v : Int32) : Int32 := if inR v 0 (g 212 - 1) = true then wrongL g v.toNatClampNeg 10 else -11
def q_wrongAgain (g : gG) (v : Int32) : Int32 := if inR v 0 (g 212 - 1) = true then ofPoints g v.toNatClampNeg 3 + ofPoints g v.toNatClampNeg 4 else -11
def q_wornIn (g : gG) (v : Int32) : Int32 := if inR v 0 5 = true then (if ¬ g (14 + v.toNatClampNeg) = 0 then -15 else if g 1 < 5 then -15 else if ¬ g (20 + v.toNatClampNeg) < 9 then -15 else 8 - g (26 + v.toNatClampNeg)) else -11
theorem depthI_cl {g : gG} {j n i q : Nat} (hj : j < 6) : depthI (castLoop g j n i) j q = depthI g j q := by
  unfold depthI
  rw [castLoop_n i (by omega)]
theorem uncutL_go {g : gG} {c i : Nat} (h : i < 10) (hg : ¬ g (229 + 10 * c + i) < 0) : uncutL g c (10 - i) i = uncutL g c (10 - (i + 1)) (i + 1) := by
  rw [show 10 - i = (10 - (i + 1)) + 1 by omega]
  show (if i < 10 ∧ ¬ g (229 + 10 * c + i) < 0 then _ else _) = _
  rw [if_pos ⟨h, hg⟩]
theorem uncutL_st {g : gG} {c i : Nat} (h : i < 10) (hg : g (229 + 10 * c + i) < 0) : uncutL g c (10 - i) i = i := by
  rw [show 10 - i = (10 - (i + 1)) + 1 by omega]
  show (if i < 10 ∧ ¬ g (229 + 10 * c + i) < 0 then _ else _) = _
  rw [if_neg (fun q => q.2 hg)]
theorem inR72 {v : Int32} (h : inR v 1 72 = true) : ∃ j, j < 73 ∧ v = nI j := by
  simp only [inR, Bool.and_eq_true, Bool.not_eq_true', decide_eq_false_iff_not] at h
  have h0 : ¬ v < 0 := fun q => h.1 (by rw [Int32.lt_iff_toInt_lt] at q ⊢; have e0 : (0 : Int32).toInt = 0 := by decide
                                        have e1 : (1 : Int32).toInt = 1 := by decide
                                        omega)
  obtain ⟨j, hj, rfl⟩ := nI_of h0
  refine ⟨j, ?_, rfl⟩
  have h2 : ¬ nI 72 < nI j := h.2
  rw [nI_ltI (by omega) hj] at h2
  omega
theorem rain_done {g : gG} {b : Nat} (hb : b ≤ 6) (h : b = 0 ∨ 0 < g 1) (e : 6 ≤ b ∨ ¬ 0 < g 1) : rainL g b = hourRain g ∧ wallL g b = hourWall g := by
  unfold hourRain hourWall
  rcases e with e | e
  · obtain rfl : b = 6 := by omega
    have h1 : 0 < g 1 := h.resolve_left (by omega)
    rw [if_pos h1, if_pos h1]
    exact ⟨rfl, rfl⟩
  · obtain rfl : b = 0 := h.resolve_right e
    rw [if_neg e, if_neg e]
    exact ⟨rfl, rfl⟩
def hourT (g : gG) : gG := hourTick (setsL (hourRain g) (nn g 50))
theorem hour_t {g : gG} (h : hourT g 0 - hourT g 0 / 24 * 24 = 0) : p_endsDay (hourT g) = p_hour g := (if_pos h).symm
theorem hour_f {g : gG} (h : ¬ hourT g 0 - hourT g 0 / 24 * 24 = 0) : hourT g = p_hour g := (if_neg h).symm
def shiftL (h : gG) (i : Nat) : gG := fun k => if k < i then h (k + 310) else h k
theorem shiftL_0 {h : gG} : shiftL h 0 = h := by
  funext k
  simp [shiftL]
theorem shiftL_r {h : gG} {i : Nat} : shiftL h i (i + 310) = h (i + 310) := by
  unfold shiftL
  rw [if_neg (by omega)]
theorem shiftL_s {h : gG} {i : Nat} : upd (shiftL h i) i (h (i + 310)) = shiftL h (i + 1) := by
  funext k
  by_cases e : k = i
  · subst e
    rw [upd_s]
    simp [shiftL]
  · rw [upd_n e]
    unfold shiftL
    by_cases e2 : k < i
    · rw [if_pos e2, if_pos (by omega)]
    · rw [if_neg e2, if_neg (by omega)]
def pushH (h : gG) (n : Nat) (b : gG) : gG := if n = 8 then va_cpy b (shiftL h 2170) 0 2170 310 else va_cpy b h 0 (n * 310) 310
def pushN (n : Nat) : Nat := if n = 8 then 8 else n + 1
theorem cpy_all {f g : gG} : ∀ k, k < 310 → va_cpy f g 0 0 310 k = f k := by
  intro k hk
  simp only [va_cpy]
  rw [if_pos (by omega)]
  simp
theorem uncutL_le {g : gG} {c : Nat} : ∀ (f p : Nat), p ≤ 10 → uncutL g c f p ≤ 10
  | 0, p, h => h
  | f + 1, p, h => by
    show (if p < 10 ∧ ¬ g (229 + 10 * c + p) < 0 then uncutL g c f (p + 1) else p) ≤ 10
    split
    · exact uncutL_le f (p + 1) (by omega)
    · exact h
theorem uncut_le {g : gG} {c : Nat} : uncut g c ≤ 10 := uncutL_le 10 0 (by omega)
theorem inR5 {v : Int32} (h : inR v 0 4 = true) : ∃ j, j < 5 ∧ v = nI j := (inR_k 5 (by decide) (by decide)).mp h
def p_sacksI (g : gG) (v : Int32) : gRes := if inR v 1 20 = true then p_sacks g v else .inr (-12, g)
def p_copyistI (g : gG) (v : Int32) : gRes := if inR v 0 2 = true then p_comes g v else .inr (-12, g)
def histAt (h : gG) (n : Nat) : gG := fun k => h (n * 310 + k)
theorem cpy_hist {h g : gG} {n : Nat} : ∀ k, k < 310 → va_cpy h g (n * 310) 0 310 k = histAt h n k := by
  intro k hk
  simp only [va_cpy, histAt]
  rw [if_pos (by omega), Nat.sub_zero]
theorem narC {v : Int32} (h : inR v 32 126 = true) : vp_nar .char (v.toUInt32 % 65536).toInt32 = v := by
  simp only [inR, Bool.and_eq_true, Bool.not_eq_true', decide_eq_false_iff_not] at h
  have h0 : ¬ v < 0 := fun q => h.1 (by rw [Int32.lt_iff_toInt_lt] at q ⊢; have e0 : (0 : Int32).toInt = 0 := by decide
                                        have e1 : (32 : Int32).toInt = 32 := by decide
                                        omega)
  obtain ⟨j, hj, rfl⟩ := nI_of h0
  have h2 : ¬ nI 126 < nI j := h.2
  rw [nI_ltI (by omega) hj] at h2
  have e1 : ((nI j).toUInt32 % 65536).toInt32 = nI j := by
    rw [pk_char, pk_tn (by omega), Nat.mod_eq_of_lt (by omega)]
  rw [e1]
  have e2 := (pk_charN (q := j) (by omega)).1
  unfold vp_nar
  rw [e2]
def q_char (f : gG) (n : Nat) (v : Int32) : Int32 := if inR v 0 (nI n - 1) = true then f v.toNatClampNeg else -11
def q_reason (w d z : Int32) : Int32 := if w = 0 then -15 else if z = 0 then w else d
def q_account (g : gG) (tn cn : Nat) (w : Int32) : Int32 := if w = 0 then g 0 else if w = 1 then g 1 else if w = 2 then g 2 else if w = 3 then g 3 else if w = 4 then g 50 else if w = 5 then sumL g 71 (nn g 50) else if w = 6 then g 191 else if w = 7 then g 212 else
  if w = 8 then sumL g 221 (nn g 212) else if w = 9 then g 309 else if w = 10 then g 4 else if w = 11 then g 5 else if w = 12 then g 6 else if w = 13 then g 7 else if w = 14 then sumL g 32 6 else if w = 15 then sumL g 38 6 else if w = 16 then sumL g 8 6 else if w = 17 then nI tn else if w = 18 then nI cn else -12
def q_balanced (g : gG) : Int32 := if g 7 = sumL g 32 12 then (if g 4 = 20 + g 5 - g 6 then 1 else 0) else 0
def chC (x : Int32) : Int32 := vp_nar .char (x.toUInt32 % 65536).toInt32
def stC (x : Int32) : Int32 := if x = 0 then 111 else if x = 1 then 46 else 99
def tellL (g lf : gG) : Nat → gG
  | 0 => lf
  | i + 1 => upd (upd (tellL g lf i) (2 * i) (chC (stC (g (14 + i))))) (2 * i + 1) (chC (48 + g (8 + i)))
def initL : Nat → gG
  | 0 => upd (upd (fun _ => 0) 3 12) 4 20
  | i + 1 => upd (upd (initL i) (8 + i) 2) (44 + i) (-1)
