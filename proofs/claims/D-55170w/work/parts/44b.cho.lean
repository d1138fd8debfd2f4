/-! THE CHURCH'S OWN CELLS (printed by ch.py) -/
def chO (dA : Nat → ClassId) (ad : Nat → Nat) (g : gG) : va_W := [(ad 0, .inr (1, [.ref (ad 1), .ref (ad 2), .ref (ad 3), .ref (ad 4), .int (g 3), .int (g 4), .int (g 5), .int (g 6), .int (g 1), .int (g 2), .int (g 0), .int (g 7)])), (ad 1, .inr (2, [.ref (ad 5), .int 6])), (ad 5, .inr (14, [.int 6, .ref (ad 9), .int 6])), (ad 9, .inl (dA 3, 6, .inr (.inr (.inr (.inr (rowF ad 20 6)))))), (ad 2, .inr (2, [.ref (ad 6), .int 10])), (ad 6, .inr (14, [.int (nI (nn g 50)), .ref (ad 10), .int (nI (nn g 50))])), (ad 10, .inl (dA 3, 10, .inr (.inr (.inr (.inr (rowF ad 30 (nn g 50))))))), (ad 3, .inr (2, [.ref (ad 7), .int 4])), (ad 7, .inr (14, [.int (nI (nn g 191)), .ref (ad 11), .int (nI (nn g 191))])), (ad 11, .inl (dA 3, 4, .inr (.inr (.inr (.inr (rowF ad 50 (nn g 191))))))), (ad 4, .inr (2, [.ref (ad 8), .int 8])), (ad 8, .inr (14, [.int (nI (nn g 212)), .ref (ad 12), .int (nI (nn g 212))])), (ad 12, .inl (dA 3, 8, .inr (.inr (.inr (.inr (rowF ad 60 (nn g 212)))))))]
theorem chO_same {dA : Nat → ClassId} {ad : Nat → Nat} {g g' : gG} (e : ∀ k, k < 8 → g' k = g k) (h5 : g' 50 = g 50) (h1 : g' 191 = g 191) (h2 : g' 212 = g 212) : chO dA ad g = chO dA ad g' := by
  unfold chO
  rw [nn_e h5, nn_e h1, nn_e h2, e 0 (by omega), e 1 (by omega), e 2 (by omega), e 3 (by omega), e 4 (by omega), e 5 (by omega), e 6 (by omega), e 7 (by omega)]
theorem min9 {x : Int32} : (if 9 < x then (9 : Int32) else x) = if x < 9 then x else 9 := by
  by_cases h : 9 < x
  · rw [if_pos h, if_neg (fun q => absurd (Int32.lt_trans h q) (by rw [Int32.lt_iff_toInt_lt]; omega))]
  · rw [if_neg h]
    by_cases q : x < 9
    · rw [if_pos q]
    · rw [if_neg q]
      apply Int32.toInt_inj.mp
      rw [Int32.lt_iff_toInt_lt] at h q
      omega
theorem dayP_led {ad : Nat → Nat} {g : gG} {i : Nat} (hi : i < 6) : [(ad (20 + i), (.inr (3, [.int (nI i), .int (dayL ((dayP g i) (8 + i)) ((dayP g i) (14 + i))), .int ((dayP g i) (14 + i)), .int ((dayP g i) (20 + i)), .int ((dayP g i) (26 + i)), .int (copI ((dayP g i) (44 + i))), .int ((dayP g i) (32 + i)), .int ((dayP g i) (38 + i))]) : va_E))] = ledC ad (dayP g (i + 1)) i := by
  have e8 : dayP g (i + 1) (8 + i) = dayL ((dayP g i) (8 + i)) ((dayP g i) (14 + i)) := by
    show upd _ (8 + i) _ (8 + i) = _
    rw [upd_s, min9]; rfl
  have E : ∀ k, k ≠ 8 + i → dayP g (i + 1) k = dayP g i k := fun k hk => upd_n hk
  unfold ledC
  rw [e8, E (14 + i) (by omega), E (20 + i) (by omega), E (26 + i) (by omega), E (44 + i) (by omega), E (32 + i) (by omega), E (38 + i) (by omega)]
theorem dayM_myc {ad : Nat → Nat} {g : gG} {i : Nat} (hi : i < 4) : [(ad (50 + i), (.inr (7, [.int ((dayM g i) (192 + i)), .int ((dayM g i) (196 + i)), .int 0, .int ((dayM g i) (204 + i)), .int ((dayM g i) (208 + i))]) : va_E))] = mycC ad (dayM g (i + 1)) i := by
  have e8 : dayM g (i + 1) (200 + i) = 600 := upd_s
  have E : ∀ k, k ≠ 200 + i → dayM g (i + 1) k = dayM g i k := fun k hk => upd_n hk
  unfold mycC
  rw [e8, E (192 + i) (by omega), E (196 + i) (by omega), E (204 + i) (by omega), E (208 + i) (by omega)]; rfl
/-- .. with numbers of their own -/
def chN (dA : Nat → ClassId) (ad : Nat → Nat) (g : gG) (n0 n1 n2 n3 n4 n5 n6 n7 : Int32) : va_W := [(ad 0, .inr (1, [.ref (ad 1), .ref (ad 2), .ref (ad 3), .ref (ad 4), .int n3, .int n4, .int n5, .int n6, .int n1, .int n2, .int n0, .int n7])), (ad 1, .inr (2, [.ref (ad 5), .int 6])), (ad 5, .inr (14, [.int 6, .ref (ad 9), .int 6])), (ad 9, .inl (dA 3, 6, .inr (.inr (.inr (.inr (rowF ad 20 6)))))), (ad 2, .inr (2, [.ref (ad 6), .int 10])), (ad 6, .inr (14, [.int (nI (nn g 50)), .ref (ad 10), .int (nI (nn g 50))])), (ad 10, .inl (dA 3, 10, .inr (.inr (.inr (.inr (rowF ad 30 (nn g 50))))))), (ad 3, .inr (2, [.ref (ad 7), .int 4])), (ad 7, .inr (14, [.int (nI (nn g 191)), .ref (ad 11), .int (nI (nn g 191))])), (ad 11, .inl (dA 3, 4, .inr (.inr (.inr (.inr (rowF ad 50 (nn g 191))))))), (ad 4, .inr (2, [.ref (ad 8), .int 8])), (ad 8, .inr (14, [.int (nI (nn g 212)), .ref (ad 12), .int (nI (nn g 212))])), (ad 12, .inl (dA 3, 8, .inr (.inr (.inr (.inr (rowF ad 60 (nn g 212)))))))]
theorem chN_to {dA : Nat → ClassId} {ad : Nat → Nat} {g g' : gG} {n0 n1 n2 n3 n4 n5 n6 n7 : Int32} (e0 : n0 = g' 0) (e1 : n1 = g' 1) (e2 : n2 = g' 2) (e3 : n3 = g' 3) (e4 : n4 = g' 4) (e5 : n5 = g' 5) (e6 : n6 = g' 6) (e7 : n7 = g' 7) (h5 : g' 50 = g 50) (h1 : g' 191 = g 191) (h2 : g' 212 = g 212) : chN dA ad g n0 n1 n2 n3 n4 n5 n6 n7 = chO dA ad g' := by
  unfold chN chO
  rw [nn_e h5, nn_e h1, nn_e h2, e0, e1, e2, e3, e4, e5, e6, e7]
theorem chB_num {dA : Nat → ClassId} {ad : Nat → Nat} {g g' : gG} {R : va_W} (E : ∀ k, 8 ≤ k → g' k = g k) : chB dA ad g R = chB dA ad g' R :=
  chB_same (nn_e (E 50 (by omega))) (nn_e (E 191 (by omega))) (nn_e (E 212 (by omega)))
    (fun i hi => by simp only [ledC]; rw [E (8 + i) (by omega), E (14 + i) (by omega), E (20 + i) (by omega), E (26 + i) (by omega), E (44 + i) (by omega), E (32 + i) (by omega), E (38 + i) (by omega)])
    (fun i hi => by simp only [casC]; rw [E (51 + i) (by omega), E (61 + i) (by omega), E (81 + i) (by omega), d10_c (g := g') (g' := g) (b := 91 + 10 * i) (fun q hq => E _ (by omega))])
    (fun i hi => by simp only [mycC]; rw [E (192 + i) (by omega), E (196 + i) (by omega), E (200 + i) (by omega), E (204 + i) (by omega), E (208 + i) (by omega)])
    (fun i hi => by simp only [copC]; rw [E (213 + i) (by omega), E (221 + i) (by omega), d10_c (g := g') (g' := g) (b := 229 + 10 * i) (fun q hq => E _ (by omega))])
/-- the church's numbers alone have changed -/
theorem ch_num {dA : Nat → ClassId} {ad : Nat → Nat} {g g' : gG} {R : va_W} {n0 n1 n2 n3 n4 n5 n6 n7 : Int32} (e0 : n0 = g' 0) (e1 : n1 = g' 1) (e2 : n2 = g' 2) (e3 : n3 = g' 3) (e4 : n4 = g' 4) (e5 : n5 = g' 5) (e6 : n6 = g' 6) (e7 : n7 = g' 7) (E : ∀ k, 8 ≤ k → g' k = g k) : chN dA ad g n0 n1 n2 n3 n4 n5 n6 n7 ++ chB dA ad g R = chO dA ad g' ++ chB dA ad g' R := by
  rw [chN_to e0 e1 e2 e3 e4 e5 e6 e7 (E 50 (by omega)) (E 191 (by omega)) (E 212 (by omega)), chB_num E]
