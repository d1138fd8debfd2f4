/-! FLOATS: quotients of ints by ints that are not 0 are no NaN (printed by mk_fp.py) -/

theorem fp32_ok_enc {s : Bool} {c : Nat} {q : Int} (h1 : c < 16777216) (h2 : (-149) ≤ q) (h3 : q ≤ 104) : FP.Core.encode FP.Core.b32 (.fin s c q) % 2147483648 < 2139095040 ∧ FP.Core.encode FP.Core.b32 (.fin s c q) < 4294967296 := by
  have e1 : FP.Core.b32.tails = 8388608 := by decide
  have e2 : FP.Core.b32.exps = 256 := by decide
  have e3 : FP.Core.b32.qmin = (-149) := by decide
  have hs : s.toNat ≤ 1 := by cases s <;> decide
  simp only [FP.Core.encode, FP.Core.assemble, e1, e2, e3]
  split <;> omega
theorem fp32_inf_enc {s : Bool} : FP.Core.encode FP.Core.b32 (.inf s) % 2147483648 ≤ 2139095040 ∧ FP.Core.encode FP.Core.b32 (.inf s) < 4294967296 := by cases s <;> decide
theorem fp32_dec {s : Bool} {c : Nat} {q : Int} (h1 : c < 16777216) (h2 : (-149) ≤ q) (h3 : q ≤ 104) : ∃ s' q', FP.Core.decode FP.Core.b32 (FP.Core.encode FP.Core.b32 (.fin s c q)) = .fin s' c q' := by
  have e1 : FP.Core.b32.tails = 8388608 := by decide
  have e2 : FP.Core.b32.exps = 256 := by decide
  have e3 : FP.Core.b32.qmin = (-149) := by decide
  have hs : s.toNat ≤ 1 := by cases s <;> decide
  simp only [FP.Core.encode, FP.Core.assemble, FP.Core.decode, FP.Core.fieldE, FP.Core.fieldT, e1, e2, e3]
  by_cases hc : c < 8388608
  · rw [if_pos hc]
    have a1 : ((s.toNat * 256 + 0) * 8388608 + c) / 8388608 % 256 = 0 := by omega
    have a2 : ((s.toNat * 256 + 0) * 8388608 + c) % 8388608 = c := by omega
    rw [a1, a2, if_neg (by decide), if_pos rfl]
    exact ⟨_, _, rfl⟩
  · rw [if_neg hc]
    obtain ⟨k, hk⟩ : ∃ k : Nat, (q - (-149)).toNat = k := ⟨_, rfl⟩
    have hk2 : k + 1 < 256 - 1 := by omega
    rw [hk]
    have a1 : ((s.toNat * 256 + (k + 1)) * 8388608 + (c - 8388608)) / 8388608 % 256 = k + 1 := by omega
    have a2 : ((s.toNat * 256 + (k + 1)) * 8388608 + (c - 8388608)) % 8388608 = c - 8388608 := by omega
    rw [a1, a2, if_neg (by omega), if_neg (by omega)]
    rw [show 8388608 + (c - 8388608) = c by omega]
    exact ⟨_, _, rfl⟩
theorem fp32_settle {s : Bool} {c : Nat} {q : Int} (h2 : (-149) ≤ q) : (∃ z, FP.Core.settle FP.Core.b32 s c q = .inf z) ∨ ∃ s' c' q', FP.Core.settle FP.Core.b32 s c q = .fin s' c' q' ∧ c' < 16777216 ∧ (-149) ≤ q' ∧ q' ≤ 104 := by
  have e1 : FP.Core.b32.tails = 8388608 := by decide
  have e3 : FP.Core.b32.qmax = 104 := by decide
  have e4 : 2 ^ FP.Core.b32.p = 16777216 := by decide
  simp only [FP.Core.settle, FP.Core.bound, e1, e3, e4]
  by_cases hc : c < 16777216
  · rw [if_pos hc]
    by_cases hq : q ≤ 104
    · rw [if_pos hq]; exact Or.inr ⟨_, _, _, rfl, hc, h2, hq⟩
    · rw [if_neg hq]; exact Or.inl ⟨s, rfl⟩
  · rw [if_neg hc]
    by_cases hq : q + 1 ≤ 104
    · rw [if_pos hq]; exact Or.inr ⟨_, _, _, rfl, by decide, by omega, hq⟩
    · rw [if_neg hq]; exact Or.inl ⟨s, rfl⟩
theorem fp32_ratio {s : Bool} {a b : Nat} {x : Int} : (∃ s', FP.Core.roundRatio FP.Core.b32 s a b x = .inf s') ∨ ∃ s' c' q', FP.Core.roundRatio FP.Core.b32 s a b x = .fin s' c' q' ∧ c' < 16777216 ∧ (-149) ≤ q' ∧ q' ≤ 104 := by
  have e3 : FP.Core.b32.qmin = (-149) := by decide
  unfold FP.Core.roundRatio
  split
  · rw [e3]; exact Or.inr ⟨_, _, _, rfl, by decide, by decide, by decide⟩
  · unfold FP.Core.roundAt
    refine fp32_settle ?_
    unfold FP.Core.quantum
    rw [e3]; omega
theorem fp32_lead {n : Nat} (h0 : 0 < n) : FP.Core.leading n 1 ≤ (n.log2 : Int) := by
  unfold FP.Core.leading
  have : (1 : Nat).log2 = 0 := by decide
  rw [this]
  dsimp only
  split <;> omega
theorem fp32_near {a b : Nat} (hb : 0 < b) (h : b ≤ a) : FP.Core.nearest a b ≠ 0 := by
  have : 0 < a / b := Nat.div_pos h hb
  unfold FP.Core.nearest
  split
  · omega
  · split <;> omega
theorem fp32_int {i : Int} (h : i.natAbs ≤ 2 ^ 31) : ∃ s c q, FP.Core.round FP.Core.b32 (FP.Core.ofInt i) = .fin s c q ∧ c < 16777216 ∧ (-149) ≤ q ∧ q ≤ 104 ∧ (i ≠ 0 → c ≠ 0) := by
  have e1 : FP.Core.b32.tails = 8388608 := by decide
  have e3 : FP.Core.b32.qmin = (-149) := by decide
  have e4 : 2 ^ FP.Core.b32.p = 16777216 := by decide
  have e5 : FP.Core.b32.qmax = 104 := by decide
  have e6 : (FP.Core.b32.p : Int) = 24 := by decide
  obtain ⟨n, hn⟩ : ∃ n : Nat, i.natAbs = n := ⟨_, rfl⟩
  rw [hn] at h
  show ∃ s c q, FP.Core.roundRatio FP.Core.b32 (decide (i < 0)) i.natAbs 1 0 = .fin s c q ∧ c < 16777216 ∧ (-149) ≤ q ∧ q ≤ 104 ∧ (i ≠ 0 → c ≠ 0)
  rw [hn]
  by_cases h0 : n = 0
  · subst h0
    refine ⟨decide (i < 0), 0, FP.Core.b32.qmin, by rw [FP.Core.roundRatio, if_pos rfl], by decide, by rw [e3]; decide, by rw [e3]; decide, fun q => absurd (Int.natAbs_eq_zero.mp hn) q⟩
  · have hl := fp32_lead (n := n) (by omega)
    have hlog : n.log2 ≤ 31 := by
      have := Nat.log2_self_le h0
      rcases Nat.lt_or_ge 31 n.log2 with q | q
      · have h3 : 2 ^ 32 ≤ 2 ^ n.log2 := Nat.pow_le_pow_right (by omega) q
        omega
      · exact q
    obtain ⟨q, hq⟩ : ∃ q, FP.Core.quantum FP.Core.b32 n 1 0 = q := ⟨_, rfl⟩
    have hq1 : (-149) ≤ q ∧ q ≤ 8 ∧ (0 < q → q ≤ (n.log2 : Int)) := by
      rw [← hq]; unfold FP.Core.quantum
      rw [e3, e6]; omega
    have hc : FP.Core.nearest (FP.Core.unitsNum n 0 q) (FP.Core.unitsDen 1 0 q) ≠ 0 := by
      refine fp32_near ?_ ?_
      · unfold FP.Core.unitsDen
        exact Nat.mul_pos (by omega) (Nat.two_pow_pos _)
      · unfold FP.Core.unitsDen FP.Core.unitsNum
        rcases Int.lt_or_le 0 q with z | z
        · have z1 : (0 - q).toNat = 0 := by omega
          rw [z1]
          have z2 : (q - 0).toNat ≤ n.log2 := by omega
          have z3 : 2 ^ (q - 0).toNat ≤ 2 ^ n.log2 := Nat.pow_le_pow_right (by omega) z2
          have z4 := Nat.log2_self_le h0
          omega
        · have z1 : (q - 0).toNat = 0 := by omega
          rw [z1]
          have z2 := Nat.two_pow_pos (0 - q).toNat
          have z3 : 1 ≤ n * 2 ^ (0 - q).toNat := Nat.mul_pos (by omega) z2
          omega
    rw [FP.Core.roundRatio, if_neg h0, hq, FP.Core.roundAt, FP.Core.settle, e4]
    split
    · rename_i z
      rw [FP.Core.bound, e5, if_pos (by omega)]
      exact ⟨_, _, _, rfl, z, hq1.1, by omega, fun _ => hc⟩
    · rw [FP.Core.bound, e5, if_pos (by omega), e1]
      exact ⟨_, _, _, rfl, by decide, by omega, by omega, fun _ => by decide⟩
theorem fp32_i2 (a : Int32) : ∃ s c q, FP.Core.decode FP.Core.b32 (FP.i2f a).toNat = .fin s c q ∧ (a ≠ 0 → c ≠ 0) := by
  have hb : a.toInt.natAbs ≤ 2 ^ 31 := by
    have h1 := a.toInt_lt
    have h2 := a.le_toInt
    omega
  obtain ⟨s, c, q, h, h1, h2, h3, h4⟩ := fp32_int hb
  have e : (FP.i2f a).toNat = FP.Core.encode FP.Core.b32 (.fin s c q) := by
    show (UInt32.ofNat (FP.Core.encode FP.Core.b32 (FP.Core.round FP.Core.b32 (FP.Core.ofInt a.toInt)))).toNat = _
    rw [h, UInt32.toNat_ofNat_of_lt' (by have := (fp32_ok_enc (s := s) h1 h2 h3).2; simpa using this)]
  obtain ⟨s', q', hd⟩ := fp32_dec (s := s) h1 h2 h3
  refine ⟨s', c, q', by rw [e, hd], fun z => h4 ?_⟩
  intro z2
  exact z (Int32.toInt_inj.mp (by rw [z2]; decide))
theorem fp_fdiv {a b : Int32} (h : ¬ b = 0) : vf_n32 (FP.fdiv (FP.i2f a) (FP.i2f b)) := by
  obtain ⟨s, c, q, h1, -⟩ := fp32_i2 a
  obtain ⟨t, d, r, h2, h3⟩ := fp32_i2 b
  have hd := h3 h
  have key : ∀ n : Nat, n % 2147483648 ≤ 2139095040 → n < 4294967296 → vf_n32 (UInt32.ofNat n) := by
    intro n hn hf
    unfold vf_n32
    rw [UInt32.le_iff_toNat_le, UInt32.toNat_and]
    have k1 : (0x7fffffff : UInt32).toNat = 2 ^ 31 - 1 := by decide
    have k2 : (0x7f800000 : UInt32).toNat = 2139095040 := by decide
    rw [k1, k2, Nat.and_two_pow_sub_one_eq_mod, UInt32.toNat_ofNat_of_lt' (by simpa using hf)]
    exact hn
  have e : FP.fdiv (FP.i2f a) (FP.i2f b) = UInt32.ofNat (FP.Core.encode FP.Core.b32 (FP.Core.roundRatio FP.Core.b32 (s != t) c d (q - r))) := by
    show UInt32.ofNat (FP.Core.encode FP.Core.b32 (FP.Core.quotient FP.Core.b32 (FP.Core.decode FP.Core.b32 (FP.i2f a).toNat) (FP.Core.decode FP.Core.b32 (FP.i2f b).toNat))) = _
    rw [h1, h2, FP.Core.quotient, if_neg hd]
  rw [e]
  rcases fp32_ratio (s := s != t) (a := c) (b := d) (x := q - r) with ⟨s', z⟩ | ⟨s', c', q', z, z1, z2, z3⟩
  · rw [z]; exact key _ fp32_inf_enc.1 fp32_inf_enc.2
  · rw [z]; exact key _ (Nat.le_of_lt (fp32_ok_enc z1 z2 z3).1) (fp32_ok_enc z1 z2 z3).2

theorem fp64_ok_enc {s : Bool} {c : Nat} {q : Int} (h1 : c < 9007199254740992) (h2 : (-1074) ≤ q) (h3 : q ≤ 971) : FP.Core.encode FP.Core.b64 (.fin s c q) % 9223372036854775808 < 9218868437227405312 ∧ FP.Core.encode FP.Core.b64 (.fin s c q) < 18446744073709551616 := by
  have e1 : FP.Core.b64.tails = 4503599627370496 := by decide
  have e2 : FP.Core.b64.exps = 2048 := by decide
  have e3 : FP.Core.b64.qmin = (-1074) := by decide
  have hs : s.toNat ≤ 1 := by cases s <;> decide
  simp only [FP.Core.encode, FP.Core.assemble, e1, e2, e3]
  split <;> omega
theorem fp64_inf_enc {s : Bool} : FP.Core.encode FP.Core.b64 (.inf s) % 9223372036854775808 ≤ 9218868437227405312 ∧ FP.Core.encode FP.Core.b64 (.inf s) < 18446744073709551616 := by cases s <;> decide
theorem fp64_dec {s : Bool} {c : Nat} {q : Int} (h1 : c < 9007199254740992) (h2 : (-1074) ≤ q) (h3 : q ≤ 971) : ∃ s' q', FP.Core.decode FP.Core.b64 (FP.Core.encode FP.Core.b64 (.fin s c q)) = .fin s' c q' := by
  have e1 : FP.Core.b64.tails = 4503599627370496 := by decide
  have e2 : FP.Core.b64.exps = 2048 := by decide
  have e3 : FP.Core.b64.qmin = (-1074) := by decide
  have hs : s.toNat ≤ 1 := by cases s <;> decide
  simp only [FP.Core.encode, FP.Core.assemble, FP.Core.decode, FP.Core.fieldE, FP.Core.fieldT, e1, e2, e3]
  by_cases hc : c < 4503599627370496
  · rw [if_pos hc]
    have a1 : ((s.toNat * 2048 + 0) * 4503599627370496 + c) / 4503599627370496 % 2048 = 0 := by omega
    have a2 : ((s.toNat * 2048 + 0) * 4503599627370496 + c) % 4503599627370496 = c := by omega
    rw [a1, a2, if_neg (by decide), if_pos rfl]
    exact ⟨_, _, rfl⟩
  · rw [if_neg hc]
    obtain ⟨k, hk⟩ : ∃ k : Nat, (q - (-1074)).toNat = k := ⟨_, rfl⟩
    have hk2 : k + 1 < 2048 - 1 := by omega
    rw [hk]
    have a1 : ((s.toNat * 2048 + (k + 1)) * 4503599627370496 + (c - 4503599627370496)) / 4503599627370496 % 2048 = k + 1 := by omega
    have a2 : ((s.toNat * 2048 + (k + 1)) * 4503599627370496 + (c - 4503599627370496)) % 4503599627370496 = c - 4503599627370496 := by omega
    rw [a1, a2, if_neg (by omega), if_neg (by omega)]
    rw [show 4503599627370496 + (c - 4503599627370496) = c by omega]
    exact ⟨_, _, rfl⟩
theorem fp64_settle {s : Bool} {c : Nat} {q : Int} (h2 : (-1074) ≤ q) : (∃ z, FP.Core.settle FP.Core.b64 s c q = .inf z) ∨ ∃ s' c' q', FP.Core.settle FP.Core.b64 s c q = .fin s' c' q' ∧ c' < 9007199254740992 ∧ (-1074) ≤ q' ∧ q' ≤ 971 := by
  have e1 : FP.Core.b64.tails = 4503599627370496 := by decide
  have e3 : FP.Core.b64.qmax = 971 := by decide
  have e4 : 2 ^ FP.Core.b64.p = 9007199254740992 := by decide
  simp only [FP.Core.settle, FP.Core.bound, e1, e3, e4]
  by_cases hc : c < 9007199254740992
  · rw [if_pos hc]
    by_cases hq : q ≤ 971
    · rw [if_pos hq]; exact Or.inr ⟨_, _, _, rfl, hc, h2, hq⟩
    · rw [if_neg hq]; exact Or.inl ⟨s, rfl⟩
  · rw [if_neg hc]
    by_cases hq : q + 1 ≤ 971
    · rw [if_pos hq]; exact Or.inr ⟨_, _, _, rfl, by decide, by omega, hq⟩
    · rw [if_neg hq]; exact Or.inl ⟨s, rfl⟩
theorem fp64_ratio {s : Bool} {a b : Nat} {x : Int} : (∃ s', FP.Core.roundRatio FP.Core.b64 s a b x = .inf s') ∨ ∃ s' c' q', FP.Core.roundRatio FP.Core.b64 s a b x = .fin s' c' q' ∧ c' < 9007199254740992 ∧ (-1074) ≤ q' ∧ q' ≤ 971 := by
  have e3 : FP.Core.b64.qmin = (-1074) := by decide
  unfold FP.Core.roundRatio
  split
  · rw [e3]; exact Or.inr ⟨_, _, _, rfl, by decide, by decide, by decide⟩
  · unfold FP.Core.roundAt
    refine fp64_settle ?_
    unfold FP.Core.quantum
    rw [e3]; omega
theorem fp64_lead {n : Nat} (h0 : 0 < n) : FP.Core.leading n 1 ≤ (n.log2 : Int) := by
  unfold FP.Core.leading
  have : (1 : Nat).log2 = 0 := by decide
  rw [this]
  dsimp only
  split <;> omega
theorem fp64_near {a b : Nat} (hb : 0 < b) (h : b ≤ a) : FP.Core.nearest a b ≠ 0 := by
  have : 0 < a / b := Nat.div_pos h hb
  unfold FP.Core.nearest
  split
  · omega
  · split <;> omega
theorem fp64_int {i : Int} (h : i.natAbs ≤ 2 ^ 31) : ∃ s c q, FP.Core.round FP.Core.b64 (FP.Core.ofInt i) = .fin s c q ∧ c < 9007199254740992 ∧ (-1074) ≤ q ∧ q ≤ 971 ∧ (i ≠ 0 → c ≠ 0) := by
  have e1 : FP.Core.b64.tails = 4503599627370496 := by decide
  have e3 : FP.Core.b64.qmin = (-1074) := by decide
  have e4 : 2 ^ FP.Core.b64.p = 9007199254740992 := by decide
  have e5 : FP.Core.b64.qmax = 971 := by decide
  have e6 : (FP.Core.b64.p : Int) = 53 := by decide
  obtain ⟨n, hn⟩ : ∃ n : Nat, i.natAbs = n := ⟨_, rfl⟩
  rw [hn] at h
  show ∃ s c q, FP.Core.roundRatio FP.Core.b64 (decide (i < 0)) i.natAbs 1 0 = .fin s c q ∧ c < 9007199254740992 ∧ (-1074) ≤ q ∧ q ≤ 971 ∧ (i ≠ 0 → c ≠ 0)
  rw [hn]
  by_cases h0 : n = 0
  · subst h0
    refine ⟨decide (i < 0), 0, FP.Core.b64.qmin, by rw [FP.Core.roundRatio, if_pos rfl], by decide, by rw [e3]; decide, by rw [e3]; decide, fun q => absurd (Int.natAbs_eq_zero.mp hn) q⟩
  · have hl := fp64_lead (n := n) (by omega)
    have hlog : n.log2 ≤ 31 := by
      have := Nat.log2_self_le h0
      rcases Nat.lt_or_ge 31 n.log2 with q | q
      · have h3 : 2 ^ 32 ≤ 2 ^ n.log2 := Nat.pow_le_pow_right (by omega) q
        omega
      · exact q
    obtain ⟨q, hq⟩ : ∃ q, FP.Core.quantum FP.Core.b64 n 1 0 = q := ⟨_, rfl⟩
    have hq1 : (-1074) ≤ q ∧ q ≤ 8 ∧ (0 < q → q ≤ (n.log2 : Int)) := by
      rw [← hq]; unfold FP.Core.quantum
      rw [e3, e6]; omega
    have hc : FP.Core.nearest (FP.Core.unitsNum n 0 q) (FP.Core.unitsDen 1 0 q) ≠ 0 := by
      refine fp64_near ?_ ?_
      · unfold FP.Core.unitsDen
        exact Nat.mul_pos (by omega) (Nat.two_pow_pos _)
      · unfold FP.Core.unitsDen FP.Core.unitsNum
        rcases Int.lt_or_le 0 q with z | z
        · have z1 : (0 - q).toNat = 0 := by omega
          rw [z1]
          have z2 : (q - 0).toNat ≤ n.log2 := by omega
          have z3 : 2 ^ (q - 0).toNat ≤ 2 ^ n.log2 := Nat.pow_le_pow_right (by omega) z2
          have z4 := Nat.log2_self_le h0
          omega
        · have z1 : (q - 0).toNat = 0 := by omega
          rw [z1]
          have z2 := Nat.two_pow_pos (0 - q).toNat
          have z3 : 1 ≤ n * 2 ^ (0 - q).toNat := Nat.mul_pos (by omega) z2
          omega
    rw [FP.Core.roundRatio, if_neg h0, hq, FP.Core.roundAt, FP.Core.settle, e4]
    split
    · rename_i z
      rw [FP.Core.bound, e5, if_pos (by omega)]
      exact ⟨_, _, _, rfl, z, hq1.1, by omega, fun _ => hc⟩
    · rw [FP.Core.bound, e5, if_pos (by omega), e1]
      exact ⟨_, _, _, rfl, by decide, by omega, by omega, fun _ => by decide⟩
theorem fp64_i2 (a : Int32) : ∃ s c q, FP.Core.decode FP.Core.b64 (FP.i2d a).toNat = .fin s c q ∧ (a ≠ 0 → c ≠ 0) := by
  have hb : a.toInt.natAbs ≤ 2 ^ 31 := by
    have h1 := a.toInt_lt
    have h2 := a.le_toInt
    omega
  obtain ⟨s, c, q, h, h1, h2, h3, h4⟩ := fp64_int hb
  have e : (FP.i2d a).toNat = FP.Core.encode FP.Core.b64 (.fin s c q) := by
    show (UInt64.ofNat (FP.Core.encode FP.Core.b64 (FP.Core.round FP.Core.b64 (FP.Core.ofInt a.toInt)))).toNat = _
    rw [h, UInt64.toNat_ofNat_of_lt' (by have := (fp64_ok_enc (s := s) h1 h2 h3).2; simpa using this)]
  obtain ⟨s', q', hd⟩ := fp64_dec (s := s) h1 h2 h3
  refine ⟨s', c, q', by rw [e, hd], fun z => h4 ?_⟩
  intro z2
  exact z (Int32.toInt_inj.mp (by rw [z2]; decide))
theorem fp_ddiv {a b : Int32} (h : ¬ b = 0) : vf_n64 (FP.ddiv (FP.i2d a) (FP.i2d b)) := by
  obtain ⟨s, c, q, h1, -⟩ := fp64_i2 a
  obtain ⟨t, d, r, h2, h3⟩ := fp64_i2 b
  have hd := h3 h
  have key : ∀ n : Nat, n % 9223372036854775808 ≤ 9218868437227405312 → n < 18446744073709551616 → vf_n64 (UInt64.ofNat n) := by
    intro n hn hf
    unfold vf_n64
    rw [UInt64.le_iff_toNat_le, UInt64.toNat_and]
    have k1 : (0x7fffffffffffffff : UInt64).toNat = 2 ^ 63 - 1 := by decide
    have k2 : (0x7ff0000000000000 : UInt64).toNat = 9218868437227405312 := by decide
    rw [k1, k2, Nat.and_two_pow_sub_one_eq_mod, UInt64.toNat_ofNat_of_lt' (by simpa using hf)]
    exact hn
  have e : FP.ddiv (FP.i2d a) (FP.i2d b) = UInt64.ofNat (FP.Core.encode FP.Core.b64 (FP.Core.roundRatio FP.Core.b64 (s != t) c d (q - r))) := by
    show UInt64.ofNat (FP.Core.encode FP.Core.b64 (FP.Core.quotient FP.Core.b64 (FP.Core.decode FP.Core.b64 (FP.i2d a).toNat) (FP.Core.decode FP.Core.b64 (FP.i2d b).toNat))) = _
    rw [h1, h2, FP.Core.quotient, if_neg hd]
  rw [e]
  rcases fp64_ratio (s := s != t) (a := c) (b := d) (x := q - r) with ⟨s', z⟩ | ⟨s', c', q', z, z1, z2, z3⟩
  · rw [z]; exact key _ fp64_inf_enc.1 fp64_inf_enc.2
  · rw [z]; exact key _ (Nat.le_of_lt (fp64_ok_enc z1 z2 z3).1) (fp64_ok_enc z1 z2 z3).2
