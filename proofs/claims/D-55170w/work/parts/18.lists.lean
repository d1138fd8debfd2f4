/-! LISTS AND ROWS OF OBJECTS -/
/-- an object of ours that may lie in a row of Object -/
def gObj (R : va_W) (v : Nat) : Prop := ∃ (ci : Nat) (vs : List Value) (r : vw_C), (v, .inr (ci, vs)) ∈ R ∧ gC[ci]? = some r ∧ Cond.castable r.1 "java/lang/Object" ∈ lw_tbl
theorem gObj.mono {R R' : va_W} {v : Nat} (h : gObj R v) (hR : ∀ q ∈ R, q ∈ R') : gObj R' v := by
  obtain ⟨ci, vs, r, a, b, c⟩ := h
  exact ⟨ci, vs, r, hR _ a, b, c⟩
theorem gObj.of {R : va_W} {v ci : Nat} {vs : List Value} {r : vw_C} (i : Nat) (h : R[i]? = some (v, .inr (ci, vs))) (hc : gC[ci]? = some r) (hca : Cond.castable r.1 "java/lang/Object" ∈ lw_tbl) : gObj R v := ⟨ci, vs, r, List.mem_of_getElem? h, hc, hca⟩
section GL
variable {p : Program} {l : Launch} {e : Env} {R : Room} {s : State} {m : MethodId} {args : Array Value} {below : List Frame} {meth : Method} {c : Code} {H : Heap} {locs : List Loc} {cells slots : Nat} {Q : State → Prop}
variable {cc : ByteArray} {nL : Nat} {own : String} {pc : Nat} {ls : Array Slot} {rest : List Value} {D : va_G} {dA : Nat → ClassId} {A : Nat → Prop} {E : State → Prop} {a : Nat} {ws ws' : va_W}
theorem g_aastR (X : gX p s m args c cc nL own D dA A E) (hw : gW D A ws s H locs) (q0 : Nat) {n v : Nat} {f : Nat → Option Nat} (ha : ws[q0]? = some (a, .inl (dA 3, n, .inr (.inr (.inr (.inr f)))))) (hv : gObj ws v) {i : Nat} (hi : i < n) (hn : n < 2 ^ 31) (ew : ws.set q0 (a, .inl (dA 3, n, .inr (.inr (.inr (.inr (va_up f i (some v))))))) = ws') (hdg : decode cc pc = .ok (.aastore, 1))
    (kk : ∀ (H1 : Heap) (locs1 : List Loc), gW D A ws' s H1 locs1 → W p l e R s m args below meth c H1 locs1 cells slots Q (F0 m (pc + 1) ls rest)) : W p l e R s m args below meth c H locs cells slots Q (F0 m pc ls (.ref v :: .int (nI i) :: .ref a :: rest)) := by
  obtain ⟨ci, vs, r, hm, hc, hca⟩ := hv
  obtain ⟨k, hk⟩ := List.getElem?_of_mem hm
  refine va_astqO (E := "java/lang/Object") X.1.1 X.1.2.1 X.2.1 hw.1 hw.2.1 hw.2.2 q0 3 k ci ha rfl (X.2.2.1.nw hca rfl) hk hc (vp_in_nI hi hn) hdg (fun H1 locs1 h1 h2 h3 => ?_)
  rw [nI_clamp (by omega), ew] at h1 h2
  exact kk H1 locs1 ⟨h1, h2, h3⟩
theorem g_aastN (X : gX p s m args c cc nL own D dA A E) (hw : gW D A ws s H locs) (q0 : Nat) {n : Nat} {f : Nat → Option Nat} (ha : ws[q0]? = some (a, .inl (dA 3, n, .inr (.inr (.inr (.inr f)))))) {i : Nat} (hi : i < n) (hn : n < 2 ^ 31) (ew : ws.set q0 (a, .inl (dA 3, n, .inr (.inr (.inr (.inr (va_up f i none)))))) = ws') (hdg : decode cc pc = .ok (.aastore, 1))
    (kk : ∀ (H1 : Heap) (locs1 : List Loc), gW D A ws' s H1 locs1 → W p l e R s m args below meth c H1 locs1 cells slots Q (F0 m (pc + 1) ls rest)) : W p l e R s m args below meth c H locs cells slots Q (F0 m pc ls (.null :: .int (nI i) :: .ref a :: rest)) := by
  refine va_astqN (C := "java/lang/Object") X.1.1 X.1.2.1 X.2.1 hw.1 hw.2.1 hw.2.2 q0 3 ha rfl (vp_in_nI hi hn) hdg (fun H1 locs1 h1 h2 h3 => ?_)
  rw [nI_clamp (by omega), ew] at h1 h2
  exact kk H1 locs1 ⟨h1, h2, h3⟩
end GL
def incN (i m : Nat) : Nat := if i + 1 < m then i + 1 else 0
def decN (i m : Nat) : Nat := if i = 0 then m - 1 else i - 1
def subN (a b m : Nat) : Nat := if b ≤ a then a - b else a + m - b
def segN (h t k : Nat) : Prop := if h ≤ t then h ≤ k ∧ k < t else h ≤ k ∨ k < t
theorem nsub_ge {a b : Nat} (ha : a < 2 ^ 30) (hb : b < 2 ^ 30) : 0 ≤ nI a - nI b ↔ b ≤ a := by
  rw [Int32.le_iff_toInt_le, pk_sub_toInt ha hb]
  have e0 : (0 : Int32).toInt = 0 := by decide
  rw [e0]; omega
theorem nsub_t {a b m : Nat} (h : b ≤ a) : nI a - nI b = nI (subN a b m) := by
  rw [subN, if_pos h]
  have := nI_add (a - b) b
  rw [Nat.sub_add_cancel h] at this
  rw [← this]; exact Int32.add_sub_cancel _ _
theorem nsub_f {a b m : Nat} (h : ¬ b ≤ a) (hm : b ≤ m) : nI a - nI b + nI m = nI (subN a b m) := by
  rw [subN, if_neg h]
  have e2 := nI_add (a + m - b) b
  rw [Nat.sub_add_cancel (by omega)] at e2
  have e3 := nI_add a m
  have : nI a - nI b + nI m = (nI a + nI m) - nI b := by
    rw [Int32.sub_eq_add_neg, Int32.sub_eq_add_neg, Int32.add_assoc, Int32.add_comm (-nI b), ← Int32.add_assoc]
  rw [this, e3, ← e2]; exact Int32.add_sub_cancel _ _
/-- the sum that String.hashCode takes -/
def txH (f : gG) : Nat → Int32
  | 0 => 0
  | n + 1 => 31 * txH f n + f n
theorem txH_c {f g : gG} : ∀ {n : Nat}, (∀ k, k < n → f k = g k) → txH f n = txH g n
  | 0, _ => rfl
  | n + 1, h => by rw [txH, txH, txH_c (fun k hk => h k (by omega)), h n (by omega)]
theorem asc_and {f : gG} {n i : Nat} (h : gAsc f n) (hi : i < n) : (f i &&& 255) = f i := by
  obtain ⟨c, hc, e⟩ := h i hi
  rw [e]
  have : ∀ c, c < 128 → (nI c &&& 255) = nI c := by decide +kernel
  exact this c hc
theorem dec_t {i n : Nat} (h : 0 ≤ nI i + (-1)) : nI i + (-1) = nI (decN i n) := by
  cases i with
  | zero => exact absurd h (by decide)
  | succ i => rw [nI_dec, decN, if_neg (by omega)]; rfl
theorem dec_f {i n : Nat} (h : nI i + (-1) < 0) (hi : i < 1000) (hn : 0 < n) : nI n - 1 = nI (decN i n) := by
  cases i with
  | zero =>
    rw [decN, if_pos rfl]
    obtain ⟨k, rfl⟩ : ∃ k, n = k + 1 := ⟨n - 1, by omega⟩
    exact nI_pred k
  | succ i => rw [nI_dec] at h; exact absurd h (nI_pos (by omega))
def ccI (f : Nat → Option Nat) (i b ph dt : Nat) : Prop := ∀ k, k < 17 → f k = none ∨ (i ≤ k ∧ k < b) ∨ (ph = 1 ∧ k < dt)
theorem cc_in {f : Nat → Option Nat} {i b ph dt : Nat} (h : ccI f i b ph dt) : ccI (va_up f i none) (i + 1) b ph dt := by
  intro k hk
  by_cases e : k = i
  · subst e; exact Or.inl (va_up_self _ _ _)
  · rw [va_up_ne _ _ e]
    rcases h k hk with q | q | q
    · exact Or.inl q
    · exact Or.inr (Or.inl (by omega))
    · exact Or.inr (Or.inr q)
theorem cc_out {f : Nat → Option Nat} {i b ph dt : Nat} (h : ccI f i b ph dt) (hi : ¬ i < b) : ccI f 0 dt 0 dt := by
  intro k hk
  rcases h k hk with q | q | q
  · exact Or.inl q
  · omega
  · exact Or.inr (Or.inl (by omega))
theorem cc_end {f : Nat → Option Nat} {i b ph dt : Nat} (h : ccI f i b ph dt) (hi : ¬ i < b) (hp : ¬ ph = 1) : ∀ k, k < 17 → f k = none := by
  intro k hk
  rcases h k hk with q | q | q
  · exact q
  · omega
  · exact absurd q.1 hp
theorem cc_0 {f : Nat → Option Nat} {dh dt : Nat} (hz : ∀ k, k < 17 → ¬ segN dh dt k → f k = none) (h : dh ≤ dt) : ccI f dh dt 0 dt := by
  intro k hk
  by_cases q : segN dh dt k
  · rw [segN, if_pos h] at q; exact Or.inr (Or.inl q)
  · exact Or.inl (hz k hk q)
theorem cc_1 {f : Nat → Option Nat} {dh dt : Nat} (hz : ∀ k, k < 17 → ¬ segN dh dt k → f k = none) (h : ¬ dh ≤ dt) : ccI f dh 17 1 dt := by
  intro k hk
  by_cases q : segN dh dt k
  · rw [segN, if_neg h] at q
    rcases q with q | q
    · exact Or.inr (Or.inl ⟨q, hk⟩)
    · exact Or.inr (Or.inr ⟨rfl, q⟩)
  · exact Or.inl (hz k hk q)
