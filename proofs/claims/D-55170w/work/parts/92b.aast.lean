/-! a text into an array of texts -/
section GA5
variable {p : Program} {l : Launch} {e : Env} {R : Room} {s : State} {m : MethodId} {args : Array Value} {below : List Frame} {meth : Method} {c : Code} {H : Heap} {locs : List Loc} {cells slots : Nat} {Q : State → Prop}
variable {cc : ByteArray} {nL : Nat} {own : String} {pc : Nat} {ls : Array Slot} {rest : List Value} {D : va_G} {dA : Nat → ClassId} {A : Nat → Prop} {E : State → Prop} {a : Nat} {ws ws' : va_W}
theorem g_aastT (X : gX p s m args c cc nL own D dA A E) (hw : gW D A ws s H locs) (q0 : Nat) {n v : Nat} {f : Nat → Option Nat} (ha : ws[q0]? = some (a, .inl (dA 5, n, .inr (.inr (.inr (.inr f)))))) (hv : gO0 "java/lang/String" v s H) {i : Nat} (hi : i < n) (hn : n < 2 ^ 31) (ew : ws.set q0 (a, .inl (dA 5, n, .inr (.inr (.inr (.inr (va_up f i (some v))))))) = ws') (hdg : decode cc pc = .ok (.aastore, 1))
    (kk : ∀ (H1 : Heap) (locs1 : List Loc), gW D A ws' s H1 locs1 → W p l e R s m args below meth c H1 locs1 cells slots Q (F0 m (pc + 1) ls rest)) : W p l e R s m args below meth c H locs cells slots Q (F0 m pc ls (.ref v :: .int (nI i) :: .ref a :: rest)) := by
  obtain ⟨cellV, g1, g2, g3⟩ := hv
  have hK := X.2.1
  obtain ⟨kA, comp, k1, k2, k3, -⟩ := (hK.2 5 _ rfl).2
  obtain ⟨kE, hkE, -⟩ := Vm.findClass_spec k3
  cases k3.symm.trans g3
  have hin := vp_in_nI hi hn
  have hlt : (nI i).toNatClampNeg < n := Nat.not_le.mp fun q => hin (Or.inr q)
  have h0 : ¬ nI i < 0 := fun q => hin (Or.inl q)
  refine W.aast X.1.1 X.1.2.1 (hw.1 q0 _ ha) (fun q h => by cases h) (fun h => by cases h) k1 k2 rfl hkE ⟨h0, by show _ < (arrV _ _ _).slots.size; rw [arrV_size]; exact hlt⟩ g1 (fun q h => ?_) hkE (va_asg _ _) rfl rfl hdg fun H1 e1 z oq => ?_
  · rw [h] at g2; exact absurd (show true = false from g2) (by decide)
  rw [nI_clamp (by omega)] at e1
  have key : va_P D gC (ws.set q0 (a, .inl (dA 5, n, .inr (.inr (.inr (.inr (va_up f i (some v)))))))) H1 := by
    refine hw.1.set hw.2.1 ha ?_ oq
    show H1[a]? = some (vp_cell _ _)
    rw [e1]
    rw [vp_cell_q, vp_cell_q, arrV_store]
    congr 2
    funext q
    by_cases hq : q = i
    · subst hq
      simp [updV, va_up, va_rf]
    · simp [updV, va_up, hq]
  exact kk H1 _ ⟨by rw [← ew]; exact key, by rw [← ew]; exact hw.2.1.set ha, hw.2.2.put z oq (hw.2.1.2 q0 _ ha)⟩
end GA5
