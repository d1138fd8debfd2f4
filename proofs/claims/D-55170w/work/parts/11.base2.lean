/-! BASE 2: answers of yes and no, inherited fields, casts, switches, unknown references -/
def bZ (b : Bool) : Int32 := bif b then 1 else 0
theorem bZ_t {b : Bool} (h : b = true) : (1 : Int32) = bZ b := by rw [h]; rfl
theorem bZ_f {b : Bool} (h : ¬ b = true) : (0 : Int32) = bZ b := by cases b with
  | true => exact absurd rfl h
  | false => rfl
theorem bZ_0 {b : Bool} : bZ b = 0 ↔ b = false := by cases b <;> decide
theorem bZ_01 (b : Bool) : bZ b = 0 ∨ bZ b = 1 := by cases b <;> decide
theorem g_narZ {v : Int32} (h : v = 0 ∨ v = 1) : narrow .boolean (.int v) = .int v := by rcases h with rfl | rfl <;> rfl
theorem g_fitZ {v : Int32} (h : v = 0 ∨ v = 1) : fits .boolean (.int v) = true := by rcases h with rfl | rfl <;> rfl
theorem lw_in4 {a b c d : Cond} (h1 : a ∈ lw_all) (h2 : b ∈ lw_all) (h3 : c ∈ lw_all) (h4 : d ∈ lw_all) : ∀ w ∈ [a, b, c, d], w ∈ lw_all := by
  intro w hw
  simp only [List.mem_cons, List.not_mem_nil, or_false] at hw
  rcases hw with e | e | e | e
  · rw [e]; exact h1
  · rw [e]; exact h2
  · rw [e]; exact h3
  · rw [e]; exact h4
theorem lw_in5 {a0 a1 a2 a3 a4 : Cond} (h0 : a0 ∈ lw_all) (h1 : a1 ∈ lw_all) (h2 : a2 ∈ lw_all) (h3 : a3 ∈ lw_all) (h4 : a4 ∈ lw_all) : ∀ w ∈ [a0, a1, a2, a3, a4], w ∈ lw_all := by
  intro w hw
  simp only [List.mem_cons, List.not_mem_nil, or_false] at hw
  rcases hw with e | e | e | e | e
  · rw [e]; exact h0
  · rw [e]; exact h1
  · rw [e]; exact h2
  · rw [e]; exact h3
  · rw [e]; exact h4
theorem lw_in6 {a0 a1 a2 a3 a4 a5 : Cond} (h0 : a0 ∈ lw_all) (h1 : a1 ∈ lw_all) (h2 : a2 ∈ lw_all) (h3 : a3 ∈ lw_all) (h4 : a4 ∈ lw_all) (h5 : a5 ∈ lw_all) : ∀ w ∈ [a0, a1, a2, a3, a4, a5], w ∈ lw_all := by
  intro w hw
  simp only [List.mem_cons, List.not_mem_nil, or_false] at hw
  rcases hw with e | e | e | e | e | e
  · rw [e]; exact h0
  · rw [e]; exact h1
  · rw [e]; exact h2
  · rw [e]; exact h3
  · rw [e]; exact h4
  · rw [e]; exact h5
theorem g_cat {D : va_G} {dA : Nat → ClassId} {s : State} (hK : va_K D gC (gT dA) s) (ci : Nat) {r : vw_C} (hc : gC[ci]? = some r) : ClassAt s r.1 (D.1 ci) := (hK.1 ci r hc).2
section GR2
variable {p : Program} {l : Launch} {e : Env} {R : Room} {s : State} {m : MethodId} {args : Array Value} {below : List Frame} {meth : Method} {c : Code} {H : Heap} {locs : List Loc} {cells slots : Nat} {Q : State → Prop}
variable {cc : ByteArray} {nL : Nat} {own : String} {pc : Nat} {ls : Array Slot} {rest : List Value} {D : va_G} {dA : Nat → ClassId} {A : Nat → Prop} {E : State → Prop} {a : Nat} {ws ws' : va_W}
theorem g_getU (X : gX p s m args c cc nL own D dA A E) {C ref : String} {T : u_T} {N ci index : Nat} {ty : Nat → FieldType} (F : gCl ci C T N ty) (hw : gW D A ws s H locs) (q0 k : Nat) {fs : List Value} {v : Value} (he : ws[q0]? = some (a, .inr (ci, fs))) (hk : Nat.blt k N = true) (hl : Cond.fieldLink own index ref (T k).2.1 (T k).2.2.1 ∈ lw_all) (hsf : Cond.sameField ref (T k).1 (T k).2.1 (T k).2.2.1 ∈ lw_all) (hv : fs[k]? = some v) (hdg : decode cc pc = .ok (.getfield index, 3))
    (kk : W p l e R s m args below meth c H locs cells slots Q (F0 m (pc + 3) ls (v :: rest))) : W p l e R s m args below meth c H locs cells slots Q (F0 m pc ls (.ref a :: rest)) :=
  va_get X.1.1 X.1.2.1 X.1.2.2.2.2 F.2.1 X.1.2.2.2.1 X.2.1 hw.1 q0 he F.1 k (by simpa [Nat.blt_eq] using hk) (X.1.2.2.2.2 _ hl) (u_same (X.1.2.2.2.2 _ hsf)) hv hdg kk
theorem g_putU (X : gX p s m args c cc nL own D dA A E) {C ref : String} {T : u_T} {N ci index : Nat} {ty : Nat → FieldType} (F : gCl ci C T N ty) (hw : gW D A ws s H locs) (q0 k : Nat) {fs : List Value} {v : Value} (he : ws[q0]? = some (a, .inr (ci, fs))) (hk : Nat.blt k N = true) (hl : Cond.fieldLink own index ref (T k).2.1 (T k).2.2.1 ∈ lw_all) (hsf : Cond.sameField ref (T k).1 (T k).2.1 (T k).2.2.1 ∈ lw_all) (hfin : (T k).2.2.2 = false) (hn : narrow (ty k) v = v) (hfit : fits (ty k) v = true) (hle : Nat.blt k fs.length = true) (ew : ws.set q0 (a, .inr (ci, fs.set k v)) = ws') (hdg : decode cc pc = .ok (.putfield index, 3))
    (kk : ∀ (H1 : Heap) (locs1 : List Loc), gW D A ws' s H1 locs1 → W p l e R s m args below meth c H1 locs1 cells slots Q (F0 m (pc + 3) ls rest)) : W p l e R s m args below meth c H locs cells slots Q (F0 m pc ls (v :: .ref a :: rest)) := by
  subst ew
  have hk' : k < N := by simpa [Nat.blt_eq] using hk
  exact va_put X.1.1 X.1.2.1 X.1.2.2.2.2 F.2.1 ty F.2.2.1 F.2.2.2 X.1.2.2.2.1 X.2.1 hw.1 hw.2.1 hw.2.2 q0 he F.1 k hk' (X.1.2.2.2.2 _ hl) (u_same (X.1.2.2.2.2 _ hsf)) hfin (F.2.2.1 k hk') hn hfit (by simpa [Nat.blt_eq] using hle) hdg (fun H1 locs1 h1 h2 h3 => kk H1 locs1 ⟨h1, h2, h3⟩)
theorem g_castS (X : gX p s m args c cc nL own D dA A E) (hw : gW D A ws s H locs) (q0 : Nat) {ci index : Nat} {r : vw_C} {fs : List Value} (he : ws[q0]? = some (a, .inr (ci, fs))) (hc : gC[ci]? = some r) (hl : Cond.classLink own index r.1 ∈ lw_all) (hdg : decode cc pc = .ok (.checkcast index, 3))
    (kk : W p l e R s m args below meth c H locs cells slots Q (F0 m (pc + 3) ls (.ref a :: rest))) : W p l e R s m args below meth c H locs cells slots Q (F0 m pc ls (.ref a :: rest)) :=
  va_castS X.1.1 X.1.2.1 X.1.2.2.2.1 (X.1.2.2.2.2 _ hl) (g_cat X.2.1 ci hc) (va_recv X.2.1 hw.1 hc he) hdg kk
theorem g_castY (X : gX p s m args c cc nL own D dA A E) (hw : gW D A ws s H locs) (q0 : Nat) {ci index : Nat} {r : vw_C} {nm : String} {fs : List Value} (he : ws[q0]? = some (a, .inr (ci, fs))) (hc : gC[ci]? = some r) (hl : Cond.classLink own index nm ∈ lw_all) (hcs : Cond.castable r.1 nm ∈ lw_tbl) (hdg : decode cc pc = .ok (.checkcast index, 3))
    (kk : W p l e R s m args below meth c H locs cells slots Q (F0 m (pc + 3) ls (.ref a :: rest))) : W p l e R s m args below meth c H locs cells slots Q (F0 m pc ls (.ref a :: rest)) :=
  va_castY X.1.1 X.1.2.1 X.1.2.2.2.1 (X.1.2.2.2.2 _ hl) (X.2.2.1.nw hcs rfl) (va_recv X.2.1 hw.1 hc he) hdg kk
theorem g_tabOut4 (hexec : p.tables.exec = Jvm.exec) (hb : c.code = cc) {dflt : Int} {offs : Array Int} {len : Nat} {x : Int32} {tgt : Nat} (hdg : decode cc pc = .ok (.tableswitch dflt 0 3 offs, len)) (h0 : ¬ x = 0) (h1 : ¬ x = 1) (h2 : ¬ x = 2) (h3 : ¬ x = 3) (ht : (pc : Int) + dflt = (tgt : Int))
    (k : W p l e R s m args below meth c H locs cells slots Q (F0 m tgt ls rest)) : W p l e R s m args below meth c H locs cells slots Q (F0 m pc ls (.int x :: rest)) := by
  refine lv_tableOut hexec hb hdg ?_ ht k
  have g0 := lv_neT h0 (show (0 : Int32).toInt = 0 by decide)
  have g1 := lv_neT h1 (show (1 : Int32).toInt = 1 by decide)
  have g2 := lv_neT h2 (show (2 : Int32).toInt = 2 by decide)
  have g3 := lv_neT h3 (show (3 : Int32).toInt = 3 by decide)
  omega
theorem g_tabOut5 (hexec : p.tables.exec = Jvm.exec) (hb : c.code = cc) {dflt : Int} {offs : Array Int} {len : Nat} {x : Int32} {tgt : Nat} (hdg : decode cc pc = .ok (.tableswitch dflt 0 4 offs, len)) (h0 : ¬ x = 0) (h1 : ¬ x = 1) (h2 : ¬ x = 2) (h3 : ¬ x = 3) (h4 : ¬ x = 4) (ht : (pc : Int) + dflt = (tgt : Int))
    (k : W p l e R s m args below meth c H locs cells slots Q (F0 m tgt ls rest)) : W p l e R s m args below meth c H locs cells slots Q (F0 m pc ls (.int x :: rest)) := by
  refine lv_tableOut hexec hb hdg ?_ ht k
  have g0 := lv_neT h0 (show (0 : Int32).toInt = 0 by decide)
  have g1 := lv_neT h1 (show (1 : Int32).toInt = 1 by decide)
  have g2 := lv_neT h2 (show (2 : Int32).toInt = 2 by decide)
  have g3 := lv_neT h3 (show (3 : Int32).toInt = 3 by decide)
  have g4 := lv_neT h4 (show (4 : Int32).toInt = 4 by decide)
  omega
theorem g_tabOut7 (hexec : p.tables.exec = Jvm.exec) (hb : c.code = cc) {dflt : Int} {offs : Array Int} {len : Nat} {x : Int32} {tgt : Nat} (hdg : decode cc pc = .ok (.tableswitch dflt 0 6 offs, len)) (h0 : ¬ x = 0) (h1 : ¬ x = 1) (h2 : ¬ x = 2) (h3 : ¬ x = 3) (h4 : ¬ x = 4) (h5 : ¬ x = 5) (h6 : ¬ x = 6) (ht : (pc : Int) + dflt = (tgt : Int))
    (k : W p l e R s m args below meth c H locs cells slots Q (F0 m tgt ls rest)) : W p l e R s m args below meth c H locs cells slots Q (F0 m pc ls (.int x :: rest)) := by
  refine lv_tableOut hexec hb hdg ?_ ht k
  have g0 := lv_neT h0 (show (0 : Int32).toInt = 0 by decide)
  have g1 := lv_neT h1 (show (1 : Int32).toInt = 1 by decide)
  have g2 := lv_neT h2 (show (2 : Int32).toInt = 2 by decide)
  have g3 := lv_neT h3 (show (3 : Int32).toInt = 3 by decide)
  have g4 := lv_neT h4 (show (4 : Int32).toInt = 4 by decide)
  have g5 := lv_neT h5 (show (5 : Int32).toInt = 5 by decide)
  have g6 := lv_neT h6 (show (6 : Int32).toInt = 6 by decide)
  omega
theorem g_tabOut8 (hexec : p.tables.exec = Jvm.exec) (hb : c.code = cc) {dflt : Int} {offs : Array Int} {len : Nat} {x : Int32} {tgt : Nat} (hdg : decode cc pc = .ok (.tableswitch dflt 0 7 offs, len)) (h0 : ¬ x = 0) (h1 : ¬ x = 1) (h2 : ¬ x = 2) (h3 : ¬ x = 3) (h4 : ¬ x = 4) (h5 : ¬ x = 5) (h6 : ¬ x = 6) (h7 : ¬ x = 7) (ht : (pc : Int) + dflt = (tgt : Int))
    (k : W p l e R s m args below meth c H locs cells slots Q (F0 m tgt ls rest)) : W p l e R s m args below meth c H locs cells slots Q (F0 m pc ls (.int x :: rest)) := by
  refine lv_tableOut hexec hb hdg ?_ ht k
  have g0 := lv_neT h0 (show (0 : Int32).toInt = 0 by decide)
  have g1 := lv_neT h1 (show (1 : Int32).toInt = 1 by decide)
  have g2 := lv_neT h2 (show (2 : Int32).toInt = 2 by decide)
  have g3 := lv_neT h3 (show (3 : Int32).toInt = 3 by decide)
  have g4 := lv_neT h4 (show (4 : Int32).toInt = 4 by decide)
  have g5 := lv_neT h5 (show (5 : Int32).toInt = 5 by decide)
  have g6 := lv_neT h6 (show (6 : Int32).toInt = 6 by decide)
  have g7 := lv_neT h7 (show (7 : Int32).toInt = 7 by decide)
  omega
theorem g_tabOut19 (hexec : p.tables.exec = Jvm.exec) (hb : c.code = cc) {dflt : Int} {offs : Array Int} {len : Nat} {x : Int32} {tgt : Nat} (hdg : decode cc pc = .ok (.tableswitch dflt 0 18 offs, len)) (h0 : ¬ x = 0) (h1 : ¬ x = 1) (h2 : ¬ x = 2) (h3 : ¬ x = 3) (h4 : ¬ x = 4) (h5 : ¬ x = 5) (h6 : ¬ x = 6) (h7 : ¬ x = 7) (h8 : ¬ x = 8) (h9 : ¬ x = 9) (h10 : ¬ x = 10) (h11 : ¬ x = 11) (h12 : ¬ x = 12) (h13 : ¬ x = 13) (h14 : ¬ x = 14) (h15 : ¬ x = 15) (h16 : ¬ x = 16) (h17 : ¬ x = 17) (h18 : ¬ x = 18) (ht : (pc : Int) + dflt = (tgt : Int))
    (k : W p l e R s m args below meth c H locs cells slots Q (F0 m tgt ls rest)) : W p l e R s m args below meth c H locs cells slots Q (F0 m pc ls (.int x :: rest)) := by
  refine lv_tableOut hexec hb hdg ?_ ht k
  have g0 := lv_neT h0 (show (0 : Int32).toInt = 0 by decide)
  have g1 := lv_neT h1 (show (1 : Int32).toInt = 1 by decide)
  have g2 := lv_neT h2 (show (2 : Int32).toInt = 2 by decide)
  have g3 := lv_neT h3 (show (3 : Int32).toInt = 3 by decide)
  have g4 := lv_neT h4 (show (4 : Int32).toInt = 4 by decide)
  have g5 := lv_neT h5 (show (5 : Int32).toInt = 5 by decide)
  have g6 := lv_neT h6 (show (6 : Int32).toInt = 6 by decide)
  have g7 := lv_neT h7 (show (7 : Int32).toInt = 7 by decide)
  have g8 := lv_neT h8 (show (8 : Int32).toInt = 8 by decide)
  have g9 := lv_neT h9 (show (9 : Int32).toInt = 9 by decide)
  have g10 := lv_neT h10 (show (10 : Int32).toInt = 10 by decide)
  have g11 := lv_neT h11 (show (11 : Int32).toInt = 11 by decide)
  have g12 := lv_neT h12 (show (12 : Int32).toInt = 12 by decide)
  have g13 := lv_neT h13 (show (13 : Int32).toInt = 13 by decide)
  have g14 := lv_neT h14 (show (14 : Int32).toInt = 14 by decide)
  have g15 := lv_neT h15 (show (15 : Int32).toInt = 15 by decide)
  have g16 := lv_neT h16 (show (16 : Int32).toInt = 16 by decide)
  have g17 := lv_neT h17 (show (17 : Int32).toInt = 17 by decide)
  have g18 := lv_neT h18 (show (18 : Int32).toInt = 18 by decide)
  omega
theorem g_dret {S : Type} {post : UInt64 → S → Prop} {w1 : S → va_W} {v : UInt64} (u : S) (X : gX p s m args c cc nL own D dA A E) (hw : gW D A ws s H locs) (hr : meth.sig.returnType = some .double) (hlocks : meth.locks = false) (hp : post v u) (e1 : ws = w1 u) (hdg : decode cc pc = .ok (.dreturn, 1)) : W p l e R s m args below meth c H locs cells slots (MQ below (va_Qd post (fun u => gE D A (w1 u)) A) args s cells slots A) (F0 m pc ls [.double v]) := by
  subst e1
  exact W.dret X.1.1 X.1.2.1 hr (fun t ht hW => ⟨⟨v, u, rfl, hp, by rw [ht]; exact hw.1, hw.2.1⟩, hw.2.2.F ht⟩) hw.2.2.2.2 hdg hlocks
theorem g_fret {S : Type} {post : UInt32 → S → Prop} {w1 : S → va_W} {v : UInt32} (u : S) (X : gX p s m args c cc nL own D dA A E) (hw : gW D A ws s H locs) (hr : meth.sig.returnType = some .float) (hlocks : meth.locks = false) (hp : post v u) (e1 : ws = w1 u) (hdg : decode cc pc = .ok (.freturn, 1)) : W p l e R s m args below meth c H locs cells slots (MQ below (va_Qf post (fun u => gE D A (w1 u)) A) args s cells slots A) (F0 m pc ls [.float v]) := by
  subst e1
  exact W.fret X.1.1 X.1.2.1 hr (fun t ht hW => ⟨⟨v, u, rfl, hp, by rw [ht]; exact hw.1, hw.2.1⟩, hw.2.2.F ht⟩) hw.2.2.2.2 hdg hlocks
end GR2
