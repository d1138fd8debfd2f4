/-! PURE 15: an hour's numbers -/
theorem hourX_0 {g : gG} : hourX g 0 = setsL (rainL g 6) (nn g 50) 0 + 1 := by unfold hourX hourTick; exact upd_s
theorem hourX_n {g : gG} {k : Nat} (h : k ≠ 0) : hourX g k = setsL (rainL g 6) (nn g 50) k := by unfold hourX hourTick; exact upd_n h
theorem hourX_J {g : gG} (h : gJ g) : gJ (hourX g) := by
  have b := h.i.c.2
  have e : nn (rainL g 6) 50 = nn g 50 := nn_e (rainL_n 6 (by omega) (by omega))
  unfold hourX hourTick
  exact (((h.o_rainL 6 (by omega)).o_setsL (nn g 50) (by omega))).free (by unfold gFree; omega)
