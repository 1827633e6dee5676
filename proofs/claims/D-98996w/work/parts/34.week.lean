/-! THE COMPONENT'S STATE: rows written, a week, work's steps -/
set_option maxRecDepth 100000
theorem i3_sub {a b : Int32} (h1 : -2147483648 ≤ a.toInt - b.toInt) (h2 : a.toInt - b.toInt < 2147483648) : (a - b).toInt = a.toInt - b.toInt := by
  rw [Int32.toInt_sub]
  exact Int.bmod_eq_of_le (by omega) (by omega)
theorem i3_add {a b : Int32} (h1 : -2147483648 ≤ a.toInt + b.toInt) (h2 : a.toInt + b.toInt < 2147483648) : (a + b).toInt = a.toInt + b.toInt := by
  rw [Int32.toInt_add]
  exact Int.bmod_eq_of_le (by omega) (by omega)
theorem i3_mul {a b : Int32} (h1 : -2147483648 ≤ a.toInt * b.toInt) (h2 : a.toInt * b.toInt < 2147483648) : (a * b).toInt = a.toInt * b.toInt := by
  rw [Int32.toInt_mul]
  exact Int.bmod_eq_of_le (by omega) (by omega)
theorem i3_lt {a b : Int32} : a < b ↔ a.toInt < b.toInt := Int32.lt_iff_toInt_lt
theorem i3_le {a b : Int32} : a ≤ b ↔ a.toInt ≤ b.toInt := Int32.le_iff_toInt_le
theorem i3_eq {a b : Int32} : a = b ↔ a.toInt = b.toInt := Int32.toInt_inj.symm
theorem i3_0 : (0 : Int32).toInt = 0 := by decide
theorem i3_1 : (1 : Int32).toInt = 1 := by decide
theorem i3_n : (-1 : Int32).toInt = -1 := by decide
theorem i3_r (a : Int32) : -2147483648 ≤ a.toInt ∧ a.toInt < 2147483648 := ⟨Int32.le_toInt a, Int32.toInt_lt a⟩
theorem i3_pred {x : Int32} (h : 0 < x) : (x - 1).toInt = x.toInt - 1 := by
  have := i3_r x
  rw [i3_lt, i3_0] at h
  rw [i3_sub (by rw [i3_1]; omega) (by rw [i3_1]; omega), i3_1]
theorem max0 {x : Int32} (h : 0 ≤ x) : (if 0 < x then x else 0) = x := by
  split
  · rfl
  · rename_i g
    rw [i3_lt, i3_0] at g
    rw [i3_le, i3_0] at h
    exact i3_eq.mpr (by rw [i3_0]; omega)
theorem c_max {F : Nat} {a b : Int32} {m : pm_M} : f_J8_max F a b m = some (if a < b then b else a, m) := by
  unfold f_J8_max
  split <;> rfl
theorem c_min {F : Nat} {a b : Int32} {m : pm_M} : f_J8_min F a b m = some (if b < a then b else a, m) := by
  unfold f_J8_min
  split <;> rfl
theorem cv_wh {m : pm_M} {b : Nat} {r : R_T} {p : Nat} {v : Int32} (hp : p < 8) (h : cv_r m b r) : cv_r (pI_ m (100, 8, b + 1) p v) b (up_ r (p) v) := by
  obtain ⟨h0, h1, h2, h3, h4, h5, h6, h7, h8, h9⟩ := h
  refine ⟨fun q hq => ?_, fun q hq => ?_, fun q hq => ?_, fun q hq => ?_, fun q hq => ?_, fun q hq => ?_, fun q hq => ?_, fun q hq => ?_, ?_, ?_⟩
  · rw [gI_pI]; unfold up_
    by_cases e : q = p
    · rw [if_pos ⟨rfl, e⟩, if_pos (by omega)]
    · rw [if_neg (fun g => e g.2), if_neg (by omega)]; exact h0 q hq
  · rw [gI_pI]; unfold up_
    rw [if_neg (fun g => by simp at g), if_neg (by omega)]; exact h1 q hq
  · rw [gI_pI]; unfold up_
    rw [if_neg (fun g => by simp at g), if_neg (by omega)]; exact h2 q hq
  · rw [gI_pI]; unfold up_
    rw [if_neg (fun g => by simp at g), if_neg (by omega)]; exact h3 q hq
  · rw [gI_pI]; unfold up_
    rw [if_neg (fun g => by simp at g), if_neg (by omega)]; exact h4 q hq
  · rw [gI_pI]; unfold up_
    rw [if_neg (fun g => by simp at g), if_neg (by omega)]; exact h5 q hq
  · rw [gI_pI]; unfold up_
    rw [if_neg (fun g => by simp at g), if_neg (by omega)]; exact h6 q hq
  · rw [gI_pI]; unfold up_
    rw [if_neg (fun g => by simp at g), if_neg (by omega)]; exact h7 q hq
  · rw [gI_pI]; unfold up_
    rw [if_neg (fun g => by simp at g), if_neg (by omega)]; exact h8
  · rw [gI_pI]; unfold up_
    rw [if_neg (fun g => by simp at g), if_neg (by omega)]; exact h9
theorem cv_tk {m : pm_M} {b : Nat} {r : R_T} {p : Nat} {v : Int32} (hp : p < 8) (h : cv_r m b r) : cv_r (pI_ m (100, 8, b + 2) p v) b (up_ r (8 + p) v) := by
  obtain ⟨h0, h1, h2, h3, h4, h5, h6, h7, h8, h9⟩ := h
  refine ⟨fun q hq => ?_, fun q hq => ?_, fun q hq => ?_, fun q hq => ?_, fun q hq => ?_, fun q hq => ?_, fun q hq => ?_, fun q hq => ?_, ?_, ?_⟩
  · rw [gI_pI]; unfold up_
    rw [if_neg (fun g => by simp at g), if_neg (by omega)]; exact h0 q hq
  · rw [gI_pI]; unfold up_
    by_cases e : q = p
    · rw [if_pos ⟨rfl, e⟩, if_pos (by omega)]
    · rw [if_neg (fun g => e g.2), if_neg (by omega)]; exact h1 q hq
  · rw [gI_pI]; unfold up_
    rw [if_neg (fun g => by simp at g), if_neg (by omega)]; exact h2 q hq
  · rw [gI_pI]; unfold up_
    rw [if_neg (fun g => by simp at g), if_neg (by omega)]; exact h3 q hq
  · rw [gI_pI]; unfold up_
    rw [if_neg (fun g => by simp at g), if_neg (by omega)]; exact h4 q hq
  · rw [gI_pI]; unfold up_
    rw [if_neg (fun g => by simp at g), if_neg (by omega)]; exact h5 q hq
  · rw [gI_pI]; unfold up_
    rw [if_neg (fun g => by simp at g), if_neg (by omega)]; exact h6 q hq
  · rw [gI_pI]; unfold up_
    rw [if_neg (fun g => by simp at g), if_neg (by omega)]; exact h7 q hq
  · rw [gI_pI]; unfold up_
    rw [if_neg (fun g => by simp at g), if_neg (by omega)]; exact h8
  · rw [gI_pI]; unfold up_
    rw [if_neg (fun g => by simp at g), if_neg (by omega)]; exact h9
theorem cv_sv {m : pm_M} {b : Nat} {r : R_T} {p : Nat} {v : Int32} (hp : p < 8) (h : cv_r m b r) : cv_r (pI_ m (100, 8, b + 3) p v) b (up_ r (16 + p) v) := by
  obtain ⟨h0, h1, h2, h3, h4, h5, h6, h7, h8, h9⟩ := h
  refine ⟨fun q hq => ?_, fun q hq => ?_, fun q hq => ?_, fun q hq => ?_, fun q hq => ?_, fun q hq => ?_, fun q hq => ?_, fun q hq => ?_, ?_, ?_⟩
  · rw [gI_pI]; unfold up_
    rw [if_neg (fun g => by simp at g), if_neg (by omega)]; exact h0 q hq
  · rw [gI_pI]; unfold up_
    rw [if_neg (fun g => by simp at g), if_neg (by omega)]; exact h1 q hq
  · rw [gI_pI]; unfold up_
    by_cases e : q = p
    · rw [if_pos ⟨rfl, e⟩, if_pos (by omega)]
    · rw [if_neg (fun g => e g.2), if_neg (by omega)]; exact h2 q hq
  · rw [gI_pI]; unfold up_
    rw [if_neg (fun g => by simp at g), if_neg (by omega)]; exact h3 q hq
  · rw [gI_pI]; unfold up_
    rw [if_neg (fun g => by simp at g), if_neg (by omega)]; exact h4 q hq
  · rw [gI_pI]; unfold up_
    rw [if_neg (fun g => by simp at g), if_neg (by omega)]; exact h5 q hq
  · rw [gI_pI]; unfold up_
    rw [if_neg (fun g => by simp at g), if_neg (by omega)]; exact h6 q hq
  · rw [gI_pI]; unfold up_
    rw [if_neg (fun g => by simp at g), if_neg (by omega)]; exact h7 q hq
  · rw [gI_pI]; unfold up_
    rw [if_neg (fun g => by simp at g), if_neg (by omega)]; exact h8
  · rw [gI_pI]; unfold up_
    rw [if_neg (fun g => by simp at g), if_neg (by omega)]; exact h9
theorem cv_ad {m : pm_M} {b : Nat} {r : R_T} {p : Nat} {v : Int32} (hp : p < 8) (h : cv_r m b r) : cv_r (pI_ m (100, 8, b + 4) p v) b (up_ r (24 + p) v) := by
  obtain ⟨h0, h1, h2, h3, h4, h5, h6, h7, h8, h9⟩ := h
  refine ⟨fun q hq => ?_, fun q hq => ?_, fun q hq => ?_, fun q hq => ?_, fun q hq => ?_, fun q hq => ?_, fun q hq => ?_, fun q hq => ?_, ?_, ?_⟩
  · rw [gI_pI]; unfold up_
    rw [if_neg (fun g => by simp at g), if_neg (by omega)]; exact h0 q hq
  · rw [gI_pI]; unfold up_
    rw [if_neg (fun g => by simp at g), if_neg (by omega)]; exact h1 q hq
  · rw [gI_pI]; unfold up_
    rw [if_neg (fun g => by simp at g), if_neg (by omega)]; exact h2 q hq
  · rw [gI_pI]; unfold up_
    by_cases e : q = p
    · rw [if_pos ⟨rfl, e⟩, if_pos (by omega)]
    · rw [if_neg (fun g => e g.2), if_neg (by omega)]; exact h3 q hq
  · rw [gI_pI]; unfold up_
    rw [if_neg (fun g => by simp at g), if_neg (by omega)]; exact h4 q hq
  · rw [gI_pI]; unfold up_
    rw [if_neg (fun g => by simp at g), if_neg (by omega)]; exact h5 q hq
  · rw [gI_pI]; unfold up_
    rw [if_neg (fun g => by simp at g), if_neg (by omega)]; exact h6 q hq
  · rw [gI_pI]; unfold up_
    rw [if_neg (fun g => by simp at g), if_neg (by omega)]; exact h7 q hq
  · rw [gI_pI]; unfold up_
    rw [if_neg (fun g => by simp at g), if_neg (by omega)]; exact h8
  · rw [gI_pI]; unfold up_
    rw [if_neg (fun g => by simp at g), if_neg (by omega)]; exact h9
theorem cv_hu {m : pm_M} {b : Nat} {r : R_T} {p : Nat} {v : Int32} (hp : p < 8) (h : cv_r m b r) : cv_r (pI_ m (100, 8, b + 5) p v) b (up_ r (32 + p) v) := by
  obtain ⟨h0, h1, h2, h3, h4, h5, h6, h7, h8, h9⟩ := h
  refine ⟨fun q hq => ?_, fun q hq => ?_, fun q hq => ?_, fun q hq => ?_, fun q hq => ?_, fun q hq => ?_, fun q hq => ?_, fun q hq => ?_, ?_, ?_⟩
  · rw [gI_pI]; unfold up_
    rw [if_neg (fun g => by simp at g), if_neg (by omega)]; exact h0 q hq
  · rw [gI_pI]; unfold up_
    rw [if_neg (fun g => by simp at g), if_neg (by omega)]; exact h1 q hq
  · rw [gI_pI]; unfold up_
    rw [if_neg (fun g => by simp at g), if_neg (by omega)]; exact h2 q hq
  · rw [gI_pI]; unfold up_
    rw [if_neg (fun g => by simp at g), if_neg (by omega)]; exact h3 q hq
  · rw [gI_pI]; unfold up_
    by_cases e : q = p
    · rw [if_pos ⟨rfl, e⟩, if_pos (by omega)]
    · rw [if_neg (fun g => e g.2), if_neg (by omega)]; exact h4 q hq
  · rw [gI_pI]; unfold up_
    rw [if_neg (fun g => by simp at g), if_neg (by omega)]; exact h5 q hq
  · rw [gI_pI]; unfold up_
    rw [if_neg (fun g => by simp at g), if_neg (by omega)]; exact h6 q hq
  · rw [gI_pI]; unfold up_
    rw [if_neg (fun g => by simp at g), if_neg (by omega)]; exact h7 q hq
  · rw [gI_pI]; unfold up_
    rw [if_neg (fun g => by simp at g), if_neg (by omega)]; exact h8
  · rw [gI_pI]; unfold up_
    rw [if_neg (fun g => by simp at g), if_neg (by omega)]; exact h9
theorem cv_lo {m : pm_M} {b : Nat} {r : R_T} {p : Nat} {v : Int32} (hp : p < 8) (h : cv_r m b r) : cv_r (pI_ m (102, 8, b + 8) p v) b (up_ r (40 + p) v) := by
  obtain ⟨h0, h1, h2, h3, h4, h5, h6, h7, h8, h9⟩ := h
  refine ⟨fun q hq => ?_, fun q hq => ?_, fun q hq => ?_, fun q hq => ?_, fun q hq => ?_, fun q hq => ?_, fun q hq => ?_, fun q hq => ?_, ?_, ?_⟩
  · rw [gI_pI]; unfold up_
    rw [if_neg (fun g => by simp at g), if_neg (by omega)]; exact h0 q hq
  · rw [gI_pI]; unfold up_
    rw [if_neg (fun g => by simp at g), if_neg (by omega)]; exact h1 q hq
  · rw [gI_pI]; unfold up_
    rw [if_neg (fun g => by simp at g), if_neg (by omega)]; exact h2 q hq
  · rw [gI_pI]; unfold up_
    rw [if_neg (fun g => by simp at g), if_neg (by omega)]; exact h3 q hq
  · rw [gI_pI]; unfold up_
    rw [if_neg (fun g => by simp at g), if_neg (by omega)]; exact h4 q hq
  · rw [gI_pI]; unfold up_
    by_cases e : q = p
    · rw [if_pos ⟨rfl, e⟩, if_pos (by omega)]
    · rw [if_neg (fun g => e g.2), if_neg (by omega)]; exact h5 q hq
  · rw [gI_pI]; unfold up_
    rw [if_neg (fun g => by simp at g), if_neg (by omega)]; exact h6 q hq
  · rw [gI_pI]; unfold up_
    rw [if_neg (fun g => by simp at g), if_neg (by omega)]; exact h7 q hq
  · rw [gI_pI]; unfold up_
    rw [if_neg (fun g => by simp at g), if_neg (by omega)]; exact h8
  · rw [gI_pI]; unfold up_
    rw [if_neg (fun g => by simp at g), if_neg (by omega)]; exact h9
theorem cv_pl {m : pm_M} {b : Nat} {r : R_T} {p : Nat} {v : Int32} (hp : p < 8) (h : cv_r m b r) : cv_r (pI_ m (100, 8, b + 6) p v) b (up_ r (48 + p) v) := by
  obtain ⟨h0, h1, h2, h3, h4, h5, h6, h7, h8, h9⟩ := h
  refine ⟨fun q hq => ?_, fun q hq => ?_, fun q hq => ?_, fun q hq => ?_, fun q hq => ?_, fun q hq => ?_, fun q hq => ?_, fun q hq => ?_, ?_, ?_⟩
  · rw [gI_pI]; unfold up_
    rw [if_neg (fun g => by simp at g), if_neg (by omega)]; exact h0 q hq
  · rw [gI_pI]; unfold up_
    rw [if_neg (fun g => by simp at g), if_neg (by omega)]; exact h1 q hq
  · rw [gI_pI]; unfold up_
    rw [if_neg (fun g => by simp at g), if_neg (by omega)]; exact h2 q hq
  · rw [gI_pI]; unfold up_
    rw [if_neg (fun g => by simp at g), if_neg (by omega)]; exact h3 q hq
  · rw [gI_pI]; unfold up_
    rw [if_neg (fun g => by simp at g), if_neg (by omega)]; exact h4 q hq
  · rw [gI_pI]; unfold up_
    rw [if_neg (fun g => by simp at g), if_neg (by omega)]; exact h5 q hq
  · rw [gI_pI]; unfold up_
    by_cases e : q = p
    · rw [if_pos ⟨rfl, e⟩, if_pos (by omega)]
    · rw [if_neg (fun g => e g.2), if_neg (by omega)]; exact h6 q hq
  · rw [gI_pI]; unfold up_
    rw [if_neg (fun g => by simp at g), if_neg (by omega)]; exact h7 q hq
  · rw [gI_pI]; unfold up_
    rw [if_neg (fun g => by simp at g), if_neg (by omega)]; exact h8
  · rw [gI_pI]; unfold up_
    rw [if_neg (fun g => by simp at g), if_neg (by omega)]; exact h9
theorem cv_co {m : pm_M} {b : Nat} {r : R_T} {p : Nat} {v : Int32} (hp : p < 8) (h : cv_r m b r) : cv_r (pI_ m (100, 8, b + 7) p v) b (up_ r (56 + p) v) := by
  obtain ⟨h0, h1, h2, h3, h4, h5, h6, h7, h8, h9⟩ := h
  refine ⟨fun q hq => ?_, fun q hq => ?_, fun q hq => ?_, fun q hq => ?_, fun q hq => ?_, fun q hq => ?_, fun q hq => ?_, fun q hq => ?_, ?_, ?_⟩
  · rw [gI_pI]; unfold up_
    rw [if_neg (fun g => by simp at g), if_neg (by omega)]; exact h0 q hq
  · rw [gI_pI]; unfold up_
    rw [if_neg (fun g => by simp at g), if_neg (by omega)]; exact h1 q hq
  · rw [gI_pI]; unfold up_
    rw [if_neg (fun g => by simp at g), if_neg (by omega)]; exact h2 q hq
  · rw [gI_pI]; unfold up_
    rw [if_neg (fun g => by simp at g), if_neg (by omega)]; exact h3 q hq
  · rw [gI_pI]; unfold up_
    rw [if_neg (fun g => by simp at g), if_neg (by omega)]; exact h4 q hq
  · rw [gI_pI]; unfold up_
    rw [if_neg (fun g => by simp at g), if_neg (by omega)]; exact h5 q hq
  · rw [gI_pI]; unfold up_
    rw [if_neg (fun g => by simp at g), if_neg (by omega)]; exact h6 q hq
  · rw [gI_pI]; unfold up_
    by_cases e : q = p
    · rw [if_pos ⟨rfl, e⟩, if_pos (by omega)]
    · rw [if_neg (fun g => e g.2), if_neg (by omega)]; exact h7 q hq
  · rw [gI_pI]; unfold up_
    rw [if_neg (fun g => by simp at g), if_neg (by omega)]; exact h8
  · rw [gI_pI]; unfold up_
    rw [if_neg (fun g => by simp at g), if_neg (by omega)]; exact h9
theorem cv_wk {m : pm_M} {b : Nat} {r : R_T} {v : Int32} (h : cv_r m b r) : cv_r (pI_ m (4, 0, b) 11 v) b (up_ r (64) v) := by
  obtain ⟨h0, h1, h2, h3, h4, h5, h6, h7, h8, h9⟩ := h
  refine ⟨fun q hq => ?_, fun q hq => ?_, fun q hq => ?_, fun q hq => ?_, fun q hq => ?_, fun q hq => ?_, fun q hq => ?_, fun q hq => ?_, ?_, ?_⟩
  · rw [gI_pI]; unfold up_
    rw [if_neg (fun g => by simp at g), if_neg (by omega)]; exact h0 q hq
  · rw [gI_pI]; unfold up_
    rw [if_neg (fun g => by simp at g), if_neg (by omega)]; exact h1 q hq
  · rw [gI_pI]; unfold up_
    rw [if_neg (fun g => by simp at g), if_neg (by omega)]; exact h2 q hq
  · rw [gI_pI]; unfold up_
    rw [if_neg (fun g => by simp at g), if_neg (by omega)]; exact h3 q hq
  · rw [gI_pI]; unfold up_
    rw [if_neg (fun g => by simp at g), if_neg (by omega)]; exact h4 q hq
  · rw [gI_pI]; unfold up_
    rw [if_neg (fun g => by simp at g), if_neg (by omega)]; exact h5 q hq
  · rw [gI_pI]; unfold up_
    rw [if_neg (fun g => by simp at g), if_neg (by omega)]; exact h6 q hq
  · rw [gI_pI]; unfold up_
    rw [if_neg (fun g => by simp at g), if_neg (by omega)]; exact h7 q hq
  · rw [gI_pI]; unfold up_
    rw [if_pos ⟨rfl, rfl⟩, if_pos rfl]
  · rw [gI_pI]; unfold up_
    rw [if_neg (fun g => by simp at g), if_neg (by omega)]; exact h9
theorem cv_st {m : pm_M} {b : Nat} {r : R_T} {v : Int32} (h : cv_r m b r) : cv_r (pI_ m (4, 0, b) 12 v) b (up_ r (65) v) := by
  obtain ⟨h0, h1, h2, h3, h4, h5, h6, h7, h8, h9⟩ := h
  refine ⟨fun q hq => ?_, fun q hq => ?_, fun q hq => ?_, fun q hq => ?_, fun q hq => ?_, fun q hq => ?_, fun q hq => ?_, fun q hq => ?_, ?_, ?_⟩
  · rw [gI_pI]; unfold up_
    rw [if_neg (fun g => by simp at g), if_neg (by omega)]; exact h0 q hq
  · rw [gI_pI]; unfold up_
    rw [if_neg (fun g => by simp at g), if_neg (by omega)]; exact h1 q hq
  · rw [gI_pI]; unfold up_
    rw [if_neg (fun g => by simp at g), if_neg (by omega)]; exact h2 q hq
  · rw [gI_pI]; unfold up_
    rw [if_neg (fun g => by simp at g), if_neg (by omega)]; exact h3 q hq
  · rw [gI_pI]; unfold up_
    rw [if_neg (fun g => by simp at g), if_neg (by omega)]; exact h4 q hq
  · rw [gI_pI]; unfold up_
    rw [if_neg (fun g => by simp at g), if_neg (by omega)]; exact h5 q hq
  · rw [gI_pI]; unfold up_
    rw [if_neg (fun g => by simp at g), if_neg (by omega)]; exact h6 q hq
  · rw [gI_pI]; unfold up_
    rw [if_neg (fun g => by simp at g), if_neg (by omega)]; exact h7 q hq
  · rw [gI_pI]; unfold up_
    rw [if_neg (fun g => by simp at g), if_neg (by omega)]; exact h8
  · rw [gI_pI]; unfold up_
    rw [if_pos ⟨rfl, rfl⟩, if_pos rfl]
theorem cv_ct {m : pm_M} {b : Nat} {r : R_T} {v : Int32} (h : cv_r m b r) : cv_r (pI_ m (4, 0, b) 13 v) b r := by
  have e : ∀ n k i j, (n, k, i) ≠ ((4, 0, b) : pm_A) ∨ j ≠ 13 → gI_ (pI_ m (4, 0, b) 13 v) (n, k, i) j = gI_ m (n, k, i) j := fun n k i j g => by
    rw [gI_pI, if_neg (fun q => by rcases g with g | g; exact g q.1; exact g q.2)]
  obtain ⟨h0, h1, h2, h3, h4, h5, h6, h7, h8, h9⟩ := h
  refine ⟨fun q hq => ?_, fun q hq => ?_, fun q hq => ?_, fun q hq => ?_, fun q hq => ?_, fun q hq => ?_, fun q hq => ?_, fun q hq => ?_, ?_, ?_⟩
  · rw [e _ _ _ _ (Or.inl (by simp))]; exact h0 q hq
  · rw [e _ _ _ _ (Or.inl (by simp))]; exact h1 q hq
  · rw [e _ _ _ _ (Or.inl (by simp))]; exact h2 q hq
  · rw [e _ _ _ _ (Or.inl (by simp))]; exact h3 q hq
  · rw [e _ _ _ _ (Or.inl (by simp))]; exact h4 q hq
  · rw [e _ _ _ _ (Or.inl (by simp))]; exact h5 q hq
  · rw [e _ _ _ _ (Or.inl (by simp))]; exact h6 q hq
  · rw [e _ _ _ _ (Or.inl (by simp))]; exact h7 q hq
  · rw [e _ _ _ _ (Or.inr (by omega))]; exact h8
  · rw [e _ _ _ _ (Or.inr (by omega))]; exact h9
