/-! WEEKS AHEAD -/
set_option maxRecDepth 100000
theorem c_goesOn {F b ρ ci N : Nat} {m : pm_M} {w : W_T} {r : R_T} (hF : 700 < F) (hN : N ≤ 600) (h : cs_ m b ρ w r ci) : ∃ m', f_X4_goesOn F (4, 0, b) (ni_ N) m = some (some (4, 0, b), m') ∧ fi_ (so_ b) m m' ∧ cs_ m' b ρ w (pas_ w ci r N) ci := by
  refine upto_ (S := N) (P := fun n i => ∀ m, cs_ m b ρ w (pas_ w ci r i) ci → ∃ m', f_X4_goesOn_L2 F (4, 0, b) (ni_ N) n (ni_ i) m = some (some (4, 0, b), m') ∧ fi_ (so_ b) m m' ∧ cs_ m' b ρ w (pas_ w ci r N) ci) (fun n m h => ?_) (fun n i hi ih m h => ?_) F 0 (by omega) (by omega) m h
  · refine ⟨m, ?_, fi_r, h⟩
    rw [f_X4_goesOn_L2, if_pos (Int32.le_refl _)]
  · obtain ⟨m1, e1, e2, e3⟩ := c_passes (F := F) (by omega) h
    rw [f_X4_goesOn_L2, if_neg (fun q => absurd ((ni_li (by omega) (by omega)).mp q) (by omega)), e1, bm_e, ni_s]
    obtain ⟨m', a1, a2, a3⟩ := ih m1 e3
    exact ⟨m', a1, fi_t e2 a2, a3⟩
def su9_ (f : Nat → Int32) : Nat → Int32
  | 0 => 0
  | n + 1 => su9_ f n + f n
theorem c_sum {F x : Nat} {m : pm_M} {f : Nat → Int32} (hF : 20 < F) (hf : ∀ p, p < 8 → gI_ m (100, 8, x) p = f p) : f_X4_sum F (some (100, 8, x)) m = some (su9_ f 8, m) := by
  refine upto_ (S := 8) (P := fun n i => f_X4_sum_L4 F (some (100, 8, x)) n (su9_ f i) (ni_ i) m = some (su9_ f 8, m)) (fun n => ?_) (fun n i hi ih => ?_) F 0 (by omega) (by omega)
  · rw [f_X4_sum_L4, if_pos (by decide)]
  · rw [f_X4_sum_L4, show (8 : Int32) = ni_ 8 from rfl, if_neg (fun q => absurd ((ni_li (by omega) (by omega)).mp q) (by omega)), gd_t, ib_n (n := 8) hi (by omega), iz_n, ni_c (by omega), hf i hi, ni_s]
    exact ih
theorem m_givesFor {F p k ci : Nat} {m : pm_M} {w : W_T} {r : R_T} {hu sv : Int32} (hF : 200 < F) (h : ms_ m w r 0 hu sv) (hp : p < wS_ w) (hk : k < wT_ w) : ∃ m', f_X8_givesFor F yA_ (ni_ k) (ni_ p) m = some (gv9_ w r k p, m') ∧ fi_ sa_ m m' := by
  have h8 := h.2.1.1.1
  have h5 := h.2.1.1.2
  have x31 : 3 * ni_ k + 1 = ni_ (3 * k + 1) := by rw [show (3 : Int32) = ni_ 3 from rfl, ni_m]; exact ni_s
  have x30 : 3 * ni_ k = ni_ (3 * k) := ni_m (a := 3)
  have x41 : 4 * ni_ p + 1 = ni_ (4 * p + 1) := nx4 (c := 1)
  obtain ⟨m1, a1, a2⟩ := m_owesOf hF h hp
  have h1 := ms_sa h a2
  refine ⟨m1, ?_, a2⟩
  unfold f_X8_givesFor gv9_
  simp only [x31, x30, x41, ni_s, show gR_ m yA_ 13 = some (100, 15, 1280) from h.1 13 (by omega), show gR_ m1 yA_ 13 = some (100, 15, 1280) from h1.1 13 (by omega), show gR_ m1 yA_ 12 = some (100, 32, 1279) from h1.1 12 (by omega), gd_t, ib_n (n := 15) (show 3 * k + 1 < 15 by omega) (by omega), ib_n (n := 15) (show 3 * k < 15 by omega) (by omega), ib_n (n := 32) (show 4 * p + 1 < 32 by omega) (by omega), iz_n, a1, bm_e, ni_c (show 3 * k + 1 < 2147483648 by omega), ni_c (show 3 * k < 2147483648 by omega), ni_c (show 4 * p + 1 < 2147483648 by omega), h.2.1.2.2.2.2.2.1 (3 * k + 1) (by omega), h1.2.1.2.2.2.2.2.1 (3 * k) (by omega), h1.2.1.2.2.2.2.1 (4 * p + 1) (by omega)]
  split <;> rfl
