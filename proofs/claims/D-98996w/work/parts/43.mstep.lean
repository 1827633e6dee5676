/-! WORK'S STEPS: the model -/
set_option maxRecDepth 100000
theorem ms_38 {m : pm_M} {w : W_T} {r : R_T} {ci : Nat} {hu sv : Int32} (h : ms_ m w r ci hu sv) : gR_ m yA_ 38 = some (100, 66, 1291) := h.1 38 (by omega)
theorem ms_up {m : pm_M} {w : W_T} {r : R_T} {ci k : Nat} {hu sv v : Int32} (h : ms_ m w r ci hu sv) (hI : rI_ w (up_ r k v)) : ms_ (pI_ m (100, 66, 1291) k v) w (up_ r k v) ci hu sv ∧ fi_ sm_ m (pI_ m (100, 66, 1291) k v) := by
  have f : fi_ sm_ m (pI_ m (100, 66, 1291) k v) := fi_p2 fi_r sm_s
  exact ⟨ms_w h f (mv_up h.2.2.1) hI (by rw [gI_d (by intro q; cases q)]; exact h.2.2.2.2.2.2.1) (by rw [gI_d (by intro q; cases q)]; exact h.2.2.2.2.2.2.2), f⟩
theorem m_many {F ci : Nat} {m : pm_M} {w : W_T} {r : R_T} {hu sv v : Int32} (hF : 20 < F) (h : ms_ m w r ci hu sv) : f_X8_many F yA_ v m = some (my_ w r v, m) := by
  have h8 := h.2.1.1.1
  refine upto_ (S := wS_ w) (P := fun n i => f_X8_many_L4 F yA_ v n (cM_ (fun p => decide (r p = v)) i) (ni_ i) m = some (my_ w r v, m)) (fun n => ?_) (fun n i hi ih => ?_) F 0 (by omega) (by omega)
  · rw [f_X8_many_L4, h.2.1.2.1, if_pos (Int32.le_refl _)]
    rfl
  · rw [f_X8_many_L4, h.2.1.2.1, if_neg (fun q => absurd ((ni_li (by omega) (by omega)).mp q) (by omega)), ms_38 h, gd_t, Int32.zero_add, ib_n (n := 66) (by omega) (by omega), iz_n, ni_c (by omega), h.2.2.1 i (by omega), ni_s, Int32.add_zero]
    rw [cM_] at ih
    by_cases e : r i = v
    · rw [if_pos (decide_eq_true e)] at ih; rw [if_pos e]; exact ih
    · rw [if_neg (fun q => e (of_decide_eq_true q))] at ih; rw [if_neg e]; exact ih
theorem m_boundTo {F ci k : Nat} {m : pm_M} {w : W_T} {r : R_T} {hu sv : Int32} (hF : 20 < F) (h : ms_ m w r ci hu sv) (hk : k < 5) : f_X8_boundTo F yA_ (ni_ k) m = some (bt9_ w r k, m) := by
  have h8 := h.2.1.1.1
  refine upto_ (S := wS_ w) (P := fun n i => f_X8_boundTo_L4 F yA_ (ni_ k) n (cM_ (fun p => decide (r (8 + p) = ni_ k)) i) (ni_ i) m = some (bt9_ w r k, m)) (fun n => ?_) (fun n i hi ih => ?_) F 0 (by omega) (by omega)
  · rw [f_X8_boundTo_L4, h.2.1.2.1, if_pos (Int32.le_refl _)]
    rfl
  · have x8 : 8 + ni_ i = ni_ (8 + i) := nx_ (c := 8)
    rw [f_X8_boundTo_L4, h.2.1.2.1, if_neg (fun q => absurd ((ni_li (by omega) (by omega)).mp q) (by omega)), ms_38 h, gd_t, Int32.zero_add, ib_n (n := 66) (by omega) (by omega), iz_n, ni_c (by omega), h.2.2.1 i (by omega), ni_s, Int32.add_zero, gd_t, x8, ib_n (n := 66) (by omega) (by omega), iz_n, ni_c (by omega), h.2.2.1 (8 + i) (by omega)]
    rw [cM_] at ih
    rcases h.2.2.2.1.2.1 i (by omega) with ⟨e, -⟩ | ⟨e, e8⟩
    · rw [if_pos e]
      by_cases e2 : r (8 + i) = ni_ k
      · rw [if_pos (decide_eq_true e2)] at ih; rw [if_pos e2]; exact ih
      · rw [if_neg (fun q => e2 (of_decide_eq_true q))] at ih; rw [if_neg e2]; exact ih
    · have e3 : ¬ r (8 + i) = ni_ k := fun q => by
        rw [e8] at q
        have := congrArg Int32.toInt q
        rw [i3_n, ni_i (by omega)] at this
        omega
      rw [if_neg (fun q => e3 (of_decide_eq_true q))] at ih
      rw [if_neg e]
      exact ih
theorem m_lands {F ci : Nat} {m : pm_M} {w : W_T} {r : R_T} {hu sv : Int32} (hF : 20 < F) (h : ms_ m w r ci hu sv) : ∃ m', f_X8_lands F yA_ m = some ((lnd_ w r).1, m') ∧ fi_ sm_ m m' ∧ ms_ m' w (lnd_ w r).2 ci hu sv := by
  have h8 := h.2.1.1.1
  unfold f_X8_lands lnd_
  rw [m_many hF h, bm_e]
  by_cases e0 : my_ w r 0 = 0
  · rw [if_pos e0, if_pos e0]
    refine ⟨m, ?_, fi_r, ?_⟩
    · split <;> rfl
    · split <;> exact h
  · rw [if_neg e0, if_neg e0, ms_38 h, gd_t, show ib_ 64 66 = true from rfl, iz_n, show (64 : Int32).toNatClampNeg = 64 from rfl, h.2.1.2.2.2.1, h.2.2.1 64 (by omega)]
    by_cases e : r 64 < wv_ w
    · rw [if_neg (Int32.not_le.mpr e), if_pos e]
      exact ⟨m, rfl, fi_r, h⟩
    · rw [if_pos (Int32.not_lt.mp e), if_neg e]
      refine upto_ (S := wS_ w) (P := fun n i => ∀ m, ms_ m w (lds_ r i) ci hu sv → ∃ m', f_X8_lands_L26 F yA_ n (ni_ i) m = some (1, m') ∧ fi_ sm_ m m' ∧ ms_ m' w (lds_ r (wS_ w)) ci hu sv) (fun n m h => ?_) (fun n i hi ih m h => ?_) F 0 (by omega) (by omega) m h
      · refine ⟨m, ?_, fi_r, h⟩
        rw [f_X8_lands_L26, h.2.1.2.1, if_pos (Int32.le_refl _)]
      · rw [f_X8_lands_L26, h.2.1.2.1, if_neg (fun q => absurd ((ni_li (by omega) (by omega)).mp q) (by omega)), ms_38 h, gd_t, Int32.zero_add, ib_n (n := 66) (by omega) (by omega), iz_n, ni_c (by omega), h.2.2.1 i (by omega), ni_s]
        rw [lds_] at ih
        by_cases g : lds_ r i i = 0
        · rw [if_pos g] at ih
          rw [if_pos g, gd_t, ib_n (n := 66) (by omega) (by omega), iz_n, lt_e]
          obtain ⟨h1, f⟩ := ms_up h (rI_ld (by omega) h.2.2.2.1 g)
          obtain ⟨m', a1, a2, a3⟩ := ih _ h1
          exact ⟨m', a1, fi_t f a2, a3⟩
        · rw [if_neg g] at ih
          rw [if_neg g]
          exact ih m h
theorem m_places {F ci p k : Nat} {m : pm_M} {w : W_T} {r : R_T} {hu sv : Int32} (hF : 20 < F) (h : ms_ m w r ci hu sv) (hp : p < wS_ w) (hk : k < wT_ w) : ∃ m', f_X8_places F yA_ (ni_ p) (ni_ k) m = some ((plc_ w r p k).1, m') ∧ fi_ sm_ m m' ∧ ms_ m' w (plc_ w r p k).2 ci hu sv := by
  have h8 := h.2.1.1.1
  have h5 := h.2.1.1.2
  have x8 : 8 + ni_ p = ni_ (8 + p) := nx_ (c := 8)
  have x16 : 16 + ni_ p = ni_ (16 + p) := nx_ (c := 16)
  have x48 : 48 + ni_ p = ni_ (48 + p) := nx_ (c := 48)
  have x3 : 3 * ni_ k + 2 = ni_ (3 * k + 2) := by rw [show (3 : Int32) = ni_ 3 from rfl, ni_m, show (2 : Int32) = ni_ 2 from rfl, ni_a]
  have k38 := ms_38 h
  have hv := h.2.2.1
  have hib : ∀ j, j < 66 → ib_ (ni_ j) 66 = true := fun j hj => ib_n hj (by omega)
  unfold f_X8_places plc_
  rw [k38, gd_t, Int32.zero_add, hib p (by omega), iz_n, ni_c (by omega), hv p (by omega)]
  by_cases e : r p = 1
  · rw [if_pos e, if_pos e, m_boundTo hF h (by omega), bm_e, show gR_ m yA_ 13 = some (100, 15, 1280) from h.1 13 (by omega), gd_t, x3, ib_n (n := 15) (by omega) (by omega), iz_n, ni_c (by omega), h.2.1.2.2.2.2.2.1 (3 * k + 2) (by omega)]
    by_cases e2 : bt9_ w r k < wt_ w (3 * k + 2)
    · rw [if_pos e2, if_pos e2, k38, gd_t, hib p (by omega), iz_n, lt_e, gR_pI, k38, gd_t, x8, hib (8 + p) (by omega), iz_n, lt_e, gR_pI, gR_pI, k38, gd_t, x16, hib (16 + p) (by omega), iz_n, lt_e, gR_pI, gR_pI, gR_pI, k38, gd_t, show ib_ 64 66 = true from rfl, iz_n, x48, hib (48 + p) (by omega), iz_n, lt_e, show (64 : Int32).toNatClampNeg = 64 from rfl, ni_c (show 8 + p < 2147483648 by omega), ni_c (show 16 + p < 2147483648 by omega), ni_c (show 48 + p < 2147483648 by omega), gI_k (by omega), gI_k (by omega), gI_k (by omega), hv 64 (by omega)]
      have f : fi_ sm_ m (pI_ (pI_ (pI_ (pI_ m (100, 66, 1291) p 2) (100, 66, 1291) (8 + p) (ni_ k)) (100, 66, 1291) (16 + p) 0) (100, 66, 1291) (48 + p) (r 64)) := fi_p2 (fi_p2 (fi_p2 (fi_p2 fi_r sm_s) sm_s) sm_s) sm_s
      exact ⟨_, rfl, f, ms_w h f (mv_up (mv_up (mv_up (mv_up hv)))) (rI_pl (by omega) hk h.2.2.2.1) (by rw [gI_d (by intro q; cases q), gI_d (by intro q; cases q), gI_d (by intro q; cases q), gI_d (by intro q; cases q)]; exact h.2.2.2.2.2.2.1) (by rw [gI_d (by intro q; cases q), gI_d (by intro q; cases q), gI_d (by intro q; cases q), gI_d (by intro q; cases q)]; exact h.2.2.2.2.2.2.2)⟩
    · rw [if_neg e2, if_neg e2]
      exact ⟨m, rfl, fi_r, h⟩
  · rw [if_neg e, if_neg e]
    exact ⟨m, rfl, fi_r, h⟩
theorem m_loses {F ci p : Nat} {m : pm_M} {w : W_T} {r : R_T} {hu sv v : Int32} (h : ms_ m w r ci hu sv) (hp : p < wS_ w) (hz : v = 0 ∨ v = 1) : ∃ m', f_X8_loses F yA_ (ni_ p) v m = some ((los_ r p v).1, m') ∧ fi_ sm_ m m' ∧ ms_ m' w (los_ r p v).2 ci hu sv := by
  have h8 := h.2.1.1.1
  have x40 : 40 + ni_ p = ni_ (40 + p) := nx_ (c := 40)
  have k38 := ms_38 h
  have hv := h.2.2.1
  have hib : ∀ j, j < 66 → ib_ (ni_ j) 66 = true := fun j hj => ib_n hj (by omega)
  unfold f_X8_loses los_
  rw [k38, gd_t, Int32.zero_add, hib p (by omega), iz_n, ni_c (by omega), hv p (by omega)]
  by_cases e : r p = 3
  · rw [if_pos e, if_pos e]
    exact ⟨m, rfl, fi_r, h⟩
  · rw [if_neg e, if_neg e, gd_t, x40, hib (40 + p) (by omega), iz_n, ni_c (by omega), hv (40 + p) (by omega)]
    by_cases e2 : r (40 + p) = v
    · rw [if_pos e2, if_pos e2]
      exact ⟨m, rfl, fi_r, h⟩
    · rw [if_neg e2, if_neg e2, gd_t, hib (40 + p) (by omega), iz_n, lt_e]
      obtain ⟨h1, f⟩ := ms_up h (rI_lo (p := p) (by omega) hz h.2.2.2.1)
      exact ⟨_, rfl, f, h1⟩
theorem m_canPay {F p : Nat} {m : pm_M} {w : W_T} {r : R_T} {hu sv : Int32} (hF : 200 < F) (h : ms_ m w r 0 hu sv) (hp : p < wS_ w) : ∃ m', f_X8_canPayNow F yA_ (ni_ p) m = some (mp_ w r p, m') ∧ fi_ sa_ m m' := by
  have h8 := h.2.1.1.1
  have x56 : 56 + ni_ p = ni_ (56 + p) := nx_ (c := 56)
  have k38 := ms_38 h
  have hv := h.2.2.1
  have hib : ∀ j, j < 66 → ib_ (ni_ j) 66 = true := fun j hj => ib_n hj (by omega)
  have fin : ∃ m', (gd_ 100 (gR_ m yA_ 38) fun a7 => iz_ (!(ib_ (ni_ (56 + p)) a7.2.1)) <| bm_ (f_X8_owesOf F yA_ (ni_ p) m) fun v13 m11 => if (gI_ m a7 (56 + p)) < (v13 / 4) then some ((0 : Int32), m11) else some (1, m11)) = some (if r (56 + p) < ow_ w r p 0 / 4 then 0 else 1, m') ∧ fi_ sa_ m m' := by
    obtain ⟨m', a1, a2⟩ := m_owesOf hF h hp
    refine ⟨m', ?_, a2⟩
    rw [k38, gd_t, hib (56 + p) (by omega), iz_n, a1, bm_e, hv (56 + p) (by omega)]
    split <;> rfl
  unfold f_X8_canPayNow mp_
  rw [k38, gd_t, Int32.zero_add, x56, hib p (by omega), iz_n, jn_e, ni_c (show p < 2147483648 by omega), ni_c (show 56 + p < 2147483648 by omega), hv p (by omega)]
  by_cases e : r p = 1
  · rw [if_pos e, if_pos (Or.inl e)]
    exact fin
  · rw [if_neg e, gd_t, hib p (by omega), iz_n, hv p (by omega)]
    by_cases e2 : r p = 2
    · rw [if_pos e2, if_pos (Or.inr e2)]
      exact fin
    · rw [if_neg e2, if_neg (fun q => q.elim e e2)]
      exact ⟨m, rfl, fi_r⟩
