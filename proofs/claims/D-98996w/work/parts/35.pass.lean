/-! THE COMPONENT'S STATE: a week goes by -/
set_option maxRecDepth 100000
def so_ (b : Nat) : Nat → Nat → Prop := fun q _ => b ≤ q ∧ q < b + 10
def cs_ (m : pm_M) (b ρ : Nat) (w : W_T) (r : R_T) (ci : Nat) : Prop := sst_ m b ρ ∧ rvw_ m ρ w ∧ lvw_ m w ∧ cv_r m b r ∧ rI_ w r ∧ ci < 2 ∧ gI_ m (4, 0, b) 13 = ni_ ci ∧ (ρ + 8 ≤ b ∨ b + 10 ≤ ρ) ∧ b + 10 ≤ 1305
theorem cs_w {m m' : pm_M} {b ρ ci : Nat} {w : W_T} {r r' : R_T} (h : cs_ m b ρ w r ci) (hf : fi_ (so_ b) m m') (hv : cv_r m' b r') (hI : rI_ w r') (hc : gI_ m' (4, 0, b) 13 = gI_ m (4, 0, b) 13) : cs_ m' b ρ w r' ci := by
  obtain ⟨h1, h2, h3, h4, h5, h6, h7, h8, h9⟩ := h
  refine ⟨sst_fi hf h1, rvw_fi hf (fun q k g => ?_) h2, lvw_fi hf (fun q k g => ?_) h3, hv, hI, h6, hc.trans h7, h8, h9⟩
  · have g : b ≤ q ∧ q < b + 10 := g
    omega
  · have g : b ≤ q ∧ q < b + 10 := g
    omega
theorem cs_5 {m m' : pm_M} {b ρ ci : Nat} {w : W_T} {r : R_T} (h : cs_ m b ρ w r ci) (hf : f5_ m m') : cs_ m' b ρ w r ci := by
  obtain ⟨h1, h2, h3, h4, h5, h6, h7, h8, h9⟩ := h
  exact ⟨sst_5 hf h1, rvw_5 hf h2, lvw_5 hf h3, cv_5 hf h4, h5, h6, by rw [hf.2 (4, 0, b) (by show 4 ≠ 5; decide)]; exact h7, h8, h9⟩
theorem so_9 {m m' : pm_M} {b : Nat} (h : fi_ (fun q _ => q = b + 9) m m') : fi_ (so_ b) m m' := fi_w h (fun q k g => by show b ≤ q ∧ q < b + 10; omega)
theorem c_asks {F b ρ ci p i : Nat} {m : pm_M} {w : W_T} {r : R_T} (hF : 20 < F) (h : cs_ m b ρ w r ci) (hp : p < wS_ w) (hi : i < 2) : ∃ m', f_X4_asks F (4, 0, b) (ni_ p) (ni_ i) m = some (ab_ w r p i, m') ∧ f5_ m m' ∧ fi_ (so_ b) m m' := by
  obtain ⟨hs, hr, hl, hv, hI, -⟩ := id h
  have h8 := hr.2.1.1
  obtain ⟨m', e1, e2, e3⟩ := c_asksBy (y := wg_ w (4 * p)) (a := r (24 + p)) hF hs hr hl hv hI hp hi
  refine ⟨m', ?_, e2, so_9 e3⟩
  unfold f_X4_asks
  rw [hs.2, gd_t, hr.1.1, gd_t, ib_n (n := 8) (by omega) (by omega), iz_n, hs.1.2.2.2.1, gd_t, ib_n (n := 8) (by omega) (by omega), iz_n, ni_c (by omega), hr.2.2.2.2.2.1 p hp, hv.2.2.2.1 p (by omega), e1, bm_e]
  rfl
theorem c_owesBy {F b ρ ci p i : Nat} {m : pm_M} {w : W_T} {r : R_T} (hF : 20 < F) (h : cs_ m b ρ w r ci) (hp : p < wS_ w) (hi : i < 2) : ∃ m', f_X4_owesBy F (4, 0, b) (ni_ p) (ni_ i) m = some (ow_ w r p i, m') ∧ f5_ m m' ∧ fi_ (so_ b) m m' := by
  obtain ⟨hs, hr, hl, hv, hI, -⟩ := id h
  have h8 := hr.2.1.1
  unfold f_X4_owesBy ow_
  rw [hs.1.1, gd_t, ib_n (n := 8) (by omega) (by omega), iz_n, ni_c (by omega), hv.1 p (by omega)]
  by_cases g : r p = 3
  · rw [if_pos g, if_pos g]
    exact ⟨m, rfl, f5_r, fi_r⟩
  · rw [if_neg g, if_neg g]
    obtain ⟨m', e1, e2, e3⟩ := c_asks hF h hp hi
    refine ⟨m', ?_, e2, e3⟩
    rw [e1, bm_e, f5_R e2, hs.1.2.2.1, gd_t, ib_n (n := 8) (by omega) (by omega), iz_n, (cv_5 e2 hv).2.2.1 p (by omega), c_max, bm_e]
theorem c_isBound {F b ρ ci p : Nat} {m : pm_M} {w : W_T} {r : R_T} (h : cs_ m b ρ w r ci) (hp : p < 8) : f_X4_isBound F (4, 0, b) (ni_ p) m = some (if r p = 2 then 1 else 0, m) := by
  unfold f_X4_isBound
  rw [h.1.1.1, gd_t, ib_n (n := 8) (by omega) (by omega), iz_n, ni_c (by omega), h.2.2.2.1.1 p hp]
  split <;> rfl
theorem c_frees {F b ρ ci p : Nat} {m : pm_M} {w : W_T} {r : R_T} (h : cs_ m b ρ w r ci) (hp : p < 8) : f_X4_frees F (4, 0, b) (ni_ p) m = some ((), pI_ (pI_ m (100, 8, b + 1) p 3) (100, 8, b + 2) p (-1)) := by
  unfold f_X4_frees
  rw [h.1.1.1, gd_t, ib_n (n := 8) (by omega) (by omega), iz_n, ni_c (by omega), lt_e, gR_pI, h.1.1.2.1, gd_t, ib_n (n := 8) (by omega) (by omega), iz_n, lt_e]
theorem rI_fr {w : W_T} {r : R_T} {p : Nat} (hp : p < 8) (h : rI_ w r) : rI_ w (fr_ r p) := by
  obtain ⟨h1, h2, h3⟩ := h
  unfold fr_
  refine ⟨fun q hq => ?_, fun q hq => ?_, ?_⟩
  · rw [up_n (by omega), up_n (by omega)]; exact h1 q hq
  · by_cases e : q = p
    · subst e
      refine Or.inr ⟨?_, up_s⟩
      rw [up_n (by omega), up_s]
      decide
    · rw [up_n (by omega), up_n e, up_n (by omega), up_n (by omega)]; exact h2 q hq
  · rw [up_n (by omega), up_n (by omega)]; exact h3
theorem cs_fr {b ρ ci p : Nat} {m : pm_M} {w : W_T} {r : R_T} (h : cs_ m b ρ w r ci) (hp : p < 8) : cs_ (pI_ (pI_ m (100, 8, b + 1) p 3) (100, 8, b + 2) p (-1)) b ρ w (fr_ r p) ci ∧ fi_ (so_ b) m (pI_ (pI_ m (100, 8, b + 1) p 3) (100, 8, b + 2) p (-1)) := by
  have f : fi_ (so_ b) m (pI_ (pI_ m (100, 8, b + 1) p 3) (100, 8, b + 2) p (-1)) := fi_p2 (fi_p2 fi_r ⟨by show b ≤ b + 1; omega, by show b + 1 < b + 10; omega⟩) ⟨by show b ≤ b + 2; omega, by show b + 2 < b + 10; omega⟩
  refine ⟨cs_w h f (cv_tk hp (cv_wh hp h.2.2.2.1)) (rI_fr hp h.2.2.2.2.1) ?_, f⟩
  rw [gI_pI, if_neg (fun g => by simp at g), gI_pI, if_neg (fun g => by simp at g)]
theorem c_p2 {F b ρ ci : Nat} {w : W_T} {r : R_T} (hF : 20 < F) {m : pm_M} (h : cs_ m b ρ w r ci) : ∃ m', f_X4_passes_L94 F (4, 0, b) F 0 m = some ((), m') ∧ fi_ (so_ b) m m' ∧ cs_ m' b ρ w (p2s_ w ci r (wS_ w)) ci := by
  have h8 := h.2.1.2.1.1
  have key := upto_ (S := wS_ w) (P := fun n i => ∀ m, cs_ m b ρ w (p2s_ w ci r i) ci → ∃ m', f_X4_passes_L94 F (4, 0, b) n (ni_ i) m = some ((), m') ∧ fi_ (so_ b) m m' ∧ cs_ m' b ρ w (p2s_ w ci r (wS_ w)) ci) (fun n m h => ?_) (fun n i hi ih m h => ?_) F 0 (by omega) (by omega)
  · exact key m h
  · refine ⟨m, ?_, fi_r, h⟩
    rw [f_X4_passes_L94, h.1.2, gd_t, h.2.1.2.2.1, if_pos (Int32.le_refl _)]
  · rw [f_X4_passes_L94, h.1.2, gd_t, h.2.1.2.2.1, if_neg (fun q => absurd ((ni_li (by omega) (by omega)).mp q) (by omega)), c_isBound h (by omega), bm_e, ni_s]
    rw [p2s_] at ih
    unfold p2_ at ih
    by_cases g : p2s_ w ci r i i = 2
    · rw [if_pos g] at ih
      rw [if_pos g, if_neg (by decide), h.2.2.2.2.2.2.1]
      obtain ⟨m1, e1, e2, e3⟩ := c_owesBy hF h hi h.2.2.2.2.2.1
      rw [e1, bm_e]
      by_cases g2 : ow_ w (p2s_ w ci r i) i ci = 0
      · rw [if_pos g2] at ih ⊢
        have h1 := cs_5 h e2
        obtain ⟨h2, f2⟩ := cs_fr h1 (p := i) (by omega)
        rw [c_frees h1 (by omega), bm_e]
        obtain ⟨m', a1, a2, a3⟩ := ih _ h2
        exact ⟨m', a1, fi_t (fi_t e3 f2) a2, a3⟩
      · rw [if_neg g2] at ih ⊢
        obtain ⟨m', a1, a2, a3⟩ := ih _ (cs_5 h e2)
        exact ⟨m', a1, fi_t e3 a2, a3⟩
    · rw [if_neg g] at ih
      rw [if_neg g, if_pos rfl]
      exact ih m h
