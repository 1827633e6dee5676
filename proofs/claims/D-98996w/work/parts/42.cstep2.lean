/-! WORK'S STEPS: the component, the rest -/
set_option maxRecDepth 100000
theorem rI_k {w : W_T} {r : R_T} {k : Nat} {v : Int32} (hk : (16 ≤ k ∧ k < 40) ∨ (48 ≤ k ∧ k < 65)) (h : rI_ w r) : rI_ w (up_ r k v) := by
  obtain ⟨h1, h2, h3⟩ := h
  refine ⟨fun q hq => ?_, fun q hq => ?_, ?_⟩
  · rw [up_n (by omega)]; exact h1 q hq
  · rw [up_n (by omega), up_n (by omega)]; exact h2 q hq
  · rw [up_n (by omega)]; exact h3
theorem rI_lo {w : W_T} {r : R_T} {p : Nat} {v : Int32} (hp : p < 8) (hv : v = 0 ∨ v = 1) (h : rI_ w r) : rI_ w (up_ r (40 + p) v) := by
  obtain ⟨h1, h2, h3⟩ := h
  refine ⟨fun q hq => ?_, fun q hq => ?_, ?_⟩
  · by_cases e : q = p
    · subst e; rw [up_s]; exact hv
    · rw [up_n (by omega)]; exact h1 q hq
  · rw [up_n (by omega), up_n (by omega)]; exact h2 q hq
  · rw [up_n (by omega)]; exact h3
theorem c_adds {F b ρ ci p : Nat} {m : pm_M} {w : W_T} {r : R_T} {n : Int32} (h : cs_ m b ρ w r ci) (hp : p < wS_ w) : ∃ m', f_X4_adds F (4, 0, b) (ni_ p) n m = some ((add_ r p n).1, m') ∧ fi_ (so_ b) m m' ∧ cs_ m' b ρ w (add_ r p n).2 ci := by
  have h8 := h.2.1.2.1.1
  obtain ⟨⟨⟨s0, s1, s2, s3, s4, s5, s6, s7, s8, s9⟩, s10⟩, hr, hl, hv, hI, hci, hct, hab, hb2⟩ := id h
  unfold f_X4_adds add_
  rw [c_isBound h (by omega), bm_e]
  by_cases e : r p = 2
  · rw [if_pos e, if_pos e, if_neg (by decide), s3, gd_t, ib_n (n := 8) (by omega) (by omega), iz_n, ni_c (by omega), hv.2.2.2.1 p (by omega)]
    by_cases e2 : r (24 + p) = 99
    · rw [if_pos e2, if_pos e2]
      exact ⟨m, rfl, fi_r, h⟩
    · rw [if_neg e2, if_neg e2, gd_t, ib_n (n := 8) (by omega) (by omega), iz_n, hv.2.2.2.1 p (by omega), c_min, bm_e, iz_n, lt_e]
      have f : fi_ (so_ b) m (pI_ m (100, 8, b + 4) p (if r (24 + p) + n < 99 then r (24 + p) + n else 99)) := fi_p2 fi_r (so_i (by omega))
      refine ⟨_, rfl, f, cs_w h f (cv_ad (by omega) hv) (rI_k (by omega) hI) ?_⟩
      rw [gI_d (by intro q; cases q)]
  · rw [if_neg e, if_neg e, if_pos rfl]
    exact ⟨m, rfl, fi_r, h⟩
theorem c_strikes {F b ρ ci p : Nat} {m : pm_M} {w : W_T} {r : R_T} (h : cs_ m b ρ w r ci) (hp : p < wS_ w) : ∃ m', f_X4_strikes F (4, 0, b) (ni_ p) m = some ((stk_ r p).1, m') ∧ fi_ (so_ b) m m' ∧ cs_ m' b ρ w (stk_ r p).2 ci := by
  have h8 := h.2.1.2.1.1
  obtain ⟨⟨⟨s0, s1, s2, s3, s4, s5, s6, s7, s8, s9⟩, s10⟩, hr, hl, hv, hI, hci, hct, hab, hb2⟩ := id h
  unfold f_X4_strikes stk_
  rw [s3, gd_t, ib_n (n := 8) (by omega) (by omega), iz_n, ni_c (by omega), hv.2.2.2.1 p (by omega)]
  by_cases e : r (24 + p) = 0
  · rw [if_pos e, if_pos e]
    exact ⟨m, rfl, fi_r, h⟩
  · rw [if_neg e, if_neg e, gd_t, ib_n (n := 8) (by omega) (by omega), iz_n, lt_e]
    have f : fi_ (so_ b) m (pI_ m (100, 8, b + 4) p 0) := fi_p2 fi_r (so_i (by omega))
    refine ⟨_, rfl, f, cs_w h f (cv_ad (by omega) hv) (rI_k (by omega) hI) ?_⟩
    rw [gI_d (by intro q; cases q)]
theorem c_loses {F b ρ ci p : Nat} {m : pm_M} {w : W_T} {r : R_T} {v : Int32} (h : cs_ m b ρ w r ci) (hp : p < wS_ w) (hz : v = 0 ∨ v = 1) : ∃ m', f_X4_loses F (4, 0, b) (ni_ p) v m = some ((los_ r p v).1, m') ∧ fi_ (so_ b) m m' ∧ cs_ m' b ρ w (los_ r p v).2 ci := by
  have h8 := h.2.1.2.1.1
  obtain ⟨⟨⟨s0, s1, s2, s3, s4, s5, s6, s7, s8, s9⟩, s10⟩, hr, hl, hv, hI, hci, hct, hab, hb2⟩ := id h
  have nz : vp_nar .boolean v = v := by rcases hz with rfl | rfl <;> rfl
  unfold f_X4_loses los_
  rw [s0, gd_t, ib_n (n := 8) (by omega) (by omega), iz_n, ni_c (by omega), hv.1 p (by omega)]
  by_cases e : r p = 3
  · rw [if_pos e, if_pos e]
    exact ⟨m, rfl, fi_r, h⟩
  · rw [if_neg e, if_neg e, s7, gd_t, ib_n (n := 8) (by omega) (by omega), iz_n, hv.2.2.2.2.2.1 p (by omega)]
    by_cases e2 : r (40 + p) = v
    · rw [if_pos e2, if_pos e2]
      exact ⟨m, rfl, fi_r, h⟩
    · rw [if_neg e2, if_neg e2, gd_t, ib_n (n := 8) (by omega) (by omega), iz_n, lt_e, nz]
      have f : fi_ (so_ b) m (pI_ m (102, 8, b + 8) p v) := fi_p2 fi_r (so_i (by omega))
      refine ⟨_, rfl, f, cs_w h f (cv_lo (by omega) hv) (rI_lo (by omega) hz hI) ?_⟩
      rw [gI_d (by intro q; cases q)]
theorem c_owes {F b ρ ci p : Nat} {m : pm_M} {w : W_T} {r : R_T} (hF : 20 < F) (h : cs_ m b ρ w r ci) (hp : p < wS_ w) : ∃ m', f_X4_owes F (4, 0, b) (ni_ p) m = some (ow_ w r p 0, m') ∧ f5_ m m' ∧ fi_ (so_ b) m m' := by
  obtain ⟨m', a1, a2, a3⟩ := c_owesBy (i := 0) hF h hp (by omega)
  have a1 : f_X4_owesBy F (4, 0, b) (ni_ p) 0 m = some (ow_ w r p 0, m') := a1
  refine ⟨m', ?_, a2, a3⟩
  unfold f_X4_owes
  rw [a1, bm_e]
theorem c_fare {F b ρ ci p : Nat} {m : pm_M} {w : W_T} {r : R_T} (hF : 20 < F) (h : cs_ m b ρ w r ci) (hp : p < wS_ w) : ∃ m', f_X4_fare F (4, 0, b) (ni_ p) m = some (ow_ w r p 0 / 4, m') ∧ f5_ m m' ∧ fi_ (so_ b) m m' := by
  obtain ⟨m', a1, a2, a3⟩ := c_owes hF h hp
  refine ⟨m', ?_, a2, a3⟩
  unfold f_X4_fare
  rw [a1, bm_e]
theorem c_mayPay {F b ρ ci p : Nat} {m : pm_M} {w : W_T} {r : R_T} (hF : 20 < F) (h : cs_ m b ρ w r ci) (hp : p < wS_ w) : ∃ m', f_X4_mayPay F (4, 0, b) (ni_ p) m = some (mp_ w r p, m') ∧ f5_ m m' ∧ fi_ (so_ b) m m' := by
  have h8 := h.2.1.2.1.1
  obtain ⟨⟨⟨s0, s1, s2, s3, s4, s5, s6, s7, s8, s9⟩, s10⟩, hr, hl, hv, hI, hci, hct, hab, hb2⟩ := id h
  have fin : ∃ m', (gd_ 100 (gR_ m (4, 0, b) 6) fun a7 => iz_ (!(ib_ (ni_ p) a7.2.1)) <| bm_ (f_X4_fare F (4, 0, b) (ni_ p) m) fun v13 m11 => if (gI_ m a7 p) < v13 then some ((0 : Int32), m11) else some (1, m11)) = some (if r (56 + p) < ow_ w r p 0 / 4 then 0 else 1, m') ∧ f5_ m m' ∧ fi_ (so_ b) m m' := by
    obtain ⟨m', a1, a2, a3⟩ := c_fare hF h hp
    refine ⟨m', ?_, a2, a3⟩
    rw [s6, gd_t, ib_n (n := 8) (by omega) (by omega), iz_n, a1, bm_e, hv.2.2.2.2.2.2.2.1 p (by omega)]
    split <;> rfl
  unfold f_X4_mayPay mp_
  rw [s0, gd_t, ib_n (n := 8) (by omega) (by omega), iz_n, jn_e, ni_c (by omega), hv.1 p (by omega)]
  by_cases e : r p = 1
  · rw [if_pos e, if_pos (Or.inl e)]
    exact fin
  · rw [if_neg e, gd_t, ib_n (n := 8) (by omega) (by omega), iz_n, hv.1 p (by omega)]
    by_cases e2 : r p = 2
    · rw [if_pos e2, if_pos (Or.inr e2)]
      exact fin
    · rw [if_neg e2, if_neg (fun q => q.elim e e2)]
      exact ⟨m, rfl, f5_r, fi_r⟩
theorem c_pays {F b ρ ci p : Nat} {m : pm_M} {w : W_T} {r : R_T} (hF : 20 < F) (h : cs_ m b ρ w r ci) (hp : p < wS_ w) : ∃ m', f_X4_pays F (4, 0, b) (ni_ p) m = some ((pay_ w r p).1, m') ∧ fi_ (so_ b) m m' ∧ cs_ m' b ρ w (pay_ w r p).2 ci := by
  have h8 := h.2.1.2.1.1
  obtain ⟨m1, a1, a2, a3⟩ := c_mayPay hF h hp
  have h1 := cs_5 h a2
  unfold f_X4_pays pay_
  rw [a1, bm_e]
  by_cases e : mp_ w r p = 0
  · rw [if_pos e, if_pos e]
    exact ⟨m1, rfl, a3, h1⟩
  · obtain ⟨m2, b1, b2, b3⟩ := c_fare hF h1 hp
    have h2 := cs_5 h1 b2
    rw [if_neg e, if_neg e, h1.1.1.2.2.2.2.2.2.1, gd_t, ib_n (n := 8) (by omega) (by omega), iz_n, b1, bm_e, iz_n, lt_e, ni_c (by omega), h1.2.2.2.1.2.2.2.2.2.2.2.1 p (by omega)]
    have f : fi_ (so_ b) m2 (pI_ m2 (100, 8, b + 7) p (r (56 + p) - ow_ w r p 0 / 4)) := fi_p2 fi_r (so_i (by omega))
    have h3 := cs_w h2 f (cv_co (v := r (56 + p) - ow_ w r p 0 / 4) (by omega) h2.2.2.2.1) (rI_k (by omega) h2.2.2.2.2.1) (by rw [gI_d (by intro q; cases q)])
    obtain ⟨h4, f4⟩ := cs_fr h3 (p := p) (by omega)
    rw [c_frees h3 (by omega), bm_e]
    exact ⟨_, rfl, fi_t (fi_t (fi_t a3 b3) f) f4, h4⟩
theorem c_goes {F b ρ : Nat} {m : pm_M} {w : W_T} {r : R_T} (hF : 20 < F) (h : cs_ m b ρ w r 0) : ∃ m', f_X4_goes F (4, 0, b) m = some ((nxt_ w r).1, m') ∧ fi_ (so_ b) m m' ∧ cs_ m' b ρ w (nxt_ w r).2 0 := by
  unfold f_X4_goes nxt_
  rw [h.2.2.2.1.2.2.2.2.2.2.2.2.1]
  by_cases e : r 64 < 900
  · obtain ⟨m', a1, a2, a3⟩ := c_passes hF h
    rw [if_pos e, if_pos e, a1, bm_e]
    exact ⟨m', rfl, a2, a3⟩
  · rw [if_neg e, if_neg e]
    exact ⟨m, rfl, fi_r, h⟩
def gv9_ (w : W_T) (r : R_T) (b p : Nat) : Int32 := if wt_ w (3 * b) = wg_ w (4 * p + 1) then wt_ w (3 * b + 1) * ow_ w r p 0 / 52 else wt_ w (3 * b + 1) * ow_ w r p 0 / 52 / 2
theorem c_gives {F b ρ ci p k : Nat} {m : pm_M} {w : W_T} {r : R_T} (hF : 20 < F) (h : cs_ m b ρ w r ci) (hp : p < wS_ w) (hk : k < wT_ w) : ∃ m', f_X4_gives F (4, 0, b) (ni_ k) (ni_ p) m = some (gv9_ w r k p, m') ∧ f5_ m m' ∧ fi_ (so_ b) m m' := by
  have h8 := h.2.1.2.1.1
  have h5 := h.2.1.2.1.2
  obtain ⟨m1, a1, a2, a3⟩ := c_owes hF h hp
  have h1 := cs_5 h a2
  refine ⟨m1, ?_, a2, a3⟩
  unfold f_X4_gives gv9_
  rw [h.1.2, gd_t, h.2.1.1.2.2.2.2.2.1, gd_t, ib_n (n := 5) (by omega) (by omega), iz_n, a1, bm_e, h1.1.2, gd_t, h1.2.1.1.2.2.2.2.1, gd_t, ib_n (n := 5) (by omega) (by omega), iz_n, gd_t, h1.2.1.1.2.1, gd_t, ib_n (n := 8) (by omega) (by omega), iz_n, ni_c (by omega), ni_c (by omega), h1.2.1.2.2.2.2.2.2.2.2.1 k hk, h1.2.1.2.2.2.2.2.2.1 p hp, h.2.1.2.2.2.2.2.2.2.2.2.1 k hk]
  split <;> rfl
