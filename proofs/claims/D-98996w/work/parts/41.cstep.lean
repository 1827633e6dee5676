/-! WORK'S STEPS: the domain; the component -/
set_option maxRecDepth 100000
theorem cM_c {f g : Nat → Bool} : ∀ n : Nat, (∀ p, p < n → f p = g p) → cM_ f n = cM_ g n := by
  intro n
  induction n with
  | zero => intro _; rfl
  | succ n ih =>
    intro h
    rw [cM_, cM_, ih (fun p hp => h p (by omega)), h n (by omega)]
def my_ (w : W_T) (r : R_T) (v : Int32) : Int32 := cM_ (fun p => decide (r p = v)) (wS_ w)
def bt9_ (w : W_T) (r : R_T) (b : Nat) : Int32 := cM_ (fun p => decide (r (8 + p) = ni_ b)) (wS_ w)
def lds_ (r : R_T) : Nat → R_T
  | 0 => r
  | n + 1 => if lds_ r n n = 0 then up_ (lds_ r n) n 1 else lds_ r n
def lnd_ (w : W_T) (r : R_T) : Int32 × R_T := if r 64 < wv_ w then (0, r) else if my_ w r 0 = 0 then (0, r) else (1, lds_ r (wS_ w))
def plc_ (w : W_T) (r : R_T) (p b : Nat) : Int32 × R_T := if r p = 1 then (if bt9_ w r b < wt_ w (3 * b + 2) then (1, up_ (up_ (up_ (up_ r p 2) (8 + p) (ni_ b)) (16 + p) 0) (48 + p) (r 64)) else (0, r)) else (0, r)
def add_ (r : R_T) (p : Nat) (n : Int32) : Int32 × R_T := if r p = 2 then (if r (24 + p) = 99 then (0, r) else (1, up_ r (24 + p) (if r (24 + p) + n < 99 then r (24 + p) + n else 99))) else (0, r)
def stk_ (r : R_T) (p : Nat) : Int32 × R_T := if r (24 + p) = 0 then (0, r) else (1, up_ r (24 + p) 0)
def los_ (r : R_T) (p : Nat) (v : Int32) : Int32 × R_T := if r p = 3 then (0, r) else if r (40 + p) = v then (0, r) else (1, up_ r (40 + p) v)
def mp_ (w : W_T) (r : R_T) (p : Nat) : Int32 := if r p = 1 ∨ r p = 2 then (if r (56 + p) < ow_ w r p 0 / 4 then 0 else 1) else 0
def pay_ (w : W_T) (r : R_T) (p : Nat) : Int32 × R_T := if mp_ w r p = 0 then (0, r) else (1, fr_ (up_ r (56 + p) (r (56 + p) - ow_ w r p 0 / 4)) p)
def nxt_ (w : W_T) (r : R_T) : Int32 × R_T := if r 64 < 900 then (1, pa_ w 0 r) else (0, r)
theorem c_many {F b ρ ci : Nat} {m : pm_M} {w : W_T} {r : R_T} {v : Int32} (hF : 20 < F) (h : cs_ m b ρ w r ci) : f_X4_many F (4, 0, b) v m = some (my_ w r v, m) := by
  have h8 := h.2.1.2.1.1
  refine upto_ (S := wS_ w) (P := fun n i => f_X4_many_L4 F (4, 0, b) v n (cM_ (fun p => decide (r p = v)) i) (ni_ i) m = some (my_ w r v, m)) (fun n => ?_) (fun n i hi ih => ?_) F 0 (by omega) (by omega)
  · rw [f_X4_many_L4, h.1.2, gd_t, h.2.1.2.2.1, if_pos (Int32.le_refl _)]
    rfl
  · rw [f_X4_many_L4, h.1.2, gd_t, h.2.1.2.2.1, if_neg (fun q => absurd ((ni_li (by omega) (by omega)).mp q) (by omega)), h.1.1.1, gd_t, ib_n (n := 8) (by omega) (by omega), iz_n, ni_c (by omega), h.2.2.2.1.1 i (by omega), ni_s]
    rw [cM_] at ih
    by_cases e : r i = v
    · rw [if_pos (decide_eq_true e)] at ih; rw [if_pos e]; exact ih
    · rw [if_neg (fun q => e (of_decide_eq_true q))] at ih; rw [if_neg e]; exact ih
theorem c_boundTo {F b ρ ci k : Nat} {m : pm_M} {w : W_T} {r : R_T} (hF : 20 < F) (h : cs_ m b ρ w r ci) : f_X4_boundTo F (4, 0, b) (ni_ k) m = some (bt9_ w r k, m) := by
  have h8 := h.2.1.2.1.1
  refine upto_ (S := wS_ w) (P := fun n i => f_X4_boundTo_L4 F (4, 0, b) (ni_ k) n (cM_ (fun p => decide (r (8 + p) = ni_ k)) i) (ni_ i) m = some (bt9_ w r k, m)) (fun n => ?_) (fun n i hi ih => ?_) F 0 (by omega) (by omega)
  · rw [f_X4_boundTo_L4, h.1.2, gd_t, h.2.1.2.2.1, if_pos (Int32.le_refl _)]
    rfl
  · rw [f_X4_boundTo_L4, h.1.2, gd_t, h.2.1.2.2.1, if_neg (fun q => absurd ((ni_li (by omega) (by omega)).mp q) (by omega)), h.1.1.2.1, gd_t, ib_n (n := 8) (by omega) (by omega), iz_n, ni_c (by omega), h.2.2.2.1.2.1 i (by omega), ni_s]
    rw [cM_] at ih
    by_cases e : r (8 + i) = ni_ k
    · rw [if_pos (decide_eq_true e)] at ih; rw [if_pos e]; exact ih
    · rw [if_neg (fun q => e (of_decide_eq_true q))] at ih; rw [if_neg e]; exact ih
theorem rI_ld {w : W_T} {r : R_T} {p : Nat} (hp : p < 8) (h : rI_ w r) (h0 : r p = 0) : rI_ w (up_ r p 1) := by
  obtain ⟨h1, h2, h3⟩ := h
  refine ⟨fun q hq => ?_, fun q hq => ?_, ?_⟩
  · rw [up_n (by omega)]; exact h1 q hq
  · by_cases e : q = p
    · subst e
      rw [up_s, up_n (by omega)]
      rcases h2 q hq with g | g
      · rw [h0] at g; exact absurd g.1 (by decide)
      · exact Or.inr ⟨by decide, g.2⟩
    · rw [up_n e, up_n (by omega)]; exact h2 q hq
  · rw [up_n (by omega)]; exact h3
theorem c_lands {F b ρ ci : Nat} {m : pm_M} {w : W_T} {r : R_T} (hF : 20 < F) (h : cs_ m b ρ w r ci) : ∃ m', f_X4_lands F (4, 0, b) m = some ((lnd_ w r).1, m') ∧ fi_ (so_ b) m m' ∧ cs_ m' b ρ w (lnd_ w r).2 ci := by
  have h8 := h.2.1.2.1.1
  unfold f_X4_lands lnd_
  rw [h.1.2, gd_t, h.2.1.2.2.2.2.1, h.2.2.2.1.2.2.2.2.2.2.2.2.1]
  by_cases e : r 64 < wv_ w
  · rw [if_pos e, if_pos e]
    exact ⟨m, rfl, fi_r, h⟩
  · rw [if_neg e, if_neg e, c_many hF h, bm_e]
    by_cases e0 : my_ w r 0 = 0
    · rw [if_pos e0, if_pos e0]
      exact ⟨m, rfl, fi_r, h⟩
    · rw [if_neg e0, if_neg e0]
      refine upto_ (S := wS_ w) (P := fun n i => ∀ m, cs_ m b ρ w (lds_ r i) ci → ∃ m', f_X4_lands_L26 F (4, 0, b) n (ni_ i) m = some (1, m') ∧ fi_ (so_ b) m m' ∧ cs_ m' b ρ w (lds_ r (wS_ w)) ci) (fun n m h => ?_) (fun n i hi ih m h => ?_) F 0 (by omega) (by omega) m h
      · refine ⟨m, ?_, fi_r, h⟩
        rw [f_X4_lands_L26, h.1.2, gd_t, h.2.1.2.2.1, if_pos (Int32.le_refl _)]
      · rw [f_X4_lands_L26, h.1.2, gd_t, h.2.1.2.2.1, if_neg (fun q => absurd ((ni_li (by omega) (by omega)).mp q) (by omega)), h.1.1.1, gd_t, ib_n (n := 8) (by omega) (by omega), iz_n, ni_c (by omega), h.2.2.2.1.1 i (by omega), ni_s]
        rw [lds_] at ih
        by_cases g : lds_ r i i = 0
        · rw [if_pos g] at ih
          rw [if_pos g, gd_t, ib_n (n := 8) (by omega) (by omega), iz_n, lt_e]
          have f : fi_ (so_ b) m (pI_ m (100, 8, b + 1) i 1) := fi_p2 fi_r (so_i (by omega))
          obtain ⟨m', a1, a2, a3⟩ := ih _ (cs_w h f (cv_wh (by omega) h.2.2.2.1) (rI_ld (by omega) h.2.2.2.2.1 g) (by rw [gI_d (by intro q; cases q)]))
          exact ⟨m', a1, fi_t f a2, a3⟩
        · rw [if_neg g] at ih
          rw [if_neg g]
          exact ih m h
theorem rI_pl {w : W_T} {r : R_T} {p b : Nat} {v : Int32} (hp : p < 8) (hb : b < wT_ w) (h : rI_ w r) : rI_ w (up_ (up_ (up_ (up_ r p 2) (8 + p) (ni_ b)) (16 + p) 0) (48 + p) v) := by
  obtain ⟨h1, h2, h3⟩ := h
  refine ⟨fun q hq => ?_, fun q hq => ?_, ?_⟩
  · rw [up_n (by omega), up_n (by omega), up_n (by omega), up_n (by omega)]; exact h1 q hq
  · by_cases e : q = p
    · subst e
      rw [up_n (by omega), up_n (by omega), up_n (by omega), up_s, up_n (by omega), up_n (by omega), up_s]
      exact Or.inl ⟨rfl, b, hb, rfl⟩
    · rw [up_n (by omega), up_n (by omega), up_n (by omega), up_n e, up_n (by omega), up_n (by omega), up_n (by omega), up_n (by omega)]; exact h2 q hq
  · rw [up_n (by omega), up_n (by omega), up_n (by omega), up_n (by omega)]; exact h3
theorem c_places {F b ρ ci p k : Nat} {m : pm_M} {w : W_T} {r : R_T} (hF : 20 < F) (h : cs_ m b ρ w r ci) (hp : p < wS_ w) (hk : k < wT_ w) : ∃ m', f_X4_places F (4, 0, b) (ni_ p) (ni_ k) m = some ((plc_ w r p k).1, m') ∧ fi_ (so_ b) m m' ∧ cs_ m' b ρ w (plc_ w r p k).2 ci := by
  have h8 := h.2.1.2.1.1
  have h5 := h.2.1.2.1.2
  obtain ⟨⟨⟨s0, s1, s2, s3, s4, s5, s6, s7, s8, s9⟩, s10⟩, hr, hl, hv, hI, hci, hct, hab, hb2⟩ := id h
  unfold f_X4_places plc_
  rw [s0, gd_t, ib_n (n := 8) (by omega) (by omega), iz_n, ni_c (by omega), hv.1 p (by omega)]
  by_cases e : r p = 1
  · rw [if_pos e, if_pos e, c_boundTo hF h, bm_e, s10, gd_t, hr.1.2.2.2.2.2.2, gd_t, ib_n (n := 5) (by omega) (by omega), iz_n, ni_c (by omega), hr.2.2.2.2.2.2.2.2.2.2 k hk]
    by_cases e2 : bt9_ w r k < wt_ w (3 * k + 2)
    · rw [if_pos e2, if_pos e2, s0, gd_t, ib_n (n := 8) (by omega) (by omega), iz_n, lt_e, gR_pI, s1, gd_t, ib_n (n := 8) (by omega) (by omega), iz_n, lt_e, gR_pI, gR_pI, s2, gd_t, ib_n (n := 8) (by omega) (by omega), iz_n, lt_e, gR_pI, gR_pI, gR_pI, s5, gd_t, ib_n (n := 8) (by omega) (by omega), iz_n, lt_e, gI_d (by intro q; cases q), gI_d (by intro q; cases q), gI_d (by intro q; cases q), hv.2.2.2.2.2.2.2.2.1]
      have f : fi_ (so_ b) m (pI_ (pI_ (pI_ (pI_ m (100, 8, b + 1) p 2) (100, 8, b + 2) p (ni_ k)) (100, 8, b + 3) p 0) (100, 8, b + 6) p (r 64)) := fi_p2 (fi_p2 (fi_p2 (fi_p2 fi_r (so_i (by omega))) (so_i (by omega))) (so_i (by omega))) (so_i (by omega))
      refine ⟨_, rfl, f, cs_w h f (cv_pl (by omega) (cv_sv (by omega) (cv_tk (by omega) (cv_wh (by omega) hv)))) (rI_pl (by omega) hk hI) ?_⟩
      rw [gI_d (by intro q; cases q), gI_d (by intro q; cases q), gI_d (by intro q; cases q), gI_d (by intro q; cases q)]
    · rw [if_neg e2, if_neg e2]
      exact ⟨m, rfl, fi_r, h⟩
  · rw [if_neg e, if_neg e]
    exact ⟨m, rfl, fi_r, h⟩
