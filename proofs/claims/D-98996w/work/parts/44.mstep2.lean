/-! WORK'S STEPS: the model, the rest -/
set_option maxRecDepth 100000
def do_ (w : W_T) (r : R_T) (o a b : Nat) : Int32 × R_T := if o = 0 then lnd_ w r else if o = 1 then plc_ w r a b else if o = 2 then add_ r a (ni_ b) else if o = 3 then stk_ r a else if o = 4 then los_ r a 1 else if o = 5 then los_ r a 0 else if o = 6 then pay_ w r a else nxt_ w r
/-- a step that is read: its numbers in range -/
def sr_ (w : W_T) (o a b : Nat) : Prop := o < 8 ∧ (o = 0 ∨ o = 7 ∨ a < wS_ w) ∧ (o = 1 → b < wT_ w) ∧ b < 1000
def rW_ (r : R_T) : Prop := ∃ k : Nat, k ≤ 900 ∧ r 64 = ni_ k
theorem m_pays {F p : Nat} {m : pm_M} {w : W_T} {r : R_T} {hu sv : Int32} (hF : 200 < F) (h : ms_ m w r 0 hu sv) (hp : p < wS_ w) : ∃ m', f_X8_pays F yA_ (ni_ p) m = some ((pay_ w r p).1, m') ∧ fi_ sm_ m m' ∧ ms_ m' w (pay_ w r p).2 0 hu sv := by
  have h8 := h.2.1.1.1
  have x56 : 56 + ni_ p = ni_ (56 + p) := nx_ (c := 56)
  have hib : ∀ j, j < 66 → ib_ (ni_ j) 66 = true := fun j hj => ib_n hj (by omega)
  obtain ⟨m1, a1, a2⟩ := m_canPay hF h hp
  have h1 := ms_sa h a2
  unfold f_X8_pays pay_
  rw [a1, bm_e]
  by_cases e : mp_ w r p = 0
  · rw [if_pos e, if_pos e]
    exact ⟨m1, rfl, sa_sm a2, h1⟩
  · obtain ⟨m2, b1, b2⟩ := m_owesOf hF h1 hp
    have h2 := ms_sa h1 b2
    rw [if_neg e, if_neg e, ms_38 h1, gd_t, x56, hib (56 + p) (by omega), iz_n, b1, bm_e, iz_n, lt_e, ni_c (by omega), h1.2.2.1 (56 + p) (by omega)]
    obtain ⟨h3, f⟩ := ms_up (k := 56 + p) (v := r (56 + p) - ow_ w r p 0 / 4) h2 (rI_k (by omega) h2.2.2.2.1)
    rw [m_frees h3.1 (by omega), bm_e]
    have f2 : fi_ sm_ (pI_ m2 (100, 66, 1291) (56 + p) (r (56 + p) - ow_ w r p 0 / 4)) (pI_ (pI_ (pI_ m2 (100, 66, 1291) (56 + p) (r (56 + p) - ow_ w r p 0 / 4)) (100, 66, 1291) p 3) (100, 66, 1291) (8 + p) (-1)) := fi_p2 (fi_p2 fi_r sm_s) sm_s
    refine ⟨_, rfl, fi_t (fi_t (fi_t (sa_sm a2) (sa_sm b2)) f) f2, ?_⟩
    exact ms_w h3 f2 (mv_up (mv_up h3.2.2.1)) (rI_fr (by omega) h3.2.2.2.1) (by rw [gI_d (by intro q; cases q), gI_d (by intro q; cases q)]; exact h3.2.2.2.2.2.2.1) (by rw [gI_d (by intro q; cases q), gI_d (by intro q; cases q)]; exact h3.2.2.2.2.2.2.2)
theorem nr_b {v : Int32} (h : v = 0 ∨ v = 1) : nr_ .boolean v = true := by rcases h with rfl | rfl <;> decide
theorem do_01 {w : W_T} {r : R_T} {o a b : Nat} : (do_ w r o a b).1 = 0 ∨ (do_ w r o a b).1 = 1 := by
  unfold do_ lnd_ plc_ add_ stk_ los_ pay_ nxt_
  repeat' split
  all_goals first | exact Or.inl rfl | exact Or.inr rfl
set_option maxHeartbeats 2000000 in
theorem m_goes {F o a b : Nat} {m : pm_M} {w : W_T} {r : R_T} {hu sv : Int32} (hF : 200 < F) (h : ms_ m w r 0 hu sv) (hs : sr_ w o a b) (hw : rW_ r) : ∃ (m' : pm_M) (hu' sv' : Int32), f_X8_goes F yA_ (ni_ o) (ni_ a) (ni_ b) m = some ((do_ w r o a b).1, m') ∧ fi_ sm_ m m' ∧ ms_ m' w (do_ w r o a b).2 0 hu' sv' := by
  have h8 := h.2.1.1.1
  have hb9 := @do_01 w r o a b
  have k38 := ms_38 h
  have hv := h.2.2.1
  have hib : ∀ j, j < 66 → ib_ (ni_ j) 66 = true := fun j hj => ib_n hj (by omega)
  have x24 : 24 + ni_ a = ni_ (24 + a) := nx_ (c := 24)
  obtain ⟨s1, s2, s3, s4⟩ := hs
  rcases (show o = 0 ∨ o = 1 ∨ o = 2 ∨ o = 3 ∨ o = 4 ∨ o = 5 ∨ o = 6 ∨ o = 7 by omega) with rfl | rfl | rfl | rfl | rfl | rfl | rfl | rfl
  · obtain ⟨m', a1, a2, a3⟩ := m_lands (F := F) (by omega) h
    refine ⟨m', hu, sv, ?_, a2, a3⟩
    unfold f_X8_goes
    rw [if_pos (by decide), a1, bm_e, nr_b (v := (lnd_ w r).1) hb9, iz_n]
    rfl
  · obtain ⟨m', a1, a2, a3⟩ := m_places (F := F) (p := a) (k := b) (by omega) h (by omega) (s3 rfl)
    refine ⟨m', hu, sv, ?_, a2, a3⟩
    unfold f_X8_goes
    rw [if_neg (by decide), if_pos (by decide), a1, bm_e, nr_b (v := (plc_ w r a b).1) hb9, iz_n]
    rfl
  · have ha : a < 8 := by omega
    unfold f_X8_goes
    rw [if_neg (by decide), if_neg (by decide), jn_e, if_neg (by decide), if_neg (by decide), if_neg (by decide), if_neg (by decide), k38, gd_t, x24, hib (24 + a) (by omega), iz_n, jn_e, if_pos (by decide), gd_t, Int32.zero_add, hib a (by omega), iz_n, ni_c (show a < 2147483648 by omega), ni_c (show 24 + a < 2147483648 by omega), hv a (by omega), hv (24 + a) (by omega)]
    show ∃ (m' : pm_M) (hu' sv' : Int32), _ = some ((add_ r a (ni_ b)).1, m') ∧ fi_ sm_ m m' ∧ ms_ m' w (add_ r a (ni_ b)).2 0 hu' sv'
    unfold add_
    by_cases e : r a = 2
    · rw [if_pos e, if_pos e]
      by_cases e2 : r (24 + a) = 99
      · rw [if_pos e2, if_pos e2]
        exact ⟨m, hu, sv, rfl, fi_r, h⟩
      · rw [if_neg e2, if_neg e2]
        dsimp only
        rw [if_neg (by decide)]
        by_cases e3 : r (24 + a) + ni_ b ≤ 99
        · rw [if_pos e3, k38, gd_t, hib (24 + a) (by omega), iz_n, lt_e]
          have e4 : (if r (24 + a) + ni_ b < 99 then r (24 + a) + ni_ b else 99) = r (24 + a) + ni_ b := by
            split
            · rfl
            · rename_i g
              rw [i3_le] at e3
              rw [i3_lt] at g
              exact i3_eq.mpr (by omega)
          rw [e4]
          obtain ⟨h1, f⟩ := ms_up (k := 24 + a) (v := r (24 + a) + ni_ b) h (rI_k (by omega) h.2.2.2.1)
          exact ⟨_, hu, sv, rfl, f, h1⟩
        · rw [if_neg e3, k38, gd_t, hib (24 + a) (by omega), iz_n, lt_e]
          have e4 : (if r (24 + a) + ni_ b < 99 then r (24 + a) + ni_ b else 99) = 99 := by
            rw [if_neg (fun g => e3 (by rw [i3_lt] at g; rw [i3_le]; omega))]
          rw [e4]
          obtain ⟨h1, f⟩ := ms_up (k := 24 + a) (v := 99) h (rI_k (by omega) h.2.2.2.1)
          exact ⟨_, hu, sv, rfl, f, h1⟩
    · rw [if_neg e, if_neg e]
      exact ⟨m, hu, sv, rfl, fi_r, h⟩
  · have ha : a < 8 := by omega
    unfold f_X8_goes
    rw [if_neg (by decide), if_neg (by decide), jn_e, if_neg (by decide), if_neg (by decide), if_neg (by decide), if_neg (by decide), k38, gd_t, x24, hib (24 + a) (by omega), iz_n, jn_e, if_neg (by decide), ni_c (show 24 + a < 2147483648 by omega), hv (24 + a) (by omega)]
    show ∃ (m' : pm_M) (hu' sv' : Int32), _ = some ((stk_ r a).1, m') ∧ fi_ sm_ m m' ∧ ms_ m' w (stk_ r a).2 0 hu' sv'
    unfold stk_
    by_cases e : r (24 + a) = 0
    · rw [if_pos e, if_pos e]
      exact ⟨m, hu, sv, rfl, fi_r, h⟩
    · rw [if_neg e, if_neg e]
      dsimp only
      rw [if_pos (by decide), k38, gd_t, hib (24 + a) (by omega), iz_n, lt_e]
      obtain ⟨h1, f⟩ := ms_up (k := 24 + a) (v := 0) h (rI_k (by omega) h.2.2.2.1)
      exact ⟨_, hu, sv, rfl, f, h1⟩
  · obtain ⟨m', a1, a2, a3⟩ := m_loses (F := F) (p := a) (v := 1) h (by omega) (Or.inr rfl)
    refine ⟨m', hu, sv, ?_, a2, a3⟩
    unfold f_X8_goes
    rw [if_neg (by decide), if_neg (by decide), jn_e, if_pos (by decide)]
    dsimp only
    rw [jn_e, if_pos (by decide)]
    dsimp only
    rw [gd_t, a1, bm_e, nr_b (v := (los_ r a 1).1) hb9, iz_n]
    rfl
  · obtain ⟨m', a1, a2, a3⟩ := m_loses (F := F) (p := a) (v := 0) h (by omega) (Or.inl rfl)
    refine ⟨m', hu, sv, ?_, a2, a3⟩
    unfold f_X8_goes
    rw [if_neg (by decide), if_neg (by decide), jn_e, if_neg (by decide), if_pos (by decide)]
    dsimp only
    rw [jn_e, if_neg (by decide)]
    dsimp only
    rw [gd_t, a1, bm_e, nr_b (v := (los_ r a 0).1) hb9, iz_n]
    rfl
  · obtain ⟨m', a1, a2, a3⟩ := m_pays hF h (p := a) (by omega)
    refine ⟨m', hu, sv, ?_, a2, a3⟩
    unfold f_X8_goes
    rw [if_neg (by decide), if_neg (by decide), jn_e, if_neg (by decide), if_neg (by decide), if_pos (by decide), a1, bm_e, nr_b (v := (pay_ w r a).1) hb9, iz_n]
    rfl
  · obtain ⟨k, hk, ek⟩ := hw
    unfold f_X8_goes
    rw [if_neg (by decide), if_neg (by decide), jn_e, if_neg (by decide), if_neg (by decide), if_neg (by decide), if_pos (by decide), k38, gd_t, show ib_ 64 66 = true from rfl, iz_n, show (64 : Int32).toNatClampNeg = 64 from rfl, hv 64 (by omega)]
    show ∃ (m' : pm_M) (hu' sv' : Int32), _ = some ((nxt_ w r).1, m') ∧ fi_ sm_ m m' ∧ ms_ m' w (nxt_ w r).2 0 hu' sv'
    unfold nxt_
    by_cases e : r 64 = 900
    · rw [if_pos e, if_neg (by rw [e]; decide)]
      exact ⟨m, hu, sv, rfl, fi_r, h⟩
    · have e2 : r 64 < 900 := by
        rw [ek] at e ⊢
        have e1 : k ≠ 900 := fun q => e (by rw [q]; rfl)
        rw [show (900 : Int32) = ni_ 900 from rfl]
        exact (ni_lt (by omega) (by omega)).mpr (by omega)
      obtain ⟨m', a1, a2, a3⟩ := m_passes hF h
      rw [if_neg e, if_pos e2, a1, bm_e]
      exact ⟨m', _, _, rfl, a2, a3⟩
