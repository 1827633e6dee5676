/-! THE COMPONENT'S STATE: a week goes by (the first half; the whole) -/
set_option maxRecDepth 100000
theorem up_up {r : R_T} {k : Nat} {a v : Int32} : up_ (up_ r k a) k v = up_ r k v := by
  funext j; unfold up_; split <;> simp_all
theorem up_id {r : R_T} {k : Nat} {v : Int32} (h : v = r k) : up_ r k v = r := by
  funext j; unfold up_; split <;> simp_all
theorem up_sw {r : R_T} {k j : Nat} {a v : Int32} (h : k ≠ j) : up_ (up_ r k a) j v = up_ (up_ r j v) k a := by
  funext i; unfold up_; split <;> split <;> simp_all
theorem i3_nlt {x : Int32} (h0 : 0 ≤ x) (h : ¬ 0 < x) : x = 0 := by
  rw [i3_lt, i3_0] at h
  rw [i3_le, i3_0] at h0
  exact i3_eq.mpr (by rw [i3_0]; omega)
theorem rI_p1 {w : W_T} {r : R_T} {p : Nat} (hp : p < 8) (h : rI_ w r) : rI_ w (p1_ r p) := by
  obtain ⟨h1, h2, h3⟩ := h
  unfold p1_
  split
  · refine ⟨fun q hq => ?_, fun q hq => ?_, ?_⟩
    · rw [up_n (by omega)]; exact h1 q hq
    · rw [up_n (by omega), up_n (by omega)]; exact h2 q hq
    · rw [up_n (by omega)]; exact h3
  · split
    · split
      · rename_i g
        refine ⟨fun q hq => ?_, fun q hq => ?_, ?_⟩
        · rw [up_n (by omega)]; exact h1 q hq
        · rw [up_n (by omega), up_n (by omega)]; exact h2 q hq
        · rw [up_s, i3_le, i3_pred g, i3_0]
          rw [i3_lt, i3_0] at g
          omega
      · refine ⟨fun q hq => ?_, fun q hq => ?_, ?_⟩
        · rw [up_n (by omega)]; exact h1 q hq
        · rw [up_n (by omega), up_n (by omega)]; exact h2 q hq
        · rw [up_n (by omega)]; exact h3
    · exact ⟨h1, h2, h3⟩
theorem c_isB {F b p : Nat} {m : pm_M} {v : Int32} (h0 : gR_ m (4, 0, b) 0 = some (100, 8, b + 1)) (hp : p < 8) (hv : gI_ m (100, 8, b + 1) p = v) : f_X4_isBound F (4, 0, b) (ni_ p) m = some (if v = 2 then 1 else 0, m) := by
  unfold f_X4_isBound
  rw [h0, gd_t, ib_n (n := 8) (by omega) (by omega), iz_n, ni_c (by omega), hv]
  split <;> rfl
theorem so_i {b i : Nat} (h : i < 10) {k : Nat} : so_ b (b + i) k := ⟨by omega, by omega⟩
theorem c_p1s {F b ρ ci i n : Nat} {w : W_T} {r : R_T} {k : pm_M → Option (Unit × pm_M)} {m : pm_M} (h : cs_ m b ρ w r ci) (hi : i < wS_ w) : ∃ m', f_X4_passes_L2 F (4, 0, b) k (n + 1) (ni_ i) m = f_X4_passes_L2 F (4, 0, b) k n (ni_ (i + 1)) m' ∧ fi_ (so_ b) m m' ∧ cs_ m' b ρ w (p1_ r i) ci := by
  have h8 := h.2.1.2.1.1
  obtain ⟨hs, hr, hl, hv, hI, hci, hct, hab, hb2⟩ := id h
  obtain ⟨⟨s0, s1, s2, s3, s4, s5, s6, s7, s8, s9⟩, s10⟩ := id hs
  have i8 : i < 8 := by omega
  have hii : ib_ (ni_ i) 8 = true := ib_n (by omega) (by omega)
  have ci9 : (ni_ i).toNatClampNeg = i := ni_c (by omega)
  have n1 : ∀ j n x : Nat, ((100, n, x) : pm_A) ≠ (4, 0, j) := fun j n x h => by cases h
  have st := hv.2.2.2.2.2.2.2.2.2
  rw [f_X4_passes_L2, s10, gd_t, hr.2.2.1, if_neg (fun q => absurd ((ni_li (by omega) (by omega)).mp q) (by omega)), s0, gd_t, hii, iz_n, jn_e, ci9, hv.1 i i8, ni_s]
  by_cases g0 : r i = 0
  · have g2 : r i ≠ 2 := by rw [g0]; decide
    rw [if_pos g0, lt_e, st]
    by_cases gs : 0 < r 65
    · have gp : 0 ≤ r 65 - 1 := by
        rw [i3_le, i3_pred gs, i3_0]
        rw [i3_lt, i3_0] at gs
        omega
      rw [if_pos gp]
      dsimp only
      rw [c_isB (F := F) (v := r i) (by rw [gR_pI]; exact s0) i8 (by rw [gI_pI, if_neg (fun q => n1 _ _ _ q.1)]; exact hv.1 i i8), bm_e, if_neg g2, jn_e, if_pos rfl]
      dsimp only
      rw [c_max, bm_e, gI_s, max0 gp, lt_e]
      have f : fi_ (so_ b) m (pI_ (pI_ m (4, 0, b) 12 (r 65 - 1)) (4, 0, b) 12 (r 65 - 1)) := fi_p2 (fi_p2 fi_r (so_i (i := 0) (by omega))) (so_i (i := 0) (by omega))
      have e : p1_ r i = up_ (up_ r 65 (r 65 - 1)) 65 (r 65 - 1) := by rw [up_up]; unfold p1_; rw [if_neg g2, if_pos g0, if_pos gs]
      refine ⟨_, rfl, f, cs_w h f (by rw [e]; exact cv_st (cv_st hv)) (rI_p1 i8 hI) ?_⟩
      rw [gI_pI, if_neg (fun q => by simp at q), gI_pI, if_neg (fun q => by simp at q)]
    · have e0 := i3_nlt hI.2.2 gs
      rw [e0, if_neg (by decide), gR_pI, s4, gd_t, hii, iz_n, iz_n, lt_e, gI_pI, if_neg (fun q => n1 _ _ _ q.1), hv.2.2.2.2.1 i i8]
      dsimp only
      rw [c_isB (F := F) (v := r i) (by rw [gR_pI, gR_pI]; exact s0) i8 (by rw [gI_pI, if_neg (fun q => by simp at q), gI_pI, if_neg (fun q => n1 _ _ _ q.1)]; exact hv.1 i i8), bm_e, if_neg g2, jn_e, if_pos rfl]
      dsimp only
      rw [c_max, bm_e, gI_d (n1 _ _ _).symm, gI_s, if_neg (by decide), lt_e]
      have f : fi_ (so_ b) m (pI_ (pI_ (pI_ m (4, 0, b) 12 (0 - 1)) (100, 8, b + 5) i (r (32 + i) + 1)) (4, 0, b) 12 0) := fi_p2 (fi_p2 (fi_p2 fi_r (so_i (i := 0) (by omega))) (so_i (by omega))) (so_i (i := 0) (by omega))
      have e : p1_ r i = up_ (up_ (up_ r 65 (0 - 1)) (32 + i) (r (32 + i) + 1)) 65 0 := by
        rw [up_sw (by omega), up_up, up_id (v := (0 : Int32)) e0.symm]
        unfold p1_
        rw [if_neg g2, if_pos g0, if_neg gs]
      refine ⟨_, rfl, f, cs_w h f (by rw [e]; exact cv_st (cv_hu i8 (cv_st hv))) (rI_p1 i8 hI) ?_⟩
      rw [gI_pI, if_neg (fun q => by simp at q), gI_pI, if_neg (fun q => by simp at q), gI_pI, if_neg (fun q => by simp at q)]
  · rw [if_neg g0]
    dsimp only
    rw [c_isB (F := F) (v := r i) s0 i8 (hv.1 i i8), bm_e, jn_e]
    by_cases g2 : r i = 2
    · rw [if_pos g2, if_neg (by decide), s2, gd_t, hii, iz_n, iz_n, lt_e, hv.2.2.1 i i8]
      dsimp only
      rw [c_max, bm_e, gI_d (n1 _ _ _).symm, st, max0 hI.2.2, lt_e]
      have f : fi_ (so_ b) m (pI_ (pI_ m (100, 8, b + 3) i (r (16 + i) + 1)) (4, 0, b) 12 (r 65)) := fi_p2 (fi_p2 fi_r (so_i (by omega))) (so_i (i := 0) (by omega))
      have e : p1_ r i = up_ (up_ r (16 + i) (r (16 + i) + 1)) 65 (r 65) := by
        rw [up_id (k := 65) (v := r 65) (by rw [up_n (by omega)])]
        unfold p1_
        rw [if_pos g2]
      refine ⟨_, rfl, f, cs_w h f (by rw [e]; exact cv_st (cv_sv i8 hv)) (rI_p1 i8 hI) ?_⟩
      rw [gI_pI, if_neg (fun q => by simp at q), gI_pI, if_neg (fun q => by simp at q)]
    · rw [if_neg g2, if_pos rfl]
      dsimp only
      rw [c_max, bm_e, st, max0 hI.2.2, lt_e]
      have f : fi_ (so_ b) m (pI_ m (4, 0, b) 12 (r 65)) := fi_p2 fi_r (so_i (i := 0) (by omega))
      have e : p1_ r i = up_ r 65 (r 65) := by
        rw [up_id rfl]
        unfold p1_
        rw [if_neg g2, if_neg g0]
      refine ⟨_, rfl, f, cs_w h f (by rw [e]; exact cv_st hv) (rI_p1 i8 hI) ?_⟩
      rw [gI_pI, if_neg (fun q => by simp at q)]
theorem c_p1 {F b ρ ci : Nat} {w : W_T} {r : R_T} {k : pm_M → Option (Unit × pm_M)} (hF : 20 < F) {m : pm_M} (h : cs_ m b ρ w r ci) : ∃ m', f_X4_passes_L2 F (4, 0, b) k F 0 m = k m' ∧ fi_ (so_ b) m m' ∧ cs_ m' b ρ w (p1s_ r (wS_ w)) ci := by
  have h8 := h.2.1.2.1.1
  refine upto_ (S := wS_ w) (P := fun n i => ∀ m, cs_ m b ρ w (p1s_ r i) ci → ∃ m', f_X4_passes_L2 F (4, 0, b) k n (ni_ i) m = k m' ∧ fi_ (so_ b) m m' ∧ cs_ m' b ρ w (p1s_ r (wS_ w)) ci) (fun n m h => ?_) (fun n i hi ih m h => ?_) F 0 (by omega) (by omega) m h
  · refine ⟨m, ?_, fi_r, h⟩
    rw [f_X4_passes_L2, h.1.2, gd_t, h.2.1.2.2.1, if_pos (Int32.le_refl _)]
  · obtain ⟨m1, e1, e2, e3⟩ := c_p1s (F := F) (k := k) (n := n) h hi
    obtain ⟨m', a1, a2, a3⟩ := ih m1 e3
    exact ⟨m', e1.trans a1, fi_t e2 a2, a3⟩
theorem rI_p1s {w : W_T} {r : R_T} (h : rI_ w r) : ∀ n : Nat, n ≤ 8 → rI_ w (p1s_ r n) := by
  intro n
  induction n with
  | zero => intro _; exact h
  | succ n ih => intro hn; exact rI_p1 (by omega) (ih (by omega))
theorem rI_wk {w : W_T} {r : R_T} {v : Int32} (h : rI_ w r) : rI_ w (up_ r 64 v) := by
  refine ⟨fun q hq => ?_, fun q hq => ?_, ?_⟩
  · rw [up_n (by omega)]; exact h.1 q hq
  · rw [up_n (by omega), up_n (by omega)]; exact h.2.1 q hq
  · rw [up_n (by omega)]; exact h.2.2
theorem c_passes {F b ρ ci : Nat} {w : W_T} {r : R_T} (hF : 20 < F) {m : pm_M} (h : cs_ m b ρ w r ci) : ∃ m', f_X4_passes F (4, 0, b) m = some ((), m') ∧ fi_ (so_ b) m m' ∧ cs_ m' b ρ w (pa_ w ci r) ci := by
  unfold f_X4_passes
  rw [jn_e]
  obtain ⟨m1, e1, e2, e3⟩ := c_p1 (F := F) (k := fun (m2 : pm_M) => lt_ (pI_ m2 (4, 0, b) 11 ((gI_ m2 (4, 0, b) 11) + 1)) fun m3 => f_X4_passes_L94 F (4, 0, b) F 0 m3) hF h
  rw [e1, lt_e, e3.2.2.2.1.2.2.2.2.2.2.2.2.1]
  have f : fi_ (so_ b) m1 (pI_ m1 (4, 0, b) 11 (p1s_ r (wS_ w) 64 + 1)) := fi_p2 fi_r (so_i (i := 0) (by omega))
  have h1 : cs_ (pI_ m1 (4, 0, b) 11 (p1s_ r (wS_ w) 64 + 1)) b ρ w (up_ (p1s_ r (wS_ w)) 64 (p1s_ r (wS_ w) 64 + 1)) ci :=
    cs_w e3 f (cv_wk e3.2.2.2.1) (rI_wk e3.2.2.2.2.1) (by rw [gI_pI, if_neg (fun q => by simp at q)])
  obtain ⟨m', a1, a2, a3⟩ := c_p2 hF h1
  exact ⟨m', a1, fi_t (fi_t e2 f) a2, a3⟩
