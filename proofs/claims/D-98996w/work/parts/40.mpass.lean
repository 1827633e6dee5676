/-! THE MODEL: a week goes by -/
set_option maxRecDepth 100000
def hu1_ (hu : Int32) (r : R_T) (i : Nat) : Int32 := if r i = 0 ∧ ¬ 0 < r 65 then hu + 1 else hu
def sv1_ (sv : Int32) (r : R_T) (i : Nat) : Int32 := if r i = 2 then sv + 1 else sv
def hus_ (hu : Int32) (r : R_T) : Nat → Int32
  | 0 => hu
  | n + 1 => hu1_ (hus_ hu r n) (p1s_ r n) n
def svs_ (sv : Int32) (r : R_T) : Nat → Int32
  | 0 => sv
  | n + 1 => sv1_ (svs_ sv r n) (p1s_ r n) n
theorem mv_up {m : pm_M} {a k : Nat} {v : Int32} {r : R_T} (h : mv_ m a r) : mv_ (pI_ m (100, 66, a) k v) a (up_ r k v) := by
  intro j hj
  unfold up_
  by_cases e : j = k
  · subst e; rw [gI_s, if_pos rfl]
  · rw [gI_k e, if_neg e]; exact h j hj
theorem mv_y {m : pm_M} {a k : Nat} {v : Int32} {r : R_T} (h : mv_ m a r) : mv_ (pI_ m yA_ k v) a r := fun j hj => by
  rw [gI_d (by intro q; cases q)]
  exact h j hj
theorem ms_w {m m' : pm_M} {w : W_T} {r r' : R_T} {ci : Nat} {hu sv hu' sv' : Int32} (h : ms_ m w r ci hu sv) (hf : fi_ sm_ m m') (hv : mv_ m' 1291 r') (hI : rI_ w r') (h1 : gI_ m' yA_ 41 = hu') (h2 : gI_ m' yA_ 42 = sv') : ms_ m' w r' ci hu' sv' := by
  obtain ⟨a1, a2, a3, a4, a5, a6, a7, a8⟩ := h
  refine ⟨mst_fi hf a1, mw_fi hf (fun q k g => ?_) a2, hv, hI, a5, ?_, h1, h2⟩
  · have g : q = 1286 ∨ q = 1287 ∨ q = 1291 ∨ (q = 1274 ∧ (k = 41 ∨ k = 42)) := g
    omega
  · rw [hf.2 yA_ 40 (fun g => by
      have g : (1274 = 1286 ∨ 1274 = 1287 ∨ 1274 = 1291 ∨ (1274 = 1274 ∧ (40 = 41 ∨ 40 = 42))) := g
      omega)]
    exact a6
theorem m_frees {F p : Nat} {m : pm_M} (hs : mst_ m) (hp : p < 8) : f_X8_frees F yA_ (ni_ p) m = some ((), pI_ (pI_ m (100, 66, 1291) p 3) (100, 66, 1291) (8 + p) (-1)) := by
  have x0 : 0 + ni_ p = ni_ p := Int32.zero_add _
  have x8 : 8 + ni_ p = ni_ (8 + p) := nx_ (c := 8)
  have k38 : gR_ m yA_ 38 = some (100, 66, 1291) := hs 38 (by omega)
  unfold f_X8_frees
  rw [x0, x8, k38, gd_t, ib_n (n := 66) (by omega) (by omega), iz_n, lt_e, gR_pI, k38, gd_t, ib_n (n := 66) (by omega) (by omega), iz_n, lt_e, ni_c (by omega), ni_c (by omega)]
theorem sm_s {k : Nat} : sm_ 1291 k := Or.inr (Or.inr (Or.inl rfl))
theorem m_p2 {F ci : Nat} {w : W_T} {r : R_T} {hu sv : Int32} (hF : 200 < F) {m : pm_M} (h : ms_ m w r ci hu sv) : ∃ m', f_X8_passes_L125 F yA_ F 0 m = some ((), m') ∧ fi_ sm_ m m' ∧ ms_ m' w (p2s_ w ci r (wS_ w)) ci hu sv := by
  have h8 := h.2.1.1.1
  refine upto_ (S := wS_ w) (P := fun n i => ∀ m, ms_ m w (p2s_ w ci r i) ci hu sv → ∃ m', f_X8_passes_L125 F yA_ n (ni_ i) m = some ((), m') ∧ fi_ sm_ m m' ∧ ms_ m' w (p2s_ w ci r (wS_ w)) ci hu sv) (fun n m h => ?_) (fun n i hi ih m h => ?_) F 0 (by omega) (by omega) m h
  · refine ⟨m, ?_, fi_r, h⟩
    rw [f_X8_passes_L125, h.2.1.2.1, if_pos (Int32.le_refl _)]
  · have x0 : 0 + ni_ i = ni_ i := Int32.zero_add _
    rw [f_X8_passes_L125, h.2.1.2.1, if_neg (fun q => absurd ((ni_li (by omega) (by omega)).mp q) (by omega)), show gR_ m yA_ 38 = some (100, 66, 1291) from h.1 38 (by omega), gd_t, x0, ib_n (n := 66) (by omega) (by omega), iz_n, ni_c (by omega), h.2.2.1 i (by omega), ni_s]
    rw [p2s_] at ih
    unfold p2_ at ih
    by_cases g : p2s_ w ci r i i = 2
    · rw [if_pos g] at ih
      rw [if_pos g]
      obtain ⟨m1, e1, e2⟩ := m_owesOf hF h hi
      rw [e1, bm_e]
      have h1 := ms_sa h e2
      by_cases g2 : ow_ w (p2s_ w ci r i) i ci = 0
      · rw [if_pos g2] at ih ⊢
        rw [m_frees h1.1 (by omega), bm_e]
        have f : fi_ sm_ m1 (pI_ (pI_ m1 (100, 66, 1291) i 3) (100, 66, 1291) (8 + i) (-1)) := fi_p2 (fi_p2 fi_r sm_s) sm_s
        have h2 : ms_ _ w (fr_ (p2s_ w ci r i) i) ci hu sv := ms_w h1 f (mv_up (mv_up h1.2.2.1)) (rI_fr (by omega) h1.2.2.2.1) (by rw [gI_d (by intro q; cases q), gI_d (by intro q; cases q)]; exact h1.2.2.2.2.2.2.1) (by rw [gI_d (by intro q; cases q), gI_d (by intro q; cases q)]; exact h1.2.2.2.2.2.2.2)
        obtain ⟨m', a1, a2, a3⟩ := ih _ h2
        exact ⟨m', a1, fi_t (fi_t (sa_sm e2) f) a2, a3⟩
      · rw [if_neg g2] at ih ⊢
        obtain ⟨m', a1, a2, a3⟩ := ih _ h1
        exact ⟨m', a1, fi_t (sa_sm e2) a2, a3⟩
    · rw [if_neg g] at ih
      rw [if_neg g]
      exact ih m h
theorem m_p1s {F ci i n : Nat} {w : W_T} {r : R_T} {hu sv : Int32} {k : pm_M → Option (Unit × pm_M)} {m : pm_M} (h : ms_ m w r ci hu sv) (hi : i < wS_ w) : ∃ m', f_X8_passes_L2 F yA_ k (n + 1) (ni_ i) m = f_X8_passes_L2 F yA_ k n (ni_ (i + 1)) m' ∧ fi_ sm_ m m' ∧ ms_ m' w (p1_ r i) ci (hu1_ hu r i) (sv1_ sv r i) := by
  have h8 := h.2.1.1.1
  obtain ⟨hs, hw, hv, hI, hci, h40, h41, h42⟩ := id h
  have x0 : 0 + ni_ i = ni_ i := Int32.zero_add _
  have x16 : 16 + ni_ i = ni_ (16 + i) := nx_ (c := 16)
  have x32 : 32 + ni_ i = ni_ (32 + i) := nx_ (c := 32)
  have k38 : gR_ m yA_ 38 = some (100, 66, 1291) := hs 38 (by omega)
  have i8 : i < 8 := by omega
  have hii : ib_ (ni_ i) 66 = true := ib_n (by omega) (by omega)
  have h16 : ib_ (ni_ (16 + i)) 66 = true := ib_n (by omega) (by omega)
  have h32 : ib_ (ni_ (32 + i)) 66 = true := ib_n (by omega) (by omega)
  have h65 : ib_ 65 66 = true := rfl
  have c65 : (65 : Int32).toNatClampNeg = 65 := rfl
  have ci9 : (ni_ i).toNatClampNeg = i := ni_c (by omega)
  have c16 : (ni_ (16 + i)).toNatClampNeg = 16 + i := ni_c (by omega)
  have c32 : (ni_ (32 + i)).toNatClampNeg = 32 + i := ni_c (by omega)
  rw [f_X8_passes_L2, hw.2.1, if_neg (fun q => absurd ((ni_li (by omega) (by omega)).mp q) (by omega)), k38, gd_t, x0, x16, x32, hii, iz_n, jn_e, ci9, hv i (by omega), ni_s]
  by_cases g2 : r i = 2
  · have g0 : r i ≠ 0 := by rw [g2]; decide
    have e : hu1_ hu r i = hu := by unfold hu1_; rw [if_neg (fun q => g0 q.1)]
    have e1 : sv1_ sv r i = sv + 1 := by unfold sv1_; rw [if_pos g2]
    have e2 : p1_ r i = up_ r (16 + i) (r (16 + i) + 1) := by unfold p1_; rw [if_pos g2]
    rw [if_pos g2, gd_t, h16, iz_n, iz_n, lt_e, c16, hv (16 + i) (by omega), lt_e, gI_d (by intro q; cases q), h42]
    dsimp only
    rw [gR_pI, gR_pI, k38, gd_t, hii, iz_n, gI_d (by intro q; cases q), gI_k (by omega), hv i (by omega), if_neg g0]
    have f : fi_ sm_ m (pI_ (pI_ m (100, 66, 1291) (16 + i) (r (16 + i) + 1)) yA_ 42 (sv + 1)) := fi_p2 (fi_p2 fi_r sm_s) (Or.inr (Or.inr (Or.inr ⟨rfl, Or.inr rfl⟩)))
    refine ⟨_, rfl, f, ms_w h f (by rw [e2]; exact mv_y (mv_up hv)) (rI_p1 i8 hI) ?_ ?_⟩
    · rw [gI_k (by omega), gI_d (by intro q; cases q), h41, e]
    · rw [gI_s, e1]
  · have e1 : sv1_ sv r i = sv := by unfold sv1_; rw [if_neg g2]
    rw [if_neg g2]
    dsimp only
    rw [k38, gd_t, hii, iz_n, hv i (by omega)]
    by_cases g0 : r i = 0
    · rw [if_pos g0, gd_t, h65, iz_n, c65, hv 65 (by omega)]
      by_cases gs : 0 < r 65
      · have e : hu1_ hu r i = hu := by unfold hu1_; rw [if_neg (fun q => q.2 gs)]
        have e2 : p1_ r i = up_ r 65 (r 65 - 1) := by unfold p1_; rw [if_neg g2, if_pos g0, if_pos gs]
        rw [if_neg (Int32.not_le.mpr gs), gd_t, h65, iz_n, iz_n, lt_e, hv 65 (by omega)]
        have f : fi_ sm_ m (pI_ m (100, 66, 1291) 65 (r 65 - 1)) := fi_p2 fi_r sm_s
        refine ⟨_, rfl, f, ms_w h f (by rw [e2]; exact mv_up hv) (rI_p1 i8 hI) ?_ ?_⟩
        · rw [gI_d (by intro q; cases q), h41, e]
        · rw [gI_d (by intro q; cases q), h42, e1]
      · have e : hu1_ hu r i = hu + 1 := by unfold hu1_; rw [if_pos ⟨g0, gs⟩]
        have e2 : p1_ r i = up_ r (32 + i) (r (32 + i) + 1) := by unfold p1_; rw [if_neg g2, if_pos g0, if_neg gs]
        rw [if_pos (Int32.not_lt.mp gs), gd_t, h32, iz_n, iz_n, lt_e, c32, hv (32 + i) (by omega), lt_e, gI_d (by intro q; cases q), h41]
        have f : fi_ sm_ m (pI_ (pI_ m (100, 66, 1291) (32 + i) (r (32 + i) + 1)) yA_ 41 (hu + 1)) := fi_p2 (fi_p2 fi_r sm_s) (Or.inr (Or.inr (Or.inr ⟨rfl, Or.inl rfl⟩)))
        refine ⟨_, rfl, f, ms_w h f (by rw [e2]; exact mv_y (mv_up hv)) (rI_p1 i8 hI) ?_ ?_⟩
        · rw [gI_s, e]
        · rw [gI_k (by omega), gI_d (by intro q; cases q), h42, e1]
    · have e : hu1_ hu r i = hu := by unfold hu1_; rw [if_neg (fun q => g0 q.1)]
      have e2 : p1_ r i = r := by unfold p1_; rw [if_neg g2, if_neg g0]
      rw [if_neg g0]
      exact ⟨m, rfl, fi_r, by rw [e, e1, e2]; exact h⟩
theorem m_passes {F ci : Nat} {w : W_T} {r : R_T} {hu sv : Int32} (hF : 200 < F) {m : pm_M} (h : ms_ m w r ci hu sv) : ∃ m', f_X8_passes F yA_ m = some ((), m') ∧ fi_ sm_ m m' ∧ ms_ m' w (pa_ w ci r) ci (hus_ hu r (wS_ w)) (svs_ sv r (wS_ w)) := by
  have h8 := h.2.1.1.1
  unfold f_X8_passes
  rw [jn_e]
  obtain ⟨k, hk⟩ : ∃ k : pm_M → Option (Unit × pm_M), k = fun (m2 : pm_M) => gd_ 100 (gR_ m2 yA_ 38) fun a3 => iz_ (!(ib_ 64 a3.2.1)) <| iz_ (!(ib_ 64 a3.2.1)) <| lt_ (pI_ m2 a3 ((64 : Int32).toNatClampNeg) ((gI_ m2 a3 (64 : Int32).toNatClampNeg) + 1)) fun m8 => f_X8_passes_L125 F yA_ F 0 m8 := ⟨_, rfl⟩
  rw [← hk]
  have key := upto_ (S := wS_ w) (P := fun n i => ∀ m, ms_ m w (p1s_ r i) ci (hus_ hu r i) (svs_ sv r i) → ∃ m', f_X8_passes_L2 F yA_ k n (ni_ i) m = k m' ∧ fi_ sm_ m m' ∧ ms_ m' w (p1s_ r (wS_ w)) ci (hus_ hu r (wS_ w)) (svs_ sv r (wS_ w))) (fun n m h => ?_) (fun n i hi ih m h => ?_) F 0 (by omega) (by omega) m h
  · obtain ⟨m1, e1, e2, e3⟩ := key
    have e1 : f_X8_passes_L2 F yA_ k F 0 m = k m1 := e1
    rw [e1, hk]
    dsimp only
    rw [show gR_ m1 yA_ 38 = some (100, 66, 1291) from e3.1 38 (by omega), gd_t, show ib_ 64 66 = true from rfl, iz_n, iz_n, lt_e, show (64 : Int32).toNatClampNeg = 64 from rfl, e3.2.2.1 64 (by omega)]
    have f : fi_ sm_ m1 (pI_ m1 (100, 66, 1291) 64 (p1s_ r (wS_ w) 64 + 1)) := fi_p2 fi_r sm_s
    have h1 : ms_ _ w (up_ (p1s_ r (wS_ w)) 64 (p1s_ r (wS_ w) 64 + 1)) ci (hus_ hu r (wS_ w)) (svs_ sv r (wS_ w)) := ms_w e3 f (mv_up e3.2.2.1) (rI_wk e3.2.2.2.1) (by rw [gI_d (by intro q; cases q)]; exact e3.2.2.2.2.2.2.1) (by rw [gI_d (by intro q; cases q)]; exact e3.2.2.2.2.2.2.2)
    obtain ⟨m', a1, a2, a3⟩ := m_p2 hF h1
    exact ⟨m', a1, fi_t (fi_t e2 f) a2, a3⟩
  · refine ⟨m, ?_, fi_r, h⟩
    rw [f_X8_passes_L2, h.2.1.2.1, if_pos (Int32.le_refl _)]
  · obtain ⟨m1, e1, e2, e3⟩ := m_p1s (F := F) (k := k) (n := n) h hi
    obtain ⟨m', a1, a2, a3⟩ := ih m1 e3
    exact ⟨m', e1.trans a1, fi_t e2 a2, a3⟩
