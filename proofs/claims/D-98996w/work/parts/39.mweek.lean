/-! THE MODEL: asks, owes, a week -/
set_option maxRecDepth 100000
def ms_ (m : pm_M) (w : W_T) (r : R_T) (ci : Nat) (hu sv : Int32) : Prop := mst_ m ∧ mw_ m w ∧ mv_ m 1291 r ∧ rI_ w r ∧ ci < 2 ∧ gI_ m yA_ 40 = ni_ ci ∧ gI_ m yA_ 41 = hu ∧ gI_ m yA_ 42 = sv
theorem ms_sa {m m' : pm_M} {w : W_T} {r : R_T} {ci : Nat} {hu sv : Int32} (h : ms_ m w r ci hu sv) (hf : fi_ sa_ m m') : ms_ m' w r ci hu sv := by
  obtain ⟨h1, h2, h3, h4, h5, h6, h7, h8⟩ := h
  have ey : ∀ k, gI_ m' yA_ k = gI_ m yA_ k := fun k => hf.2 _ _ (fun q => by have q : (1274 = 1286 ∨ 1274 = 1287) := q; omega)
  refine ⟨mst_fi hf h1, mw_fi hf (fun q k g => ?_) h2, mv_fi hf (fun k q => ?_) h3, h4, h5, by rw [ey]; exact h6, by rw [ey]; exact h7, by rw [ey]; exact h8⟩
  · have g : q = 1286 ∨ q = 1287 := g
    omega
  · have q : (1291 = 1286 ∨ 1291 = 1287) := q
    omega
theorem sa_sm {m m' : pm_M} (h : fi_ sa_ m m') : fi_ sm_ m m' := fi_w h (fun q k g => by
  have g : q = 1286 ∨ q = 1287 := g
  show q = 1286 ∨ q = 1287 ∨ q = 1291 ∨ (q = 1274 ∧ (k = 41 ∨ k = 42))
  omega)
set_option maxHeartbeats 2000000 in
theorem m_asksOf {F p i : Nat} {m : pm_M} {w : W_T} {r : R_T} {y a : Int32} (hF : 200 < F) (hs : mst_ m) (hw : mw_ m w) (hv : mv_ m 1291 r) (hp : p < wS_ w) (hi : i < 2) : ∃ m', f_X8_asksOf F yA_ (ni_ p) (ni_ i) y a m = some (as_ w r p y a i, m') ∧ fi_ sa_ m m' := by
  have h8 := hw.1.1
  have k28 : gR_ m yA_ 28 = some (100, 8, 1287) := hs 28 (by omega)
  have k12 : gR_ m yA_ 12 = some (100, 32, 1279) := hs 12 (by omega)
  have k38 : gR_ m yA_ 38 = some (100, 66, 1291) := hs 38 (by omega)
  have x1 : 4 * ni_ p + 1 = ni_ (4 * p + 1) := nx4 (c := 1)
  have x32 : 32 + ni_ p = ni_ (32 + p) := nx_ (c := 32)
  have x40 : 40 + ni_ p = ni_ (40 + p) := nx_ (c := 40)
  have x48 : 48 + ni_ p = ni_ (48 + p) := nx_ (c := 48)
  have d79 : ((100, 32, 1279) : pm_A) ≠ (100, 8, 1287) := by decide
  have d91 : ((100, 66, 1291) : pm_A) ≠ (100, 8, 1287) := by decide
  have l0 : ib_ 0 8 = true := rfl
  have l1 : ib_ 1 8 = true := rfl
  have l2 : ib_ 2 8 = true := rfl
  have l3 : ib_ 3 8 = true := rfl
  have l4 : ib_ 4 8 = true := rfl
  have l5 : ib_ 5 8 = true := rfl
  have l6 : ib_ 6 8 = true := rfl
  have l7 : ib_ 7 8 = true := rfl
  have l64 : ib_ 64 66 = true := rfl
  have c0 : (0 : Int32).toNatClampNeg = 0 := rfl
  have c1 : (1 : Int32).toNatClampNeg = 1 := rfl
  have c2 : (2 : Int32).toNatClampNeg = 2 := rfl
  have c3 : (3 : Int32).toNatClampNeg = 3 := rfl
  have c4 : (4 : Int32).toNatClampNeg = 4 := rfl
  have c5 : (5 : Int32).toNatClampNeg = 5 := rfl
  have c6 : (6 : Int32).toNatClampNeg = 6 := rfl
  have c7 : (7 : Int32).toNatClampNeg = 7 := rfl
  have c64 : (64 : Int32).toNatClampNeg = 64 := rfl
  unfold f_X8_asksOf
  simp only [k28, k12, k38, gR_pI, gd_t, lt_e, l0, l1, l2, l3, iz_n, x1, x32, ib_n (n := 32) (show 4 * p + 1 < 32 by omega) (by omega), ib_n (n := 66) (show 32 + p < 66 by omega) (by omega), c0, c1, c2, c3, ni_c (show 4 * p + 1 < 2147483648 by omega), ni_c (show 32 + p < 2147483648 by omega), gI_pI, d79, d91, false_and, if_false, hw.2.2.2.2.1 (4 * p + 1) (by omega), hv (32 + p) (by omega)]
  obtain ⟨m1, e1⟩ : ∃ x, x = pI_ (pI_ (pI_ (pI_ m (100, 8, 1287) 0 y) (100, 8, 1287) 1 a) (100, 8, 1287) 2 (wg_ w (4 * p + 1))) (100, 8, 1287) 3 (r (32 + p)) := ⟨_, rfl⟩
  rw [← e1]
  have f1 : fi_ sa_ m m1 := by rw [e1]; exact fi_p2 (fi_p2 (fi_p2 (fi_p2 fi_r (Or.inr rfl)) (Or.inr rfl)) (Or.inr rfl)) (Or.inr rfl)
  have gw : ∀ q k, sa_ q k → (q = 1274 ∧ (k < 18 ∨ 20 < k)) ∨ q < 1274 ∨ q = 1275 ∨ q = 1276 ∨ q = 1277 ∨ q = 1278 ∨ q = 1281 ∨ q = 1282 ∨ 1286 ≤ q := fun q k g => by
    have g : q = 1286 ∨ q = 1287 := g
    omega
  have gv : ∀ k, ¬ sa_ 1291 k := fun k q => by
    have q : (1291 = 1286 ∨ 1291 = 1287) := q
    omega
  have hs1 := mst_fi f1 hs
  have hw1 := mw_fi f1 gw hw
  have hv1 := mv_fi f1 gv hv
  rw [m_kinMany (by omega) hs1 hw1 hp, bm_e]
  simp only [fi_R f1, k28, k38, gR_pI, gd_t, lt_e, l4, l5, l6, l7, l64, iz_n, x40, x48, ib_n (n := 66) (show 40 + p < 66 by omega) (by omega), ib_n (n := 66) (show 48 + p < 66 by omega) (by omega), c4, c5, c6, c7, c64, ni_c (show 40 + p < 2147483648 by omega), ni_c (show 48 + p < 2147483648 by omega), gI_pI, d91, false_and, if_false, hv1 (40 + p) (by omega), hv1 (48 + p) (by omega), hv1 64 (by omega), jn_e]
  have fin : ∀ x6 : Int32, x6 = (if r (48 + p) = -1 then r 64 else r (48 + p)) → ∃ m', (bm_ (f_X8_asksNow F yA_ (ni_ i) (pI_ (pI_ (pI_ (pI_ m1 (100, 8, 1287) 4 (cM_ (kn_ w p) (wS_ w))) (100, 8, 1287) 5 (r (40 + p))) (100, 8, 1287) 6 x6) (100, 8, 1287) 7 (r 64))) fun v79 m77 => some (v79, m77)) = some (as_ w r p y a i, m') ∧ fi_ sa_ m m' := by
    intro x6 q6
    have f2 : fi_ sa_ m (pI_ (pI_ (pI_ (pI_ m1 (100, 8, 1287) 4 (cM_ (kn_ w p) (wS_ w))) (100, 8, 1287) 5 (r (40 + p))) (100, 8, 1287) 6 x6) (100, 8, 1287) 7 (r 64)) := fi_p2 (fi_p2 (fi_p2 (fi_p2 f1 (Or.inr rfl)) (Or.inr rfl)) (Or.inr rfl)) (Or.inr rfl)
    have hf9 : ∀ k, k < 8 → gI_ (pI_ (pI_ (pI_ (pI_ m1 (100, 8, 1287) 4 (cM_ (kn_ w p) (wS_ w))) (100, 8, 1287) 5 (r (40 + p))) (100, 8, 1287) 6 x6) (100, 8, 1287) 7 (r 64)) (100, 8, 1287) k = fa_ w r p y a k := by
      intro k hk
      rcases (show k = 0 ∨ k = 1 ∨ k = 2 ∨ k = 3 ∨ k = 4 ∨ k = 5 ∨ k = 6 ∨ k = 7 by omega) with rfl | rfl | rfl | rfl | rfl | rfl | rfl | rfl <;> simp [gI_pI, e1, fa_, q6]
    obtain ⟨m', a1, a2⟩ := m_asksNow hF hi (mst_fi f2 hs) (mw_fi f2 gw hw) hf9
    refine ⟨m', ?_, fi_t f2 (fi_w a2 (fun q k g => Or.inl g))⟩
    rw [a1, bm_e]
    rfl
  split
  · exact fin _ (by rw [if_pos ‹_›])
  · exact fin _ (by rw [if_neg ‹_›])
theorem m_asksBy {F p i ci : Nat} {m : pm_M} {w : W_T} {r : R_T} {hu sv : Int32} (hF : 200 < F) (h : ms_ m w r ci hu sv) (hp : p < wS_ w) (hi : i < 2) : ∃ m', f_X8_asksBy F yA_ (ni_ p) (ni_ i) m = some (ab_ w r p i, m') ∧ fi_ sa_ m m' := by
  obtain ⟨hs, hw, hv, -⟩ := id h
  have h8 := hw.1.1
  have x0 : 4 * ni_ p + 0 = ni_ (4 * p) := nx4 (c := 0)
  have x24 : 24 + ni_ p = ni_ (24 + p) := nx_ (c := 24)
  obtain ⟨m', a1, a2⟩ := m_asksOf (y := wg_ w (4 * p)) (a := r (24 + p)) hF hs hw hv hp hi
  refine ⟨m', ?_, a2⟩
  unfold f_X8_asksBy
  rw [x0, x24, show gR_ m yA_ 12 = some (100, 32, 1279) from hs 12 (by omega), show gR_ m yA_ 38 = some (100, 66, 1291) from hs 38 (by omega), gd_t, ib_n (n := 32) (by omega) (by omega), iz_n, gd_t, ib_n (n := 66) (by omega) (by omega), iz_n, ni_c (by omega), ni_c (by omega), hw.2.2.2.2.1 (4 * p) (by omega), hv (24 + p) (by omega), a1, bm_e]
  rfl
theorem m_owesOf {F p ci : Nat} {m : pm_M} {w : W_T} {r : R_T} {hu sv : Int32} (hF : 200 < F) (h : ms_ m w r ci hu sv) (hp : p < wS_ w) : ∃ m', f_X8_owesOf F yA_ (ni_ p) m = some (ow_ w r p ci, m') ∧ fi_ sa_ m m' := by
  obtain ⟨hs, hw, hv, -, hci, h40, -⟩ := id h
  have h8 := hw.1.1
  have x0 : 0 + ni_ p = ni_ p := Int32.zero_add _
  have x16 : 16 + ni_ p = ni_ (16 + p) := nx_ (c := 16)
  unfold f_X8_owesOf ow_
  rw [x0, x16, show gR_ m yA_ 38 = some (100, 66, 1291) from hs 38 (by omega), gd_t, ib_n (n := 66) (by omega) (by omega), iz_n, ni_c (by omega), hv p (by omega)]
  by_cases g : r p = 3
  · rw [if_pos g, if_pos g]
    exact ⟨m, rfl, fi_r⟩
  · rw [if_neg g, if_neg g, h40]
    obtain ⟨m', a1, a2⟩ := m_asksBy hF h hp hci
    refine ⟨m', ?_, a2⟩
    rw [a1, bm_e, show gR_ m' yA_ 38 = some (100, 66, 1291) from (mst_fi a2 hs) 38 (by omega), gd_t, ib_n (n := 66) (by omega) (by omega), iz_n, ni_c (by omega), (ms_sa h a2).2.2.1 (16 + p) (by omega)]
    by_cases e : ab_ w r p ci - r (16 + p) ≤ 0
    · rw [if_pos e, if_neg (Int32.not_lt.mpr e)]
    · rw [if_neg e, if_pos (Int32.not_le.mp e)]
