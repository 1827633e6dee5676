/-! THE COMPONENT'S STATE: asks, owes -/
set_option maxRecDepth 100000
/-- ints of cells of the kind 5 alone are written -/
def f5_ (m m' : pm_M) : Prop := m'.2 = m.2 ∧ ∀ a : pm_A, a.1 ≠ 5 → gI_ m' a = gI_ m a
theorem f5_r {m : pm_M} : f5_ m m := ⟨rfl, fun _ _ => rfl⟩
theorem f5_p {m m0 : pm_M} {n x k : Nat} {v : Int32} (h : f5_ m0 m) : f5_ m0 (pI_ m (5, n, x) k v) := by
  refine ⟨h.1, fun a ha => ?_⟩
  rw [← h.2 a ha]
  funext j
  rw [gI_pI, if_neg (fun q => ha (by rw [q.1]))]
theorem f5_R {m m' : pm_M} (h : f5_ m m') : gR_ m' = gR_ m := by unfold gR_; rw [h.1]
theorem rvw_5 {m m' : pm_M} {ρ : Nat} {w : W_T} (h : f5_ m m') (g : rvw_ m ρ w) : rvw_ m' ρ w := by
  unfold rvw_ rst_
  rw [f5_R h, h.2 (6, 0, ρ) (by show 6 ≠ 5; decide), h.2 (100, 8, ρ + 1) (by show 100 ≠ 5; decide), h.2 (100, 8, ρ + 2) (by show 100 ≠ 5; decide), h.2 (100, 8, ρ + 3) (by show 100 ≠ 5; decide), h.2 (100, 5, ρ + 5) (by show 100 ≠ 5; decide), h.2 (100, 5, ρ + 6) (by show 100 ≠ 5; decide), h.2 (100, 5, ρ + 7) (by show 100 ≠ 5; decide)]
  exact g
theorem tm_5 {m m' : pm_M} (h : f5_ m m') : ∀ (d : Nat) (a : pm_A) (c : List (Int32 × Int32)), tm_ m d a c → tm_ m' d a c := by
  intro d
  induction d with
  | zero => intro a c h; exact h
  | succ d ih =>
    intro a c g
    obtain ⟨g0, g⟩ := g
    refine ⟨g0, ?_⟩
    rw [f5_R h]
    rcases g with g | g | ⟨g1, a1, a2, c1, c2, o, g2, g3, g4, g5, g6⟩
    · rw [h.2 a (by omega)]; exact Or.inl g
    · rw [h.2 a (by omega)]; exact Or.inr (Or.inl g)
    · rw [h.2 a (by omega)]; exact Or.inr (Or.inr ⟨g1, a1, a2, c1, c2, o, g2, g3, ih _ _ g4, ih _ _ g5, g6⟩)
theorem lvw_5 {m m' : pm_M} {w : W_T} (h : f5_ m m') (g : lvw_ m w) : lvw_ m' w := by
  unfold lvw_
  rw [f5_R h]
  exact ⟨g.1, fun i hi => (g.2 i hi).imp id (fun ⟨a, g1, g2, g3⟩ => ⟨a, g1, g2, tm_5 h _ _ _ g3⟩)⟩
theorem cv_5 {m m' : pm_M} {b : Nat} {r : R_T} (h : f5_ m m') (g : cv_r m b r) : cv_r m' b r := by
  have e : ∀ n i, gI_ m' (100, n, i) = gI_ m (100, n, i) := fun n i => h.2 _ (by show 100 ≠ 5; decide)
  unfold cv_r
  rw [e, e, e, e, e, e, e, h.2 (4, 0, b) (by show 4 ≠ 5; decide), h.2 (102, 8, b + 8) (by show 102 ≠ 5; decide)]
  exact g
theorem sst_5 {m m' : pm_M} {b ρ : Nat} (h : f5_ m m') (g : sst_ m b ρ) : sst_ m' b ρ := by
  unfold sst_
  rw [f5_R h]
  exact g
theorem c_kinOf {F ρ p : Nat} {m : pm_M} {w : W_T} (hF : 20 < F) (h : rvw_ m ρ w) (hp : p < wS_ w) : f_X6_kinOf F (6, 0, ρ) (ni_ p) m = some (kb_ (kn_ w p) (wS_ w), m) := by
  obtain ⟨⟨s0, s1, s2, -⟩, ⟨h8, -⟩, hS, -, -, -, -, hk, -⟩ := h
  refine upto_ (S := wS_ w) (P := fun n i => f_X6_kinOf_L4 F (6, 0, ρ) (ni_ p) n (kb_ (kn_ w p) i) (ni_ i) m = some (kb_ (kn_ w p) (wS_ w), m)) (fun n => ?_) (fun n i hi ih => ?_) F 0 (by omega) (by omega)
  · simp only [f_X6_kinOf_L4, hS, Int32.le_refl, if_pos]
  · rw [f_X6_kinOf_L4, hS, if_neg (fun q => absurd ((ni_li (by omega) (by omega)).mp q) (by omega))]
    rw [kb_] at ih
    have hip : ib_ (ni_ p) 8 = true := ib_n (by omega) (by omega)
    have hii : ib_ (ni_ i) 8 = true := ib_n (by omega) (by omega)
    have cp : (ni_ p).toNatClampNeg = p := ni_c (by omega)
    have ci : (ni_ i).toNatClampNeg = i := ni_c (by omega)
    by_cases e : i = p
    · subst e
      rw [if_pos rfl, ni_s]
      rw [show kn_ w i i = false by simp [kn_]] at ih
      exact ih
    · rw [if_neg (fun q => e ((ni_eq (by omega) (by omega)).mp q)), s2, gd_t]
      simp only [hip, iz_n, cp, gd_t, hii, ci, hk p hp, hk i hi]
      by_cases e1 : wg_ w (4 * p + 2) ≤ 0
      · rw [if_pos e1, ni_s]
        rw [show kn_ w p i = false by simp [kn_, Int32.not_lt.mpr e1]] at ih
        exact ih
      · rw [if_neg e1]
        by_cases e2 : wg_ w (4 * i + 2) = wg_ w (4 * p + 2)
        · rw [if_pos e2, ni_s]
          rw [show kn_ w p i = true by simp [kn_, Int32.not_le.mp e1, e2, Ne.symm e]] at ih
          exact ih
        · rw [if_neg e2, ni_s]
          rw [show kn_ w p i = false by simp [kn_, Ne.symm e2]] at ih
          exact ih
theorem cl_c (v : Int32) : (if 0 < (if v < 999 then v else 999) then (if v < 999 then v else 999) else 0) = cl_9 v := by
  unfold cl_9
  have t0 : (0 : Int32).toInt = 0 := by decide
  have t9 : (999 : Int32).toInt = 999 := by decide
  simp only [Int32.lt_iff_toInt_lt, t0, t9]
  repeat' split
  all_goals first | rfl | (exfalso; simp only [Int32.lt_iff_toInt_lt, t0, t9] at *; omega) | (apply Int32.toInt_inj.mp; simp only [Int32.lt_iff_toInt_lt, t0, t9] at *; omega)
theorem c_lasks {F b i : Nat} {m : pm_M} {w : W_T} {fs : Nat → Int32} (h : lvw_ m w) (hi : i < 2) (hf : ∀ k, k < 8 → gI_ m (5, 0, b) k = fs k) : f_X2_asks F (2, 0, 2) (some (5, 0, b)) (ni_ i) m = some (lv_9 (wl_ w i) fs, m) := by
  have fin : ∀ v : Int32, (bm_ (f_J8_min F 999 v m) fun v12 m10 => bm_ (f_J8_max F 0 v12 m10) fun v15 m13 => some (v15, m13)) = some (cl_9 v, m) := by
    intro v
    rw [← cl_c]
    unfold f_J8_min
    split
    · rw [bm_e]; unfold f_J8_max; split <;> rfl
    · rw [bm_e]; unfold f_J8_max; split <;> rfl
  have hib : ib_ (ni_ i) 2 = true := ib_n hi (by omega)
  unfold f_X2_asks lv_9
  simp only [h.1, gd_t, hib, iz_n, jn_e, ni_c (show i < 2147483648 by omega)]
  rcases h.2 i hi with ⟨g1, g2⟩ | ⟨a, g1, g2, g3⟩
  · rw [g1, if_pos rfl, if_pos g2, hf 0 (by omega), hf 1 (by omega)]
    exact fin _
  · obtain ⟨v, e1, e2⟩ := on_tm (F := F) hf 160 160 a _ (Nat.le_refl _) g3
    rw [g1, if_neg (fun q => by cases q), if_neg g2, nn_e]
    rw [onD_k (k := fun v m => bm_ (f_J8_min F 999 v m) fun v12 m10 => bm_ (f_J8_max F 0 v12 m10) fun v15 m13 => some (v15, m13)) e1, fin, e2]
    rfl
def rI_ (w : W_T) (r : R_T) : Prop := (∀ p, p < 8 → r (40 + p) = 0 ∨ r (40 + p) = 1) ∧ (∀ p, p < 8 → (r p = 2 ∧ ∃ b, b < wT_ w ∧ r (8 + p) = ni_ b) ∨ (r p ≠ 2 ∧ r (8 + p) = -1)) ∧ 0 ≤ r 65
set_option maxHeartbeats 2000000 in
theorem c_asksBy {F b ρ p i : Nat} {m : pm_M} {w : W_T} {r : R_T} {y a : Int32} (hF : 20 < F) (hs : sst_ m b ρ) (hr : rvw_ m ρ w) (hl : lvw_ m w) (hv : cv_r m b r) (hI : rI_ w r) (hp : p < wS_ w) (hi : i < 2) : ∃ m', f_X4_asksBy F (4, 0, b) (ni_ p) y a (ni_ i) m = some (as_ w r p y a i, m') ∧ f5_ m m' ∧ fi_ (fun q _ => q = b + 9) m m' := by
  obtain ⟨⟨s0, s1, s2, s3, s4, s5, s6, s7, s8, s9⟩, s10⟩ := id hs
  obtain ⟨⟨t0, t1, t2, -⟩, ⟨h8, -⟩, hS, -, -, -, htr, -, -⟩ := id hr
  obtain ⟨v0, v1, v2, v3, v4, v5, v6, v7, v8, v9⟩ := id hv
  have hip : ib_ (ni_ p) 8 = true := ib_n (by omega) (by omega)
  have cp : (ni_ p).toNatClampNeg = p := ni_c (by omega)
  have hp8 : p < 8 := by omega
  have n100 : ∀ n x j : Nat, ((100, n, x) : pm_A) ≠ (5, 0, j) := fun n x j h => by cases h
  have n102 : ∀ n x j : Nat, ((102, n, x) : pm_A) ≠ (5, 0, j) := fun n x j h => by cases h
  have n4 : ∀ n x j : Nat, ((4, n, x) : pm_A) ≠ (5, 0, j) := fun n x j h => by cases h
  unfold f_X4_asksBy
  simp only [s8, s10, s4, gR_pI, gd_t, lt_e, t1, hip, iz_n, cp, gI_pI, n100, false_and, if_false, htr p hp, v4 p hp8]
  obtain ⟨m1, e1⟩ : ∃ x, x = pI_ (pI_ (pI_ (pI_ m (5, 0, b + 9) 0 y) (5, 0, b + 9) 1 a) (5, 0, b + 9) 2 (wg_ w (4 * p + 1))) (5, 0, b + 9) 3 (r (32 + p)) := ⟨_, rfl⟩
  rw [← e1]
  have f1 : f5_ m m1 := by rw [e1]; exact f5_p (f5_p (f5_p (f5_p f5_r)))
  rw [c_kinOf hF (rvw_5 f1 hr) hp, bm_e, bc_e, bm_e, kb_bc h8]
  have hv1 := cv_5 f1 hv
  simp only [gR_pI, f5_R f1, s7, gd_t, hip, iz_n, cp, gI_pI, n102, n100, n4, false_and, if_false, hv1.2.2.2.2.2.1 p hp8, s8, s5, s9, jn_e, hv1.2.2.2.2.2.2.1 p hp8, hv1.2.2.2.2.2.2.2.2.1, lt_e]
  obtain ⟨z5, hz5⟩ : ∃ z : Int32, z = r (40 + p) := ⟨_, rfl⟩
  have fin : ∀ x5 x6 : Int32, x5 = r (40 + p) → x6 = (if r (48 + p) = -1 then r 64 else r (48 + p)) → ∃ m', (bm_ (f_X2_asks F (2, 0, 2) (some (5, 0, b + 9)) (ni_ i) (pI_ (pI_ (pI_ (pI_ m1 (5, 0, b + 9) 4 (cM_ (kn_ w p) (wS_ w))) (5, 0, b + 9) 5 x5) (5, 0, b + 9) 6 x6) (5, 0, b + 9) 7 (r 64))) fun v82 m80 => some (v82, m80)) = some (as_ w r p y a i, m') ∧ f5_ m m' ∧ fi_ (fun q _ => q = b + 9) m m' := by
    intro x5 x6 q5 q6
    have hf9 : ∀ k, k < 8 → gI_ (pI_ (pI_ (pI_ (pI_ m1 (5, 0, b + 9) 4 (cM_ (kn_ w p) (wS_ w))) (5, 0, b + 9) 5 x5) (5, 0, b + 9) 6 x6) (5, 0, b + 9) 7 (r 64)) (5, 0, b + 9) k = fa_ w r p y a k := by
      intro k hk
      rcases (show k = 0 ∨ k = 1 ∨ k = 2 ∨ k = 3 ∨ k = 4 ∨ k = 5 ∨ k = 6 ∨ k = 7 by omega) with rfl | rfl | rfl | rfl | rfl | rfl | rfl | rfl <;> simp [gI_pI, e1, fa_, q5, q6]
    refine ⟨pI_ (pI_ (pI_ (pI_ m1 (5, 0, b + 9) 4 (cM_ (kn_ w p) (wS_ w))) (5, 0, b + 9) 5 x5) (5, 0, b + 9) 6 x6) (5, 0, b + 9) 7 (r 64), ?_, ?_, ?_⟩
    · rw [c_lasks (lvw_5 (f5_p (f5_p (f5_p (f5_p f1)))) hl) hi hf9, bm_e]
      rfl
    · exact f5_p (f5_p (f5_p (f5_p f1)))
    · rw [e1]
      exact fi_p2 (fi_p2 (fi_p2 (fi_p2 (fi_p2 (fi_p2 (fi_p2 (fi_p2 fi_r rfl) rfl) rfl) rfl) rfl) rfl) rfl) rfl
  rcases hI.1 p hp8 with q | q
  · rw [if_pos q]
    split
    · exact fin _ _ q.symm (by rw [if_pos ‹_›])
    · exact fin _ _ q.symm (by rw [if_neg ‹_›])
  · rw [if_neg (by rw [q]; decide)]
    split
    · exact fin _ _ q.symm (by rw [if_pos ‹_›])
    · exact fin _ _ q.symm (by rw [if_neg ‹_›])
