/-! COPIES: the model's take; the component's as -/
set_option maxRecDepth 100000
theorem m_copies {F la lb a b N : Nat} {m : pm_M} (hF : N + 1 < F) (hN : N < 10000) (hab : a ≠ b) (ha : N ≤ la) (hb : N ≤ lb) : ∃ m', f_X8_copies F yA_ (some (100, la, a)) (some (100, lb, b)) (ni_ N) m = some ((), m') ∧ fi_ (fun q k => q = b ∧ k < N) m m' ∧ ∀ k, k < N → gI_ m' (100, lb, b) k = gI_ m (100, la, a) k := by
  refine upto_ (S := N) (P := fun n i => ∀ m1, fi_ (fun q k => q = b ∧ k < N) m m1 → (∀ k, k < i → gI_ m1 (100, lb, b) k = gI_ m (100, la, a) k) → ∃ m', f_X8_copies_L3 F (some (100, la, a)) (some (100, lb, b)) (ni_ N) n (ni_ i) m1 = some ((), m') ∧ fi_ (fun q k => q = b ∧ k < N) m m' ∧ ∀ k, k < N → gI_ m' (100, lb, b) k = gI_ m (100, la, a) k) (fun n m1 f h => ?_) (fun n i hi ih m1 f h => ?_) F 0 (by omega) (by omega) m fi_r (fun k hk => by omega)
  · refine ⟨m1, ?_, f, h⟩
    rw [f_X8_copies_L3, if_pos (Int32.le_refl _)]
  · rw [f_X8_copies_L3, if_neg (fun q => absurd ((ni_li (by omega) (by omega)).mp q) (by omega)), gd_t, ib_n (n := la) (by omega) (by omega), iz_n, gd_t, ib_n (n := lb) (by omega) (by omega), iz_n, ni_c (by omega), lt_e, ni_s]
    have e : gI_ m1 (100, la, a) i = gI_ m (100, la, a) i := f.2 _ _ (fun q => hab q.1)
    refine ih _ (fi_p2 f ⟨rfl, hi⟩) (fun k hk => ?_)
    by_cases g : k = i
    · subst g; rw [gI_s, e]
    · rw [gI_k g]; exact h k (by omega)
def st_9 : Nat → Nat → Prop := fun q k => q = 1291 ∨ (q = 1274 ∧ (k = 40 ∨ k = 41 ∨ k = 42))
theorem m_take {F : Nat} {m : pm_M} {w : W_T} {r : R_T} (hF : 200 < F) (hs : mst_ m) (hw : mw_ m w) (hv : mv_ m 1290 r) (hI : rI_ w r) : ∃ m', f_X8_take F yA_ m = some ((), m') ∧ fi_ st_9 m m' ∧ ms_ m' w r 0 0 0 := by
  obtain ⟨m1, a1, a2, a3⟩ := m_copies (F := F) (la := 66) (lb := 66) (a := 1290) (b := 1291) (N := 66) (m := m) (by omega) (by omega) (by omega) (Nat.le_refl _) (Nat.le_refl _)
  have a1 : f_X8_copies F yA_ (some (100, 66, 1290)) (some (100, 66, 1291)) 66 m = some ((), m1) := a1
  have f1 : fi_ st_9 m m1 := fi_w a2 (fun q k g => Or.inl g.1)
  have f : fi_ st_9 m (pI_ (pI_ (pI_ m1 yA_ 40 0) yA_ 41 0) yA_ 42 0) := fi_p2 (fi_p2 (fi_p2 f1 (Or.inr ⟨rfl, Or.inl rfl⟩)) (Or.inr ⟨rfl, Or.inr (Or.inl rfl)⟩)) (Or.inr ⟨rfl, Or.inr (Or.inr rfl)⟩)
  refine ⟨_, ?_, f, mst_fi f hs, mw_fi f (fun q k g => ?_) hw, mv_y (mv_y (mv_y (fun k hk => ?_))), hI, by omega, ?_, ?_, gI_s⟩
  · unfold f_X8_take
    rw [show gR_ m yA_ 37 = some (100, 66, 1290) from hs 37 (by omega), show gR_ m yA_ 38 = some (100, 66, 1291) from hs 38 (by omega), a1, bm_e, lt_e, lt_e, lt_e]
  · have g : q = 1291 ∨ (q = 1274 ∧ (k = 40 ∨ k = 41 ∨ k = 42)) := g
    omega
  · rw [a3 k hk]; exact hv k hk
  · rw [gI_k (by omega), gI_k (by omega), gI_s]; rfl
  · rw [gI_k (by omega), gI_s]
