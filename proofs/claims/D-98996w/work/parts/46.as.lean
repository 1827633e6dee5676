/-! COPIES: the component's State as another -/
set_option maxRecDepth 100000
theorem pC_r {m : pm_M} {A B : pm_A} {p : Nat} (hp : p < 8) : gI_ (pC_ m A 0 B 0 8) B p = gI_ m A p := by
  rw [pC_up]
  unfold va_cpy
  rw [if_pos (by omega)]
  congr 1
  omega
theorem pC_fi {S : Nat → Nat → Prop} {m0 m : pm_M} {A B : pm_A} (h : fi_ S m0 m) (hS : ∀ k, S B.2.2 k) : fi_ S m0 (pC_ m A 0 B 0 8) := by
  refine fi_t h ⟨rfl, fun x k n => ?_⟩
  rw [pC_ne (fun q => n (by rw [q]; exact hS k))]
theorem pC_R {m : pm_M} {A B : pm_A} {i j n : Nat} : gR_ (pC_ m A i B j n) = gR_ m := funext fun _ => rfl
theorem c_cpy {F x y : Nat} {m : pm_M} : f_X4_copies F (some (100, 8, x)) (some (100, 8, y)) m = some ((), pC_ m (100, 8, x) 0 (100, 8, y) 0 8) := rfl
theorem lvw_pR {m : pm_M} {w : W_T} {b : Nat} {v : Option pm_A} (h : lvw_ m w) : lvw_ (pR_ m (4, 0, b) 10 v) w := by
  have e : ∀ a k, a ≠ ((4, 0, b) : pm_A) → gR_ (pR_ m (4, 0, b) 10 v) a k = gR_ m a k := fun a k q => by rw [gR_pR, if_neg (fun g => q g.1)]
  have tm : ∀ (d : Nat) (a : pm_A) (c : List (Int32 × Int32)), tm_ m d a c → tm_ (pR_ m (4, 0, b) 10 v) d a c := by
    intro d
    induction d with
    | zero => intro a c h; exact h
    | succ d ih =>
      intro a c g
      obtain ⟨g0, g⟩ := g
      refine ⟨g0, ?_⟩
      rw [gI_pR]
      rcases g with g | g | ⟨g1, a1, a2, c1, c2, o, g2, g3, g4, g5, g6⟩
      · exact Or.inl g
      · exact Or.inr (Or.inl g)
      · have ne : a ≠ ((4, 0, b) : pm_A) := fun q => by rw [q] at g1; cases g1
        exact Or.inr (Or.inr ⟨g1, a1, a2, c1, c2, o, by rw [e _ _ ne]; exact g2, by rw [e _ _ ne]; exact g3, ih _ _ g4, ih _ _ g5, g6⟩)
  refine ⟨by rw [e _ _ (by intro q; cases q)]; exact h.1, fun i hi => ?_⟩
  rw [e _ _ (by intro q; cases q)]
  exact (h.2 i hi).imp id (fun ⟨a, g1, g2, g3⟩ => ⟨a, g1, g2, tm _ _ _ g3⟩)
theorem rvw_pR {m : pm_M} {w : W_T} {b ρ : Nat} {v : Option pm_A} (h : rvw_ m ρ w) : rvw_ (pR_ m (4, 0, b) 10 v) ρ w := by
  have e : ∀ k, gR_ (pR_ m (4, 0, b) 10 v) (6, 0, ρ) k = gR_ m (6, 0, ρ) k := fun k => by rw [gR_pR, if_neg (fun g => by cases g.1)]
  unfold rvw_ rst_
  rw [e, e, e, e, e, e, e, gI_pR]
  exact h
set_option maxHeartbeats 2000000 in
theorem c_as {F b b2 ρ ρ2 ci : Nat} {m : pm_M} {w : W_T} {r : R_T} (h : cs_ m b2 ρ w r ci) (hd : sst_ m b ρ2) (hb : b + 10 ≤ b2 ∨ b2 + 10 ≤ b) (hab : ρ + 8 ≤ b ∨ b + 10 ≤ ρ) (hb3 : b + 10 ≤ 1305) :
    ∃ m', f_X4_as F (4, 0, b) (some (4, 0, b2)) m = some (some (4, 0, b), m') ∧ fi_ (so_ b) (pR_ m (4, 0, b) 10 (some (6, 0, ρ))) m' ∧ cs_ m' b ρ w r 0 := by
  obtain ⟨⟨⟨s0, s1, s2, s3, s4, s5, s6, s7, s8, s9⟩, s10⟩, hr, hl, hv, hI, hci, hct, -, hb2⟩ := id h
  obtain ⟨⟨t0, t1, t2, t3, t4, t5, t6, t7, t8, t9⟩, t10⟩ := id hd
  obtain ⟨v0, v1, v2, v3, v4, v5, v6, v7, v8, v9⟩ := id hv
  have nb : b2 ≠ b := by omega
  have n4 : ((4, 0, b2) : pm_A) ≠ (4, 0, b) := fun q => nb (by cases q; rfl)
  obtain ⟨M, eM⟩ : ∃ M, M = pR_ m (4, 0, b) 10 (some (6, 0, ρ)) := ⟨_, rfl⟩
  have eI : gI_ M = gI_ m := by rw [eM, gI_pR]
  have eR2 : ∀ k, gR_ M (4, 0, b2) k = gR_ m (4, 0, b2) k := fun k => by rw [eM, gR_pR, if_neg (fun g => n4 g.1)]
  have eR : ∀ k, k ≠ 10 → gR_ M (4, 0, b) k = gR_ m (4, 0, b) k := fun k hk => by rw [eM, gR_pR, if_neg (fun g => hk g.2)]
  have eR10 : gR_ M (4, 0, b) 10 = some (6, 0, ρ) := by rw [eM, gR_pR, if_pos ⟨rfl, rfl⟩]
  obtain ⟨N, eN⟩ : ∃ N, N = pI_ (pI_ (pI_ M (4, 0, b) 11 (r 64)) (4, 0, b) 12 (r 65)) (4, 0, b) 13 0 := ⟨_, rfl⟩
  have fN : fi_ (so_ b) M N := by rw [eN]; exact fi_p2 (fi_p2 (fi_p2 fi_r (so_i (i := 0) (by omega))) (so_i (i := 0) (by omega))) (so_i (i := 0) (by omega))
  have rN : gR_ N = gR_ M := fi_R fN
  have iN : ∀ (n k x p : Nat), ((n, k, x) : pm_A) ≠ (4, 0, b) → gI_ N (n, k, x) p = gI_ m (n, k, x) p := fun n k x p q => by
    rw [eN, gI_d q, gI_d q, gI_d q, eI]
  obtain ⟨C, eC⟩ : ∃ C, C = pC_ (pC_ (pC_ (pC_ (pC_ (pC_ (pC_ N (100, 8, b2 + 1) 0 (100, 8, b + 1) 0 8) (100, 8, b2 + 2) 0 (100, 8, b + 2) 0 8) (100, 8, b2 + 3) 0 (100, 8, b + 3) 0 8) (100, 8, b2 + 4) 0 (100, 8, b + 4) 0 8) (100, 8, b2 + 5) 0 (100, 8, b + 5) 0 8) (100, 8, b2 + 6) 0 (100, 8, b + 6) 0 8) (100, 8, b2 + 7) 0 (100, 8, b + 7) 0 8 := ⟨_, rfl⟩
  have so : ∀ i, i < 10 → ∀ k, so_ b (b + i) k := fun i hi k => so_i hi
  have fC : fi_ (so_ b) M C := by
    rw [eC]
    exact pC_fi (pC_fi (pC_fi (pC_fi (pC_fi (pC_fi (pC_fi fN (so 1 (by omega))) (so 2 (by omega))) (so 3 (by omega))) (so 4 (by omega))) (so 5 (by omega))) (so 6 (by omega))) (so 7 (by omega))
  have ne : ∀ i j : Nat, i < 10 → j < 10 → ((100, 8, b2 + i) : pm_A) ≠ (100, 8, b + j) := fun i j hi hj q => by
    have := congrArg (fun z : pm_A => z.2.2) q
    simp only at this
    omega
  have nd : ∀ i j : Nat, i ≠ j → ((100, 8, b + i) : pm_A) ≠ (100, 8, b + j) := fun i j hij q => by
    have := congrArg (fun z : pm_A => z.2.2) q
    simp only at this
    omega
  have nl : ∀ (x j : Nat), ((102, 8, x) : pm_A) ≠ (100, 8, j) := fun x j q => by cases q
  have lostC : ∀ p, gI_ C (102, 8, b2 + 8) p = gI_ m (102, 8, b2 + 8) p := fun p => by
    rw [eC, pC_ne (nl _ _), pC_ne (nl _ _), pC_ne (nl _ _), pC_ne (nl _ _), pC_ne (nl _ _), pC_ne (nl _ _), pC_ne (nl _ _), iN _ _ _ _ (by intro q; cases q)]
  have hbz : bz_ C (102, 8, b2 + 8) 0 8 = true := by
    unfold bz_
    rw [List.all_eq_true]
    intro i hi
    have hi8 : i < 8 := List.mem_range.mp hi
    rw [Nat.zero_add, lostC, v5 i hi8]
    rcases hI.1 i hi8 with q | q <;> rw [q] <;> rfl
  have run : f_X4_as F (4, 0, b) (some (4, 0, b2)) m = some (some (4, 0, b), pC_ C (102, 8, b2 + 8) 0 (102, 8, b + 8) 0 8) := by
    unfold f_X4_as
    rw [gd_t, lt_e, s10, ← eM, lt_e, eI, v8, lt_e, gI_d n4, eI, v9, lt_e, ← eN]
    simp only [pC_R, rN, eR2, s0, s1, s2, s3, s4, s5, s6, s7, eR 0 (by omega), eR 1 (by omega), eR 2 (by omega), eR 3 (by omega), eR 4 (by omega), eR 5 (by omega), eR 6 (by omega), eR 7 (by omega), t0, t1, t2, t3, t4, t5, t6, t7, c_cpy, bm_e, gd_t]
    rw [← eC, hbz, lt_e]
    rfl
  have f : fi_ (so_ b) M (pC_ C (102, 8, b2 + 8) 0 (102, 8, b + 8) 0 8) := pC_fi fC (so 8 (by omega))
  have rst : gR_ (pC_ C (102, 8, b2 + 8) 0 (102, 8, b + 8) 0 8) = gR_ M := fi_R f
  have m4 : ∀ k, gI_ (pC_ C (102, 8, b2 + 8) 0 (102, 8, b + 8) 0 8) (4, 0, b) k = gI_ N (4, 0, b) k := fun k => by
    rw [pC_ne (by intro q; cases q), eC, pC_ne (by intro q; cases q), pC_ne (by intro q; cases q), pC_ne (by intro q; cases q), pC_ne (by intro q; cases q), pC_ne (by intro q; cases q), pC_ne (by intro q; cases q), pC_ne (by intro q; cases q)]
  have hs' : sst_ (pC_ C (102, 8, b2 + 8) 0 (102, 8, b + 8) 0 8) b ρ := by
    unfold sst_
    rw [rst, eR 0 (by omega), eR 1 (by omega), eR 2 (by omega), eR 3 (by omega), eR 4 (by omega), eR 5 (by omega), eR 6 (by omega), eR 7 (by omega), eR 8 (by omega), eR 9 (by omega)]
    exact ⟨⟨t0, t1, t2, t3, t4, t5, t6, t7, t8, t9⟩, eR10⟩
  rw [← eM]
  refine ⟨_, run, f, hs', rvw_fi f (fun q k g => ?_) (by rw [eM]; exact rvw_pR hr), lvw_fi f (fun q k g => ?_) (by rw [eM]; exact lvw_pR hl), ⟨?_, ?_, ?_, ?_, ?_, ?_, ?_, ?_, ?_, ?_⟩, hI, by omega, ?_, hab, hb3⟩
  · have g : b ≤ q ∧ q < b + 10 := g
    omega
  · have g : b ≤ q ∧ q < b + 10 := g
    omega
  · intro p hp
    rw [pC_ne (fun q => nl _ _ q.symm), eC, pC_ne (nd 1 7 (by omega)), pC_ne (nd 1 6 (by omega)), pC_ne (nd 1 5 (by omega)), pC_ne (nd 1 4 (by omega)), pC_ne (nd 1 3 (by omega)), pC_ne (nd 1 2 (by omega)), pC_r hp, iN _ _ _ _ (by intro q; cases q)]
    exact v0 p hp
  · intro p hp
    rw [pC_ne (fun q => nl _ _ q.symm), eC, pC_ne (nd 2 7 (by omega)), pC_ne (nd 2 6 (by omega)), pC_ne (nd 2 5 (by omega)), pC_ne (nd 2 4 (by omega)), pC_ne (nd 2 3 (by omega)), pC_r hp, pC_ne (ne 2 1 (by omega) (by omega)), iN _ _ _ _ (by intro q; cases q)]
    exact v1 p hp
  · intro p hp
    rw [pC_ne (fun q => nl _ _ q.symm), eC, pC_ne (nd 3 7 (by omega)), pC_ne (nd 3 6 (by omega)), pC_ne (nd 3 5 (by omega)), pC_ne (nd 3 4 (by omega)), pC_r hp, pC_ne (ne 3 2 (by omega) (by omega)), pC_ne (ne 3 1 (by omega) (by omega)), iN _ _ _ _ (by intro q; cases q)]
    exact v2 p hp
  · intro p hp
    rw [pC_ne (fun q => nl _ _ q.symm), eC, pC_ne (nd 4 7 (by omega)), pC_ne (nd 4 6 (by omega)), pC_ne (nd 4 5 (by omega)), pC_r hp, pC_ne (ne 4 3 (by omega) (by omega)), pC_ne (ne 4 2 (by omega) (by omega)), pC_ne (ne 4 1 (by omega) (by omega)), iN _ _ _ _ (by intro q; cases q)]
    exact v3 p hp
  · intro p hp
    rw [pC_ne (fun q => nl _ _ q.symm), eC, pC_ne (nd 5 7 (by omega)), pC_ne (nd 5 6 (by omega)), pC_r hp, pC_ne (ne 5 4 (by omega) (by omega)), pC_ne (ne 5 3 (by omega) (by omega)), pC_ne (ne 5 2 (by omega) (by omega)), pC_ne (ne 5 1 (by omega) (by omega)), iN _ _ _ _ (by intro q; cases q)]
    exact v4 p hp
  · intro p hp
    rw [pC_r hp, lostC]
    exact v5 p hp
  · intro p hp
    rw [pC_ne (fun q => nl _ _ q.symm), eC, pC_ne (nd 6 7 (by omega)), pC_r hp, pC_ne (ne 6 5 (by omega) (by omega)), pC_ne (ne 6 4 (by omega) (by omega)), pC_ne (ne 6 3 (by omega) (by omega)), pC_ne (ne 6 2 (by omega) (by omega)), pC_ne (ne 6 1 (by omega) (by omega)), iN _ _ _ _ (by intro q; cases q)]
    exact v6 p hp
  · intro p hp
    rw [pC_ne (fun q => nl _ _ q.symm), eC, pC_r hp, pC_ne (ne 7 6 (by omega) (by omega)), pC_ne (ne 7 5 (by omega) (by omega)), pC_ne (ne 7 4 (by omega) (by omega)), pC_ne (ne 7 3 (by omega) (by omega)), pC_ne (ne 7 2 (by omega) (by omega)), pC_ne (ne 7 1 (by omega) (by omega)), iN _ _ _ _ (by intro q; cases q)]
    exact v7 p hp
  · rw [m4, eN, gI_k (by omega), gI_k (by omega), gI_s]
  · rw [m4, eN, gI_k (by omega), gI_s]
  · rw [m4, eN, gI_s]
    rfl
