/-! THE COMPONENT'S STATE: what its methods compute -/
set_option maxRecDepth 100000
def sst_ (m : pm_M) (b ρ : Nat) : Prop :=
  (gR_ m (4, 0, b) 0 = some (100, 8, b + 1) ∧ gR_ m (4, 0, b) 1 = some (100, 8, b + 2) ∧ gR_ m (4, 0, b) 2 = some (100, 8, b + 3) ∧ gR_ m (4, 0, b) 3 = some (100, 8, b + 4) ∧ gR_ m (4, 0, b) 4 = some (100, 8, b + 5) ∧ gR_ m (4, 0, b) 5 = some (100, 8, b + 6) ∧ gR_ m (4, 0, b) 6 = some (100, 8, b + 7) ∧ gR_ m (4, 0, b) 7 = some (102, 8, b + 8) ∧ gR_ m (4, 0, b) 8 = some (5, 0, b + 9) ∧ gR_ m (4, 0, b) 9 = some (2, 0, 2)) ∧ gR_ m (4, 0, b) 10 = some (6, 0, ρ)
def rst_ (m : pm_M) (ρ : Nat) : Prop :=
  gR_ m (6, 0, ρ) 0 = some (100, 8, ρ + 1) ∧ gR_ m (6, 0, ρ) 1 = some (100, 8, ρ + 2) ∧ gR_ m (6, 0, ρ) 2 = some (100, 8, ρ + 3) ∧ gR_ m (6, 0, ρ) 3 = some (100, 8, ρ + 4) ∧ gR_ m (6, 0, ρ) 4 = some (100, 5, ρ + 5) ∧ gR_ m (6, 0, ρ) 5 = some (100, 5, ρ + 6) ∧ gR_ m (6, 0, ρ) 6 = some (100, 5, ρ + 7)
/-- a register told: the world w -/
def rvw_ (m : pm_M) (ρ : Nat) (w : W_T) : Prop :=
  rst_ m ρ ∧ (wS_ w ≤ 8 ∧ wT_ w ≤ 5) ∧ gI_ m (6, 0, ρ) 7 = ni_ (wS_ w) ∧ gI_ m (6, 0, ρ) 8 = ni_ (wT_ w) ∧ gI_ m (6, 0, ρ) 10 = wv_ w ∧
  (∀ p, p < wS_ w → gI_ m (100, 8, ρ + 1) p = wg_ w (4 * p)) ∧ (∀ p, p < wS_ w → gI_ m (100, 8, ρ + 2) p = wg_ w (4 * p + 1)) ∧ (∀ p, p < wS_ w → gI_ m (100, 8, ρ + 3) p = wg_ w (4 * p + 2)) ∧
  (∀ b, b < wT_ w → gI_ m (100, 5, ρ + 5) b = wt_ w (3 * b)) ∧ (∀ b, b < wT_ w → gI_ m (100, 5, ρ + 6) b = wt_ w (3 * b + 1)) ∧ (∀ b, b < wT_ w → gI_ m (100, 5, ρ + 7) b = wt_ w (3 * b + 2))
/-- a law's tree of at most d floors, as code -/
def tm_ (m : pm_M) : Nat → pm_A → List (Int32 × Int32) → Prop
  | 0, _, _ => False
  | d + 1, a, c => 1305 ≤ a.2.2 ∧ ((a.1 = 14 ∧ c = [(0, gI_ m a 0)]) ∨ (a.1 = 15 ∧ (∃ k : Nat, k < 8 ∧ gI_ m a 0 = ni_ k) ∧ c = [(1, gI_ m a 0)]) ∨
    (a.1 = 13 ∧ ∃ (a1 a2 : pm_A) (c1 c2 : List (Int32 × Int32)) (o : Int32), gR_ m a 1 = some a1 ∧ gR_ m a 2 = some a2 ∧ tm_ m d a1 c1 ∧ tm_ m d a2 c2 ∧ c = c1 ++ (c2 ++ [(o, 0)]) ∧ ((gI_ m a 0 = 43 ∧ o = 2) ∨ (gI_ m a 0 = 45 ∧ o = 3) ∨ (gI_ m a 0 = 42 ∧ o = 4) ∨ (gI_ m a 0 = 47 ∧ o = 5) ∨ (gI_ m a 0 = 91 ∧ o = 6) ∨ (gI_ m a 0 = 93 ∧ o = 7))))
def lvw_ (m : pm_M) (w : W_T) : Prop :=
  gR_ m (2, 0, 2) 0 = some (106, 2, 3) ∧ ∀ i, i < 2 → (gR_ m (106, 2, 3) i = none ∧ wl_ w i = []) ∨ (∃ a : pm_A, gR_ m (106, 2, 3) i = some a ∧ wl_ w i ≠ [] ∧ tm_ m 160 a (wl_ w i))
/-- a State's row -/
def cv_r (m : pm_M) (b : Nat) (r : R_T) : Prop :=
  (∀ p, p < 8 → gI_ m (100, 8, b + 1) p = r p) ∧ (∀ p, p < 8 → gI_ m (100, 8, b + 2) p = r (8 + p)) ∧ (∀ p, p < 8 → gI_ m (100, 8, b + 3) p = r (16 + p)) ∧ (∀ p, p < 8 → gI_ m (100, 8, b + 4) p = r (24 + p)) ∧ (∀ p, p < 8 → gI_ m (100, 8, b + 5) p = r (32 + p)) ∧ (∀ p, p < 8 → gI_ m (102, 8, b + 8) p = r (40 + p)) ∧ (∀ p, p < 8 → gI_ m (100, 8, b + 6) p = r (48 + p)) ∧ (∀ p, p < 8 → gI_ m (100, 8, b + 7) p = r (56 + p)) ∧ gI_ m (4, 0, b) 11 = r 64 ∧ gI_ m (4, 0, b) 12 = r 65
theorem tm_fi {S : Nat → Nat → Prop} {m m' : pm_M} (h : fi_ S m m') (hS : ∀ q k, S q k → q < 1305) : ∀ (d : Nat) (a : pm_A) (c : List (Int32 × Int32)), tm_ m d a c → tm_ m' d a c := by
  intro d
  induction d with
  | zero => intro a c h; exact h
  | succ d ih =>
    intro a c g
    obtain ⟨g0, g⟩ := g
    have e : gI_ m' a = gI_ m a := fi_a h (fun k q => by have := hS _ _ q; omega)
    refine ⟨g0, ?_⟩
    rw [e, fi_R h]
    rcases g with g | g | ⟨g1, a1, a2, c1, c2, o, g2, g3, g4, g5, g6⟩
    · exact Or.inl g
    · exact Or.inr (Or.inl g)
    · exact Or.inr (Or.inr ⟨g1, a1, a2, c1, c2, o, g2, g3, ih _ _ g4, ih _ _ g5, g6⟩)
theorem lvw_fi {S : Nat → Nat → Prop} {m m' : pm_M} {w : W_T} (h : fi_ S m m') (hS : ∀ q k, S q k → q < 1305) (g : lvw_ m w) : lvw_ m' w := by
  unfold lvw_
  rw [fi_R h]
  exact ⟨g.1, fun i hi => (g.2 i hi).imp id (fun ⟨a, g1, g2, g3⟩ => ⟨a, g1, g2, tm_fi h hS _ _ _ g3⟩)⟩
theorem sst_fi {S : Nat → Nat → Prop} {m m' : pm_M} {b ρ : Nat} (h : fi_ S m m') (g : sst_ m b ρ) : sst_ m' b ρ := by
  unfold sst_
  rw [fi_R h]
  exact g
theorem rvw_fi {S : Nat → Nat → Prop} {m m' : pm_M} {ρ : Nat} {w : W_T} (h : fi_ S m m') (hS : ∀ q k, S q k → q < ρ ∨ ρ + 8 ≤ q) (g : rvw_ m ρ w) : rvw_ m' ρ w := by
  have e : ∀ (x n i : Nat), i < 8 → gI_ m' (x, n, ρ + i) = gI_ m (x, n, ρ + i) := fun x n i hi => fi_a h (fun k q => by have := hS _ _ q; simp only at this; omega)
  unfold rvw_ rst_
  rw [fi_R h, e 100 8 1 (by omega), e 100 8 2 (by omega), e 100 8 3 (by omega), e 100 5 5 (by omega), e 100 5 6 (by omega), e 100 5 7 (by omega), show gI_ m' (6, 0, ρ) = gI_ m (6, 0, ρ) from e 6 0 0 (by omega)]
  exact g
/-- terms on a sight -/
theorem on_known {F : Nat} {m : pm_M} {b k : Nat} {fs : Nat → Int32} (hk : k < 8) (hf : ∀ k, k < 8 → gI_ m (5, 0, b) k = fs k) : f_X5_known F (5, 0, b) (ni_ k) m = some (fs k, m) := by
  rcases (show k = 0 ∨ k = 1 ∨ k = 2 ∨ k = 3 ∨ k = 4 ∨ k = 5 ∨ k = 6 ∨ k = 7 by omega) with rfl | rfl | rfl | rfl | rfl | rfl | rfl | rfl <;> rw [← hf _ (by omega)] <;> rfl
def onD_ (F D : Nat) (a : pm_A) (i : Option pm_A) (m : pm_M) : Option (Int32 × pm_M) := if a.1 = 14 then f_X14_on F a i m else if a.1 = 15 then f_X15_on F a i m else if a.1 = 13 then f_X13_on F D a i m else none
theorem onD_k {F D : Nat} {a : pm_A} {i : Option pm_A} {m m' : pm_M} {v : Int32} {β : Type} {k : Int32 → pm_M → Option β} (h : onD_ F D a i m = some (v, m')) : (if a.1 = 14 then bm_ (f_X14_on F a i m) (fun v m => k v m) else if a.1 = 15 then bm_ (f_X15_on F a i m) (fun v m => k v m) else if a.1 = 13 then bm_ (f_X13_on F D a i m) (fun v m => k v m) else none) = k v m' := by
  unfold onD_ at h
  split at h
  · rw [if_pos ‹_›, h]; rfl
  · rw [if_neg ‹_›]
    split at h
    · rw [if_pos ‹_›, h]; rfl
    · rw [if_neg ‹_›]
      split at h
      · rw [if_pos ‹_›, h]; rfl
      · cases h
theorem on_tm {F : Nat} {m : pm_M} {b : Nat} {fs : Nat → Int32} (hf : ∀ k, k < 8 → gI_ m (5, 0, b) k = fs k) : ∀ (d D : Nat) (a : pm_A) (c : List (Int32 × Int32)), d ≤ D → tm_ m d a c → ∃ v : Int32, onD_ F D a (some (5, 0, b)) m = some (v, m) ∧ ∀ st, ev_ fs c st = v :: st := by
  intro d
  induction d with
  | zero => intro D a c _ h; exact h.elim
  | succ d ih =>
    intro D a c hD h
    obtain ⟨-, g | g | g⟩ := h
    · refine ⟨gI_ m a 0, ?_, fun st => by rw [g.2]; rfl⟩
      unfold onD_
      rw [if_pos g.1]
      rfl
    · obtain ⟨g1, ⟨k, hk, g2⟩, g3⟩ := g
      refine ⟨fs k, ?_, fun st => by
        rw [g3, g2]
        show (fs (ni_ k).toNatClampNeg :: st) = _
        rw [ni_c (by omega)]⟩
      unfold onD_
      rw [if_neg (by omega), if_pos g1]
      unfold f_X15_on
      rw [gd_t, g2, on_known hk hf, bm_e]
    · obtain ⟨g1, a1, a2, c1, c2, o, g2, g3, g4, g5, g6, g7⟩ := g
      obtain ⟨D', rfl⟩ : ∃ D', D = D' + 1 := ⟨D - 1, by omega⟩
      obtain ⟨v1, h1, e1⟩ := ih D' a1 c1 (by omega) g4
      obtain ⟨v2, h2, e2⟩ := ih D' a2 c2 (by omega) g5
      refine ⟨op_ o v1 v2, ?_, fun st => ?_⟩
      · unfold onD_
        rw [if_neg (by omega), if_neg (by omega), if_pos g1]
        show b_X13_on F (f_X13_on F D') a (some (5, 0, b)) m = _
        unfold b_X13_on
        rw [g2, nn_e, jn_e, onD_k h1, g3, nn_e, jn_e, onD_k h2]
        rcases g7 with ⟨q, rfl⟩ | ⟨q, rfl⟩ | ⟨q, rfl⟩ | ⟨q, rfl⟩ | ⟨q, rfl⟩ | ⟨q, rfl⟩
        · rw [q]; rfl
        · rw [q]; rfl
        · rw [q]; rfl
        · rw [q]
          by_cases z : v2 = 0
          · subst z; rfl
          · show (if v2 = 0 then some (0, m) else iz_ (decide (v2 = 0)) (some (v1 / v2, m))) = some (if v2 = 0 then 0 else v1 / v2, m)
            rw [if_neg z, if_neg z, decide_eq_false z, iz_f]
        · rw [q]
          show bm_ (f_J8_min F v1 v2 m) (fun v m => some (v, m)) = some (if v2 < v1 then v2 else v1, m)
          unfold f_J8_min
          split <;> rfl
        · rw [q]
          show bm_ (f_J8_max F v1 v2 m) (fun v m => some (v, m)) = some (if v1 < v2 then v2 else v1, m)
          unfold f_J8_max
          split <;> rfl
      · rw [g6, ev_app, e1, ev_app, e2]
        rcases g7 with ⟨q, rfl⟩ | ⟨q, rfl⟩ | ⟨q, rfl⟩ | ⟨q, rfl⟩ | ⟨q, rfl⟩ | ⟨q, rfl⟩ <;> rfl
