/-! BIDS: who has what; who is best -/
set_option maxRecDepth 100000
def hb9_ (a b v : Int32) : Int32 := if a ≤ b then (if a = b then (v - a) / 2 else 0) else v - a
theorem c_hasBy {F : Nat} {a b v : Int32} {m : pm_M} : f_X1_hasBy F a b v m = some (hb9_ a b v, m) := by
  unfold f_X1_hasBy hb9_
  split
  · split <;> rfl
  · rfl
theorem m_hasBy {F : Nat} {a b v : Int32} {m : pm_M} : f_X8_hasBy F a b v m = some (hb9_ a b v, m) := c_hasBy (F := F)
/-- no bid up to n (a count) does better -/
def bb9_ (a b v : Int32) : Nat → Bool
  | 0 => true
  | n + 1 => bb9_ a b v n && decide (hb9_ (ni_ n) b v ≤ hb9_ a b v)
theorem bb_f {a b v : Int32} {i : Nat} (h : ¬ hb9_ (ni_ i) b v ≤ hb9_ a b v) : ∀ n : Nat, i < n → bb9_ a b v n = false := by
  intro n
  induction n with
  | zero => intro h; omega
  | succ n ih =>
    intro hn
    rw [bb9_]
    by_cases e : i = n
    · subst e; rw [decide_eq_false h, Bool.and_false]
    · rw [ih (by omega), Bool.false_and]
theorem c_isBest {F N : Nat} {a b v : Int32} {m : pm_M} (hF : 100 < F) (hN : N ≤ 20) : f_X1_isBest F a b v (ni_ N) m = some (if bb9_ a b v (N + 1) = true then 1 else 0, m) := by
  refine upto_ (S := N + 1) (P := fun n i => bb9_ a b v i = true → f_X1_isBest_L3 F a b v (ni_ N) n (ni_ i) m = some (if bb9_ a b v (N + 1) = true then 1 else 0, m)) (fun n h => ?_) (fun n i hi ih h => ?_) F 0 (by omega) (by omega) rfl
  · rw [f_X1_isBest_L3, if_pos ((ni_lt (by omega) (by omega)).mpr (by omega)), if_pos h]
  · rw [f_X1_isBest_L3, if_neg (fun q => absurd ((ni_lt (by omega) (by omega)).mp q) (by omega)), c_hasBy, bm_e, c_hasBy, bm_e, ni_s]
    by_cases e : hb9_ (ni_ i) b v ≤ hb9_ a b v
    · rw [if_pos e]
      exact ih (by rw [bb9_, h, decide_eq_true e]; rfl)
    · rw [if_neg e, bb_f e (N + 1) hi]
      rfl
theorem m_isRest {F N : Nat} {a b v w : Int32} {m : pm_M} (hF : 100 < F) (hN : N ≤ 20) : f_X8_isRest F a b (ni_ N) v w m = some (if (bb9_ a b v (N + 1) && bb9_ b a w (N + 1)) = true then 1 else 0, m) := by
  refine upto_ (S := N + 1) (P := fun n i => bb9_ a b v i = true → bb9_ b a w i = true → f_X8_isRest_L3 F a b (ni_ N) v w n (ni_ i) m = some (if (bb9_ a b v (N + 1) && bb9_ b a w (N + 1)) = true then 1 else 0, m)) (fun n h g => ?_) (fun n i hi ih h g => ?_) F 0 (by omega) (by omega) rfl rfl
  · rw [f_X8_isRest_L3, if_pos ((ni_lt (by omega) (by omega)).mpr (by omega)), h, g]
    rfl
  · rw [f_X8_isRest_L3, if_neg (fun q => absurd ((ni_lt (by omega) (by omega)).mp q) (by omega)), m_hasBy, bm_e, m_hasBy, bm_e, ni_s]
    by_cases e : hb9_ (ni_ i) b v ≤ hb9_ a b v
    · rw [if_neg (Int32.not_lt.mpr e), m_hasBy, bm_e, m_hasBy, bm_e]
      by_cases e2 : hb9_ (ni_ i) a w ≤ hb9_ b a w
      · rw [if_pos e2]
        exact ih (by rw [bb9_, h, decide_eq_true e]; rfl) (by rw [bb9_, g, decide_eq_true e2]; rfl)
      · rw [if_neg e2, bb_f e2 (N + 1) hi, Bool.and_false]
        rfl
    · rw [if_pos (Int32.not_le.mp e), bb_f e (N + 1) hi, Bool.false_and]
      rfl
