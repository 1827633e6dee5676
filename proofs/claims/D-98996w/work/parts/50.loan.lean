/-! LOANS: the plain law -/
set_option maxRecDepth 100000
def lc_ (w r : Int) : Nat → Int → Int → Int
  | 0, _, _ => -1
  | n + 1, o, k => if 600 < k then -1 else if o = 0 then k else if o ≤ 99999999 then lc_ w r n (if 0 < o + o * r / 1000 - w then o + o * r / 1000 - w else 0) (k + 1) else -1
def lm_ (w r : Int) : Nat → Int → Int → Int
  | 0, _, _ => -1
  | n + 1, o, k => if 600 < k then -1 else if 1000000000 ≤ o then -1 else if 0 < o then lm_ w r n (o + o * r / 1000 - w) (k + 1) else k
theorem lm_big {w r : Int} (hw : w ≤ 999) (hr : 1 ≤ r) : ∀ (n : Nat) (o k : Int), 100000000 ≤ o → lm_ w r n o k = -1 := by
  intro n
  induction n with
  | zero => intro o k _; rfl
  | succ n ih =>
    intro o k h
    rw [lm_]
    split
    · rfl
    · split
      · rfl
      · have h1 : o * 1 ≤ o * r := Int.mul_le_mul_of_nonneg_left hr (by omega)
        rw [if_pos (by omega)]
        refine ih _ _ ?_
        have h2 : 100000 ≤ o * r / 1000 := by omega
        omega
theorem lc_lm {w r : Int} (hw0 : 0 ≤ w) (hw : w ≤ 999) (hr : 0 ≤ r) : ∀ (n : Nat) (o k : Int), (r = 0 → o ≤ 9999) → lc_ w r n (if 0 < o then o else 0) k = lm_ w r n o k := by
  intro n
  induction n with
  | zero => intro o k _; rfl
  | succ n ih =>
    intro o k h0
    rw [lc_, lm_]
    split
    · rfl
    · by_cases hp : 0 < o
      · have e9 : (if 0 < o then o else 0) = o := if_pos hp
        rw [e9, if_neg (show ¬ o = 0 by omega)]
        by_cases hb : o ≤ 99999999
        · rw [if_pos hb, if_neg (show ¬ 1000000000 ≤ o by omega), if_pos hp]
          refine ih _ _ (fun q => ?_)
          have := h0 q
          rw [q, Int.mul_zero]
          omega
        · have hr1 : 1 ≤ r := by
            by_cases q : 1 ≤ r
            · exact q
            · have := h0 (by omega)
              omega
          rw [if_neg hb]
          split
          · rfl
          · refine (lm_big hw hr1 n _ _ ?_).symm
            have h1 : o * 1 ≤ o * r := Int.mul_le_mul_of_nonneg_left hr1 (by omega)
            have h2 : 100000 ≤ o * r / 1000 := by omega
            omega
      · have e9 : (if 0 < o then o else 0) = 0 := if_neg hp
        rw [e9, if_pos rfl, if_neg (show ¬ 1000000000 ≤ o by omega), if_neg hp]
