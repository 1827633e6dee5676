set_option maxRecDepth 100000
def cM_ (r : Nat → Int32) (v : Int32) : Nat → Int32
  | 0 => 0
  | n + 1 => if r n = v then cM_ r v n + 1 else cM_ r v n
theorem c_many {F b S : Nat} {m : pm_M} {R : pm_A} {v : Int32} (hF : 20 < F) (hr : gR_ m (4, 0, b) 10 = some R) (hR : R.1 = 6) (hS : gI_ m R 7 = ni_ S) (h8 : S ≤ 8) (hw : gR_ m (4, 0, b) 0 = some (100, 8, b + 1)) : f_X4_many F (4, 0, b) v m = some (cM_ (gI_ m (100, 8, b + 1)) v S, m) := by
  have key : ∀ n i : Nat, i ≤ S → S - i < n → f_X4_many_L4 F (4, 0, b) v n (cM_ (gI_ m (100, 8, b + 1)) v i) (ni_ i) m = some (cM_ (gI_ m (100, 8, b + 1)) v S, m) := by
    intro n
    induction n with
    | zero => intro i h1 h2; omega
    | succ n ih =>
      intro i h1 h2
      by_cases h : S ≤ i
      · have e : i = S := by omega
        subst e
        simp only [f_X4_many_L4, hr, gd_e hR, hS, Int32.le_refl, if_pos]
      · have h3 : ¬ ni_ S ≤ ni_ i := fun q => h ((ni_li (by omega) (by omega)).mp q)
        have h4 : ib_ (ni_ i) 8 = true := ib_n (by omega) (by omega)
        have h5 := ih (i + 1) (by omega) (by omega)
        simp only [f_X4_many_L4, hr, gd_e hR, hS, if_neg h3, hw, gd_t, h4, iz_n, ni_c (show i < 2147483648 by omega), ni_s]
        rw [cM_] at h5
        split at h5 <;> simp_all
  exact key F 0 (by omega) (by omega)
