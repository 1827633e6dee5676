/-! SUMS OF HUNGER AND SERVICE AGAINST THE MODEL'S COUNTERS -/
set_option maxRecDepth 100000
def sr9_ (r : R_T) (o : Nat) : Int32 := su9_ (fun p => r (o + p)) 8
theorem su_c {f g : Nat → Int32} : ∀ n : Nat, (∀ p, p < n → f p = g p) → su9_ f n = su9_ g n := by
  intro n
  induction n with
  | zero => intro _; rfl
  | succ n ih => intro h; rw [su9_, su9_, ih (fun p hp => h p (by omega)), h n (by omega)]
theorem su_1 {f g : Nat → Int32} {k : Nat} {v : Int32} : ∀ n : Nat, k < n → (∀ p, p ≠ k → f p = g p) → f k = g k + v → su9_ f n = su9_ g n + v := by
  intro n
  induction n with
  | zero => intro h _ _; omega
  | succ n ih =>
    intro h hg hk
    rw [su9_, su9_]
    by_cases e : k = n
    · subst e
      rw [su_c k (fun p hp => hg p (by omega)), hk, Int32.add_assoc]
    · rw [ih (by omega) hg hk, hg n (by omega), Int32.add_assoc, Int32.add_comm v, ← Int32.add_assoc]
theorem sr_up {r : R_T} {o k : Nat} {v : Int32} (hk : k < 8) : sr9_ (up_ r (o + k) (r (o + k) + v)) o = sr9_ r o + v :=
  su_1 (k := k) 8 hk (fun p hp => up_n (by omega)) up_s
theorem sr_o {r : R_T} {o k : Nat} {v : Int32} (hk : k < o ∨ o + 8 ≤ k) : sr9_ (up_ r k v) o = sr9_ r o :=
  su_c 8 (fun p hp => up_n (by omega))
theorem hu1_s {r : R_T} {hu : Int32} {i : Nat} (hi : i < 8) : hu1_ hu r i + sr9_ r 32 = hu + sr9_ (p1_ r i) 32 := by
  unfold hu1_ p1_
  by_cases g2 : r i = 2
  · rw [if_neg (fun q => by rw [g2] at q; exact absurd q.1 (by decide)), if_pos g2, sr_o (by omega)]
  · rw [if_neg g2]
    by_cases g0 : r i = 0
    · rw [if_pos g0]
      by_cases gs : 0 < r 65
      · rw [if_neg (fun q => q.2 gs), if_pos gs, sr_o (by omega)]
      · rw [if_pos ⟨g0, gs⟩, if_neg gs, sr_up hi, Int32.add_assoc, Int32.add_comm 1]
    · rw [if_neg (fun q => g0 q.1), if_neg g0]
theorem sv1_s {r : R_T} {sv : Int32} {i : Nat} (hi : i < 8) : sv1_ sv r i + sr9_ r 16 = sv + sr9_ (p1_ r i) 16 := by
  unfold sv1_ p1_
  by_cases g2 : r i = 2
  · rw [if_pos g2, if_pos g2, sr_up hi, Int32.add_assoc, Int32.add_comm 1]
  · rw [if_neg g2, if_neg g2]
    split
    · split
      · rw [sr_o (by omega)]
      · rw [sr_o (by omega)]
    · rfl
/-- x + a = h + b, y + c = x + d, where b = c: y + a = h + d -/
theorem i3_ch {x y h a b d : Int32} (h1 : x + a = h + b) (h2 : y + b = x + d) : y + a = h + d := by
  have e : y + b + a = h + b + d := by rw [h2, Int32.add_assoc, Int32.add_comm d, ← Int32.add_assoc, h1]
  have e2 : y + a + b = h + d + b := by rw [Int32.add_assoc, Int32.add_comm a, ← Int32.add_assoc, e, Int32.add_assoc, Int32.add_comm b, ← Int32.add_assoc]
  exact (Int32.add_left_inj b).mp e2
theorem hus_s {r : R_T} {hu : Int32} : ∀ n : Nat, n ≤ 8 → hus_ hu r n + sr9_ r 32 = hu + sr9_ (p1s_ r n) 32 := by
  intro n
  induction n with
  | zero => intro _; rfl
  | succ n ih => intro h; exact i3_ch (ih (by omega)) (hu1_s (by omega))
theorem svs_s {r : R_T} {sv : Int32} : ∀ n : Nat, n ≤ 8 → svs_ sv r n + sr9_ r 16 = sv + sr9_ (p1s_ r n) 16 := by
  intro n
  induction n with
  | zero => intro _; rfl
  | succ n ih => intro h; exact i3_ch (ih (by omega)) (sv1_s (by omega))
theorem p2_sr {w : W_T} {i : Nat} {r : R_T} {p o : Nat} (hp : p < 8) (ho : 16 ≤ o) : sr9_ (p2_ w i r p) o = sr9_ r o := by
  unfold p2_
  split
  · split
    · unfold fr_
      rw [sr_o (by omega), sr_o (by omega)]
    · rfl
  · rfl
theorem p2s_sr {w : W_T} {i : Nat} {r : R_T} {o : Nat} (ho : 16 ≤ o) : ∀ n : Nat, n ≤ 8 → sr9_ (p2s_ w i r n) o = sr9_ r o := by
  intro n
  induction n with
  | zero => intro _; rfl
  | succ n ih => intro h; rw [p2s_, p2_sr (by omega) ho]; exact ih (by omega)
theorem pa_hu {w : W_T} {i : Nat} {r : R_T} {hu : Int32} (h8 : wS_ w ≤ 8) : hus_ hu r (wS_ w) + sr9_ r 32 = hu + sr9_ (pa_ w i r) 32 := by
  unfold pa_
  rw [p2s_sr (by omega) _ h8, sr_o (by omega)]
  exact hus_s _ h8
theorem pa_sv {w : W_T} {i : Nat} {r : R_T} {sv : Int32} (h8 : wS_ w ≤ 8) : svs_ sv r (wS_ w) + sr9_ r 16 = sv + sr9_ (pa_ w i r) 16 := by
  unfold pa_
  rw [p2s_sr (by omega) _ h8, sr_o (by omega)]
  exact svs_s _ h8
