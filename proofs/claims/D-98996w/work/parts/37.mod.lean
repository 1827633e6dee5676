/-! THE MODEL: its cells, its view of the world; asks -/
set_option maxRecDepth 100000
abbrev yA_ : pm_A := (8, 0, 1274)
def yR_ (k : Nat) : Option pm_A := match k with
  | 1 => some (100, 2, 1275) | 9 => some (100, 600, 1276) | 10 => some (100, 32, 1277) | 11 => some (100, 15, 1278) | 12 => some (100, 32, 1279) | 13 => some (100, 15, 1280)
  | 21 => some (100, 150, 1281) | 22 => some (100, 150, 1282) | 23 => some (100, 300, 1283) | 24 => some (100, 300, 1284) | 25 => some (100, 2, 1285) | 26 => some (100, 150, 1286) | 28 => some (100, 8, 1287)
  | 29 => some (100, 150, 1288) | 30 => some (100, 150, 1289) | 37 => some (100, 66, 1290) | 38 => some (100, 66, 1291) | 39 => some (100, 1056, 1292) | 43 => some (100, 16, 1293) | 44 => some (100, 16, 1294)
  | 46 => some (100, 40, 1295) | 47 => some (100, 5, 1296) | 48 => some (100, 8, 1297) | 49 => some (100, 8, 1298) | 51 => some (102, 225, 1299) | 52 => some (100, 225, 1300) | 53 => some (100, 1000, 1301) | 54 => some (100, 5, 1302) | 57 => some (100, 3369, 1303)
  | _ => none
def mst_ (m : pm_M) : Prop := ∀ k, k < 59 → gR_ m yA_ k = yR_ k
/-- code that a stack machine of the depth n runs through, one value left -/
def wf_ : List (Int32 × Int32) → Nat → Prop
  | [], n => n = 1
  | q :: c, n => (q.1 = 0 ∧ wf_ c (n + 1)) ∨ (q.1 = 1 ∧ (∃ k, k < 8 ∧ q.2 = ni_ k) ∧ wf_ c (n + 1)) ∨ ((q.1 = 2 ∨ q.1 = 3 ∨ q.1 = 4 ∨ q.1 = 5 ∨ q.1 = 6 ∨ q.1 = 7) ∧ 2 ≤ n ∧ wf_ c (n - 1))
def lw9_ (m : pm_M) (w : W_T) (i : Nat) : Prop := gI_ m (100, 2, 1285) i = ni_ (wl_ w i).length ∧ (wl_ w i).length ≤ 150 ∧ (wl_ w i ≠ [] → wf_ (wl_ w i) 0) ∧ ∀ (j : Nat) (q : Int32 × Int32), (wl_ w i)[j]? = some q → gI_ m (100, 300, 1283) (150 * i + j) = q.1 ∧ gI_ m (100, 300, 1284) (150 * i + j) = q.2
def mw_ (m : pm_M) (w : W_T) : Prop :=
  (wS_ w ≤ 8 ∧ wT_ w ≤ 5) ∧ gI_ m yA_ 18 = ni_ (wS_ w) ∧ gI_ m yA_ 19 = ni_ (wT_ w) ∧ gI_ m yA_ 20 = wv_ w ∧ (∀ k, k < 4 * wS_ w → gI_ m (100, 32, 1279) k = wg_ w k) ∧ (∀ k, k < 3 * wT_ w → gI_ m (100, 15, 1280) k = wt_ w k) ∧ lw9_ m w 0 ∧ lw9_ m w 1
def mv_ (m : pm_M) (a : Nat) (r : R_T) : Prop := ∀ k, k < 66 → gI_ m (100, 66, a) k = r k
theorem nx4 {p c : Nat} : ni_ 4 * ni_ p + ni_ c = ni_ (4 * p + c) := by rw [ni_m, ni_a]
theorem nx_ {c p : Nat} : ni_ c + ni_ p = ni_ (c + p) := ni_a
theorem ni_p {n : Nat} (h : 1 ≤ n) : ni_ n + (-1) = ni_ (n - 1) := by
  obtain ⟨k, rfl⟩ : ∃ k, n = k + 1 := ⟨n - 1, by omega⟩
  rw [← ni_s, Int32.add_assoc, show (1 : Int32) + (-1) = 0 from rfl, Int32.add_zero]
  rfl
theorem ni_q {n : Nat} (h : 1 ≤ n) : ni_ n - 1 = ni_ (n - 1) := by
  rw [Int32.sub_eq_add_neg]
  exact ni_p h
theorem m_areKin {F a b : Nat} {m : pm_M} {w : W_T} (hs : mst_ m) (h : mw_ m w) (ha : a < wS_ w) (hb : b < wS_ w) : f_X8_areKin F yA_ (ni_ a) (ni_ b) m = some (if kn_ w a b = true then 1 else 0, m) := by
  have h8 := h.1.1
  have k12 : gR_ m yA_ 12 = some (100, 32, 1279) := hs 12 (by omega)
  have xa : 4 * ni_ a + 2 = ni_ (4 * a + 2) := nx4 (c := 2)
  have xb : 4 * ni_ b + 2 = ni_ (4 * b + 2) := nx4 (c := 2)
  unfold f_X8_areKin
  by_cases e : a = b
  · subst e
    rw [if_pos rfl, show kn_ w a a = false by simp [kn_]]
    rfl
  · rw [if_neg (fun q => e ((ni_eq (by omega) (by omega)).mp q)), xa, xb]
    simp only [k12, gd_t, ib_n (n := 32) (show 4 * a + 2 < 32 by omega) (by omega), ib_n (n := 32) (show 4 * b + 2 < 32 by omega) (by omega), iz_n, ni_c (show 4 * a + 2 < 2147483648 by omega), ni_c (show 4 * b + 2 < 2147483648 by omega), h.2.2.2.2.1 (4 * a + 2) (by omega), h.2.2.2.2.1 (4 * b + 2) (by omega)]
    by_cases e1 : wg_ w (4 * a + 2) ≤ 0
    · rw [if_pos e1, show kn_ w a b = false by simp [kn_, Int32.not_lt.mpr e1]]
      rfl
    · rw [if_neg e1]
      by_cases e2 : wg_ w (4 * a + 2) = wg_ w (4 * b + 2)
      · rw [if_pos e2, show kn_ w a b = true by simp [kn_, ← e2, Int32.not_le.mp e1, e]]
        rfl
      · rw [if_neg e2, show kn_ w a b = false by simp [kn_, e2]]
        rfl
theorem m_kinMany {F p : Nat} {m : pm_M} {w : W_T} (hF : 20 < F) (hs : mst_ m) (h : mw_ m w) (hp : p < wS_ w) : f_X8_kinMany F yA_ (ni_ p) m = some (cM_ (kn_ w p) (wS_ w), m) := by
  have h8 := h.1.1
  refine upto_ (S := wS_ w) (P := fun n i => f_X8_kinMany_L4 F yA_ (ni_ p) n (cM_ (kn_ w p) i) (ni_ i) m = some (cM_ (kn_ w p) (wS_ w), m)) (fun n => ?_) (fun n i hi ih => ?_) F 0 (by omega) (by omega)
  · rw [f_X8_kinMany_L4, h.2.1, if_pos (Int32.le_refl _)]
  · rw [f_X8_kinMany_L4, h.2.1, if_neg (fun q => absurd ((ni_li (by omega) (by omega)).mp q) (by omega)), m_areKin hs h hp hi, bm_e, ni_s, Int32.add_zero]
    rw [cM_] at ih
    cases e : kn_ w p i with
    | true => rw [e, if_pos rfl] at ih; rw [if_pos rfl, if_neg (by decide)]; exact ih
    | false => rw [e, if_neg (by decide)] at ih; rw [if_pos (by decide)]; exact ih
theorem m_both {F : Nat} {o a b : Int32} {m : pm_M} : f_X8_both F o a b m = some (op_ o a b, m) := by
  unfold f_X8_both op_
  split
  · rfl
  · split
    · rfl
    · split
      · rfl
      · split
        · split
          · rfl
          · rename_i h
            rw [decide_eq_false h, iz_f]
        · simp only [jn_e]
          by_cases e : b ≤ a <;> by_cases e6 : o = 6
          · have e1 : ¬ a < b := Int32.not_lt.mpr e
            simp [e, e6]
            intro h2
            exact i3_eq.mpr (by rw [i3_le] at h2 e; omega)
          · have e1 : ¬ a < b := Int32.not_lt.mpr e
            simp [e, e6, e1]
          · have e1 : a < b := Int32.not_le.mp e
            have e2 : ¬ b < a := fun q => by rw [i3_lt] at q e1; omega
            simp [e, e6, e2]
          · have e1 : a < b := Int32.not_le.mp e
            simp [e, e6, e1]
