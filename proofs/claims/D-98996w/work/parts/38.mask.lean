/-! THE MODEL: asks, owes -/
set_option maxRecDepth 100000
def sa_ : Nat → Nat → Prop := fun q _ => q = 1286 ∨ q = 1287
def sm_ : Nat → Nat → Prop := fun q k => q = 1286 ∨ q = 1287 ∨ q = 1291 ∨ (q = 1274 ∧ (k = 41 ∨ k = 42))
theorem mst_fi {S : Nat → Nat → Prop} {m m' : pm_M} (h : fi_ S m m') (g : mst_ m) : mst_ m' := by
  unfold mst_
  rw [fi_R h]
  exact g
theorem mw_fi {S : Nat → Nat → Prop} {m m' : pm_M} {w : W_T} (h : fi_ S m m') (hS : ∀ q k, S q k → (q = 1274 ∧ (k < 18 ∨ 20 < k)) ∨ q < 1274 ∨ q = 1275 ∨ q = 1276 ∨ q = 1277 ∨ q = 1278 ∨ q = 1281 ∨ q = 1282 ∨ 1286 ≤ q) (g : mw_ m w) : mw_ m' w := by
  have e : ∀ (x n i : Nat), i = 1279 ∨ i = 1280 ∨ i = 1283 ∨ i = 1284 ∨ i = 1285 → gI_ m' (x, n, i) = gI_ m (x, n, i) := fun x n i hi => fi_a h (fun k q => by have := hS _ _ q; simp only at this; omega)
  have ey : ∀ k, 18 ≤ k → k ≤ 20 → gI_ m' yA_ k = gI_ m yA_ k := fun k h1 h2 => h.2 _ _ (fun q => by have := hS _ _ q; simp only at this; omega)
  unfold mw_ lw9_
  rw [e 100 32 1279 (by omega), e 100 15 1280 (by omega), e 100 300 1283 (by omega), e 100 300 1284 (by omega), e 100 2 1285 (by omega), ey 18 (by omega) (by omega), ey 19 (by omega) (by omega), ey 20 (by omega) (by omega)]
  exact g
theorem mv_fi {S : Nat → Nat → Prop} {m m' : pm_M} {a : Nat} {r : R_T} (h : fi_ S m m') (hS : ∀ k, ¬ S a k) (g : mv_ m a r) : mv_ m' a r := by
  unfold mv_
  rw [fi_a h (a := (100, 66, a)) hS]
  exact g
def skv_ (m : pm_M) : List Int32 → Prop
  | [] => True
  | v :: st => gI_ m (100, 150, 1286) st.length = v ∧ skv_ m st
theorem skv_u {m : pm_M} {k : Nat} {v : Int32} : ∀ st : List Int32, st.length ≤ k → skv_ m st → skv_ (pI_ m (100, 150, 1286) k v) st := by
  intro st
  induction st with
  | nil => intro _ _; trivial
  | cons x st ih =>
    intro h g
    have h : st.length + 1 ≤ k := h
    exact ⟨by rw [gI_k (by omega)]; exact g.1, ih (by omega) g.2⟩
theorem m_valL {F i : Nat} {m0 : pm_M} {w : W_T} {fs : Nat → Int32} (hi : i < 2) (hs : mst_ m0) (hw : mw_ m0 w) (hl : lw9_ m0 w i) (hf : ∀ k, k < 8 → gI_ m0 (100, 8, 1287) k = fs k) : ∀ (suf pre : List (Int32 × Int32)) (n : Nat) (m : pm_M) (st : List Int32), pre ++ suf = wl_ w i → suf.length < n → wf_ suf st.length → st.length ≤ pre.length → skv_ m st → fi_ (fun q _ => q = 1286) m0 m →
    ∃ m', f_X8_valueOf_L8 F yA_ (ni_ i) n (ni_ st.length) (ni_ (150 * i + pre.length)) m = some ((ev_ fs suf st).headD 0, m') ∧ fi_ (fun q _ => q = 1286) m0 m' := by
  have k23 : gR_ m0 yA_ 23 = some (100, 300, 1283) := hs 23 (by omega)
  have k24 : gR_ m0 yA_ 24 = some (100, 300, 1284) := hs 24 (by omega)
  have k25 : gR_ m0 yA_ 25 = some (100, 2, 1285) := hs 25 (by omega)
  have k26 : gR_ m0 yA_ 26 = some (100, 150, 1286) := hs 26 (by omega)
  have k28 : gR_ m0 yA_ 28 = some (100, 8, 1287) := hs 28 (by omega)
  have ci : (ni_ i).toNatClampNeg = i := ni_c (by omega)
  have i2 : ib_ (ni_ i) 2 = true := ib_n hi (by omega)
  have l150 := hl.2.1
  intro suf
  induction suf with
  | nil =>
    intro pre n m st hc hn hwf hp hk hm
    obtain ⟨n, rfl⟩ : ∃ k, n = k + 1 := ⟨n - 1, by omega⟩
    have e : (150 : Int32) * ni_ i + ni_ (wl_ w i).length = ni_ (150 * i + (wl_ w i).length) := by rw [show (150 : Int32) = ni_ 150 from rfl, ni_m, ni_a]
    rw [f_X8_valueOf_L8, fi_R hm, k25, gd_t, i2, iz_n, ci, hm.2 (100, 2, 1285) i (by simp), hl.1, e]
    have e2 : pre = wl_ w i := by rw [← hc, List.append_nil]
    rw [e2, if_pos (Int32.le_refl _), k26, gd_t, show ib_ 0 150 = true from rfl, iz_n]
    have hwf : st.length = 1 := hwf
    match st, hwf, hk with
    | [v], _, hk =>
      refine ⟨m, ?_, hm⟩
      rw [show (0 : Int32).toNatClampNeg = 0 from rfl, show gI_ m (100, 150, 1286) 0 = v from hk.1]
      rfl
  | cons q suf ih =>
    intro pre n m st hc hn hwf hp hk hm
    obtain ⟨n, rfl⟩ : ∃ k, n = k + 1 := ⟨n - 1, by omega⟩
    have hlen : pre.length + (suf.length + 1) = (wl_ w i).length := by rw [← hc, List.length_append]; rfl
    have e : (150 : Int32) * ni_ i + ni_ (wl_ w i).length = ni_ (150 * i + (wl_ w i).length) := by rw [show (150 : Int32) = ni_ 150 from rfl, ni_m, ni_a]
    have hq := hl.2.2.2 pre.length q (by rw [← hc]; simp)
    have hcode : gI_ m (100, 300, 1283) (150 * i + pre.length) = q.1 := by rw [hm.2 (100, 300, 1283) _ (by simp)]; exact hq.1
    have hof : gI_ m (100, 300, 1284) (150 * i + pre.length) = q.2 := by rw [hm.2 (100, 300, 1284) _ (by simp)]; exact hq.2
    have hx : ib_ (ni_ (150 * i + pre.length)) 300 = true := ib_n (by omega) (by omega)
    have cx : (ni_ (150 * i + pre.length)).toNatClampNeg = 150 * i + pre.length := ni_c (by omega)
    have ct : (ni_ st.length).toNatClampNeg = st.length := ni_c (by omega)
    have hstp : ib_ (ni_ st.length) 150 = true := ib_n (by omega) (by omega)
    have hn9 : suf.length < n := by
      have : suf.length + 1 < n + 1 := hn
      omega
    have nxt : ∀ (st' : List Int32) (m' : pm_M), wf_ suf st'.length → st'.length ≤ pre.length + 1 → skv_ m' st' → fi_ (fun q _ => q = 1286) m0 m' → ∃ m2, f_X8_valueOf_L8 F yA_ (ni_ i) n (ni_ st'.length) (ni_ (150 * i + pre.length + 1)) m' = some ((ev_ fs suf st').headD 0, m2) ∧ fi_ (fun q _ => q = 1286) m0 m2 := by
      intro st' m' g1 g2 g3 g4
      have := ih (pre ++ [q]) n m' st' (by rw [List.append_assoc]; exact hc) hn9 g1 (by rw [List.length_append]; exact g2) g3 g4
      rw [List.length_append] at this
      exact this
    rw [f_X8_valueOf_L8, fi_R hm, k25, gd_t, i2, iz_n, ci, hm.2 (100, 2, 1285) i (by simp), hl.1, e, if_neg (fun g => absurd ((ni_li (by omega) (by omega)).mp g) (by omega)), k23, gd_t, hx, iz_n, cx, hcode, ni_s]
    have push : ∀ v : Int32, wf_ suf (st.length + 1) → ∃ m2, f_X8_valueOf_L8 F yA_ (ni_ i) n (ni_ (st.length + 1)) (ni_ (150 * i + pre.length + 1)) (pI_ m (100, 150, 1286) st.length v) = some ((ev_ fs suf (v :: st)).headD 0, m2) ∧ fi_ (fun q _ => q = 1286) m0 m2 := fun v g =>
      nxt (v :: st) _ g (by show st.length + 1 ≤ _; omega) ⟨gI_s, skv_u st (Nat.le_refl _) hk⟩ (fi_p2 hm rfl)
    rcases hwf with ⟨g1, g2⟩ | ⟨g1, ⟨k, g3, g4⟩, g2⟩ | ⟨g1, g3, g2⟩
    · rw [g1, if_neg (by decide), if_pos rfl, k24, gd_t, hx, iz_n, k26, gd_t, hstp, iz_n, lt_e, ct, hof, ni_s]
      obtain ⟨m2, a1, a2⟩ := push q.2 g2
      refine ⟨m2, ?_, a2⟩
      rw [a1, ev_]
      unfold e1_
      rw [if_pos g1]
    · rw [g1, if_neg (by decide), if_neg (by decide), k24, gd_t, hx, iz_n, hof, k28, gd_t, g4, ib_n (n := 8) g3 (by omega), iz_n, k26, gd_t, hstp, iz_n, lt_e, ct, ni_c (show k < 2147483648 by omega), hm.2 (100, 8, 1287) k (by simp), hf k g3, ni_s]
      obtain ⟨m2, a1, a2⟩ := push (fs k) g2
      refine ⟨m2, ?_, a2⟩
      rw [a1, ev_]
      unfold e1_
      rw [if_neg (by rw [g1]; decide), if_pos g1, g4, ni_c (show k < 2147483648 by omega)]
    · match st, g3, hk, ct, hp, nxt, hstp, g2 with
      | y :: x :: r, _, hk, ct, hp, nxt, hstp, g2 =>
        have hr : r.length + 2 ≤ pre.length := hp
        have e1 : ni_ (y :: x :: r).length + (-1) = ni_ (r.length + 1) := ni_p (by show 1 ≤ r.length + 2; omega)
        have e2 : ni_ (r.length + 1) - 1 = ni_ r.length := ni_q (by omega)
        have hgt : (1 : Int32) < q.1 := by rcases g1 with g | g | g | g | g | g <;> rw [g] <;> decide
        have n0 : ¬ q.1 = 0 := by rcases g1 with g | g | g | g | g | g <;> rw [g] <;> decide
        have n1 : ¬ q.1 = 1 := by rcases g1 with g | g | g | g | g | g <;> rw [g] <;> decide
        rw [if_pos hgt, k26, gd_t, e1, e2, ib_n (n := 150) (show r.length < 150 by omega) (by omega), iz_n, gd_t, ib_n (n := 150) (show r.length + 1 < 150 by omega) (by omega), iz_n, ni_c (show r.length < 2147483648 by omega), ni_c (show r.length + 1 < 2147483648 by omega), m_both, bm_e, iz_n, lt_e]
        rw [show gI_ m (100, 150, 1286) (r.length + 1) = y from hk.1, show gI_ m (100, 150, 1286) r.length = x from hk.2.1]
        obtain ⟨m2, a1, a2⟩ := nxt (op_ q.1 x y :: r) (pI_ m (100, 150, 1286) r.length (op_ q.1 x y)) g2 (by show r.length + 1 ≤ _; omega) ⟨gI_s, skv_u r (Nat.le_refl _) hk.2.2⟩ (fi_p2 hm rfl)
        refine ⟨m2, ?_, a2⟩
        have a1 : f_X8_valueOf_L8 F yA_ (ni_ i) n (ni_ (r.length + 1)) (ni_ (150 * i + pre.length + 1)) (pI_ m (100, 150, 1286) r.length (op_ q.1 x y)) = some ((ev_ fs suf (op_ q.1 x y :: r)).headD 0, m2) := a1
        rw [a1, ev_, e1_, if_neg n0, if_neg n1]
theorem m_asksNow {F i : Nat} {m : pm_M} {w : W_T} {fs : Nat → Int32} (hF : 200 < F) (hi : i < 2) (hs : mst_ m) (hw : mw_ m w) (hf : ∀ k, k < 8 → gI_ m (100, 8, 1287) k = fs k) : ∃ m', f_X8_asksNow F yA_ (ni_ i) m = some (lv_9 (wl_ w i) fs, m') ∧ fi_ (fun q _ => q = 1286) m m' := by
  have hl : lw9_ m w i := by
    rcases (show i = 0 ∨ i = 1 by omega) with rfl | rfl
    · exact hw.2.2.2.2.2.2.1
    · exact hw.2.2.2.2.2.2.2
  have k25 : gR_ m yA_ 25 = some (100, 2, 1285) := hs 25 (by omega)
  have k28 : gR_ m yA_ 28 = some (100, 8, 1287) := hs 28 (by omega)
  have fin : ∀ (v : Int32) (m6 : pm_M), (if 0 ≤ v then (if v ≤ 999 then some (v, m6) else some (999, m6)) else some (0, m6)) = some (cl_9 v, m6) := by
    intro v m6
    unfold cl_9
    by_cases a : v < 0
    · rw [if_pos a, if_neg (Int32.not_le.mpr a)]
    · rw [if_neg a, if_pos (Int32.not_lt.mp a)]
      by_cases b : 999 < v
      · rw [if_pos b, if_neg (Int32.not_le.mpr b)]
      · rw [if_neg b, if_pos (Int32.not_lt.mp b)]
  unfold f_X8_asksNow lv_9
  rw [k25, gd_t, ib_n (n := 2) hi (by omega), iz_n, jn_e, ni_c (by omega), hl.1]
  by_cases e : wl_ w i = []
  · rw [if_pos e, e, if_pos (show ni_ ([] : List (Int32 × Int32)).length = 0 from rfl), k28, gd_t, show ib_ 0 8 = true from rfl, iz_n, gd_t, show ib_ 1 8 = true from rfl, iz_n, show (0 : Int32).toNatClampNeg = 0 from rfl, show (1 : Int32).toNatClampNeg = 1 from rfl, hf 0 (by omega), hf 1 (by omega)]
    exact ⟨m, fin _ _, fi_r⟩
  · have hp : 0 < (wl_ w i).length := List.length_pos_iff.mpr e
    have h150 := hl.2.1
    rw [if_neg e, if_neg (fun q => by
      rw [show (0 : Int32) = ni_ 0 from rfl, ni_eq (by omega) (by omega)] at q
      omega)]
    obtain ⟨m', a1, a2⟩ := m_valL (F := F) hi hs hw hl hf (wl_ w i) [] F m [] rfl (by omega) (hl.2.2.1 e) (Nat.le_refl _) trivial fi_r
    have a1 : f_X8_valueOf_L8 F yA_ (ni_ i) F (ni_ 0) (ni_ (150 * i)) m = some ((ev_ fs (wl_ w i) []).headD 0, m') := a1
    refine ⟨m', ?_, a2⟩
    unfold f_X8_valueOf
    rw [show (150 : Int32) * ni_ i = ni_ (150 * i) from ni_m (a := 150), show (0 : Int32) = ni_ 0 from rfl, a1, bm_e]
    exact fin _ _
