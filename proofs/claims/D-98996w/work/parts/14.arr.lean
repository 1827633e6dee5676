/-! LIFTED ROWS: arrays, new cells -/
set_option maxRecDepth 100000
section AWA
variable {cc : ByteArray} {own : String} {K : kx_T} {X : cx_T} {m : pm_M} {pc : Nat} {ls : List (Nat × pm_V)} {st : List pm_V} {a : pm_A}
theorem ce_i {G : xg_T} {ad : Nat → Nat} {b l i : Nat} (h1 : 100 ≤ b) (h2 : b < 103) : ce_ G ad m (b, l) i = .inl (xg_t G (b - 100), l, .inl (gI_ m (b, l, i))) := by
  unfold ce_
  rw [if_neg (show ¬ (b, l).1 < 100 from by show ¬ b < 100; omega), if_pos (show (b, l).1 < 103 from h2)]
theorem ce_l {G : xg_T} {ad : Nat → Nat} {l i : Nat} : ce_ G ad m (103, l) i = .inl (xg_t G 3, l, .inr (.inl (gL_ m (103, l, i)))) := rfl
theorem ce_q {G : xg_T} {ad : Nat → Nat} {b l i : Nat} (h1 : 104 ≤ b) : ce_ G ad m (b, l) i = .inl (xg_t G (b - 100), l, .inr (.inr (.inr (.inr (fun j => (gR_ m (b, l, i) j).map (ca_ G ad)))))) := by
  unfold ce_
  rw [if_neg (show ¬ (b, l).1 < 100 from by show ¬ b < 100; omega), if_neg (show ¬ (b, l).1 < 103 from by show ¬ b < 103; omega), if_neg (show ¬ (b, l).1 = 103 from by show ¬ b = 103; omega)]
theorem pw_i {G : xg_T} {ad : Nat → Nat} (h1 : 100 ≤ a.1) (h2 : a.1 < 103) (ho : oa_ m a) : (pw_ G ad m)[a.2.2]? = some (ca_ G ad a, .inl (xg_t G (a.1 - 100), a.2.1, .inl (gI_ m a))) := by
  obtain ⟨e1, e2⟩ := oa_c ho (by omega)
  rw [pw_at e1, e2, ca_c (by omega), ce_i h1 h2]
theorem pw_l {G : xg_T} {ad : Nat → Nat} (h1 : a.1 = 103) (ho : oa_ m a) : (pw_ G ad m)[a.2.2]? = some (ca_ G ad a, .inl (xg_t G 3, a.2.1, .inr (.inl (gL_ m a)))) := by
  obtain ⟨e1, e2⟩ := oa_c ho (by omega)
  rw [pw_at e1, e2, ca_c (by omega), h1, ce_l]
  obtain ⟨a1, a2, a3⟩ := a
  cases h1
  rfl
theorem pw_q {G : xg_T} {ad : Nat → Nat} (h1 : 104 ≤ a.1) (h2 : a.1 < 200) (ho : oa_ m a) : (pw_ G ad m)[a.2.2]? = some (ca_ G ad a, .inl (xg_t G (a.1 - 100), a.2.1, .inr (.inr (.inr (.inr (fun j => (gR_ m a j).map (ca_ G ad))))))) := by
  obtain ⟨e1, e2⟩ := oa_c ho (by omega)
  rw [pw_at e1, e2, ca_c (by omega), ce_q h1]
theorem ts_at {G : xg_T} {i : Nat} (h : i < 9) : (ts_ G)[i]? = some (xg_t G i, ta_.getD i .int) := by simp [ts_, h]
theorem a_iald (ha : a.1 = 100) {i : Int32} (hi : ib_ i a.2.1 = true) (dg : decode cc pc = .ok (.iaload, 1)) (kk : AW_ cc own K m (pc + 1) ls (vI_ (gI_ m a i.toNatClampNeg) :: st)) : AW_ cc own K m pc ls (vI_ i :: vR_ (some a) :: st) := by
  refine aw_s2 (fun X hk ad H locs arr c9 s9 hy hs => ⟨os_i (os_c (os_c hs).2).2, fun w => ?_⟩) kk
  exact va_iald hk.1 hk.2.1 hk.2.2.2.2.2.2.2.2.2.2.1.1 hy.2.2.1.1 a.2.2 0 (by have h := pw_i (G := kx_G K) (ad := ad) (m := m) (a := a) (by omega) (by omega) (os_c (os_c hs).2).1; rw [ha] at h; exact h) (ts_at (by decide)) (ib_in hi) dg w
theorem a_bald (ha : a.1 = 101) {i : Int32} (hi : ib_ i a.2.1 = true) (dg : decode cc pc = .ok (.baload, 1)) (kk : AW_ cc own K m (pc + 1) ls (vI_ (gI_ m a i.toNatClampNeg) :: st)) : AW_ cc own K m pc ls (vI_ i :: vR_ (some a) :: st) := by
  refine aw_s2 (fun X hk ad H locs arr c9 s9 hy hs => ⟨os_i (os_c (os_c hs).2).2, fun w => ?_⟩) kk
  exact va_bald hk.1 hk.2.1 hk.2.2.2.2.2.2.2.2.2.2.1.1 hy.2.2.1.1 a.2.2 1 (by have h := pw_i (G := kx_G K) (ad := ad) (m := m) (a := a) (by omega) (by omega) (os_c (os_c hs).2).1; rw [ha] at h; exact h) (ts_at (by decide)) (ib_in hi) dg w
theorem a_zald (ha : a.1 = 102) {i : Int32} (hi : ib_ i a.2.1 = true) (dg : decode cc pc = .ok (.baload, 1)) (kk : AW_ cc own K m (pc + 1) ls (vI_ (gI_ m a i.toNatClampNeg) :: st)) : AW_ cc own K m pc ls (vI_ i :: vR_ (some a) :: st) := by
  refine aw_s2 (fun X hk ad H locs arr c9 s9 hy hs => ⟨os_i (os_c (os_c hs).2).2, fun w => ?_⟩) kk
  exact va_zald hk.1 hk.2.1 hk.2.2.2.2.2.2.2.2.2.2.1.1 hy.2.2.1.1 a.2.2 2 (by have h := pw_i (G := kx_G K) (ad := ad) (m := m) (a := a) (by omega) (by omega) (os_c (os_c hs).2).1; rw [ha] at h; exact h) (ts_at (by decide)) (ib_in hi) dg w
theorem a_lald (ha : a.1 = 103) {i : Int32} (hi : ib_ i a.2.1 = true) (dg : decode cc pc = .ok (.laload, 1)) (kk : AW_ cc own K m (pc + 1) ls (vL_ (gL_ m a i.toNatClampNeg) :: st)) : AW_ cc own K m pc ls (vI_ i :: vR_ (some a) :: st) := by
  refine aw_s2 (fun X hk ad H locs arr c9 s9 hy hs => ⟨os_l (os_c (os_c hs).2).2, fun w => ?_⟩) kk
  exact va_lald hk.1 hk.2.1 hk.2.2.2.2.2.2.2.2.2.2.1.1 hy.2.2.1.1 a.2.2 3 (pw_l (G := kx_G K) (ad := ad) ha (os_c (os_c hs).2).1) (ts_at (by decide)) (ib_in hi) dg w
theorem a_aald {t0 : Nat} {E : String} (ha : a.1 = 100 + t0) (h4 : 4 ≤ t0) (h9 : t0 < 9) (hE : ta_[t0]? = some (.object E)) {i : Int32} (hi : ib_ i a.2.1 = true) (dg : decode cc pc = .ok (.aaload, 1)) (kk : AW_ cc own K m (pc + 1) ls (vR_ (gR_ m a i.toNatClampNeg) :: st)) : AW_ cc own K m pc ls (vI_ i :: vR_ (some a) :: st) := by
  refine aw_s2 (fun X hk ad H locs arr c9 s9 hy hs => ⟨os_k (ov_R hy.2.2.1) (os_c (os_c hs).2).2, fun w => ?_⟩) kk
  have hq := pw_q (G := kx_G K) (ad := ad) (m := m) (a := a) (by omega) (by omega) (os_c (os_c hs).2).1
  have e0 : a.1 - 100 = t0 := by omega
  rw [e0] at hq
  exact va_aldq hk.1 hk.2.1 hk.2.2.2.2.2.2.2.2.2.2.1.1 hy.2.2.1.1 a.2.2 t0 (C := E) hq (by rw [ts_at h9, List.getD_eq_getElem?_getD, hE]; rfl) (ib_in hi) dg w
theorem a_alen (h1 : 100 ≤ a.1) (h2 : a.1 < 109) (dg : decode cc pc = .ok (.arraylength, 1)) (kk : AW_ cc own K m (pc + 1) ls (vI_ (Int32.ofNat a.2.1) :: st)) : AW_ cc own K m pc ls (vR_ (some a) :: st) := by
  refine aw_s2 (fun X hk ad H locs arr c9 s9 hy hs => ⟨os_i (os_c hs).2, fun w => ?_⟩) kk
  obtain ⟨x, hx1, hx2⟩ : ∃ x : vp_A, (pw_ (kx_G K) ad m)[a.2.2]? = some (ca_ (kx_G K) ad a, .inl (xg_t (kx_G K) (a.1 - 100), x)) ∧ x.1 = a.2.1 := by
    by_cases z1 : a.1 < 103
    · exact ⟨_, pw_i h1 z1 (os_c hs).1, rfl⟩
    · by_cases z2 : a.1 = 103
      · have h := pw_l (G := kx_G K) (ad := ad) z2 (os_c hs).1
        exact ⟨_, by rw [show a.1 - 100 = 3 by omega]; exact h, rfl⟩
      · exact ⟨_, pw_q (by omega) (by omega) (os_c hs).1, rfl⟩
  exact va_alen hk.1 hk.2.1 hk.2.2.2.2.2.2.2.2.2.2.1.1 hy.2.2.1.1 a.2.2 (a.1 - 100) hx1 (ts_at (by omega)) (by rw [hx2]) dg w
theorem pw_setA {G : xg_T} {ad : Nat → Nat} {m' : pm_M} {e : va_E} (h2 : a.1 < 200) (ho : oa_ m a) (hn : gN_ m' = gN_ m) (hk : gK_ m' = gK_ m) (h : ∀ b : pm_A, b ≠ a → gI_ m' b = gI_ m b ∧ gL_ m' b = gL_ m b ∧ gR_ m' b = gR_ m b) (he : ce_ G ad m' (a.1, a.2.1) a.2.2 = e) :
    (pw_ G ad m).set a.2.2 (ca_ G ad a, e) = pw_ G ad m' := by
  obtain ⟨e1, e2⟩ := oa_c ho h2
  rw [ca_c h2]
  refine (pw_set e1 hn hk (fun q i hi => ?_) ?_).symm
  · obtain ⟨q1, q2, q3⟩ := h _ (ad_ne (q := q) hi)
    exact ce_cg q1 q2 q3
  · rw [e2, he]
theorem a_iast (ha : a.1 = 100) {i v : Int32} (hi : ib_ i a.2.1 = true) (dg : decode cc pc = .ok (.iastore, 1)) (kk : AW_ cc own K (pI_ m a i.toNatClampNeg v) (pc + 1) ls st) : AW_ cc own K m pc ls (vI_ v :: vI_ i :: vR_ (some a) :: st) := by
  refine aw_wr (m' := pI_ m a i.toNatClampNeg v) rfl rfl rfl (fun X hk ad H locs arr c9 s9 hy hs => ⟨(os_c (os_c (os_c hs).2).2).2, hy.2.2.1.2.2, fun w => ?_⟩) kk
  have ho := (os_c (os_c (os_c hs).2).2).1
  have e := pw_setA (G := kx_G K) (ad := ad) (m := m) (a := a) (m' := pI_ m a i.toNatClampNeg v) (by omega) ho rfl rfl (fun b h => ⟨pI_ne h, rfl, rfl⟩) (ce_i (by omega) (by omega))
  have hq := pw_i (G := kx_G K) (ad := ad) (m := m) (a := a) (by omega) (by omega) ho
  rw [show a.1 - 100 = 0 by omega] at e hq
  rw [show ((a.1, a.2.1, a.2.2) : pm_A) = a from rfl, pI_up] at e
  refine va_iast hk.1 hk.2.1 hk.2.2.2.2.2.2.2.2.2.2.1.1 hy.2.2.1.1 hy.2.2.1.2.1 hy.2.2.2.1 a.2.2 0 hq (ts_at (by decide)) (ib_in hi) dg (fun H1 locs1 hP hD hS => ?_)
  rw [e] at hP hD
  exact w H1 locs1 hP hD hS
theorem a_bast (ha : a.1 = 101) {i v : Int32} (hi : ib_ i a.2.1 = true) (dg : decode cc pc = .ok (.bastore, 1)) (kk : AW_ cc own K (pI_ m a i.toNatClampNeg (vp_nar .byte v)) (pc + 1) ls st) : AW_ cc own K m pc ls (vI_ v :: vI_ i :: vR_ (some a) :: st) := by
  refine aw_wr (m' := pI_ m a i.toNatClampNeg (vp_nar .byte v)) rfl rfl rfl (fun X hk ad H locs arr c9 s9 hy hs => ⟨(os_c (os_c (os_c hs).2).2).2, hy.2.2.1.2.2, fun w => ?_⟩) kk
  have ho := (os_c (os_c (os_c hs).2).2).1
  have e := pw_setA (G := kx_G K) (ad := ad) (m := m) (a := a) (m' := pI_ m a i.toNatClampNeg (vp_nar .byte v)) (by omega) ho rfl rfl (fun b h => ⟨pI_ne h, rfl, rfl⟩) (ce_i (by omega) (by omega))
  have hq := pw_i (G := kx_G K) (ad := ad) (m := m) (a := a) (by omega) (by omega) ho
  rw [show a.1 - 100 = 1 by omega] at e hq
  rw [show ((a.1, a.2.1, a.2.2) : pm_A) = a from rfl, pI_up] at e
  refine va_bast hk.1 hk.2.1 hk.2.2.2.2.2.2.2.2.2.2.1.1 hy.2.2.1.1 hy.2.2.1.2.1 hy.2.2.2.1 a.2.2 1 hq (ts_at (by decide)) (ib_in hi) dg (fun H1 locs1 hP hD hS => ?_)
  rw [e] at hP hD
  exact w H1 locs1 hP hD hS
theorem a_zast (ha : a.1 = 102) {i v : Int32} (hi : ib_ i a.2.1 = true) (dg : decode cc pc = .ok (.bastore, 1)) (kk : AW_ cc own K (pI_ m a i.toNatClampNeg (vp_nar .boolean v)) (pc + 1) ls st) : AW_ cc own K m pc ls (vI_ v :: vI_ i :: vR_ (some a) :: st) := by
  refine aw_wr (m' := pI_ m a i.toNatClampNeg (vp_nar .boolean v)) rfl rfl rfl (fun X hk ad H locs arr c9 s9 hy hs => ⟨(os_c (os_c (os_c hs).2).2).2, hy.2.2.1.2.2, fun w => ?_⟩) kk
  have ho := (os_c (os_c (os_c hs).2).2).1
  have e := pw_setA (G := kx_G K) (ad := ad) (m := m) (a := a) (m' := pI_ m a i.toNatClampNeg (vp_nar .boolean v)) (by omega) ho rfl rfl (fun b h => ⟨pI_ne h, rfl, rfl⟩) (ce_i (by omega) (by omega))
  have hq := pw_i (G := kx_G K) (ad := ad) (m := m) (a := a) (by omega) (by omega) ho
  rw [show a.1 - 100 = 2 by omega] at e hq
  rw [show ((a.1, a.2.1, a.2.2) : pm_A) = a from rfl, pI_up] at e
  refine va_zast hk.1 hk.2.1 hk.2.2.2.2.2.2.2.2.2.2.1.1 hy.2.2.1.1 hy.2.2.1.2.1 hy.2.2.2.1 a.2.2 2 hq (ts_at (by decide)) (ib_in hi) dg (fun H1 locs1 hP hD hS => ?_)
  rw [e] at hP hD
  exact w H1 locs1 hP hD hS
theorem a_last (ha : a.1 = 103) {i : Int32} {v : Int64} (hi : ib_ i a.2.1 = true) (dg : decode cc pc = .ok (.lastore, 1)) (kk : AW_ cc own K (pL_ m a i.toNatClampNeg v) (pc + 1) ls st) : AW_ cc own K m pc ls (vL_ v :: vI_ i :: vR_ (some a) :: st) := by
  refine aw_wr (m' := pL_ m a i.toNatClampNeg v) rfl rfl rfl (fun X hk ad H locs arr c9 s9 hy hs => ⟨(os_c (os_c (os_c hs).2).2).2, hy.2.2.1.2.2, fun w => ?_⟩) kk
  have ho := (os_c (os_c (os_c hs).2).2).1
  have e := pw_setA (G := kx_G K) (ad := ad) (m := m) (a := a) (m' := pL_ m a i.toNatClampNeg v) (e := .inl (xg_t (kx_G K) 3, a.2.1, .inr (.inl (gL_ (pL_ m a i.toNatClampNeg v) (103, a.2.1, a.2.2))))) (by omega) ho rfl rfl (fun b h => ⟨rfl, pL_ne h, rfl⟩) (by rw [ha]; exact ce_l)
  rw [show ((103, a.2.1, a.2.2) : pm_A) = a by rw [← ha], pL_up] at e
  refine va_last hk.1 hk.2.1 hk.2.2.2.2.2.2.2.2.2.2.1.1 hy.2.2.1.1 hy.2.2.1.2.1 hy.2.2.2.1 a.2.2 3 (pw_l (G := kx_G K) (ad := ad) ha ho) (ts_at (by decide)) (ib_in hi) dg (fun H1 locs1 hP hD hS => ?_)
  rw [e] at hP hD
  exact w H1 locs1 hP hD hS
theorem gR_map {G : xg_T} {ad : Nat → Nat} {j : Nat} {r : Option pm_A} : (fun z => (gR_ (pR_ m a j r) a z).map (ca_ G ad)) = va_up (fun z => (gR_ m a z).map (ca_ G ad)) j (r.map (ca_ G ad)) := by
  rw [pR_up]
  funext z
  unfold va_up
  by_cases h : z = j
  · rw [if_pos h, if_pos h]
  · rw [if_neg h, if_neg h]
theorem pR_ok {G : xg_T} {ad : Nat → Nat} {H : Heap} {j : Nat} {r0 : Option pm_A} (hm : ma_ G ad m H) (h0 : ov_ m (vR_ r0)) : ∀ (b : pm_A) (k : Nat) (r : pm_A), gR_ (pR_ m a j r0) b k = some r → oa_ m r := by
  intro b k r e
  have e1 : (if b = a ∧ k = j then r0 else m.2.2.1 b k) = some r := e
  by_cases z : b = a ∧ k = j
  · rw [if_pos z] at e1
    rw [e1] at h0
    exact h0
  · rw [if_neg z] at e1
    exact hm.2.2 b k r e1
theorem a_aastN {t0 : Nat} {E : String} (ha : a.1 = 100 + t0) (h4 : 4 ≤ t0) (h9 : t0 < 9) (hE : ta_[t0]? = some (.object E)) {i : Int32} (hi : ib_ i a.2.1 = true) (dg : decode cc pc = .ok (.aastore, 1)) (kk : AW_ cc own K (pR_ m a i.toNatClampNeg none) (pc + 1) ls st) : AW_ cc own K m pc ls (vR_ none :: vI_ i :: vR_ (some a) :: st) := by
  refine aw_wr (m' := pR_ m a i.toNatClampNeg none) rfl rfl rfl (fun X hk ad H locs arr c9 s9 hy hs => ⟨(os_c (os_c (os_c hs).2).2).2, pR_ok (r0 := none) hy.2.2.1 trivial, fun w => ?_⟩) kk
  have ho := (os_c (os_c (os_c hs).2).2).1
  have e := pw_setA (G := kx_G K) (ad := ad) (m := m) (a := a) (m' := pR_ m a i.toNatClampNeg none) (by omega) ho rfl rfl (fun b h => ⟨rfl, rfl, pR_ne h⟩) (ce_q (by omega))
  have hq := pw_q (G := kx_G K) (ad := ad) (m := m) (a := a) (by omega) (by omega) ho
  rw [show a.1 - 100 = t0 by omega] at e hq
  rw [show ((a.1, a.2.1, a.2.2) : pm_A) = a from rfl, gR_map] at e
  refine va_astqN hk.1 hk.2.1 hk.2.2.2.2.2.2.2.2.2.2.1.1 hy.2.2.1.1 hy.2.2.1.2.1 hy.2.2.2.1 a.2.2 t0 (C := E) hq (by rw [ts_at h9, List.getD_eq_getElem?_getD, hE]; rfl) (ib_in hi) dg (fun H1 locs1 hP hD hS => ?_)
  rw [show (none : Option Nat) = (none : Option pm_A).map (ca_ (kx_G K) ad) from rfl, e] at hP hD
  exact w H1 locs1 hP hD hS
theorem as_cast (hk : ck_ cc own K X) {C E : String} (q : Cond.castable C E ∈ lw_tbl) : ∀ comp c0 : ClassId, (cx_s X).vm.findClass E = some comp → (cx_s X).vm.findClass C = some c0 → (cx_s X).vm.assignable c0 comp = true := by
  intro comp c0 h1 h2
  obtain ⟨c3, c4, hc3, hc4, hasg⟩ := Cond.castable_spec (nw_us hk q rfl rfl)
  cases Option.some.inj (hc3.symm.trans h2)
  cases Option.some.inj (hc4.symm.trans h1)
  exact hasg
theorem as_self {s : State} {C : String} : ∀ comp c0 : ClassId, s.vm.findClass C = some comp → s.vm.findClass C = some c0 → s.vm.assignable c0 comp = true := by
  intro comp c0 h1 h2
  cases Option.some.inj (h1.symm.trans h2)
  exact va_asg _ _
theorem as_or (hk : ck_ cc own K X) {C E : String} (h : Cond.castable C E ∈ lw_tbl ∨ C = E) : ∀ comp c0 : ClassId, (cx_s X).vm.findClass E = some comp → (cx_s X).vm.findClass C = some c0 → (cx_s X).vm.assignable c0 comp = true := by
  rcases h with q | q
  · exact as_cast hk q
  · subst q
    exact as_self
theorem a_aast {t0 c : Nat} {E C : String} {T : u_T} {N : Nat} {ty : Nat → FieldType} (hc : kc_ c C T N ty) (ha : a.1 = 100 + t0) (h4 : 4 ≤ t0) (h9 : t0 < 9) (hE : ta_[t0]? = some (.object E)) {b : pm_A} (hb : b.1 = c) (hasg : Cond.castable C E ∈ lw_tbl ∨ C = E) {i : Int32} (hi : ib_ i a.2.1 = true) (dg : decode cc pc = .ok (.aastore, 1)) (kk : AW_ cc own K (pR_ m a i.toNatClampNeg (some b)) (pc + 1) ls st) : AW_ cc own K m pc ls (vR_ (some b) :: vI_ i :: vR_ (some a) :: st) := by
  refine aw_wr (m' := pR_ m a i.toNatClampNeg (some b)) rfl rfl rfl (fun X hk ad H locs arr c9 s9 hy hs => ⟨(os_c (os_c (os_c hs).2).2).2, pR_ok hy.2.2.1 (os_c hs).1, fun w => ?_⟩) kk
  have ho := (os_c (os_c (os_c hs).2).2).1
  have e := pw_setA (G := kx_G K) (ad := ad) (m := m) (a := a) (m' := pR_ m a i.toNatClampNeg (some b)) (by omega) ho rfl rfl (fun z h => ⟨rfl, rfl, pR_ne h⟩) (ce_q (by omega))
  have hq := pw_q (G := kx_G K) (ad := ad) (m := m) (a := a) (by omega) (by omega) ho
  rw [show a.1 - 100 = t0 by omega] at e hq
  rw [show ((a.1, a.2.1, a.2.2) : pm_A) = a from rfl, gR_map] at e
  refine vb_astq hk.1 hk.2.1 hk.2.2.2.2.2.2.2.2.2.2.1.1 hy.2.2.1.1 hy.2.2.1.2.1 hy.2.2.2.1 a.2.2 t0 (E := E) (C := C) hq (by rw [ts_at h9, List.getD_eq_getElem?_getD, hE]; rfl) (va_recv hk.2.2.2.2.2.2.2.2.2.2.1.1 hy.2.2.1.1 hc.1 (pw_o hc hb (os_c hs).1)) (as_or hk hasg) (ib_in hi) dg (fun H1 locs1 hP hD hS => ?_)
  rw [show (some (ca_ (kx_G K) ad b) : Option Nat) = (some b).map (ca_ (kx_G K) ad) from rfl, e] at hP hD
  exact w H1 locs1 hP hD hS
theorem a_aastS (ha : a.1 = 108) {b : pm_A} (hb : b.1 = 200) {i : Int32} (hi : ib_ i a.2.1 = true) (dg : decode cc pc = .ok (.aastore, 1)) (kk : AW_ cc own K (pR_ m a i.toNatClampNeg (some b)) (pc + 1) ls st) : AW_ cc own K m pc ls (vR_ (some b) :: vI_ i :: vR_ (some a) :: st) := by
  refine aw_wr (m' := pR_ m a i.toNatClampNeg (some b)) rfl rfl rfl (fun X hk ad H locs arr c9 s9 hy hs => ⟨(os_c (os_c (os_c hs).2).2).2, pR_ok hy.2.2.1 (os_c hs).1, fun w => ?_⟩) kk
  have ho := (os_c (os_c (os_c hs).2).2).1
  have hob : b.2.2 < 23 := by rcases (os_c hs).1 with z | z <;> omega
  have e := pw_setA (G := kx_G K) (ad := ad) (m := m) (a := a) (m' := pR_ m a i.toNatClampNeg (some b)) (by omega) ho rfl rfl (fun z h => ⟨rfl, rfl, pR_ne h⟩) (ce_q (by omega))
  have hq := pw_q (G := kx_G K) (ad := ad) (m := m) (a := a) (by omega) (by omega) ho
  rw [show a.1 - 100 = 8 by omega] at e hq
  rw [show ((a.1, a.2.1, a.2.2) : pm_A) = a from rfl, gR_map] at e
  have hr : ∃ cellV : Cell, H[ca_ (kx_G K) ad b]? = some cellV ∧ cellV.vm.isStatics = false ∧ (cx_s X).vm.findClass "java/lang/String" = some cellV.cls := by
    have h1 := vk_recv (en_S hk.2.2.2.2.2.2.2.2.2.2.1) hob hy.2.2.2.1
    have h2 : ca_ (kx_G K) ad b = xg_k (kx_G K) b.2.2 := by unfold ca_; rw [if_neg (by omega), if_pos hb]
    rw [h2]
    exact h1
  refine vb_astq hk.1 hk.2.1 hk.2.2.2.2.2.2.2.2.2.2.1.1 hy.2.2.1.1 hy.2.2.1.2.1 hy.2.2.2.1 a.2.2 8 (E := "java/lang/String") (C := "java/lang/String") hq (ts_at (by decide)) hr as_self (ib_in hi) dg (fun H1 locs1 hP hD hS => ?_)
  rw [show (some (ca_ (kx_G K) ad b) : Option Nat) = (some b).map (ca_ (kx_G K) ad) from rfl, e] at hP hD
  exact w H1 locs1 hP hD hS
def ux_ (f : Nat → Nat) (k v : Nat) : Nat → Nat := fun i => if i = k then v else f i
theorem ag_ux {ad : Nat → Nat} {q : Nat} : ag_ m ad (ux_ ad (gN_ m) q) := fun i hi => by unfold ux_; rw [if_neg (by omega)]
theorem xt_pN {b l w : Nat} : xt_ m (pN_ m b l w) := ⟨Nat.le_succ _, Nat.le_add_right _ _, fun i hi => by
  show (if i = gN_ m then (b, l) else gK_ m i) = gK_ m i
  rw [if_neg (by omega)]⟩
theorem map_ca {G : xg_T} {ad : Nat → Nat} {H : Heap} (hm : ma_ G ad m H) {q : Nat} {x : pm_A} {j : Nat} : (gR_ m x j).map (ca_ G (ux_ ad (gN_ m) q)) = (gR_ m x j).map (ca_ G ad) := by
  cases e : gR_ m x j with
  | none => rfl
  | some r => exact congrArg some (ca_ag ag_ux (hm.2.2 x j r e))
/-- the world with one cell more -/
theorem pw_new {G : xg_T} {ad : Nat → Nat} {H : Heap} (hm : ma_ G ad m H) {b l w q : Nat} {e : va_E} (he : ce_ G (ux_ ad (gN_ m) q) (pN_ m b l w) (b, l) (gN_ m) = e) : pw_ G ad m ++ [(q, e)] = pw_ G (ux_ ad (gN_ m) q) (pN_ m b l w) := by
  apply List.ext_getElem?
  intro i
  by_cases h : i < gN_ m
  · rw [List.getElem?_append_left (by rw [pw_len]; exact h), pw_at h, pw_at (Nat.lt_succ_of_lt h)]
    have h1 : gK_ (pN_ m b l w) i = gK_ m i := xt_pN.2.2 i h
    have h2 : ux_ ad (gN_ m) q i = ad i := ag_ux i h
    rw [h1, h2]
    congr 2
    have hne : ((gK_ m i).1, (gK_ m i).2, i) ≠ ((b, l, gN_ m) : pm_A) := fun z => by
      have : i = gN_ m := congrArg (fun z : pm_A => z.2.2) z
      omega
    have g1 : gI_ (pN_ m b l w) ((gK_ m i).1, (gK_ m i).2, i) = gI_ m ((gK_ m i).1, (gK_ m i).2, i) := by
      funext j
      show (if _ = ((b, l, gN_ m) : pm_A) then _ else m.1 _ j) = m.1 _ j
      rw [if_neg hne]
    have g2 : gL_ (pN_ m b l w) ((gK_ m i).1, (gK_ m i).2, i) = gL_ m ((gK_ m i).1, (gK_ m i).2, i) := by
      funext j
      show (if _ = ((b, l, gN_ m) : pm_A) then _ else m.2.1 _ j) = m.2.1 _ j
      rw [if_neg hne]
    have g3 : gR_ (pN_ m b l w) ((gK_ m i).1, (gK_ m i).2, i) = gR_ m ((gK_ m i).1, (gK_ m i).2, i) := by
      funext j
      show (if _ = ((b, l, gN_ m) : pm_A) then _ else m.2.2.1 _ j) = m.2.2.1 _ j
      rw [if_neg hne]
    unfold ce_ fv_
    simp only [g1, g2, g3, map_ca hm]
  · by_cases h2 : i = gN_ m
    · subst h2
      rw [List.getElem?_append_right (by rw [pw_len]; exact Nat.le_refl _), pw_len, Nat.sub_self, pw_at (Nat.lt_succ_self _)]
      have h1 : gK_ (pN_ m b l w) (gN_ m) = (b, l) := by
        show (if gN_ m = gN_ m then (b, l) else _) = (b, l)
        rw [if_pos rfl]
      have h3 : ux_ ad (gN_ m) q (gN_ m) = q := by unfold ux_; rw [if_pos rfl]
      rw [h1, h3, he]
      rfl
    · rw [List.getElem?_eq_none (by rw [List.length_append, pw_len]; show gN_ m + 1 ≤ i; omega), List.getElem?_eq_none (by rw [pw_len]; show gN_ m + 1 ≤ i; omega)]
theorem pN_ok {G : xg_T} {ad : Nat → Nat} {H : Heap} (hm : ma_ G ad m H) {b l w : Nat} : ∀ (x : pm_A) (k : Nat) (r : pm_A), gR_ (pN_ m b l w) x k = some r → oa_ (pN_ m b l w) r := by
  intro x k r e
  have e1 : (if x = ((b, l, gN_ m) : pm_A) then none else m.2.2.1 x k) = some r := e
  by_cases z : x = ((b, l, gN_ m) : pm_A)
  · rw [if_pos z] at e1
    cases e1
  · rw [if_neg z] at e1
    exact oa_x xt_pN (hm.2.2 x k r e1)
theorem oa_new {b l w : Nat} (hb : b < 200) : oa_ (pN_ m b l w) (b, l, gN_ m) := Or.inr ⟨hb, Nat.lt_succ_self _, by
  show (if gN_ m = gN_ m then (b, l) else _) = (b, l)
  rw [if_pos rfl]⟩
/-- a row that makes a cell -/
theorem aw_nw {b l w pc' : Nat} {st' st0 : List pm_V} (hb : b < 200) (hst : os_ m st → os_ m st') (hst0 : st0 = vR_ (some (b, l, gN_ m)) :: st')
    (hr : ∀ (X : cx_T), ck_ cc own K X → ∀ (ad : Nat → Nat) (H : Heap) (locs : List Loc) (arr : Array Slot) (c9 s9 : Nat), hy_ K X m ls ad H locs arr → os_ m st → c9 + 1 ≤ gN_ (kx_E K) - gN_ (kx_0 K) → s9 + w ≤ gS_ (kx_E K) - gS_ (kx_0 K) →
      (∀ (q : Nat) (H1 : Heap), va_P (xg_D (kx_G K)) kl_ (pw_ (kx_G K) (ux_ ad (gN_ m) q) (pN_ m b l w)) H1 → va_D (xg_A (kx_G K)) (pw_ (kx_G K) (ux_ ad (gN_ m) q) (pN_ m b l w)) → va_S (xg_A (kx_G K)) (cx_s X).heap H1 locs → WX_ K X H1 locs (c9 + 1) (s9 + w) pc' arr (.ref q :: st'.map (cv_ (kx_G K) ad))) → WX_ K X H locs c9 s9 pc arr (st.map (cv_ (kx_G K) ad)))
    (k : AW_ cc own K (pN_ m b l w) pc' ls st0) : AW_ cc own K m pc ls st := by
  subst hst0
  have k1 : gN_ m + 1 ≤ gN_ (kx_E K) := k.1.1
  have k2 : gS_ m + w ≤ gS_ (kx_E K) := k.1.2
  refine ⟨⟨by omega, by omega⟩, fun X hk ad H locs arr h hs => ?_⟩
  have x1 := h.1.1
  have x2 := h.1.2.1
  refine hr X hk ad H locs arr _ _ h hs (by omega) (by omega) (fun q H1 hP hD hS => ?_)
  have hag : ag_ m ad (ux_ ad (gN_ m) q) := ag_ux
  have hy' : hy_ K X (pN_ m b l w) ls (ux_ ad (gN_ m) q) H1 locs arr := by
    refine ⟨xt_tr h.1 xt_pN, ag_tr h.1 h.2.1 hag, ⟨hP, hD, pN_ok h.2.2.1⟩, hS, ?_, os_x xt_pN h.2.2.2.2.2⟩
    rw [cl_ag hag h.2.2.2.2.2]
    exact h.2.2.2.2.1
  have w9 := k.2 X hk (ux_ ad (gN_ m) q) H1 locs arr hy' (os_k (oa_new hb) (os_x xt_pN (hst hs)))
  have e1 : (vR_ (some (b, l, gN_ m)) :: st').map (cv_ (kx_G K) (ux_ ad (gN_ m) q)) = .ref q :: st'.map (cv_ (kx_G K) ad) := by
    rw [List.map_cons, cs_ag hag (hst hs)]
    congr 1
    show va_rf (some (ca_ (kx_G K) (ux_ ad (gN_ m) q) (b, l, gN_ m))) = .ref q
    rw [ca_c (show ((b, l, gN_ m) : pm_A).1 < 200 from hb)]
    show Value.ref (if gN_ m = gN_ m then q else _) = .ref q
    rw [if_pos rfl]
  rw [e1] at w9
  exact W.cs (by show gN_ m - gN_ (kx_0 K) + 1 = gN_ m + 1 - gN_ (kx_0 K); omega) (by show gS_ m - gS_ (kx_0 K) + w = gS_ m + w - gS_ (kx_0 K); omega) w9
theorem fv_dv {G : xg_T} {ad : Nat → Nat} {t : FieldType} {b l w k : Nat} (h : fz_ t = true) : fv_ G ad (pN_ m b l w) (b, l, gN_ m) t k = defaultValue t := by
  have g1 : gI_ (pN_ m b l w) (b, l, gN_ m) k = 0 := by
    show (if ((b, l, gN_ m) : pm_A) = (b, l, gN_ m) then (0 : Int32) else _) = 0
    rw [if_pos rfl]
  have g2 : gL_ (pN_ m b l w) (b, l, gN_ m) k = 0 := by
    show (if ((b, l, gN_ m) : pm_A) = (b, l, gN_ m) then (0 : Int64) else _) = 0
    rw [if_pos rfl]
  have g3 : gR_ (pN_ m b l w) (b, l, gN_ m) k = none := by
    show (if ((b, l, gN_ m) : pm_A) = (b, l, gN_ m) then none else _) = none
    rw [if_pos rfl]
  unfold fv_
  rw [g1, g2, g3]
  cases t <;> first | rfl | cases h
theorem a_new {c : Nat} {C : String} {T : u_T} {N : Nat} {ty : Nat → FieldType} {index : Nat} (hc : kc_ c C T N ty) (q1 : Cond.classLink own index C ∈ lw_all) (q2 : Cond.instantiable C N ∈ lw_all) (q3 : Cond.initialized C ∈ lw_all) (dg : decode cc pc = .ok (.new index, 3)) (kk : AW_ cc own K (pN_ m c 0 N) (pc + 3) ls (vR_ (some (c, 0, gN_ m)) :: st)) : AW_ cc own K m pc ls st := by
  have hc9 := hc.2.2.1
  refine aw_nw (by omega) (fun h => h) rfl (fun X hk ad H locs arr c9 s9 hy hs hc1 hc2 w => ?_) kk
  have R := hk.2.2.2.2.2.2.2.2.1
  refine va_new (ci := c) (C := C) (T := T) (N := N) (fs := fs_ (kx_G K) ad (pN_ m c 0 N) (c, 0, gN_ m) N ty) hk.1 hk.2.1 hk.2.2.2.2.1 hc.2.2.2.1 ty hc.2.2.2.2.1 hk.2.2.2.1 (hk.2.2.2.2.1 _ q1) (hk.2.2.2.2.1 _ q2) (hk.2.2.2.2.1 _ q3) hk.2.2.2.2.2.2.2.2.2.2.1.1 hy.2.2.1.1 hy.2.2.1.2.1 hy.2.2.2.1 (fun q h => Nat.le_trans hk.2.2.2.2.2.2.2.2.2.1 h) hc.1 (fun j hj => ?_) (by rw [R.2.2.1]; exact hc1) (by rw [R.2.2.2]; exact hc2) dg (fun q H1 hP hD hS => ?_)
  · unfold vp_V
    rw [List.getD_eq_getElem?_getD, fs_at hj, fv_dv (hc.2.2.2.2.2.2 j hj)]
    rfl
  · have e := pw_new (G := kx_G K) (ad := ad) hy.2.2.1 (b := c) (l := 0) (w := N) (q := q) (ce_o hc)
    have e2 : fs_ (kx_G K) (ux_ ad (gN_ m) q) (pN_ m c 0 N) (c, 0, gN_ m) N ty = fs_ (kx_G K) ad (pN_ m c 0 N) (c, 0, gN_ m) N ty := by
      apply List.map_congr_left
      intro k hk9
      rw [fv_dv (hc.2.2.2.2.2.2 k (List.mem_range.mp hk9)), fv_dv (hc.2.2.2.2.2.2 k (List.mem_range.mp hk9))]
    rw [e2] at e
    rw [e] at hP hD
    exact w q H1 hP hD hS
theorem va_cls {G : xg_T} {s : State} {t : Nat} {cA : ClassId} {ty : FieldType} (h9 : t < 9) (ht : ta_.getD t .int = ty) (hK : va_K (xg_D G) kl_ (ts_ G ++ [(cA, ty)]) s) : cA = xg_t G t := by
  have h1 := (hK.2 t (xg_t G t, ty) (by rw [List.getElem?_append_left (by simp [ts_, h9]), ts_at h9, ht])).2
  have h2 := (hK.2 9 (cA, ty) (by rw [List.getElem?_append_right (by simp [ts_])]; simp [ts_])).2
  cases ty with
  | object C =>
    obtain ⟨k1, c1, -, -, -, e1⟩ := h1
    obtain ⟨k2, c2, -, -, -, e2⟩ := h2
    exact Option.some.inj (e2.symm.trans e1)
  | _ => exact Option.some.inj (Eq.symm (Eq.trans (Eq.symm h1) h2))
theorem a_newI (q : Cond.arrayClass .int ∈ lw_all) {n : Int32} {N : Nat} (hn : ¬ n < 0) (hN : n.toNatClampNeg = N) (hb : N ≤ 100000) (dg : decode cc pc = .ok (.newarray .int, 2)) (kk : AW_ cc own K (pN_ m 100 N N) (pc + 2) ls (vR_ (some (100, N, gN_ m)) :: st)) : AW_ cc own K m pc ls (vI_ n :: st) := by
  refine aw_nw (by decide) (fun h => (os_c h).2) rfl (fun X hk ad H locs arr c9 s9 hy hs hc1 hc2 w => ?_) kk
  have R := hk.2.2.2.2.2.2.2.2.1
  refine va_newa (atype := .int) (ty := .int) (a0 := (N, .inl (fun _ => 0))) hk.1 hk.2.1 (hk.2.2.2.2.1 _ q) rfl hk.2.2.2.2.2.2.2.2.2.2.1.1 hy.2.2.1.1 hy.2.2.1.2.1 hy.2.2.2.1 (fun q h => Nat.le_trans hk.2.2.2.2.2.2.2.2.2.1 h) (fun cA => rfl) hn hN (by show N * 4 ≤ 536870912; omega) (by rw [R.2.2.1]; exact hc1) (by rw [R.2.2.2]; exact hc2) dg (fun q cA H1 hK hP hD hS => ?_)
  have hcA : cA = xg_t (kx_G K) 0 := va_cls (by decide) rfl hK
  subst hcA
  have g1 : gI_ (pN_ m 100 N N) (100, N, gN_ m) = fun _ => 0 := by funext j; show (if ((100, N, gN_ m) : pm_A) = (100, N, gN_ m) then (0 : Int32) else _) = 0; rw [if_pos rfl]
  have e := pw_new (G := kx_G K) (ad := ad) hy.2.2.1 (b := 100) (l := N) (w := N) (q := q) (ce_i (by decide) (by decide))
  rw [g1] at e
  rw [e] at hP hD
  exact w q H1 hP hD hS
theorem a_newB (q : Cond.arrayClass .byte ∈ lw_all) {n : Int32} {N : Nat} (hn : ¬ n < 0) (hN : n.toNatClampNeg = N) (hb : N ≤ 100000) (dg : decode cc pc = .ok (.newarray .byte, 2)) (kk : AW_ cc own K (pN_ m 101 N N) (pc + 2) ls (vR_ (some (101, N, gN_ m)) :: st)) : AW_ cc own K m pc ls (vI_ n :: st) := by
  refine aw_nw (by decide) (fun h => (os_c h).2) rfl (fun X hk ad H locs arr c9 s9 hy hs hc1 hc2 w => ?_) kk
  have R := hk.2.2.2.2.2.2.2.2.1
  refine va_newa (atype := .byte) (ty := .byte) (a0 := (N, .inl (fun _ => 0))) hk.1 hk.2.1 (hk.2.2.2.2.1 _ q) rfl hk.2.2.2.2.2.2.2.2.2.2.1.1 hy.2.2.1.1 hy.2.2.1.2.1 hy.2.2.2.1 (fun q h => Nat.le_trans hk.2.2.2.2.2.2.2.2.2.1 h) (fun cA => rfl) hn hN (by show N * 1 ≤ 536870912; omega) (by rw [R.2.2.1]; exact hc1) (by rw [R.2.2.2]; exact hc2) dg (fun q cA H1 hK hP hD hS => ?_)
  have hcA : cA = xg_t (kx_G K) 1 := va_cls (by decide) rfl hK
  subst hcA
  have g1 : gI_ (pN_ m 101 N N) (101, N, gN_ m) = fun _ => 0 := by funext j; show (if ((101, N, gN_ m) : pm_A) = (101, N, gN_ m) then (0 : Int32) else _) = 0; rw [if_pos rfl]
  have e := pw_new (G := kx_G K) (ad := ad) hy.2.2.1 (b := 101) (l := N) (w := N) (q := q) (ce_i (by decide) (by decide))
  rw [g1] at e
  rw [e] at hP hD
  exact w q H1 hP hD hS
theorem a_newZ (q : Cond.arrayClass .boolean ∈ lw_all) {n : Int32} {N : Nat} (hn : ¬ n < 0) (hN : n.toNatClampNeg = N) (hb : N ≤ 100000) (dg : decode cc pc = .ok (.newarray .boolean, 2)) (kk : AW_ cc own K (pN_ m 102 N N) (pc + 2) ls (vR_ (some (102, N, gN_ m)) :: st)) : AW_ cc own K m pc ls (vI_ n :: st) := by
  refine aw_nw (by decide) (fun h => (os_c h).2) rfl (fun X hk ad H locs arr c9 s9 hy hs hc1 hc2 w => ?_) kk
  have R := hk.2.2.2.2.2.2.2.2.1
  refine va_newa (atype := .boolean) (ty := .boolean) (a0 := (N, .inl (fun _ => 0))) hk.1 hk.2.1 (hk.2.2.2.2.1 _ q) rfl hk.2.2.2.2.2.2.2.2.2.2.1.1 hy.2.2.1.1 hy.2.2.1.2.1 hy.2.2.2.1 (fun q h => Nat.le_trans hk.2.2.2.2.2.2.2.2.2.1 h) (fun cA => rfl) hn hN (by show N * 1 ≤ 536870912; omega) (by rw [R.2.2.1]; exact hc1) (by rw [R.2.2.2]; exact hc2) dg (fun q cA H1 hK hP hD hS => ?_)
  have hcA : cA = xg_t (kx_G K) 2 := va_cls (by decide) rfl hK
  subst hcA
  have g1 : gI_ (pN_ m 102 N N) (102, N, gN_ m) = fun _ => 0 := by funext j; show (if ((102, N, gN_ m) : pm_A) = (102, N, gN_ m) then (0 : Int32) else _) = 0; rw [if_pos rfl]
  have e := pw_new (G := kx_G K) (ad := ad) hy.2.2.1 (b := 102) (l := N) (w := N) (q := q) (ce_i (by decide) (by decide))
  rw [g1] at e
  rw [e] at hP hD
  exact w q H1 hP hD hS
theorem a_newL (q : Cond.arrayClass .long ∈ lw_all) {n : Int32} {N : Nat} (hn : ¬ n < 0) (hN : n.toNatClampNeg = N) (hb : N ≤ 100000) (dg : decode cc pc = .ok (.newarray .long, 2)) (kk : AW_ cc own K (pN_ m 103 N N) (pc + 2) ls (vR_ (some (103, N, gN_ m)) :: st)) : AW_ cc own K m pc ls (vI_ n :: st) := by
  refine aw_nw (by decide) (fun h => (os_c h).2) rfl (fun X hk ad H locs arr c9 s9 hy hs hc1 hc2 w => ?_) kk
  have R := hk.2.2.2.2.2.2.2.2.1
  refine va_newa (atype := .long) (ty := .long) (a0 := (N, .inr (.inl (fun _ => 0)))) hk.1 hk.2.1 (hk.2.2.2.2.1 _ q) rfl hk.2.2.2.2.2.2.2.2.2.2.1.1 hy.2.2.1.1 hy.2.2.1.2.1 hy.2.2.2.1 (fun q h => Nat.le_trans hk.2.2.2.2.2.2.2.2.2.1 h) (fun cA => rfl) hn hN (by show N * 8 ≤ 536870912; omega) (by rw [R.2.2.1]; exact hc1) (by rw [R.2.2.2]; exact hc2) dg (fun q cA H1 hK hP hD hS => ?_)
  have hcA : cA = xg_t (kx_G K) 3 := va_cls (by decide) rfl hK
  subst hcA
  have g1 : gL_ (pN_ m 103 N N) (103, N, gN_ m) = fun _ => 0 := by funext j; show (if ((103, N, gN_ m) : pm_A) = (103, N, gN_ m) then (0 : Int64) else _) = 0; rw [if_pos rfl]
  have e := pw_new (G := kx_G K) (ad := ad) hy.2.2.1 (b := 103) (l := N) (w := N) (q := q) ce_l
  rw [g1] at e
  rw [e] at hP hD
  exact w q H1 hP hD hS
theorem a_newq {t0 index : Nat} {C : String} (h4 : 4 ≤ t0) (h9 : t0 < 9) (hE : ta_.getD t0 .int = .object C) (hC : C ∈ ao_) (q : Cond.classLink own index C ∈ lw_all) {n : Int32} {N : Nat} (hn : ¬ n < 0) (hN : n.toNatClampNeg = N) (hb : N ≤ 100000) (dg : decode cc pc = .ok (.anewarray index, 3)) (kk : AW_ cc own K (pN_ m (100 + t0) N N) (pc + 3) ls (vR_ (some (100 + t0, N, gN_ m)) :: st)) : AW_ cc own K m pc ls (vI_ n :: st) := by
  refine aw_nw (by omega) (fun h => (os_c h).2) rfl (fun X hk ad H locs arr c9 s9 hy hs hc1 hc2 w => ?_) kk
  have R := hk.2.2.2.2.2.2.2.2.1
  refine va_newq (C := C) hk.1 hk.2.1 hk.2.2.2.1 (hk.2.2.2.2.1 _ q) (hk.2.2.2.2.2.2.2.2.2.2.1.2.2.1 C hC) hk.2.2.2.2.2.2.2.2.2.2.1.1 hy.2.2.1.1 hy.2.2.1.2.1 hy.2.2.2.1 (fun q h => Nat.le_trans hk.2.2.2.2.2.2.2.2.2.1 h) hn hN (by omega) (by rw [R.2.2.1]; exact hc1) (by rw [R.2.2.2]; exact hc2) dg (fun q cA H1 hK hP hD hS => ?_)
  have hcA : cA = xg_t (kx_G K) t0 := va_cls h9 hE hK
  subst hcA
  have g1 : (fun j => (gR_ (pN_ m (100 + t0) N N) (100 + t0, N, gN_ m) j).map (ca_ (kx_G K) (ux_ ad (gN_ m) q))) = fun _ => none := by funext j; show Option.map _ (if ((100 + t0, N, gN_ m) : pm_A) = (100 + t0, N, gN_ m) then none else _) = none; rw [if_pos rfl]; rfl
  have e := pw_new (G := kx_G K) (ad := ad) hy.2.2.1 (b := 100 + t0) (l := N) (w := N) (q := q) (ce_q (by omega))
  rw [g1, show 100 + t0 - 100 = t0 by omega] at e
  rw [e] at hP hD
  exact w q H1 hP hD hS
end AWA
