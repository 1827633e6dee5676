def f_J6_checkIndex (F : Nat)  (i0 : Int32) (i1 : Int32) (i2 : Option pm_A) (m : pm_M) : Option (Int32 × pm_M) :=
  jn_ (fun  (m2 : pm_M) =>
    none
  ) fun k1 =>
  if i0 < 0 then
    k1 m
  else
    if i0 < i1 then
      some (i0, m)
    else
      k1 m
set_option maxHeartbeats 4000000 in
theorem e_J6_checkIndex {G : xg_T} {l : Launch} (hl : l.stackTraces = false) {F : Nat}    {i0 : Int32} {i1 : Int32} {i2 : Option pm_A} {m0 m' : pm_M} {r : Int32} (h : f_J6_checkIndex F i0 i1 i2 m0 = some (r, m')) : Cal_ G l yJ6_checkIndex (ws_ yJ6_checkIndex cJ6_checkIndex 3 (some .int)) 2 [vI_ i0, vI_ i1, vR_ i2] m0 (.inl (some (vI_ r))) m' := by
  refine cal_of (by decide +kernel) (Nat.le_of_ble_eq_true rfl) ?_
  unfold f_J6_checkIndex at h
  show AW_ cJ6_checkIndex RJ6 (some (.int), "checkIndex", 2, 3, m0, m', (.inl (some (vI_ r))), G, l, [], true) m0 0 [(0, vI_ i0), (1, vI_ i1), (2, vR_ i2)] []
  refine a_iload_n 0 dJ6_checkIndex_0 rfl rfl ?_
  obtain ⟨k1, e5, h⟩ := jn1_some h
  have hk1 : ∀  (m2 : pm_M), k1 m2 = some (r, m') → AW_ cJ6_checkIndex RJ6 (some (.int), "checkIndex", 2, 3, m0, m', (.inl (some (vI_ r))), G, l, [], true) m2 9 [(0, vI_ i0), (1, vI_ i1), (2, vR_ i2)] [] := by
    intro m2 h
    have h := (e5 m2).symm.trans h
    refine a_aload_n 2 dJ6_checkIndex_9 rfl rfl ?_
    refine a_iload_n 0 dJ6_checkIndex_10 rfl rfl ?_
    refine a_iload_n 1 dJ6_checkIndex_11 rfl rfl ?_
    cases h
  refine a_if_lt (tgt := 9) dJ6_checkIndex_1 (by decide) (fun c3 => ?_) (fun c3 => ?_)
  · replace h := ifp_ c3 h
    exact hk1 _ h
  · replace h := ifn_ c3 h
    refine a_iload_n 0 dJ6_checkIndex_4 rfl rfl ?_
    refine a_iload_n 1 dJ6_checkIndex_5 rfl rfl ?_
    refine a_icmp_lt (tgt := 16) dJ6_checkIndex_6 (by decide) (fun c4 => ?_) (fun c4 => ?_)
    · replace h := ifp_ c4 h
      refine a_iload_n 0 dJ6_checkIndex_16 rfl rfl ?_
      cases h
      exact a_ireturn rfl rfl rfl rfl rfl dJ6_checkIndex_17
    · replace h := ifn_ c4 h
      exact hk1 _ h
def f_J4_checkIndex (F : Nat) (i0 : Int32) (i1 : Int32) (m : pm_M) : Option (Unit × pm_M) :=
  bm_ (f_J6_checkIndex F i0 i1 none m) fun _ m1 => some ((), m1)
set_option maxHeartbeats 4000000 in
theorem e_J4_checkIndex {G : xg_T} {l : Launch} (hl : l.stackTraces = false) {F : Nat} {i0 : Int32} {i1 : Int32} {m0 m' : pm_M} {r : Unit} (h : f_J4_checkIndex F i0 i1 m0 = some (r, m')) : Cal_ G l yJ4_checkIndex (ws_ yJ4_checkIndex cJ4_checkIndex 2 none) 3 [vI_ i0, vI_ i1] m0 (.inl none) m' := by
  refine cal_of (by decide +kernel) (Nat.le_of_ble_eq_true rfl) ?_
  unfold f_J4_checkIndex at h
  obtain ⟨v, m1, e2, h⟩ := bm_some h
  cases h
  show AW_ cJ4_checkIndex RJ4 (none, "checkIndex", 3, 2, m0, m', (.inl none), G, l, [], true) m0 0 [(0, vI_ i0), (1, vI_ i1)] []
  refine a_iload_n 0 dJ4_checkIndex_0 rfl rfl ?_
  refine a_iload_n 1 dJ4_checkIndex_1 rfl rfl ?_
  refine a_gsX (i := 0) (by decide) (by decide) q757 dJ4_checkIndex_2 (fun r9 => ?_)
  have e3 : f_J6_checkIndex F i0 i1 r9 m0 = some (v, m') := e2
  have he := e_J6_checkIndex (G := G) hl e3
  refine c_I he.1 (rn_S (n := 3) (As := [vI_ i0, vI_ i1, vR_ r9]) he (lw_S q759 q760 q106 q761) (by decide +kernel) rfl (Nat.le_of_ble_eq_true rfl) (Nat.le_of_ble_eq_true rfl) (Nat.le_of_ble_eq_true rfl) dJ4_checkIndex_5) (fun z => (os_aS (As := [vI_ i0, vI_ i1, vR_ r9]) z).2) ?_
  refine a_pop dJ4_checkIndex_8 rfl ?_
  exact a_return rfl rfl rfl rfl dJ4_checkIndex_9
theorem th_eq (m : pm_M) (t : pm_A) (r r' i0 i1 : Option pm_A) : pR_ (pR_ (pR_ (pR_ (pR_ (pR_ (pR_ m t 0 (some t)) t 1 r) t 2 r') t 1 none) t 3 i0) t 0 i1) t 2 none = pR_ (pR_ (pR_ (pR_ m t 1 none) t 3 i0) t 0 i1) t 2 none := by
  unfold pR_
  simp only [Prod.mk.injEq, true_and, and_true]
  funext b j
  by_cases h2 : b = t ∧ j = 2
  · simp only [if_pos h2]
  · by_cases h0 : b = t ∧ j = 0
    · simp only [if_neg h2, if_pos h0]
    · by_cases h3 : b = t ∧ j = 3
      · simp only [if_neg h2, if_neg h0, if_pos h3]
      · by_cases h1 : b = t ∧ j = 1
        · simp only [if_neg h2, if_neg h0, if_neg h3, if_pos h1]
        · simp only [if_neg h2, if_neg h0, if_neg h3, if_neg h1]
def f_J0_init_2 (F : Nat) (t : pm_A) (i0 i1 : Option pm_A) (i2 i3 : Int32) (m : pm_M) : Option (Unit × pm_M) :=
  iz_ (!(decide (i2 = 0) && decide (i3 = 0))) <|
  some ((), pR_ (pR_ (pR_ (pR_ m t 1 none) t 3 i0) t 0 i1) t 2 none)
set_option maxHeartbeats 4000000 in
theorem e_J0_init_2 {G : xg_T} {l : Launch} (hl : l.stackTraces = false) {F : Nat} {t : pm_A} {i0 i1 : Option pm_A} {i2 i3 : Int32} {m0 m' : pm_M} {r : Unit} (ht : t.1 = 11) (h : f_J0_init_2 F t i0 i1 i2 i3 m0 = some (r, m')) : Cal_ G l yJ0_init_2 (ws_ yJ0_init_2 cJ0_init_2 5 none) 2 [vR_ (some t), vR_ i0, vR_ i1, vI_ i2, vI_ i3] m0 (.inl none) m' := by
  refine cal_of (by decide +kernel) (Nat.le_of_ble_eq_true rfl) ?_
  unfold f_J0_init_2 at h
  obtain ⟨hz, h⟩ := iz_some h
  obtain ⟨z2, z3⟩ := da_ok (bn_ hz)
  cases h
  show AW_ cJ0_init_2 RJ0 (none, "<init>", 2, 5, m0, pR_ (pR_ (pR_ (pR_ m0 t 1 none) t 3 i0) t 0 i1) t 2 none, (.inl none), G, l, [], true) m0 0 [(0, vR_ (some t)), (1, vR_ i0), (2, vR_ i1), (3, vI_ i2), (4, vI_ i3)] []
  refine a_aload_n 0 dJ0_init_2_0 rfl rfl ?_
  refine a_obj q610 q132 q133 (Nat.le_of_ble_eq_true rfl) (Nat.le_of_ble_eq_true rfl) dJ0_init_2_1 ?_
  refine a_aload_n 0 dJ0_init_2_4 rfl rfl ?_
  refine a_aload_n 0 dJ0_init_2_5 rfl rfl ?_
  refine a_putR kc_11 0 (by decide) rfl ht q638 rfl na_obj dJ0_init_2_6 ?_
  refine a_aload_n 0 dJ0_init_2_9 rfl rfl ?_
  refine a_gsX (i := 1) (by decide) (by decide) q611 dJ0_init_2_10 (fun r9 => ?_)
  refine a_putR kc_11 1 (by decide) rfl ht q639 rfl na_arr dJ0_init_2_13 ?_
  refine a_aload_n 0 dJ0_init_2_16 rfl rfl ?_
  refine a_gsX (i := 2) (by decide) (by decide) q613 dJ0_init_2_17 (fun r8 => ?_)
  refine a_putR kc_11 2 (by decide) rfl ht q640 rfl na_obj dJ0_init_2_20 ?_
  refine a_iload 4 dJ0_init_2_23 rfl ?_
  refine a_if_eq (tgt := 36) dJ0_init_2_25 (by decide) (fun _ => ?_) (fun c => absurd z3 c)
  refine a_aload_n 0 dJ0_init_2_36 rfl rfl ?_
  refine a_null dJ0_init_2_37 ?_
  refine a_putR kc_11 1 (by decide) rfl ht q639 rfl na_arr dJ0_init_2_38 ?_
  refine a_aload_n 0 dJ0_init_2_41 rfl rfl ?_
  refine a_aload_n 1 dJ0_init_2_42 rfl rfl ?_
  refine a_putR kc_11 3 (by decide) rfl ht q637 rfl na_obj dJ0_init_2_43 ?_
  refine a_aload_n 0 dJ0_init_2_46 rfl rfl ?_
  refine a_aload_n 2 dJ0_init_2_47 rfl rfl ?_
  refine a_putR kc_11 0 (by decide) rfl ht q638 rfl na_obj dJ0_init_2_48 ?_
  refine a_iload_n 3 dJ0_init_2_51 rfl rfl ?_
  refine a_if_ne (tgt := 60) dJ0_init_2_52 (by decide) (fun c => absurd z2 c) (fun _ => ?_)
  refine a_aload_n 0 dJ0_init_2_55 rfl rfl ?_
  refine a_null dJ0_init_2_56 ?_
  refine a_putR kc_11 2 (by decide) rfl ht q640 rfl na_obj dJ0_init_2_57 ?_
  rw [th_eq]
  exact a_return rfl rfl rfl rfl dJ0_init_2_60
def f_J1_init_2 (F : Nat) (t : pm_A) (i0 i1 : Option pm_A) (i2 i3 : Int32) (m : pm_M) : Option (Unit × pm_M) := bm_ (f_J0_init_2 F t i0 i1 i2 i3 m) fun _ m1 => some ((), m1)
set_option maxHeartbeats 4000000 in
theorem e_J1_init_2 {G : xg_T} {l : Launch} (hl : l.stackTraces = false) {F : Nat} {t : pm_A} {i0 i1 : Option pm_A} {i2 i3 : Int32} {m0 m' : pm_M} {r : Unit} (ht : t.1 = 11) (h : f_J1_init_2 F t i0 i1 i2 i3 m0 = some (r, m')) : Cal_ G l yJ1_init_2 (ws_ yJ1_init_2 cJ1_init_2 5 none) 3 [vR_ (some t), vR_ i0, vR_ i1, vI_ i2, vI_ i3] m0 (.inl none) m' := by
  refine cal_of (by decide +kernel) (Nat.le_of_ble_eq_true rfl) ?_
  unfold f_J1_init_2 at h
  obtain ⟨v, m1, e2, h⟩ := bm_some h
  cases h
  show AW_ cJ1_init_2 RJ1 (none, "<init>", 3, 5, m0, m', (.inl none), G, l, [], true) m0 0 [(0, vR_ (some t)), (1, vR_ i0), (2, vR_ i1), (3, vI_ i2), (4, vI_ i3)] []
  refine a_aload_n 0 dJ1_init_2_0 rfl rfl ?_
  refine a_aload_n 1 dJ1_init_2_1 rfl rfl ?_
  refine a_aload_n 2 dJ1_init_2_2 rfl rfl ?_
  refine a_iload_n 3 dJ1_init_2_3 rfl rfl ?_
  refine a_iload 4 dJ1_init_2_4 rfl ?_
  have he := e_J0_init_2 (G := G) hl ht e2
  refine c_V he.1 (rn_I (n := 4) (As := [vR_ i0, vR_ i1, vI_ i2, vI_ i3]) he q796 q797 q98 q798 rfl (by decide +kernel) rfl (Nat.le_of_ble_eq_true rfl) (Nat.le_of_ble_eq_true rfl) (Nat.le_of_ble_eq_true rfl) dJ1_init_2_6) (fun z => (os_av (As := [vR_ i0, vR_ i1, vI_ i2, vI_ i3]) z).2.1) ?_
  exact a_return rfl rfl rfl rfl dJ1_init_2_9
