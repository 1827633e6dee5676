/-! PRINTED BY dec.py: X8_court X8_witnesses X8_loan X8_land X8_hasBy X8_isRest X8_bids X8_has X8_isVoyage X8_draws X8_sails -/
set_option maxRecDepth 100000
def f_X8_court (F : Nat)  (t : pm_A) (i0 : Int32) (i1 : Int32) (i2 : Int32) (m : pm_M) : Option (Int64 × pm_M) :=
  lt_ (pI_ m t 0 0) fun m1 =>
  bm_ (f_X8_within F i0 1 9 m1) fun v5 m3 =>
  jn_ (fun (y8 : Option pm_A) (y9 : Int32) (m7 : pm_M) =>
    gd_ 8 y8 fun a10 =>
    bm_ (f_X8_may F a10 y9 1 1 m7) fun v15 m13 =>
    if v15 = 0 then
      some (0, m13)
    else
      bm_ (f_X8_courtBy F i0 i1 m13) fun v19 m17 =>
      bm_ (f_X8_power F 16 i0 m17) fun v22 m20 =>
      bm_ (f_X8_least F v19 v22 i2 m20) fun v25 m23 =>
      some (v25, m23)
  ) fun k6 =>
  jn_ (fun (y28 : Option pm_A) (m27 : pm_M) =>
    k6 y28 0 m27
  ) fun k26 =>
  if v5 = 0 then
    k26 (some t) m3
  else
    if (i0 - i0 / 2 * 2) = 1 then
      bm_ (f_X8_within F i1 0 16 m3) fun v33 m31 =>
      if v33 = 0 then
        k26 (some t) m31
      else
        bm_ (f_X8_within F i2 0 1 m31) fun v37 m35 =>
        if v37 = 0 then
          k26 (some t) m35
        else
          k6 (some t) 1 m35
    else
      k26 (some t) m3
set_option maxHeartbeats 4000000 in
theorem e_X8_court {G : xg_T} {l : Launch} (hl : l.stackTraces = false) {F : Nat}    {t : pm_A} {i0 : Int32} {i1 : Int32} {i2 : Int32} {m0 m' : pm_M} {r : Int64} (ht : t.1 = 8) (h : f_X8_court F t i0 i1 i2 m0 = some (r, m')) : Cal_ G l yX8_court (ws_ yX8_court cX8_court 4 (some .long)) 4 [vR_ (some t), vI_ i0, vI_ i1, vI_ i2] m0 (.inl (some (vL_ r))) m' := by
  refine cal_of (by decide +kernel) (Nat.le_of_ble_eq_true rfl) ?_
  unfold f_X8_court at h
  show AW_ cX8_court RX8 (some (.long), "court", 4, 4, m0, m', (.inl (some (vL_ r))), G, l, [], true) m0 0 [(0, vR_ (some t)), (1, vI_ i0), (2, vI_ i1), (3, vI_ i2)] []
  refine a_aload_n 0 dX8_court_0 rfl rfl ?_
  refine a_iconst (v := 0) dX8_court_1 (by decide) ?_
  obtain ⟨m1, e2, h⟩ := lt_some h
  refine a_putI kc_8 0 (by decide) rfl ht q1554 rfl rfl rfl dX8_court_2 ?_
  rw [← e2]
  refine a_aload_n 0 dX8_court_5 rfl rfl ?_
  refine a_iload_n 1 dX8_court_6 rfl rfl ?_
  refine a_iconst (v := 1) dX8_court_7 (by decide) ?_
  refine a_bipush (v := 9) dX8_court_8 (by decide) ?_
  obtain ⟨v5, m3, e4, h⟩ := bm_some h
  have he4 := e_X8_within (G := G) hl e4
  refine c_I he4.1 (rn_S (n := 3) (As := [vI_ i0, vI_ 1, vI_ 9]) he4 (lw_S q1823 q1824 q97 q1825) (by decide +kernel) rfl (Nat.le_of_ble_eq_true rfl) (Nat.le_of_ble_eq_true rfl) (Nat.le_of_ble_eq_true rfl) dX8_court_10) (fun z => (os_aS (As := [vI_ i0, vI_ 1, vI_ 9]) z).2) ?_
  obtain ⟨k6, e40, h⟩ := jn3_some h
  have hk6 : ∀ (y8 : Option pm_A) (y9 : Int32) (m7 : pm_M), k6 y8 y9 m7 = some (r, m') → AW_ cX8_court RX8 (some (.long), "court", 4, 4, m0, m', (.inl (some (vL_ r))), G, l, [], true) m7 47 [(1, vI_ i0), (2, vI_ i1), (3, vI_ i2)] [vI_ y9, vR_ y8] := by
    intro y8 y9 m7 h
    have h := (e40 y8 y9 m7).symm.trans h
    refine a_iconst (v := 1) dX8_court_47 (by decide) ?_
    refine a_iconst (v := 1) dX8_court_48 (by decide) ?_
    obtain ⟨a10, e11, f12, h⟩ := gd_some h
    rw [e11]
    obtain ⟨v15, m13, e14, h⟩ := bm_some h
    have he14 := e_X8_may (G := G) hl f12 e14
    refine c_I he14.1 (rn_V (n := 3) (As := [vI_ y9, vI_ 1, vI_ 1]) kc_8 f12 he14 (lw_V q1744 q1746 qs32 q97 q1747) (by decide +kernel) rfl (Nat.le_of_ble_eq_true rfl) (Nat.le_of_ble_eq_true rfl) (Nat.le_of_ble_eq_true rfl) dX8_court_49) (fun z => (os_av (As := [vI_ y9, vI_ 1, vI_ 1]) z).2.1) ?_
    refine a_if_ne (tgt := 57) dX8_court_52 (by decide) (fun c16 => ?_) (fun c16 => ?_)
    · replace h := ifn_ c16 h
      refine a_iload_n 0 dX8_court_57 rfl rfl ?_
      refine a_iload_n 1 dX8_court_58 rfl rfl ?_
      obtain ⟨v19, m17, e18, h⟩ := bm_some h
      have he18 := e_X8_courtBy (G := G) hl e18
      refine c_L he18.1 (rn_S (n := 2) (As := [vI_ i0, vI_ i1]) he18 (lw_S q2110 q2111 q97 q2112) (by decide +kernel) rfl (Nat.le_of_ble_eq_true rfl) (Nat.le_of_ble_eq_true rfl) (Nat.le_of_ble_eq_true rfl) dX8_court_59) (fun z => (os_aS (As := [vI_ i0, vI_ i1]) z).2) ?_
      refine a_ldc2 (v := 16) q2116 dX8_court_62 ?_
      refine a_iload_n 0 dX8_court_65 rfl rfl ?_
      obtain ⟨v22, m20, e21, h⟩ := bm_some h
      have he21 := e_X8_power (G := G) hl e21
      refine c_L he21.1 (rn_S (n := 2) (As := [vL_ 16, vI_ i0]) he21 (lw_S q2113 q2114 q97 q2115) (by decide +kernel) rfl (Nat.le_of_ble_eq_true rfl) (Nat.le_of_ble_eq_true rfl) (Nat.le_of_ble_eq_true rfl) dX8_court_66) (fun z => (os_aS (As := [vL_ 16, vI_ i0]) z).2) ?_
      refine a_iload_n 2 dX8_court_69 rfl rfl ?_
      obtain ⟨v25, m23, e24, h⟩ := bm_some h
      have he24 := e_X8_least (G := G) hl e24
      refine c_L he24.1 (rn_S (n := 3) (As := [vL_ v19, vL_ v22, vI_ i2]) he24 (lw_S q2117 q2118 q97 q2119) (by decide +kernel) rfl (Nat.le_of_ble_eq_true rfl) (Nat.le_of_ble_eq_true rfl) (Nat.le_of_ble_eq_true rfl) dX8_court_70) (fun z => (os_aS (As := [vL_ v19, vL_ v22, vI_ i2]) z).2) ?_
      cases h
      exact a_lreturn rfl rfl rfl rfl dX8_court_73
    · replace h := ifp_ c16 h
      refine a_lconst (v := 0) dX8_court_55 (by decide) ?_
      cases h
      exact a_lreturn rfl rfl rfl rfl dX8_court_56
  obtain ⟨k26, e39, h⟩ := jn2_some h
  have hk26 : ∀ (y28 : Option pm_A) (m27 : pm_M), k26 y28 m27 = some (r, m') → AW_ cX8_court RX8 (some (.long), "court", 4, 4, m0, m', (.inl (some (vL_ r))), G, l, [], true) m27 46 [(1, vI_ i0), (2, vI_ i1), (3, vI_ i2)] [vR_ y28] := by
    intro y28 m27 h
    have h := (e39 y28 m27).symm.trans h
    refine a_iconst (v := 0) dX8_court_46 (by decide) ?_
    exact hk6 _ _ _ h
  refine a_if_eq (tgt := 46) dX8_court_13 (by decide) (fun c29 => ?_) (fun c29 => ?_)
  · replace h := ifp_ c29 h
    refine aw_pick [1, 2, 3] rfl ?_
    exact hk26 _ _ h
  · replace h := ifn_ c29 h
    refine a_iload_n 1 dX8_court_16 rfl rfl ?_
    refine a_iconst (v := 2) dX8_court_17 (by decide) ?_
    refine a_irem dX8_court_18 (by decide) ?_
    refine a_iconst (v := 1) dX8_court_19 (by decide) ?_
    refine a_icmp_ne (tgt := 46) dX8_court_20 (by decide) (fun c30 => ?_) (fun c30 => ?_)
    · replace h := ifn_ c30 h
      refine aw_pick [1, 2, 3] rfl ?_
      exact hk26 _ _ h
    · replace h := ifp_ c30 h
      refine a_iload_n 2 dX8_court_23 rfl rfl ?_
      refine a_iconst (v := 0) dX8_court_24 (by decide) ?_
      refine a_bipush (v := 16) dX8_court_25 (by decide) ?_
      obtain ⟨v33, m31, e32, h⟩ := bm_some h
      have he32 := e_X8_within (G := G) hl e32
      refine c_I he32.1 (rn_S (n := 3) (As := [vI_ i1, vI_ 0, vI_ 16]) he32 (lw_S q1823 q1824 q97 q1825) (by decide +kernel) rfl (Nat.le_of_ble_eq_true rfl) (Nat.le_of_ble_eq_true rfl) (Nat.le_of_ble_eq_true rfl) dX8_court_27) (fun z => (os_aS (As := [vI_ i1, vI_ 0, vI_ 16]) z).2) ?_
      refine a_if_eq (tgt := 46) dX8_court_30 (by decide) (fun c34 => ?_) (fun c34 => ?_)
      · replace h := ifp_ c34 h
        refine aw_pick [1, 2, 3] rfl ?_
        exact hk26 _ _ h
      · replace h := ifn_ c34 h
        refine a_iload_n 3 dX8_court_33 rfl rfl ?_
        refine a_iconst (v := 0) dX8_court_34 (by decide) ?_
        refine a_iconst (v := 1) dX8_court_35 (by decide) ?_
        obtain ⟨v37, m35, e36, h⟩ := bm_some h
        have he36 := e_X8_within (G := G) hl e36
        refine c_I he36.1 (rn_S (n := 3) (As := [vI_ i2, vI_ 0, vI_ 1]) he36 (lw_S q1823 q1824 q97 q1825) (by decide +kernel) rfl (Nat.le_of_ble_eq_true rfl) (Nat.le_of_ble_eq_true rfl) (Nat.le_of_ble_eq_true rfl) dX8_court_36) (fun z => (os_aS (As := [vI_ i2, vI_ 0, vI_ 1]) z).2) ?_
        refine a_if_eq (tgt := 46) dX8_court_39 (by decide) (fun c38 => ?_) (fun c38 => ?_)
        · replace h := ifp_ c38 h
          refine aw_pick [1, 2, 3] rfl ?_
          exact hk26 _ _ h
        · replace h := ifn_ c38 h
          refine a_iconst (v := 1) dX8_court_42 (by decide) ?_
          refine a_goto (tgt := 47) dX8_court_43 (by decide) ?_
          refine aw_pick [1, 2, 3] rfl ?_
          exact hk6 _ _ _ h
def f_X8_witnesses_L43 (F : Nat)  (p17 : Int32) (p18 : Int32) : Nat → Int32 → pm_M → Option (Int32 × pm_M)
  | 0, _, _ => none
  | n19 + 1, x21, m20 =>
    if 9 < x21 then
      some (((-1)), m20)
    else
      bm_ (f_X8_courtBy F x21 p17 m20) fun v25 m23 =>
      bm_ (f_X8_power F 16 x21 m23) fun v28 m26 =>
      if (lg_cmp (16 * v25) (p18.toInt64 * v28)) < 0 then
        (f_X8_witnesses_L43 F p17 p18 n19) (x21 + 2) m26
      else
        some (x21, m26)
set_option maxHeartbeats 4000000 in
theorem w_X8_witnesses_L43 {G : xg_T} {l : Launch} (hl : l.stackTraces = false) {F : Nat}    (p17 : Int32) (p18 : Int32) {m0 m' : pm_M} {r : Int32}   : ∀ (n : Nat) (x21 : Int32) (m20 : pm_M), f_X8_witnesses_L43 F p17 p18 n x21 m20 = some (r, m') → AW_ cX8_witnesses RX8 (some (.int), "witnesses", 4, 4, m0, m', (.inl (some (vI_ r))), G, l, [], true) m20 43 [(1, vI_ p17), (2, vI_ p18), (3, vI_ x21)] [] := by
  intro n
  induction n with
  | zero => intro x21 m20 h; cases h
  | succ n19 ih =>
    intro x21 m20 h
    rw [f_X8_witnesses_L43] at h
    refine a_iload_n 2 dX8_witnesses_43 rfl rfl ?_
    refine a_bipush (v := 9) dX8_witnesses_44 (by decide) ?_
    refine a_icmp_gt (tgt := 80) dX8_witnesses_46 (by decide) (fun c22 => ?_) (fun c22 => ?_)
    · replace h := ifp_ c22 h
      refine a_iconst (v := (-1)) dX8_witnesses_80 (by decide) ?_
      cases h
      exact a_ireturn rfl rfl rfl rfl rfl dX8_witnesses_81
    · replace h := ifn_ c22 h
      refine a_ldc2 (v := 16) q2116 dX8_witnesses_49 ?_
      refine a_iload_n 2 dX8_witnesses_52 rfl rfl ?_
      refine a_iload_n 0 dX8_witnesses_53 rfl rfl ?_
      obtain ⟨v25, m23, e24, h⟩ := bm_some h
      have he24 := e_X8_courtBy (G := G) hl e24
      refine c_L he24.1 (rn_S (n := 2) (As := [vI_ x21, vI_ p17]) he24 (lw_S q2110 q2111 q97 q2112) (by decide +kernel) rfl (Nat.le_of_ble_eq_true rfl) (Nat.le_of_ble_eq_true rfl) (Nat.le_of_ble_eq_true rfl) dX8_witnesses_54) (fun z => (os_aS (As := [vI_ x21, vI_ p17]) z).2) ?_
      refine a_lmul dX8_witnesses_57 ?_
      refine a_iload_n 1 dX8_witnesses_58 rfl rfl ?_
      refine a_i2l dX8_witnesses_59 ?_
      refine a_ldc2 (v := 16) q2116 dX8_witnesses_60 ?_
      refine a_iload_n 2 dX8_witnesses_63 rfl rfl ?_
      obtain ⟨v28, m26, e27, h⟩ := bm_some h
      have he27 := e_X8_power (G := G) hl e27
      refine c_L he27.1 (rn_S (n := 2) (As := [vL_ 16, vI_ x21]) he27 (lw_S q2113 q2114 q97 q2115) (by decide +kernel) rfl (Nat.le_of_ble_eq_true rfl) (Nat.le_of_ble_eq_true rfl) (Nat.le_of_ble_eq_true rfl) dX8_witnesses_64) (fun z => (os_aS (As := [vL_ 16, vI_ x21]) z).2) ?_
      refine a_lmul dX8_witnesses_67 ?_
      refine a_lcmp dX8_witnesses_68 ?_
      refine a_if_lt (tgt := 74) dX8_witnesses_69 (by decide) (fun c29 => ?_) (fun c29 => ?_)
      · replace h := ifp_ c29 h
        refine a_iinc (v := x21 + 2) (ls' := [(3, vI_ (x21 + 2)), (1, vI_ p17), (2, vI_ p18)]) 2 dX8_witnesses_74 rfl rfl (Nat.le_of_ble_eq_true rfl) rfl ?_
        refine a_goto (tgt := 43) dX8_witnesses_77 (by decide) ?_
        refine aw_pick [1, 2, 0] rfl ?_
        exact ih _ _ h
      · replace h := ifn_ c29 h
        refine a_iload_n 2 dX8_witnesses_72 rfl rfl ?_
        cases h
        exact a_ireturn rfl rfl rfl rfl rfl dX8_witnesses_73
def f_X8_witnesses (F : Nat)  (t : pm_A) (i0 : Int32) (i1 : Int32) (m : pm_M) : Option (Int32 × pm_M) :=
  lt_ (pI_ m t 0 0) fun m1 =>
  bm_ (f_X8_within F i0 0 16 m1) fun v5 m3 =>
  jn_ (fun (y8 : Option pm_A) (y9 : Int32) (m7 : pm_M) =>
    gd_ 8 y8 fun a10 =>
    bm_ (f_X8_may F a10 y9 1 1 m7) fun v15 m13 =>
    if v15 = 0 then
      some (0, m13)
    else
      f_X8_witnesses_L43 F i0 i1 F 1 m13
  ) fun k6 =>
  jn_ (fun (y32 : Option pm_A) (m31 : pm_M) =>
    k6 y32 0 m31
  ) fun k30 =>
  if v5 = 0 then
    k30 (some t) m3
  else
    bm_ (f_X8_within F i1 0 16 m3) fun v36 m34 =>
    if v36 = 0 then
      k30 (some t) m34
    else
      k6 (some t) 1 m34
set_option maxHeartbeats 4000000 in
theorem e_X8_witnesses {G : xg_T} {l : Launch} (hl : l.stackTraces = false) {F : Nat}    {t : pm_A} {i0 : Int32} {i1 : Int32} {m0 m' : pm_M} {r : Int32} (ht : t.1 = 8) (h : f_X8_witnesses F t i0 i1 m0 = some (r, m')) : Cal_ G l yX8_witnesses (ws_ yX8_witnesses cX8_witnesses 4 (some .int)) 4 [vR_ (some t), vI_ i0, vI_ i1] m0 (.inl (some (vI_ r))) m' := by
  refine cal_of (by decide +kernel) (Nat.le_of_ble_eq_true rfl) ?_
  unfold f_X8_witnesses at h
  show AW_ cX8_witnesses RX8 (some (.int), "witnesses", 4, 4, m0, m', (.inl (some (vI_ r))), G, l, [], true) m0 0 [(0, vR_ (some t)), (1, vI_ i0), (2, vI_ i1)] []
  refine a_aload_n 0 dX8_witnesses_0 rfl rfl ?_
  refine a_iconst (v := 0) dX8_witnesses_1 (by decide) ?_
  obtain ⟨m1, e2, h⟩ := lt_some h
  refine a_putI kc_8 0 (by decide) rfl ht q1554 rfl rfl rfl dX8_witnesses_2 ?_
  rw [← e2]
  refine a_aload_n 0 dX8_witnesses_5 rfl rfl ?_
  refine a_iload_n 1 dX8_witnesses_6 rfl rfl ?_
  refine a_iconst (v := 0) dX8_witnesses_7 (by decide) ?_
  refine a_bipush (v := 16) dX8_witnesses_8 (by decide) ?_
  obtain ⟨v5, m3, e4, h⟩ := bm_some h
  have he4 := e_X8_within (G := G) hl e4
  refine c_I he4.1 (rn_S (n := 3) (As := [vI_ i0, vI_ 0, vI_ 16]) he4 (lw_S q1823 q1824 q97 q1825) (by decide +kernel) rfl (Nat.le_of_ble_eq_true rfl) (Nat.le_of_ble_eq_true rfl) (Nat.le_of_ble_eq_true rfl) dX8_witnesses_10) (fun z => (os_aS (As := [vI_ i0, vI_ 0, vI_ 16]) z).2) ?_
  obtain ⟨k6, e39, h⟩ := jn3_some h
  have hk6 : ∀ (y8 : Option pm_A) (y9 : Int32) (m7 : pm_M), k6 y8 y9 m7 = some (r, m') → AW_ cX8_witnesses RX8 (some (.int), "witnesses", 4, 4, m0, m', (.inl (some (vI_ r))), G, l, [], true) m7 31 [(1, vI_ i0), (2, vI_ i1)] [vI_ y9, vR_ y8] := by
    intro y8 y9 m7 h
    have h := (e39 y8 y9 m7).symm.trans h
    refine a_iconst (v := 1) dX8_witnesses_31 (by decide) ?_
    refine a_iconst (v := 1) dX8_witnesses_32 (by decide) ?_
    obtain ⟨a10, e11, f12, h⟩ := gd_some h
    rw [e11]
    obtain ⟨v15, m13, e14, h⟩ := bm_some h
    have he14 := e_X8_may (G := G) hl f12 e14
    refine c_I he14.1 (rn_V (n := 3) (As := [vI_ y9, vI_ 1, vI_ 1]) kc_8 f12 he14 (lw_V q1744 q1746 qs32 q97 q1747) (by decide +kernel) rfl (Nat.le_of_ble_eq_true rfl) (Nat.le_of_ble_eq_true rfl) (Nat.le_of_ble_eq_true rfl) dX8_witnesses_33) (fun z => (os_av (As := [vI_ y9, vI_ 1, vI_ 1]) z).2.1) ?_
    refine a_if_ne (tgt := 41) dX8_witnesses_36 (by decide) (fun c16 => ?_) (fun c16 => ?_)
    · replace h := ifn_ c16 h
      refine a_iconst (v := 1) dX8_witnesses_41 (by decide) ?_
      refine a_istore_n (ls' := [(3, vI_ 1), (1, vI_ i0), (2, vI_ i1)]) dX8_witnesses_42 rfl (Nat.le_of_ble_eq_true rfl) rfl ?_
      refine aw_pick [1, 2, 0] rfl ?_
      exact w_X8_witnesses_L43 hl _ _ _ _ _ h
    · replace h := ifp_ c16 h
      refine a_iconst (v := 0) dX8_witnesses_39 (by decide) ?_
      cases h
      exact a_ireturn rfl rfl rfl rfl rfl dX8_witnesses_40
  obtain ⟨k30, e38, h⟩ := jn2_some h
  have hk30 : ∀ (y32 : Option pm_A) (m31 : pm_M), k30 y32 m31 = some (r, m') → AW_ cX8_witnesses RX8 (some (.int), "witnesses", 4, 4, m0, m', (.inl (some (vI_ r))), G, l, [], true) m31 30 [(1, vI_ i0), (2, vI_ i1)] [vR_ y32] := by
    intro y32 m31 h
    have h := (e38 y32 m31).symm.trans h
    refine a_iconst (v := 0) dX8_witnesses_30 (by decide) ?_
    exact hk6 _ _ _ h
  refine a_if_eq (tgt := 30) dX8_witnesses_13 (by decide) (fun c33 => ?_) (fun c33 => ?_)
  · replace h := ifp_ c33 h
    refine aw_pick [1, 2] rfl ?_
    exact hk30 _ _ h
  · replace h := ifn_ c33 h
    refine a_iload_n 2 dX8_witnesses_16 rfl rfl ?_
    refine a_iconst (v := 0) dX8_witnesses_17 (by decide) ?_
    refine a_bipush (v := 16) dX8_witnesses_18 (by decide) ?_
    obtain ⟨v36, m34, e35, h⟩ := bm_some h
    have he35 := e_X8_within (G := G) hl e35
    refine c_I he35.1 (rn_S (n := 3) (As := [vI_ i1, vI_ 0, vI_ 16]) he35 (lw_S q1823 q1824 q97 q1825) (by decide +kernel) rfl (Nat.le_of_ble_eq_true rfl) (Nat.le_of_ble_eq_true rfl) (Nat.le_of_ble_eq_true rfl) dX8_witnesses_20) (fun z => (os_aS (As := [vI_ i1, vI_ 0, vI_ 16]) z).2) ?_
    refine a_if_eq (tgt := 30) dX8_witnesses_23 (by decide) (fun c37 => ?_) (fun c37 => ?_)
    · replace h := ifp_ c37 h
      refine aw_pick [1, 2] rfl ?_
      exact hk30 _ _ h
    · replace h := ifn_ c37 h
      refine a_iconst (v := 1) dX8_witnesses_26 (by decide) ?_
      refine a_goto (tgt := 31) dX8_witnesses_27 (by decide) ?_
      refine aw_pick [1, 2] rfl ?_
      exact hk6 _ _ _ h
def f_X8_loan_L60 (F : Nat)  (p17 : Int32) (p18 : Int32) : Nat → Int64 → Int32 → pm_M → Option (Int32 × pm_M)
  | 0, _, _, _ => none
  | n19 + 1, x21, x22, m20 =>
    if 600 < x22 then
      some (((-1)), m20)
    else
      if 0 ≤ (lg_cmp x21 1000000000) then
        some (((-1)), m20)
      else
        if 0 < (lg_cmp x21 0) then
          (f_X8_loan_L60 F p17 p18 n19) ((x21 + ((x21 * p18.toInt64) / 1000)) - p17.toInt64) (x22 + 1) m20
        else
          some (x22, m20)
set_option maxHeartbeats 4000000 in
theorem w_X8_loan_L60 {G : xg_T} {l : Launch} (hl : l.stackTraces = false) {F : Nat}    (p17 : Int32) (p18 : Int32) {m0 m' : pm_M} {r : Int32}   : ∀ (n : Nat) (x21 : Int64) (x22 : Int32) (m20 : pm_M), f_X8_loan_L60 F p17 p18 n x21 x22 m20 = some (r, m') → AW_ cX8_loan RX8 (some (.int), "loan", 3, 7, m0, m', (.inl (some (vI_ r))), G, l, [], true) m20 60 [(2, vI_ p17), (3, vI_ p18), (4, vL_ x21), (6, vI_ x22)] [] := by
  intro n
  induction n with
  | zero => intro x21 x22 m20 h; cases h
  | succ n19 ih =>
    intro x21 x22 m20 h
    rw [f_X8_loan_L60] at h
    refine a_iload 3 dX8_loan_60 rfl ?_
    refine a_sipush (v := 600) dX8_loan_62 (by decide) ?_
    refine a_icmp_gt (tgt := 114) dX8_loan_65 (by decide) (fun c23 => ?_) (fun c23 => ?_)
    · replace h := ifp_ c23 h
      refine a_iconst (v := (-1)) dX8_loan_114 (by decide) ?_
      cases h
      exact a_ireturn rfl rfl rfl rfl rfl dX8_loan_115
    · replace h := ifn_ c23 h
      refine a_lload 2 dX8_loan_68 rfl ?_
      refine a_ldc2 (v := 1000000000) q2128 dX8_loan_70 ?_
      refine a_lcmp dX8_loan_73 ?_
      refine a_if_ge (tgt := 114) dX8_loan_74 (by decide) (fun c24 => ?_) (fun c24 => ?_)
      · replace h := ifp_ c24 h
        refine a_iconst (v := (-1)) dX8_loan_114 (by decide) ?_
        cases h
        exact a_ireturn rfl rfl rfl rfl rfl dX8_loan_115
      · replace h := ifn_ c24 h
        refine a_lload 2 dX8_loan_77 rfl ?_
        refine a_lconst (v := 0) dX8_loan_79 (by decide) ?_
        refine a_lcmp dX8_loan_80 ?_
        refine a_if_gt (tgt := 87) dX8_loan_81 (by decide) (fun c25 => ?_) (fun c25 => ?_)
        · replace h := ifp_ c25 h
          refine a_lload 2 dX8_loan_87 rfl ?_
          refine a_lload 2 dX8_loan_89 rfl ?_
          refine a_iload_n 1 dX8_loan_91 rfl rfl ?_
          refine a_i2l dX8_loan_92 ?_
          refine a_lmul dX8_loan_93 ?_
          refine a_ldc2 (v := 1000) q2129 dX8_loan_94 ?_
          refine a_ldiv dX8_loan_97 (by decide) ?_
          refine a_ladd dX8_loan_98 ?_
          refine a_lstore (ls' := [(4, vL_ (x21 + ((x21 * p18.toInt64) / 1000))), (2, vI_ p17), (3, vI_ p18), (6, vI_ x22)]) dX8_loan_99 (Nat.le_of_ble_eq_true rfl) rfl ?_
          refine a_lload 0 dX8_loan_101 rfl ?_
          refine a_iload_n 1 dX8_loan_103 rfl rfl ?_
          refine a_i2l dX8_loan_104 ?_
          refine a_lsub dX8_loan_105 ?_
          refine a_lstore (ls' := [(4, vL_ ((x21 + ((x21 * p18.toInt64) / 1000)) - p17.toInt64)), (2, vI_ p17), (3, vI_ p18), (6, vI_ x22)]) dX8_loan_106 (Nat.le_of_ble_eq_true rfl) rfl ?_
          refine a_iinc (v := x22 + 1) (ls' := [(6, vI_ (x22 + 1)), (4, vL_ ((x21 + ((x21 * p18.toInt64) / 1000)) - p17.toInt64)), (2, vI_ p17), (3, vI_ p18)]) 3 dX8_loan_108 rfl rfl (Nat.le_of_ble_eq_true rfl) rfl ?_
          refine a_goto (tgt := 60) dX8_loan_111 (by decide) ?_
          refine aw_pick [2, 3, 1, 0] rfl ?_
          exact ih _ _ _ h
        · replace h := ifn_ c25 h
          refine a_iload 3 dX8_loan_84 rfl ?_
          cases h
          exact a_ireturn rfl rfl rfl rfl rfl dX8_loan_86
def f_X8_loan (F : Nat)  (t : pm_A) (i0 : Int32) (i1 : Int32) (i2 : Int32) (m : pm_M) : Option (Int32 × pm_M) :=
  lt_ (pI_ m t 0 0) fun m1 =>
  bm_ (f_X8_within F i0 0 9999 m1) fun v5 m3 =>
  jn_ (fun (y8 : Option pm_A) (y9 : Int32) (m7 : pm_M) =>
    gd_ 8 y8 fun a10 =>
    bm_ (f_X8_may F a10 y9 1 1 m7) fun v15 m13 =>
    if v15 = 0 then
      some (0, m13)
    else
      f_X8_loan_L60 F i1 i2 F i0.toInt64 0 m13
  ) fun k6 =>
  jn_ (fun (y28 : Option pm_A) (m27 : pm_M) =>
    k6 y28 0 m27
  ) fun k26 =>
  if v5 = 0 then
    k26 (some t) m3
  else
    bm_ (f_X8_within F i1 0 999 m3) fun v32 m30 =>
    if v32 = 0 then
      k26 (some t) m30
    else
      bm_ (f_X8_within F i2 0 100 m30) fun v36 m34 =>
      if v36 = 0 then
        k26 (some t) m34
      else
        k6 (some t) 1 m34
set_option maxHeartbeats 4000000 in
theorem e_X8_loan {G : xg_T} {l : Launch} (hl : l.stackTraces = false) {F : Nat}    {t : pm_A} {i0 : Int32} {i1 : Int32} {i2 : Int32} {m0 m' : pm_M} {r : Int32} (ht : t.1 = 8) (h : f_X8_loan F t i0 i1 i2 m0 = some (r, m')) : Cal_ G l yX8_loan (ws_ yX8_loan cX8_loan 7 (some .int)) 3 [vR_ (some t), vI_ i0, vI_ i1, vI_ i2] m0 (.inl (some (vI_ r))) m' := by
  refine cal_of (by decide +kernel) (Nat.le_of_ble_eq_true rfl) ?_
  unfold f_X8_loan at h
  show AW_ cX8_loan RX8 (some (.int), "loan", 3, 7, m0, m', (.inl (some (vI_ r))), G, l, [], true) m0 0 [(0, vR_ (some t)), (1, vI_ i0), (2, vI_ i1), (3, vI_ i2)] []
  refine a_aload_n 0 dX8_loan_0 rfl rfl ?_
  refine a_iconst (v := 0) dX8_loan_1 (by decide) ?_
  obtain ⟨m1, e2, h⟩ := lt_some h
  refine a_putI kc_8 0 (by decide) rfl ht q1554 rfl rfl rfl dX8_loan_2 ?_
  rw [← e2]
  refine a_aload_n 0 dX8_loan_5 rfl rfl ?_
  refine a_iload_n 1 dX8_loan_6 rfl rfl ?_
  refine a_iconst (v := 0) dX8_loan_7 (by decide) ?_
  refine a_sipush (v := 9999) dX8_loan_8 (by decide) ?_
  obtain ⟨v5, m3, e4, h⟩ := bm_some h
  have he4 := e_X8_within (G := G) hl e4
  refine c_I he4.1 (rn_S (n := 3) (As := [vI_ i0, vI_ 0, vI_ 9999]) he4 (lw_S q1823 q1824 q97 q1825) (by decide +kernel) rfl (Nat.le_of_ble_eq_true rfl) (Nat.le_of_ble_eq_true rfl) (Nat.le_of_ble_eq_true rfl) dX8_loan_11) (fun z => (os_aS (As := [vI_ i0, vI_ 0, vI_ 9999]) z).2) ?_
  obtain ⟨k6, e39, h⟩ := jn3_some h
  have hk6 : ∀ (y8 : Option pm_A) (y9 : Int32) (m7 : pm_M), k6 y8 y9 m7 = some (r, m') → AW_ cX8_loan RX8 (some (.int), "loan", 3, 7, m0, m', (.inl (some (vI_ r))), G, l, [], true) m7 43 [(1, vI_ i0), (2, vI_ i1), (3, vI_ i2)] [vI_ y9, vR_ y8] := by
    intro y8 y9 m7 h
    have h := (e39 y8 y9 m7).symm.trans h
    refine a_iconst (v := 1) dX8_loan_43 (by decide) ?_
    refine a_iconst (v := 1) dX8_loan_44 (by decide) ?_
    obtain ⟨a10, e11, f12, h⟩ := gd_some h
    rw [e11]
    obtain ⟨v15, m13, e14, h⟩ := bm_some h
    have he14 := e_X8_may (G := G) hl f12 e14
    refine c_I he14.1 (rn_V (n := 3) (As := [vI_ y9, vI_ 1, vI_ 1]) kc_8 f12 he14 (lw_V q1744 q1746 qs32 q97 q1747) (by decide +kernel) rfl (Nat.le_of_ble_eq_true rfl) (Nat.le_of_ble_eq_true rfl) (Nat.le_of_ble_eq_true rfl) dX8_loan_45) (fun z => (os_av (As := [vI_ y9, vI_ 1, vI_ 1]) z).2.1) ?_
    refine a_if_ne (tgt := 53) dX8_loan_48 (by decide) (fun c16 => ?_) (fun c16 => ?_)
    · replace h := ifn_ c16 h
      refine a_iload_n 0 dX8_loan_53 rfl rfl ?_
      refine a_i2l dX8_loan_54 ?_
      refine a_lstore (ls' := [(4, vL_ i0.toInt64), (1, vI_ i0), (2, vI_ i1), (3, vI_ i2)]) dX8_loan_55 (Nat.le_of_ble_eq_true rfl) rfl ?_
      refine a_iconst (v := 0) dX8_loan_57 (by decide) ?_
      refine a_istore (ls' := [(6, vI_ 0), (4, vL_ i0.toInt64), (1, vI_ i0), (2, vI_ i1), (3, vI_ i2)]) dX8_loan_58 (Nat.le_of_ble_eq_true rfl) rfl ?_
      refine aw_pick [3, 4, 1, 0] rfl ?_
      exact w_X8_loan_L60 hl _ _ _ _ _ _ h
    · replace h := ifp_ c16 h
      refine a_iconst (v := 0) dX8_loan_51 (by decide) ?_
      cases h
      exact a_ireturn rfl rfl rfl rfl rfl dX8_loan_52
  obtain ⟨k26, e38, h⟩ := jn2_some h
  have hk26 : ∀ (y28 : Option pm_A) (m27 : pm_M), k26 y28 m27 = some (r, m') → AW_ cX8_loan RX8 (some (.int), "loan", 3, 7, m0, m', (.inl (some (vI_ r))), G, l, [], true) m27 42 [(1, vI_ i0), (2, vI_ i1), (3, vI_ i2)] [vR_ y28] := by
    intro y28 m27 h
    have h := (e38 y28 m27).symm.trans h
    refine a_iconst (v := 0) dX8_loan_42 (by decide) ?_
    exact hk6 _ _ _ h
  refine a_if_eq (tgt := 42) dX8_loan_14 (by decide) (fun c29 => ?_) (fun c29 => ?_)
  · replace h := ifp_ c29 h
    refine aw_pick [1, 2, 3] rfl ?_
    exact hk26 _ _ h
  · replace h := ifn_ c29 h
    refine a_iload_n 2 dX8_loan_17 rfl rfl ?_
    refine a_iconst (v := 0) dX8_loan_18 (by decide) ?_
    refine a_sipush (v := 999) dX8_loan_19 (by decide) ?_
    obtain ⟨v32, m30, e31, h⟩ := bm_some h
    have he31 := e_X8_within (G := G) hl e31
    refine c_I he31.1 (rn_S (n := 3) (As := [vI_ i1, vI_ 0, vI_ 999]) he31 (lw_S q1823 q1824 q97 q1825) (by decide +kernel) rfl (Nat.le_of_ble_eq_true rfl) (Nat.le_of_ble_eq_true rfl) (Nat.le_of_ble_eq_true rfl) dX8_loan_22) (fun z => (os_aS (As := [vI_ i1, vI_ 0, vI_ 999]) z).2) ?_
    refine a_if_eq (tgt := 42) dX8_loan_25 (by decide) (fun c33 => ?_) (fun c33 => ?_)
    · replace h := ifp_ c33 h
      refine aw_pick [1, 2, 3] rfl ?_
      exact hk26 _ _ h
    · replace h := ifn_ c33 h
      refine a_iload_n 3 dX8_loan_28 rfl rfl ?_
      refine a_iconst (v := 0) dX8_loan_29 (by decide) ?_
      refine a_bipush (v := 100) dX8_loan_30 (by decide) ?_
      obtain ⟨v36, m34, e35, h⟩ := bm_some h
      have he35 := e_X8_within (G := G) hl e35
      refine c_I he35.1 (rn_S (n := 3) (As := [vI_ i2, vI_ 0, vI_ 100]) he35 (lw_S q1823 q1824 q97 q1825) (by decide +kernel) rfl (Nat.le_of_ble_eq_true rfl) (Nat.le_of_ble_eq_true rfl) (Nat.le_of_ble_eq_true rfl) dX8_loan_32) (fun z => (os_aS (As := [vI_ i2, vI_ 0, vI_ 100]) z).2) ?_
      refine a_if_eq (tgt := 42) dX8_loan_35 (by decide) (fun c37 => ?_) (fun c37 => ?_)
      · replace h := ifp_ c37 h
        refine aw_pick [1, 2, 3] rfl ?_
        exact hk26 _ _ h
      · replace h := ifn_ c37 h
        refine a_iconst (v := 1) dX8_loan_38 (by decide) ?_
        refine a_goto (tgt := 43) dX8_loan_39 (by decide) ?_
        refine aw_pick [1, 2, 3] rfl ?_
        exact hk6 _ _ _ h
def f_X8_land_L69 (F : Nat)  (p42 : pm_A) (p44 : Int32) (p45 : Int32) (p46 : Int32) (k47 : Int32 → pm_M → Option (Int32 × pm_M)) : Nat → Int32 → Int32 → pm_M → Option (Int32 × pm_M)
  | 0, _, _, _ => none
  | n50 + 1, x52, x53, m51 =>
    if (gI_ m51 p42 19) ≤ x53 then
      k47 x52 m51
    else
      bm_ (f_X8_boundTo F p42 x53 m51) fun v57 m55 =>
      if v57 ≤ 0 then
        (f_X8_land_L69 F p42 p44 p45 p46 k47 n50) x52 (x53 + 1) m55
      else
        if x52 = ((-1)) then
          (f_X8_land_L69 F p42 p44 p45 p46 k47 n50) x53 (x53 + 1) m55
        else
          bm_ (f_X8_boundTo F p42 x53 m55) fun v62 m60 =>
          gd_ 100 (gR_ m60 p42 54) fun a63 =>
          iz_ (!(ib_ x52 a63.2.1)) <|
          bm_ (f_X8_boundTo F p42 x52 m60) fun v69 m67 =>
          gd_ 100 (gR_ m67 p42 54) fun a70 =>
          iz_ (!(ib_ x53 a70.2.1)) <|
          if (v62 * (1 + (gI_ m60 a63 x52.toNatClampNeg))) ≤ (v69 * (1 + (gI_ m67 a70 x53.toNatClampNeg))) then
            (f_X8_land_L69 F p42 p44 p45 p46 k47 n50) x52 (x53 + 1) m67
          else
            (f_X8_land_L69 F p42 p44 p45 p46 k47 n50) x53 (x53 + 1) m67
set_option maxHeartbeats 4000000 in
theorem w_X8_land_L69 {G : xg_T} {l : Launch} (hl : l.stackTraces = false) {F : Nat}    (p42 : pm_A) (p44 : Int32) (p45 : Int32) (p46 : Int32) (k47 : Int32 → pm_M → Option (Int32 × pm_M)) {m0 m' : pm_M} {r : Int32} (hf43 : p42.1 = 8) (hk47 : ∀ (x48 : Int32) (m49 : pm_M), k47 x48 m49 = some (r, m') → AW_ cX8_land RX8 (some (.int), "land", 4, 6, m0, m', (.inl (some (vI_ r))), G, l, [], true) m49 138 [(0, vR_ (some p42)), (1, vI_ p44), (2, vI_ p45), (3, vI_ p46), (4, vI_ x48)] []) : ∀ (n : Nat) (x52 : Int32) (x53 : Int32) (m51 : pm_M), f_X8_land_L69 F p42 p44 p45 p46 k47 n x52 x53 m51 = some (r, m') → AW_ cX8_land RX8 (some (.int), "land", 4, 6, m0, m', (.inl (some (vI_ r))), G, l, [], true) m51 69 [(0, vR_ (some p42)), (1, vI_ p44), (2, vI_ p45), (3, vI_ p46), (4, vI_ x52), (5, vI_ x53)] [] := by
  intro n
  induction n with
  | zero => intro x52 x53 m51 h; cases h
  | succ n50 ih =>
    intro x52 x53 m51 h
    rw [f_X8_land_L69] at h
    refine a_iload 5 dX8_land_69 rfl ?_
    refine a_aload_n 0 dX8_land_71 rfl rfl ?_
    refine a_getI kc_8 19 (by decide) rfl hf43 q1573 dX8_land_72 ?_
    refine a_icmp_ge (tgt := 138) dX8_land_75 (by decide) (fun c54 => ?_) (fun c54 => ?_)
    · replace h := ifp_ c54 h
      refine aw_pick [0, 1, 2, 3, 4] rfl ?_
      exact hk47 _ _ h
    · replace h := ifn_ c54 h
      refine a_aload_n 0 dX8_land_78 rfl rfl ?_
      refine a_iload 5 dX8_land_79 rfl ?_
      obtain ⟨v57, m55, e56, h⟩ := bm_some h
      have he56 := e_X8_boundTo (G := G) hl hf43 e56
      refine c_I he56.1 (rn_V (n := 1) (As := [vI_ x53]) kc_8 hf43 he56 (lw_V q1912 q1914 qs62 q97 q1915) (by decide +kernel) rfl (Nat.le_of_ble_eq_true rfl) (Nat.le_of_ble_eq_true rfl) (Nat.le_of_ble_eq_true rfl) dX8_land_81) (fun z => (os_av (As := [vI_ x53]) z).2.1) ?_
      refine a_if_le (tgt := 132) dX8_land_84 (by decide) (fun c58 => ?_) (fun c58 => ?_)
      · replace h := ifp_ c58 h
        refine a_iinc (v := x53 + 1) (ls' := [(5, vI_ (x53 + 1)), (0, vR_ (some p42)), (1, vI_ p44), (2, vI_ p45), (3, vI_ p46), (4, vI_ x52)]) 5 dX8_land_132 rfl rfl (Nat.le_of_ble_eq_true rfl) rfl ?_
        refine a_goto (tgt := 69) dX8_land_135 (by decide) ?_
        refine aw_pick [1, 2, 3, 4, 5, 0] rfl ?_
        exact ih _ _ _ h
      · replace h := ifn_ c58 h
        refine a_iload 4 dX8_land_87 rfl ?_
        refine a_iconst (v := (-1)) dX8_land_89 (by decide) ?_
        refine a_icmp_eq (tgt := 128) dX8_land_90 (by decide) (fun c59 => ?_) (fun c59 => ?_)
        · replace h := ifp_ c59 h
          refine a_iload 5 dX8_land_128 rfl ?_
          refine a_istore (ls' := [(4, vI_ x53), (0, vR_ (some p42)), (1, vI_ p44), (2, vI_ p45), (3, vI_ p46), (5, vI_ x53)]) dX8_land_130 (Nat.le_of_ble_eq_true rfl) rfl ?_
          refine a_iinc (v := x53 + 1) (ls' := [(5, vI_ (x53 + 1)), (4, vI_ x53), (0, vR_ (some p42)), (1, vI_ p44), (2, vI_ p45), (3, vI_ p46)]) 5 dX8_land_132 rfl rfl (Nat.le_of_ble_eq_true rfl) rfl ?_
          refine a_goto (tgt := 69) dX8_land_135 (by decide) ?_
          refine aw_pick [2, 3, 4, 5, 1, 0] rfl ?_
          exact ih _ _ _ h
        · replace h := ifn_ c59 h
          refine a_aload_n 0 dX8_land_93 rfl rfl ?_
          refine a_iload 5 dX8_land_94 rfl ?_
          obtain ⟨v62, m60, e61, h⟩ := bm_some h
          have he61 := e_X8_boundTo (G := G) hl hf43 e61
          refine c_I he61.1 (rn_V (n := 1) (As := [vI_ x53]) kc_8 hf43 he61 (lw_V q1912 q1914 qs62 q97 q1915) (by decide +kernel) rfl (Nat.le_of_ble_eq_true rfl) (Nat.le_of_ble_eq_true rfl) (Nat.le_of_ble_eq_true rfl) dX8_land_96) (fun z => (os_av (As := [vI_ x53]) z).2.1) ?_
          refine a_iconst (v := 1) dX8_land_99 (by decide) ?_
          refine a_aload_n 0 dX8_land_100 rfl rfl ?_
          refine a_getR kc_8 54 (by decide) rfl hf43 q1608 dX8_land_101 ?_
          refine a_iload 4 dX8_land_104 rfl ?_
          obtain ⟨a63, e64, f65, h⟩ := gd_some h
          rw [e64]
          obtain ⟨c66, h⟩ := iz_some h
          refine a_iald f65 (bn_ c66) dX8_land_106 ?_
          refine a_iadd dX8_land_107 ?_
          refine a_imul dX8_land_108 ?_
          refine a_aload_n 0 dX8_land_109 rfl rfl ?_
          refine a_iload 4 dX8_land_110 rfl ?_
          obtain ⟨v69, m67, e68, h⟩ := bm_some h
          have he68 := e_X8_boundTo (G := G) hl hf43 e68
          refine c_I he68.1 (rn_V (n := 1) (As := [vI_ x52]) kc_8 hf43 he68 (lw_V q1912 q1914 qs62 q97 q1915) (by decide +kernel) rfl (Nat.le_of_ble_eq_true rfl) (Nat.le_of_ble_eq_true rfl) (Nat.le_of_ble_eq_true rfl) dX8_land_112) (fun z => (os_av (As := [vI_ x52]) z).2.1) ?_
          refine a_iconst (v := 1) dX8_land_115 (by decide) ?_
          refine a_aload_n 0 dX8_land_116 rfl rfl ?_
          refine a_getR kc_8 54 (by decide) rfl hf43 q1608 dX8_land_117 ?_
          refine a_iload 5 dX8_land_120 rfl ?_
          obtain ⟨a70, e71, f72, h⟩ := gd_some h
          rw [e71]
          obtain ⟨c73, h⟩ := iz_some h
          refine a_iald f72 (bn_ c73) dX8_land_122 ?_
          refine a_iadd dX8_land_123 ?_
          refine a_imul dX8_land_124 ?_
          refine a_icmp_le (tgt := 132) dX8_land_125 (by decide) (fun c74 => ?_) (fun c74 => ?_)
          · replace h := ifp_ c74 h
            refine a_iinc (v := x53 + 1) (ls' := [(5, vI_ (x53 + 1)), (0, vR_ (some p42)), (1, vI_ p44), (2, vI_ p45), (3, vI_ p46), (4, vI_ x52)]) 5 dX8_land_132 rfl rfl (Nat.le_of_ble_eq_true rfl) rfl ?_
            refine a_goto (tgt := 69) dX8_land_135 (by decide) ?_
            refine aw_pick [1, 2, 3, 4, 5, 0] rfl ?_
            exact ih _ _ _ h
          · replace h := ifn_ c74 h
            refine a_iload 5 dX8_land_128 rfl ?_
            refine a_istore (ls' := [(4, vI_ x53), (0, vR_ (some p42)), (1, vI_ p44), (2, vI_ p45), (3, vI_ p46), (5, vI_ x53)]) dX8_land_130 (Nat.le_of_ble_eq_true rfl) rfl ?_
            refine a_iinc (v := x53 + 1) (ls' := [(5, vI_ (x53 + 1)), (4, vI_ x53), (0, vR_ (some p42)), (1, vI_ p44), (2, vI_ p45), (3, vI_ p46)]) 5 dX8_land_132 rfl rfl (Nat.le_of_ble_eq_true rfl) rfl ?_
            refine a_goto (tgt := 69) dX8_land_135 (by decide) ?_
            refine aw_pick [2, 3, 4, 5, 1, 0] rfl ?_
            exact ih _ _ _ h
def f_X8_land_L58 (F : Nat)  (p19 : pm_A) (p21 : Int32) (p22 : Int32) : Nat → Int32 → pm_M → Option (Int32 × pm_M)
  | 0, _, _ => none
  | n23 + 1, x25, m24 =>
    if p22 ≤ x25 then
      gd_ 100 (gR_ m24 p19 54) fun a27 =>
      iz_ (!(ib_ p21 a27.2.1)) <|
      some ((gI_ m24 a27 p21.toNatClampNeg), m24)
    else
      jn_ (fun (x33 : Int32) (m32 : pm_M) =>
        if x33 = ((-1)) then
          (f_X8_land_L58 F p19 p21 p22 n23) (x25 + 1) m32
        else
          gd_ 100 (gR_ m32 p19 54) fun a35 =>
          iz_ (!(ib_ x33 a35.2.1)) <|
          iz_ (!(ib_ x33 a35.2.1)) <|
          lt_ (pI_ m32 a35 x33.toNatClampNeg ((gI_ m32 a35 x33.toNatClampNeg) + 1)) fun m40 =>
          (f_X8_land_L58 F p19 p21 p22 n23) (x25 + 1) m40
      ) fun k31 =>
      f_X8_land_L69 F p19 p21 p22 x25 k31 F ((-1)) 0 m24
set_option maxHeartbeats 4000000 in
theorem w_X8_land_L58 {G : xg_T} {l : Launch} (hl : l.stackTraces = false) {F : Nat}    (p19 : pm_A) (p21 : Int32) (p22 : Int32) {m0 m' : pm_M} {r : Int32} (hf20 : p19.1 = 8)  : ∀ (n : Nat) (x25 : Int32) (m24 : pm_M), f_X8_land_L58 F p19 p21 p22 n x25 m24 = some (r, m') → AW_ cX8_land RX8 (some (.int), "land", 4, 6, m0, m', (.inl (some (vI_ r))), G, l, [], true) m24 58 [(0, vR_ (some p19)), (1, vI_ p21), (2, vI_ p22), (3, vI_ x25)] [] := by
  intro n
  induction n with
  | zero => intro x25 m24 h; cases h
  | succ n23 ih =>
    intro x25 m24 h
    rw [f_X8_land_L58] at h
    refine a_iload_n 3 dX8_land_58 rfl rfl ?_
    refine a_iload_n 2 dX8_land_59 rfl rfl ?_
    refine a_icmp_ge (tgt := 161) dX8_land_60 (by decide) (fun c26 => ?_) (fun c26 => ?_)
    · replace h := ifp_ c26 h
      refine a_aload_n 0 dX8_land_161 rfl rfl ?_
      refine a_getR kc_8 54 (by decide) rfl hf20 q1608 dX8_land_162 ?_
      refine a_iload_n 1 dX8_land_165 rfl rfl ?_
      obtain ⟨a27, e28, f29, h⟩ := gd_some h
      rw [e28]
      obtain ⟨c30, h⟩ := iz_some h
      refine a_iald f29 (bn_ c30) dX8_land_166 ?_
      cases h
      exact a_ireturn rfl rfl rfl rfl rfl dX8_land_167
    · replace h := ifn_ c26 h
      refine a_iconst (v := (-1)) dX8_land_63 (by decide) ?_
      refine a_istore (ls' := [(4, vI_ ((-1))), (0, vR_ (some p19)), (1, vI_ p21), (2, vI_ p22), (3, vI_ x25)]) dX8_land_64 (Nat.le_of_ble_eq_true rfl) rfl ?_
      refine a_iconst (v := 0) dX8_land_66 (by decide) ?_
      refine a_istore (ls' := [(5, vI_ 0), (4, vI_ ((-1))), (0, vR_ (some p19)), (1, vI_ p21), (2, vI_ p22), (3, vI_ x25)]) dX8_land_67 (Nat.le_of_ble_eq_true rfl) rfl ?_
      obtain ⟨k31, e75, h⟩ := jn2_some h
      have hk31 : ∀ (x33 : Int32) (m32 : pm_M), k31 x33 m32 = some (r, m') → AW_ cX8_land RX8 (some (.int), "land", 4, 6, m0, m', (.inl (some (vI_ r))), G, l, [], true) m32 138 [(0, vR_ (some p19)), (1, vI_ p21), (2, vI_ p22), (3, vI_ x25), (4, vI_ x33)] [] := by
        intro x33 m32 h
        have h := (e75 x33 m32).symm.trans h
        refine a_iload 4 dX8_land_138 rfl ?_
        refine a_iconst (v := (-1)) dX8_land_140 (by decide) ?_
        refine a_icmp_eq (tgt := 155) dX8_land_141 (by decide) (fun c34 => ?_) (fun c34 => ?_)
        · replace h := ifp_ c34 h
          refine a_iinc (v := x25 + 1) (ls' := [(3, vI_ (x25 + 1)), (0, vR_ (some p19)), (1, vI_ p21), (2, vI_ p22), (4, vI_ x33)]) 3 dX8_land_155 rfl rfl (Nat.le_of_ble_eq_true rfl) rfl ?_
          refine a_goto (tgt := 58) dX8_land_158 (by decide) ?_
          refine aw_pick [1, 2, 3, 0] rfl ?_
          exact ih _ _ h
        · replace h := ifn_ c34 h
          refine a_aload_n 0 dX8_land_144 rfl rfl ?_
          refine a_getR kc_8 54 (by decide) rfl hf20 q1608 dX8_land_145 ?_
          refine a_iload 4 dX8_land_148 rfl ?_
          refine a_dup2 dX8_land_150 rfl rfl ?_
          obtain ⟨a35, e36, f37, h⟩ := gd_some h
          rw [e36]
          obtain ⟨c38, h⟩ := iz_some h
          refine a_iald f37 (bn_ c38) dX8_land_151 ?_
          refine a_iconst (v := 1) dX8_land_152 (by decide) ?_
          refine a_iadd dX8_land_153 ?_
          obtain ⟨c39, h⟩ := iz_some h
          obtain ⟨m40, e41, h⟩ := lt_some h
          refine a_iast f37 (bn_ c39) dX8_land_154 ?_
          rw [← e41]
          refine a_iinc (v := x25 + 1) (ls' := [(3, vI_ (x25 + 1)), (0, vR_ (some p19)), (1, vI_ p21), (2, vI_ p22), (4, vI_ x33)]) 3 dX8_land_155 rfl rfl (Nat.le_of_ble_eq_true rfl) rfl ?_
          refine a_goto (tgt := 58) dX8_land_158 (by decide) ?_
          refine aw_pick [1, 2, 3, 0] rfl ?_
          exact ih _ _ h
      refine aw_pick [2, 3, 4, 5, 1, 0] rfl ?_
      exact w_X8_land_L69 hl _ _ _ _ _ hf20 hk31 _ _ _ _ h
def f_X8_land_L38 (F : Nat)  (p76 : pm_A) (p78 : Int32) (p79 : Int32) (k80 : pm_M → Option (Int32 × pm_M)) : Nat → Int32 → pm_M → Option (Int32 × pm_M)
  | 0, _, _ => none
  | n82 + 1, x84, m83 =>
    if 5 ≤ x84 then
      k80 m83
    else
      gd_ 100 (gR_ m83 p76 54) fun a86 =>
      iz_ (!(ib_ x84 a86.2.1)) <|
      lt_ (pI_ m83 a86 x84.toNatClampNeg 0) fun m90 =>
      (f_X8_land_L38 F p76 p78 p79 k80 n82) (x84 + 1) m90
set_option maxHeartbeats 4000000 in
theorem w_X8_land_L38 {G : xg_T} {l : Launch} (hl : l.stackTraces = false) {F : Nat}    (p76 : pm_A) (p78 : Int32) (p79 : Int32) (k80 : pm_M → Option (Int32 × pm_M)) {m0 m' : pm_M} {r : Int32} (hf77 : p76.1 = 8) (hk80 : ∀ (m81 : pm_M), k80 m81 = some (r, m') → AW_ cX8_land RX8 (some (.int), "land", 4, 6, m0, m', (.inl (some (vI_ r))), G, l, [], true) m81 56 [(0, vR_ (some p76)), (1, vI_ p78), (2, vI_ p79)] []) : ∀ (n : Nat) (x84 : Int32) (m83 : pm_M), f_X8_land_L38 F p76 p78 p79 k80 n x84 m83 = some (r, m') → AW_ cX8_land RX8 (some (.int), "land", 4, 6, m0, m', (.inl (some (vI_ r))), G, l, [], true) m83 38 [(0, vR_ (some p76)), (1, vI_ p78), (2, vI_ p79), (3, vI_ x84)] [] := by
  intro n
  induction n with
  | zero => intro x84 m83 h; cases h
  | succ n82 ih =>
    intro x84 m83 h
    rw [f_X8_land_L38] at h
    refine a_iload_n 3 dX8_land_38 rfl rfl ?_
    refine a_iconst (v := 5) dX8_land_39 (by decide) ?_
    refine a_icmp_ge (tgt := 56) dX8_land_40 (by decide) (fun c85 => ?_) (fun c85 => ?_)
    · replace h := ifp_ c85 h
      refine aw_pick [0, 1, 2] rfl ?_
      exact hk80 _ h
    · replace h := ifn_ c85 h
      refine a_aload_n 0 dX8_land_43 rfl rfl ?_
      refine a_getR kc_8 54 (by decide) rfl hf77 q1608 dX8_land_44 ?_
      refine a_iload_n 3 dX8_land_47 rfl rfl ?_
      refine a_iconst (v := 0) dX8_land_48 (by decide) ?_
      obtain ⟨a86, e87, f88, h⟩ := gd_some h
      rw [e87]
      obtain ⟨c89, h⟩ := iz_some h
      obtain ⟨m90, e91, h⟩ := lt_some h
      refine a_iast f88 (bn_ c89) dX8_land_49 ?_
      rw [← e91]
      refine a_iinc (v := x84 + 1) (ls' := [(3, vI_ (x84 + 1)), (0, vR_ (some p76)), (1, vI_ p78), (2, vI_ p79)]) 3 dX8_land_50 rfl rfl (Nat.le_of_ble_eq_true rfl) rfl ?_
      refine a_goto (tgt := 38) dX8_land_53 (by decide) ?_
      refine aw_pick [1, 2, 3, 0] rfl ?_
      exact ih _ _ h
def f_X8_land (F : Nat)  (t : pm_A) (i0 : Int32) (i1 : Int32) (m : pm_M) : Option (Int32 × pm_M) :=
  lt_ (pI_ m t 0 0) fun m1 =>
  bm_ (f_X8_isTaker F t i0 1 m1) fun v5 m3 =>
  if v5 = 0 then
    some (0, m3)
  else
    bm_ (f_X8_within F i1 0 99 m3) fun v9 m7 =>
    bm_ (f_X8_may F t v9 2 1 m7) fun v12 m10 =>
    if v12 = 0 then
      some (0, m10)
    else
      bm_ (f_X8_take F t m10) fun v16 m14 =>
      jn_ (fun  (m18 : pm_M) =>
        f_X8_land_L58 F t i0 i1 F 0 m18
      ) fun k17 =>
      f_X8_land_L38 F t i0 i1 k17 F 0 m14
set_option maxHeartbeats 4000000 in
theorem e_X8_land {G : xg_T} {l : Launch} (hl : l.stackTraces = false) {F : Nat}    {t : pm_A} {i0 : Int32} {i1 : Int32} {m0 m' : pm_M} {r : Int32} (ht : t.1 = 8) (h : f_X8_land F t i0 i1 m0 = some (r, m')) : Cal_ G l yX8_land (ws_ yX8_land cX8_land 6 (some .int)) 4 [vR_ (some t), vI_ i0, vI_ i1] m0 (.inl (some (vI_ r))) m' := by
  refine cal_of (by decide +kernel) (Nat.le_of_ble_eq_true rfl) ?_
  unfold f_X8_land at h
  show AW_ cX8_land RX8 (some (.int), "land", 4, 6, m0, m', (.inl (some (vI_ r))), G, l, [], true) m0 0 [(0, vR_ (some t)), (1, vI_ i0), (2, vI_ i1)] []
  refine a_aload_n 0 dX8_land_0 rfl rfl ?_
  refine a_iconst (v := 0) dX8_land_1 (by decide) ?_
  obtain ⟨m1, e2, h⟩ := lt_some h
  refine a_putI kc_8 0 (by decide) rfl ht q1554 rfl rfl rfl dX8_land_2 ?_
  rw [← e2]
  refine a_aload_n 0 dX8_land_5 rfl rfl ?_
  refine a_iload_n 1 dX8_land_6 rfl rfl ?_
  refine a_iconst (v := 1) dX8_land_7 (by decide) ?_
  obtain ⟨v5, m3, e4, h⟩ := bm_some h
  have he4 := e_X8_isTaker (G := G) hl ht e4
  refine c_I he4.1 (rn_V (n := 2) (As := [vI_ i0, vI_ 1]) kc_8 ht he4 (lw_V q1991 q1993 qs76 q97 q1994) (by decide +kernel) rfl (Nat.le_of_ble_eq_true rfl) (Nat.le_of_ble_eq_true rfl) (Nat.le_of_ble_eq_true rfl) dX8_land_8) (fun z => (os_av (As := [vI_ i0, vI_ 1]) z).2.1) ?_
  refine a_if_eq (tgt := 30) dX8_land_11 (by decide) (fun c6 => ?_) (fun c6 => ?_)
  · replace h := ifp_ c6 h
    refine a_iconst (v := 0) dX8_land_30 (by decide) ?_
    cases h
    exact a_ireturn rfl rfl rfl rfl rfl dX8_land_31
  · replace h := ifn_ c6 h
    refine a_aload_n 0 dX8_land_14 rfl rfl ?_
    refine a_iload_n 2 dX8_land_15 rfl rfl ?_
    refine a_iconst (v := 0) dX8_land_16 (by decide) ?_
    refine a_bipush (v := 99) dX8_land_17 (by decide) ?_
    obtain ⟨v9, m7, e8, h⟩ := bm_some h
    have he8 := e_X8_within (G := G) hl e8
    refine c_I he8.1 (rn_S (n := 3) (As := [vI_ i1, vI_ 0, vI_ 99]) he8 (lw_S q1823 q1824 q97 q1825) (by decide +kernel) rfl (Nat.le_of_ble_eq_true rfl) (Nat.le_of_ble_eq_true rfl) (Nat.le_of_ble_eq_true rfl) dX8_land_19) (fun z => (os_aS (As := [vI_ i1, vI_ 0, vI_ 99]) z).2) ?_
    refine a_iconst (v := 2) dX8_land_22 (by decide) ?_
    refine a_iconst (v := 1) dX8_land_23 (by decide) ?_
    obtain ⟨v12, m10, e11, h⟩ := bm_some h
    have he11 := e_X8_may (G := G) hl ht e11
    refine c_I he11.1 (rn_V (n := 3) (As := [vI_ v9, vI_ 2, vI_ 1]) kc_8 ht he11 (lw_V q1744 q1746 qs32 q97 q1747) (by decide +kernel) rfl (Nat.le_of_ble_eq_true rfl) (Nat.le_of_ble_eq_true rfl) (Nat.le_of_ble_eq_true rfl) dX8_land_24) (fun z => (os_av (As := [vI_ v9, vI_ 2, vI_ 1]) z).2.1) ?_
    refine a_if_ne (tgt := 32) dX8_land_27 (by decide) (fun c13 => ?_) (fun c13 => ?_)
    · replace h := ifn_ c13 h
      refine a_aload_n 0 dX8_land_32 rfl rfl ?_
      obtain ⟨v16, m14, e15, h⟩ := bm_some h
      have he15 := e_X8_take (G := G) hl ht e15
      refine c_V he15.1 (rn_V (n := 0) (As := []) kc_8 ht he15 (lw_V q1888 q1890 qs56 q97 q1891) (by decide +kernel) rfl (Nat.le_of_ble_eq_true rfl) (Nat.le_of_ble_eq_true rfl) (Nat.le_of_ble_eq_true rfl) dX8_land_33) (fun z => (os_av (As := []) z).2.1) ?_
      refine a_iconst (v := 0) dX8_land_36 (by decide) ?_
      refine a_istore_n (ls' := [(3, vI_ 0), (0, vR_ (some t)), (1, vI_ i0), (2, vI_ i1)]) dX8_land_37 rfl (Nat.le_of_ble_eq_true rfl) rfl ?_
      obtain ⟨k17, e92, h⟩ := jn1_some h
      have hk17 : ∀  (m18 : pm_M), k17 m18 = some (r, m') → AW_ cX8_land RX8 (some (.int), "land", 4, 6, m0, m', (.inl (some (vI_ r))), G, l, [], true) m18 56 [(0, vR_ (some t)), (1, vI_ i0), (2, vI_ i1)] [] := by
        intro m18 h
        have h := (e92 m18).symm.trans h
        refine a_iconst (v := 0) dX8_land_56 (by decide) ?_
        refine a_istore_n (ls' := [(3, vI_ 0), (0, vR_ (some t)), (1, vI_ i0), (2, vI_ i1)]) dX8_land_57 rfl (Nat.le_of_ble_eq_true rfl) rfl ?_
        refine aw_pick [1, 2, 3, 0] rfl ?_
        exact w_X8_land_L58 hl _ _ _ ht _ _ _ h
      refine aw_pick [1, 2, 3, 0] rfl ?_
      exact w_X8_land_L38 hl _ _ _ _ ht hk17 _ _ _ h
    · replace h := ifp_ c13 h
      refine a_iconst (v := 0) dX8_land_30 (by decide) ?_
      cases h
      exact a_ireturn rfl rfl rfl rfl rfl dX8_land_31
def f_X8_hasBy (F : Nat)  (i0 : Int32) (i1 : Int32) (i2 : Int32) (m : pm_M) : Option (Int32 × pm_M) :=
  if i0 ≤ i1 then
    if i0 = i1 then
      some (((i2 - i0) / 2), m)
    else
      some (0, m)
  else
    some ((i2 - i0), m)
set_option maxHeartbeats 4000000 in
theorem e_X8_hasBy {G : xg_T} {l : Launch} (hl : l.stackTraces = false) {F : Nat}    {i0 : Int32} {i1 : Int32} {i2 : Int32} {m0 m' : pm_M} {r : Int32} (h : f_X8_hasBy F i0 i1 i2 m0 = some (r, m')) : Cal_ G l yX8_hasBy (ws_ yX8_hasBy cX8_hasBy 3 (some .int)) 2 [vI_ i0, vI_ i1, vI_ i2] m0 (.inl (some (vI_ r))) m' := by
  refine cal_of (by decide +kernel) (Nat.le_of_ble_eq_true rfl) ?_
  unfold f_X8_hasBy at h
  show AW_ cX8_hasBy RX8 (some (.int), "hasBy", 2, 3, m0, m', (.inl (some (vI_ r))), G, l, [], true) m0 0 [(0, vI_ i0), (1, vI_ i1), (2, vI_ i2)] []
  refine a_iload_n 0 dX8_hasBy_0 rfl rfl ?_
  refine a_iload_n 1 dX8_hasBy_1 rfl rfl ?_
  refine a_icmp_le (tgt := 11) dX8_hasBy_2 (by decide) (fun c1 => ?_) (fun c1 => ?_)
  · replace h := ifp_ c1 h
    refine a_iload_n 0 dX8_hasBy_11 rfl rfl ?_
    refine a_iload_n 1 dX8_hasBy_12 rfl rfl ?_
    refine a_icmp_ne (tgt := 24) dX8_hasBy_13 (by decide) (fun c2 => ?_) (fun c2 => ?_)
    · replace h := ifn_ c2 h
      refine a_iconst (v := 0) dX8_hasBy_24 (by decide) ?_
      cases h
      exact a_ireturn rfl rfl rfl rfl rfl dX8_hasBy_25
    · replace h := ifp_ c2 h
      refine a_iload_n 2 dX8_hasBy_16 rfl rfl ?_
      refine a_iload_n 0 dX8_hasBy_17 rfl rfl ?_
      refine a_isub dX8_hasBy_18 ?_
      refine a_iconst (v := 2) dX8_hasBy_19 (by decide) ?_
      refine a_idiv dX8_hasBy_20 (by decide) ?_
      refine a_goto (tgt := 25) dX8_hasBy_21 (by decide) ?_
      cases h
      exact a_ireturn rfl rfl rfl rfl rfl dX8_hasBy_25
  · replace h := ifn_ c1 h
    refine a_iload_n 2 dX8_hasBy_5 rfl rfl ?_
    refine a_iload_n 0 dX8_hasBy_6 rfl rfl ?_
    refine a_isub dX8_hasBy_7 ?_
    refine a_goto (tgt := 25) dX8_hasBy_8 (by decide) ?_
    cases h
    exact a_ireturn rfl rfl rfl rfl rfl dX8_hasBy_25
def f_X8_isRest_L3 (F : Nat)  (p1 : Int32) (p2 : Int32) (p3 : Int32) (p4 : Int32) (p5 : Int32) : Nat → Int32 → pm_M → Option (Int32 × pm_M)
  | 0, _, _ => none
  | n6 + 1, x8, m7 =>
    if p3 < x8 then
      some (1, m7)
    else
      bm_ (f_X8_hasBy F x8 p2 p4 m7) fun v12 m10 =>
      bm_ (f_X8_hasBy F p1 p2 p4 m10) fun v15 m13 =>
      if v15 < v12 then
        some (0, m13)
      else
        bm_ (f_X8_hasBy F x8 p1 p5 m13) fun v19 m17 =>
        bm_ (f_X8_hasBy F p2 p1 p5 m17) fun v22 m20 =>
        if v19 ≤ v22 then
          (f_X8_isRest_L3 F p1 p2 p3 p4 p5 n6) (x8 + 1) m20
        else
          some (0, m20)
set_option maxHeartbeats 4000000 in
theorem w_X8_isRest_L3 {G : xg_T} {l : Launch} (hl : l.stackTraces = false) {F : Nat}    (p1 : Int32) (p2 : Int32) (p3 : Int32) (p4 : Int32) (p5 : Int32) {m0 m' : pm_M} {r : Int32}   : ∀ (n : Nat) (x8 : Int32) (m7 : pm_M), f_X8_isRest_L3 F p1 p2 p3 p4 p5 n x8 m7 = some (r, m') → AW_ cX8_isRest RX8 (some (.boolean), "isRest", 3, 6, m0, m', (.inl (some (vI_ r))), G, l, [], true) m7 3 [(0, vI_ p1), (1, vI_ p2), (2, vI_ p3), (3, vI_ p4), (4, vI_ p5), (5, vI_ x8)] [] := by
  intro n
  induction n with
  | zero => intro x8 m7 h; cases h
  | succ n6 ih =>
    intro x8 m7 h
    rw [f_X8_isRest_L3] at h
    refine a_iload 5 dX8_isRest_3 rfl ?_
    refine a_iload_n 2 dX8_isRest_5 rfl rfl ?_
    refine a_icmp_gt (tgt := 51) dX8_isRest_6 (by decide) (fun c9 => ?_) (fun c9 => ?_)
    · replace h := ifp_ c9 h
      refine a_iconst (v := 1) dX8_isRest_51 (by decide) ?_
      cases h
      exact a_ireturn rfl rfl rfl rfl rfl dX8_isRest_52
    · replace h := ifn_ c9 h
      refine a_iload 5 dX8_isRest_9 rfl ?_
      refine a_iload_n 1 dX8_isRest_11 rfl rfl ?_
      refine a_iload_n 3 dX8_isRest_12 rfl rfl ?_
      obtain ⟨v12, m10, e11, h⟩ := bm_some h
      have he11 := e_X8_hasBy (G := G) hl e11
      refine c_I he11.1 (rn_S (n := 3) (As := [vI_ x8, vI_ p2, vI_ p4]) he11 (lw_S q2141 q2142 q97 q2143) (by decide +kernel) rfl (Nat.le_of_ble_eq_true rfl) (Nat.le_of_ble_eq_true rfl) (Nat.le_of_ble_eq_true rfl) dX8_isRest_13) (fun z => (os_aS (As := [vI_ x8, vI_ p2, vI_ p4]) z).2) ?_
      refine a_iload_n 0 dX8_isRest_16 rfl rfl ?_
      refine a_iload_n 1 dX8_isRest_17 rfl rfl ?_
      refine a_iload_n 3 dX8_isRest_18 rfl rfl ?_
      obtain ⟨v15, m13, e14, h⟩ := bm_some h
      have he14 := e_X8_hasBy (G := G) hl e14
      refine c_I he14.1 (rn_S (n := 3) (As := [vI_ p1, vI_ p2, vI_ p4]) he14 (lw_S q2141 q2142 q97 q2143) (by decide +kernel) rfl (Nat.le_of_ble_eq_true rfl) (Nat.le_of_ble_eq_true rfl) (Nat.le_of_ble_eq_true rfl) dX8_isRest_19) (fun z => (os_aS (As := [vI_ p1, vI_ p2, vI_ p4]) z).2) ?_
      refine a_icmp_gt (tgt := 43) dX8_isRest_22 (by decide) (fun c16 => ?_) (fun c16 => ?_)
      · replace h := ifp_ c16 h
        refine a_iconst (v := 0) dX8_isRest_43 (by decide) ?_
        cases h
        exact a_ireturn rfl rfl rfl rfl rfl dX8_isRest_44
      · replace h := ifn_ c16 h
        refine a_iload 5 dX8_isRest_25 rfl ?_
        refine a_iload_n 0 dX8_isRest_27 rfl rfl ?_
        refine a_iload 4 dX8_isRest_28 rfl ?_
        obtain ⟨v19, m17, e18, h⟩ := bm_some h
        have he18 := e_X8_hasBy (G := G) hl e18
        refine c_I he18.1 (rn_S (n := 3) (As := [vI_ x8, vI_ p1, vI_ p5]) he18 (lw_S q2141 q2142 q97 q2143) (by decide +kernel) rfl (Nat.le_of_ble_eq_true rfl) (Nat.le_of_ble_eq_true rfl) (Nat.le_of_ble_eq_true rfl) dX8_isRest_30) (fun z => (os_aS (As := [vI_ x8, vI_ p1, vI_ p5]) z).2) ?_
        refine a_iload_n 1 dX8_isRest_33 rfl rfl ?_
        refine a_iload_n 0 dX8_isRest_34 rfl rfl ?_
        refine a_iload 4 dX8_isRest_35 rfl ?_
        obtain ⟨v22, m20, e21, h⟩ := bm_some h
        have he21 := e_X8_hasBy (G := G) hl e21
        refine c_I he21.1 (rn_S (n := 3) (As := [vI_ p2, vI_ p1, vI_ p5]) he21 (lw_S q2141 q2142 q97 q2143) (by decide +kernel) rfl (Nat.le_of_ble_eq_true rfl) (Nat.le_of_ble_eq_true rfl) (Nat.le_of_ble_eq_true rfl) dX8_isRest_37) (fun z => (os_aS (As := [vI_ p2, vI_ p1, vI_ p5]) z).2) ?_
        refine a_icmp_le (tgt := 45) dX8_isRest_40 (by decide) (fun c23 => ?_) (fun c23 => ?_)
        · replace h := ifp_ c23 h
          refine a_iinc (v := x8 + 1) (ls' := [(5, vI_ (x8 + 1)), (0, vI_ p1), (1, vI_ p2), (2, vI_ p3), (3, vI_ p4), (4, vI_ p5)]) 5 dX8_isRest_45 rfl rfl (Nat.le_of_ble_eq_true rfl) rfl ?_
          refine a_goto (tgt := 3) dX8_isRest_48 (by decide) ?_
          refine aw_pick [1, 2, 3, 4, 5, 0] rfl ?_
          exact ih _ _ h
        · replace h := ifn_ c23 h
          refine a_iconst (v := 0) dX8_isRest_43 (by decide) ?_
          cases h
          exact a_ireturn rfl rfl rfl rfl rfl dX8_isRest_44
def f_X8_isRest (F : Nat)  (i0 : Int32) (i1 : Int32) (i2 : Int32) (i3 : Int32) (i4 : Int32) (m : pm_M) : Option (Int32 × pm_M) :=
  f_X8_isRest_L3 F i0 i1 i2 i3 i4 F 0 m
set_option maxHeartbeats 4000000 in
theorem e_X8_isRest {G : xg_T} {l : Launch} (hl : l.stackTraces = false) {F : Nat}    {i0 : Int32} {i1 : Int32} {i2 : Int32} {i3 : Int32} {i4 : Int32} {m0 m' : pm_M} {r : Int32} (h : f_X8_isRest F i0 i1 i2 i3 i4 m0 = some (r, m')) : Cal_ G l yX8_isRest (ws_ yX8_isRest cX8_isRest 6 (some .boolean)) 3 [vI_ i0, vI_ i1, vI_ i2, vI_ i3, vI_ i4] m0 (.inl (some (vI_ r))) m' := by
  refine cal_of (by decide +kernel) (Nat.le_of_ble_eq_true rfl) ?_
  unfold f_X8_isRest at h
  show AW_ cX8_isRest RX8 (some (.boolean), "isRest", 3, 6, m0, m', (.inl (some (vI_ r))), G, l, [], true) m0 0 [(0, vI_ i0), (1, vI_ i1), (2, vI_ i2), (3, vI_ i3), (4, vI_ i4)] []
  refine a_iconst (v := 0) dX8_isRest_0 (by decide) ?_
  refine a_istore (ls' := [(5, vI_ 0), (0, vI_ i0), (1, vI_ i1), (2, vI_ i2), (3, vI_ i3), (4, vI_ i4)]) dX8_isRest_1 (Nat.le_of_ble_eq_true rfl) rfl ?_
  refine aw_pick [1, 2, 3, 4, 5, 0] rfl ?_
  exact w_X8_isRest_L3 hl _ _ _ _ _ _ _ _ h
def f_X8_bids_L70 (F : Nat)  (p30 : Int32) (p31 : Int32) (p32 : Int32) (p33 : Int32) (k34 : Int32 → Int32 → pm_M → Option (Int32 × pm_M)) : Nat → Int32 → Int32 → Int32 → pm_M → Option (Int32 × pm_M)
  | 0, _, _, _, _ => none
  | n38 + 1, x40, x41, x42, m39 =>
    if ((p30 + 1) * (p30 + 1)) ≤ x42 then
      k34 x40 x41 m39
    else
      iz_ (decide ((p30 + 1) = 0)) <|
      iz_ (decide ((p30 + 1) = 0)) <|
      bm_ (f_X8_isRest F (x42 / (p30 + 1)) (x42 - x42 / (p30 + 1) * (p30 + 1)) p30 p31 p32 m39) fun v48 m46 =>
      if v48 = 0 then
        (f_X8_bids_L70 F p30 p31 p32 p33 k34 n38) x40 x41 (x42 + 1) m46
      else
        if x41 = ((-1)) then
          iz_ (decide ((p30 + 1) = 0)) <|
          iz_ (decide ((p30 + 1) = 0)) <|
          (f_X8_bids_L70 F p30 p31 p32 p33 k34 n38) (x40 + 1) ((100 * (x42 / (p30 + 1))) + (x42 - x42 / (p30 + 1) * (p30 + 1))) (x42 + 1) m46
        else
          (f_X8_bids_L70 F p30 p31 p32 p33 k34 n38) (x40 + 1) x41 (x42 + 1) m46
set_option maxHeartbeats 4000000 in
theorem w_X8_bids_L70 {G : xg_T} {l : Launch} (hl : l.stackTraces = false) {F : Nat}    (p30 : Int32) (p31 : Int32) (p32 : Int32) (p33 : Int32) (k34 : Int32 → Int32 → pm_M → Option (Int32 × pm_M)) {m0 m' : pm_M} {r : Int32}  (hk34 : ∀ (x35 : Int32) (x36 : Int32) (m37 : pm_M), k34 x35 x36 m37 = some (r, m') → AW_ cX8_bids RX8 (some (.int), "bids", 4, 8, m0, m', (.inl (some (vI_ r))), G, l, [], true) m37 144 [(2, vI_ p31), (3, vI_ p32), (4, vI_ p33), (5, vI_ x35), (6, vI_ x36)] []) : ∀ (n : Nat) (x40 : Int32) (x41 : Int32) (x42 : Int32) (m39 : pm_M), f_X8_bids_L70 F p30 p31 p32 p33 k34 n x40 x41 x42 m39 = some (r, m') → AW_ cX8_bids RX8 (some (.int), "bids", 4, 8, m0, m', (.inl (some (vI_ r))), G, l, [], true) m39 70 [(1, vI_ p30), (2, vI_ p31), (3, vI_ p32), (4, vI_ p33), (5, vI_ x40), (6, vI_ x41), (7, vI_ x42)] [] := by
  intro n
  induction n with
  | zero => intro x40 x41 x42 m39 h; cases h
  | succ n38 ih =>
    intro x40 x41 x42 m39 h
    rw [f_X8_bids_L70] at h
    refine a_iload 6 dX8_bids_70 rfl ?_
    refine a_iload_n 0 dX8_bids_72 rfl rfl ?_
    refine a_iconst (v := 1) dX8_bids_73 (by decide) ?_
    refine a_iadd dX8_bids_74 ?_
    refine a_iload_n 0 dX8_bids_75 rfl rfl ?_
    refine a_iconst (v := 1) dX8_bids_76 (by decide) ?_
    refine a_iadd dX8_bids_77 ?_
    refine a_imul dX8_bids_78 ?_
    refine a_icmp_ge (tgt := 144) dX8_bids_79 (by decide) (fun c43 => ?_) (fun c43 => ?_)
    · replace h := ifp_ c43 h
      refine aw_pick [1, 2, 3, 4, 5] rfl ?_
      exact hk34 _ _ _ h
    · replace h := ifn_ c43 h
      refine a_iload 6 dX8_bids_82 rfl ?_
      refine a_iload_n 0 dX8_bids_84 rfl rfl ?_
      refine a_iconst (v := 1) dX8_bids_85 (by decide) ?_
      refine a_iadd dX8_bids_86 ?_
      obtain ⟨c44, h⟩ := iz_some h
      refine a_idiv dX8_bids_87 (of_decide_eq_false c44) ?_
      refine a_iload 6 dX8_bids_88 rfl ?_
      refine a_iload_n 0 dX8_bids_90 rfl rfl ?_
      refine a_iconst (v := 1) dX8_bids_91 (by decide) ?_
      refine a_iadd dX8_bids_92 ?_
      obtain ⟨c45, h⟩ := iz_some h
      refine a_irem dX8_bids_93 (of_decide_eq_false c45) ?_
      refine a_iload_n 0 dX8_bids_94 rfl rfl ?_
      refine a_iload_n 1 dX8_bids_95 rfl rfl ?_
      refine a_iload_n 2 dX8_bids_96 rfl rfl ?_
      obtain ⟨v48, m46, e47, h⟩ := bm_some h
      have he47 := e_X8_isRest (G := G) hl e47
      refine c_I he47.1 (rn_S (n := 5) (As := [vI_ (x42 / (p30 + 1)), vI_ (x42 - x42 / (p30 + 1) * (p30 + 1)), vI_ p30, vI_ p31, vI_ p32]) he47 (lw_S q2138 q2139 q97 q2140) (by decide +kernel) rfl (Nat.le_of_ble_eq_true rfl) (Nat.le_of_ble_eq_true rfl) (Nat.le_of_ble_eq_true rfl) dX8_bids_97) (fun z => (os_aS (As := [vI_ (x42 / (p30 + 1)), vI_ (x42 - x42 / (p30 + 1) * (p30 + 1)), vI_ p30, vI_ p31, vI_ p32]) z).2) ?_
      refine a_if_ne (tgt := 106) dX8_bids_100 (by decide) (fun c49 => ?_) (fun c49 => ?_)
      · replace h := ifn_ c49 h
        refine a_iinc (v := x40 + 1) (ls' := [(5, vI_ (x40 + 1)), (1, vI_ p30), (2, vI_ p31), (3, vI_ p32), (4, vI_ p33), (6, vI_ x41), (7, vI_ x42)]) 4 dX8_bids_106 rfl rfl (Nat.le_of_ble_eq_true rfl) rfl ?_
        refine a_iload 5 dX8_bids_109 rfl ?_
        refine a_iconst (v := (-1)) dX8_bids_111 (by decide) ?_
        refine a_icmp_ne (tgt := 134) dX8_bids_112 (by decide) (fun c50 => ?_) (fun c50 => ?_)
        · replace h := ifn_ c50 h
          refine a_iload 5 dX8_bids_134 rfl ?_
          refine a_istore (ls' := [(6, vI_ x41), (5, vI_ (x40 + 1)), (1, vI_ p30), (2, vI_ p31), (3, vI_ p32), (4, vI_ p33), (7, vI_ x42)]) dX8_bids_136 (Nat.le_of_ble_eq_true rfl) rfl ?_
          refine a_iinc (v := x42 + 1) (ls' := [(7, vI_ (x42 + 1)), (6, vI_ x41), (5, vI_ (x40 + 1)), (1, vI_ p30), (2, vI_ p31), (3, vI_ p32), (4, vI_ p33)]) 6 dX8_bids_138 rfl rfl (Nat.le_of_ble_eq_true rfl) rfl ?_
          refine a_goto (tgt := 70) dX8_bids_141 (by decide) ?_
          refine aw_pick [3, 4, 5, 6, 2, 1, 0] rfl ?_
          exact ih _ _ _ _ h
        · replace h := ifp_ c50 h
          refine a_bipush (v := 100) dX8_bids_115 (by decide) ?_
          refine a_iload 6 dX8_bids_117 rfl ?_
          refine a_iload_n 1 dX8_bids_119 rfl rfl ?_
          refine a_iconst (v := 1) dX8_bids_120 (by decide) ?_
          refine a_iadd dX8_bids_121 ?_
          obtain ⟨c51, h⟩ := iz_some h
          refine a_idiv dX8_bids_122 (of_decide_eq_false c51) ?_
          refine a_imul dX8_bids_123 ?_
          refine a_iload 6 dX8_bids_124 rfl ?_
          refine a_iload_n 1 dX8_bids_126 rfl rfl ?_
          refine a_iconst (v := 1) dX8_bids_127 (by decide) ?_
          refine a_iadd dX8_bids_128 ?_
          obtain ⟨c52, h⟩ := iz_some h
          refine a_irem dX8_bids_129 (of_decide_eq_false c52) ?_
          refine a_iadd dX8_bids_130 ?_
          refine a_goto (tgt := 136) dX8_bids_131 (by decide) ?_
          refine a_istore (ls' := [(6, vI_ ((100 * (x42 / (p30 + 1))) + (x42 - x42 / (p30 + 1) * (p30 + 1)))), (5, vI_ (x40 + 1)), (1, vI_ p30), (2, vI_ p31), (3, vI_ p32), (4, vI_ p33), (7, vI_ x42)]) dX8_bids_136 (Nat.le_of_ble_eq_true rfl) rfl ?_
          refine a_iinc (v := x42 + 1) (ls' := [(7, vI_ (x42 + 1)), (6, vI_ ((100 * (x42 / (p30 + 1))) + (x42 - x42 / (p30 + 1) * (p30 + 1)))), (5, vI_ (x40 + 1)), (1, vI_ p30), (2, vI_ p31), (3, vI_ p32), (4, vI_ p33)]) 6 dX8_bids_138 rfl rfl (Nat.le_of_ble_eq_true rfl) rfl ?_
          refine a_goto (tgt := 70) dX8_bids_141 (by decide) ?_
          refine aw_pick [3, 4, 5, 6, 2, 1, 0] rfl ?_
          exact ih _ _ _ _ h
      · replace h := ifp_ c49 h
        refine a_goto (tgt := 138) dX8_bids_103 (by decide) ?_
        refine a_iinc (v := x42 + 1) (ls' := [(7, vI_ (x42 + 1)), (1, vI_ p30), (2, vI_ p31), (3, vI_ p32), (4, vI_ p33), (5, vI_ x40), (6, vI_ x41)]) 6 dX8_bids_138 rfl rfl (Nat.le_of_ble_eq_true rfl) rfl ?_
        refine a_goto (tgt := 70) dX8_bids_141 (by decide) ?_
        refine aw_pick [1, 2, 3, 4, 5, 6, 0] rfl ?_
        exact ih _ _ _ _ h
def f_X8_bids (F : Nat)  (t : pm_A) (i0 : Int32) (i1 : Int32) (i2 : Int32) (i3 : Int32) (m : pm_M) : Option (Int32 × pm_M) :=
  lt_ (pI_ m t 0 0) fun m1 =>
  bm_ (f_X8_within F i0 0 20 m1) fun v5 m3 =>
  jn_ (fun (y8 : Option pm_A) (y9 : Int32) (m7 : pm_M) =>
    gd_ 8 y8 fun a10 =>
    bm_ (f_X8_may F a10 y9 1 1 m7) fun v15 m13 =>
    if v15 = 0 then
      some (0, m13)
    else
      jn_ (fun (x19 : Int32) (x20 : Int32) (m18 : pm_M) =>
        if i3 = 0 then
          some (x19, m18)
        else
          if i3 = 1 then
            some (x20, m18)
          else
            if x20 = ((-1)) then
              some (0, m18)
            else
              bm_ (f_X8_hasBy F (x20 / 100) (x20 - x20 / 100 * 100) i1 m18) fun v26 m24 =>
              bm_ (f_X8_hasBy F (x20 - x20 / 100 * 100) (x20 / 100) i2 m24) fun v29 m27 =>
              some ((v26 + v29), m27)
      ) fun k17 =>
      f_X8_bids_L70 F i0 i1 i2 i3 k17 F 0 ((-1)) 0 m13
  ) fun k6 =>
  jn_ (fun (y56 : Option pm_A) (m55 : pm_M) =>
    k6 y56 0 m55
  ) fun k54 =>
  if v5 = 0 then
    k54 (some t) m3
  else
    bm_ (f_X8_within F i1 0 99 m3) fun v60 m58 =>
    if v60 = 0 then
      k54 (some t) m58
    else
      bm_ (f_X8_within F i2 0 99 m58) fun v64 m62 =>
      if v64 = 0 then
        k54 (some t) m62
      else
        bm_ (f_X8_within F i3 0 2 m62) fun v68 m66 =>
        if v68 = 0 then
          k54 (some t) m66
        else
          k6 (some t) 1 m66
set_option maxHeartbeats 4000000 in
theorem e_X8_bids {G : xg_T} {l : Launch} (hl : l.stackTraces = false) {F : Nat}    {t : pm_A} {i0 : Int32} {i1 : Int32} {i2 : Int32} {i3 : Int32} {m0 m' : pm_M} {r : Int32} (ht : t.1 = 8) (h : f_X8_bids F t i0 i1 i2 i3 m0 = some (r, m')) : Cal_ G l yX8_bids (ws_ yX8_bids cX8_bids 8 (some .int)) 4 [vR_ (some t), vI_ i0, vI_ i1, vI_ i2, vI_ i3] m0 (.inl (some (vI_ r))) m' := by
  refine cal_of (by decide +kernel) (Nat.le_of_ble_eq_true rfl) ?_
  unfold f_X8_bids at h
  show AW_ cX8_bids RX8 (some (.int), "bids", 4, 8, m0, m', (.inl (some (vI_ r))), G, l, [], true) m0 0 [(0, vR_ (some t)), (1, vI_ i0), (2, vI_ i1), (3, vI_ i2), (4, vI_ i3)] []
  refine a_aload_n 0 dX8_bids_0 rfl rfl ?_
  refine a_iconst (v := 0) dX8_bids_1 (by decide) ?_
  obtain ⟨m1, e2, h⟩ := lt_some h
  refine a_putI kc_8 0 (by decide) rfl ht q1554 rfl rfl rfl dX8_bids_2 ?_
  rw [← e2]
  refine a_aload_n 0 dX8_bids_5 rfl rfl ?_
  refine a_iload_n 1 dX8_bids_6 rfl rfl ?_
  refine a_iconst (v := 0) dX8_bids_7 (by decide) ?_
  refine a_bipush (v := 20) dX8_bids_8 (by decide) ?_
  obtain ⟨v5, m3, e4, h⟩ := bm_some h
  have he4 := e_X8_within (G := G) hl e4
  refine c_I he4.1 (rn_S (n := 3) (As := [vI_ i0, vI_ 0, vI_ 20]) he4 (lw_S q1823 q1824 q97 q1825) (by decide +kernel) rfl (Nat.le_of_ble_eq_true rfl) (Nat.le_of_ble_eq_true rfl) (Nat.le_of_ble_eq_true rfl) dX8_bids_10) (fun z => (os_aS (As := [vI_ i0, vI_ 0, vI_ 20]) z).2) ?_
  obtain ⟨k6, e71, h⟩ := jn3_some h
  have hk6 : ∀ (y8 : Option pm_A) (y9 : Int32) (m7 : pm_M), k6 y8 y9 m7 = some (r, m') → AW_ cX8_bids RX8 (some (.int), "bids", 4, 8, m0, m', (.inl (some (vI_ r))), G, l, [], true) m7 51 [(1, vI_ i0), (2, vI_ i1), (3, vI_ i2), (4, vI_ i3)] [vI_ y9, vR_ y8] := by
    intro y8 y9 m7 h
    have h := (e71 y8 y9 m7).symm.trans h
    refine a_iconst (v := 1) dX8_bids_51 (by decide) ?_
    refine a_iconst (v := 1) dX8_bids_52 (by decide) ?_
    obtain ⟨a10, e11, f12, h⟩ := gd_some h
    rw [e11]
    obtain ⟨v15, m13, e14, h⟩ := bm_some h
    have he14 := e_X8_may (G := G) hl f12 e14
    refine c_I he14.1 (rn_V (n := 3) (As := [vI_ y9, vI_ 1, vI_ 1]) kc_8 f12 he14 (lw_V q1744 q1746 qs32 q97 q1747) (by decide +kernel) rfl (Nat.le_of_ble_eq_true rfl) (Nat.le_of_ble_eq_true rfl) (Nat.le_of_ble_eq_true rfl) dX8_bids_53) (fun z => (os_av (As := [vI_ y9, vI_ 1, vI_ 1]) z).2.1) ?_
    refine a_if_ne (tgt := 61) dX8_bids_56 (by decide) (fun c16 => ?_) (fun c16 => ?_)
    · replace h := ifn_ c16 h
      refine a_iconst (v := 0) dX8_bids_61 (by decide) ?_
      refine a_istore (ls' := [(5, vI_ 0), (1, vI_ i0), (2, vI_ i1), (3, vI_ i2), (4, vI_ i3)]) dX8_bids_62 (Nat.le_of_ble_eq_true rfl) rfl ?_
      refine a_iconst (v := (-1)) dX8_bids_64 (by decide) ?_
      refine a_istore (ls' := [(6, vI_ ((-1))), (5, vI_ 0), (1, vI_ i0), (2, vI_ i1), (3, vI_ i2), (4, vI_ i3)]) dX8_bids_65 (Nat.le_of_ble_eq_true rfl) rfl ?_
      refine a_iconst (v := 0) dX8_bids_67 (by decide) ?_
      refine a_istore (ls' := [(7, vI_ 0), (6, vI_ ((-1))), (5, vI_ 0), (1, vI_ i0), (2, vI_ i1), (3, vI_ i2), (4, vI_ i3)]) dX8_bids_68 (Nat.le_of_ble_eq_true rfl) rfl ?_
      obtain ⟨k17, e53, h⟩ := jn3_some h
      have hk17 : ∀ (x19 : Int32) (x20 : Int32) (m18 : pm_M), k17 x19 x20 m18 = some (r, m') → AW_ cX8_bids RX8 (some (.int), "bids", 4, 8, m0, m', (.inl (some (vI_ r))), G, l, [], true) m18 144 [(2, vI_ i1), (3, vI_ i2), (4, vI_ i3), (5, vI_ x19), (6, vI_ x20)] [] := by
        intro x19 x20 m18 h
        have h := (e53 x19 x20 m18).symm.trans h
        refine a_iload 2 dX8_bids_144 rfl ?_
        refine a_if_ne (tgt := 154) dX8_bids_146 (by decide) (fun c21 => ?_) (fun c21 => ?_)
        · replace h := ifn_ c21 h
          refine a_iload 2 dX8_bids_154 rfl ?_
          refine a_iconst (v := 1) dX8_bids_156 (by decide) ?_
          refine a_icmp_ne (tgt := 165) dX8_bids_157 (by decide) (fun c22 => ?_) (fun c22 => ?_)
          · replace h := ifn_ c22 h
            refine a_iload 4 dX8_bids_165 rfl ?_
            refine a_iconst (v := (-1)) dX8_bids_167 (by decide) ?_
            refine a_icmp_ne (tgt := 175) dX8_bids_168 (by decide) (fun c23 => ?_) (fun c23 => ?_)
            · replace h := ifn_ c23 h
              refine a_iload 4 dX8_bids_175 rfl ?_
              refine a_bipush (v := 100) dX8_bids_177 (by decide) ?_
              refine a_idiv dX8_bids_179 (by decide) ?_
              refine a_iload 4 dX8_bids_180 rfl ?_
              refine a_bipush (v := 100) dX8_bids_182 (by decide) ?_
              refine a_irem dX8_bids_184 (by decide) ?_
              refine a_iload_n 0 dX8_bids_185 rfl rfl ?_
              obtain ⟨v26, m24, e25, h⟩ := bm_some h
              have he25 := e_X8_hasBy (G := G) hl e25
              refine c_I he25.1 (rn_S (n := 3) (As := [vI_ (x20 / 100), vI_ (x20 - x20 / 100 * 100), vI_ i1]) he25 (lw_S q2141 q2142 q97 q2143) (by decide +kernel) rfl (Nat.le_of_ble_eq_true rfl) (Nat.le_of_ble_eq_true rfl) (Nat.le_of_ble_eq_true rfl) dX8_bids_186) (fun z => (os_aS (As := [vI_ (x20 / 100), vI_ (x20 - x20 / 100 * 100), vI_ i1]) z).2) ?_
              refine a_iload 4 dX8_bids_189 rfl ?_
              refine a_bipush (v := 100) dX8_bids_191 (by decide) ?_
              refine a_irem dX8_bids_193 (by decide) ?_
              refine a_iload 4 dX8_bids_194 rfl ?_
              refine a_bipush (v := 100) dX8_bids_196 (by decide) ?_
              refine a_idiv dX8_bids_198 (by decide) ?_
              refine a_iload_n 1 dX8_bids_199 rfl rfl ?_
              obtain ⟨v29, m27, e28, h⟩ := bm_some h
              have he28 := e_X8_hasBy (G := G) hl e28
              refine c_I he28.1 (rn_S (n := 3) (As := [vI_ (x20 - x20 / 100 * 100), vI_ (x20 / 100), vI_ i2]) he28 (lw_S q2141 q2142 q97 q2143) (by decide +kernel) rfl (Nat.le_of_ble_eq_true rfl) (Nat.le_of_ble_eq_true rfl) (Nat.le_of_ble_eq_true rfl) dX8_bids_200) (fun z => (os_aS (As := [vI_ (x20 - x20 / 100 * 100), vI_ (x20 / 100), vI_ i2]) z).2) ?_
              refine a_iadd dX8_bids_203 ?_
              cases h
              exact a_ireturn rfl rfl rfl rfl rfl dX8_bids_204
            · replace h := ifp_ c23 h
              refine a_iconst (v := 0) dX8_bids_171 (by decide) ?_
              refine a_goto (tgt := 204) dX8_bids_172 (by decide) ?_
              cases h
              exact a_ireturn rfl rfl rfl rfl rfl dX8_bids_204
          · replace h := ifp_ c22 h
            refine a_iload 4 dX8_bids_160 rfl ?_
            refine a_goto (tgt := 204) dX8_bids_162 (by decide) ?_
            cases h
            exact a_ireturn rfl rfl rfl rfl rfl dX8_bids_204
        · replace h := ifp_ c21 h
          refine a_iload 3 dX8_bids_149 rfl ?_
          refine a_goto (tgt := 204) dX8_bids_151 (by decide) ?_
          cases h
          exact a_ireturn rfl rfl rfl rfl rfl dX8_bids_204
      refine aw_pick [3, 4, 5, 6, 2, 1, 0] rfl ?_
      exact w_X8_bids_L70 hl _ _ _ _ _ hk17 _ _ _ _ _ h
    · replace h := ifp_ c16 h
      refine a_iconst (v := 0) dX8_bids_59 (by decide) ?_
      cases h
      exact a_ireturn rfl rfl rfl rfl rfl dX8_bids_60
  obtain ⟨k54, e70, h⟩ := jn2_some h
  have hk54 : ∀ (y56 : Option pm_A) (m55 : pm_M), k54 y56 m55 = some (r, m') → AW_ cX8_bids RX8 (some (.int), "bids", 4, 8, m0, m', (.inl (some (vI_ r))), G, l, [], true) m55 50 [(1, vI_ i0), (2, vI_ i1), (3, vI_ i2), (4, vI_ i3)] [vR_ y56] := by
    intro y56 m55 h
    have h := (e70 y56 m55).symm.trans h
    refine a_iconst (v := 0) dX8_bids_50 (by decide) ?_
    exact hk6 _ _ _ h
  refine a_if_eq (tgt := 50) dX8_bids_13 (by decide) (fun c57 => ?_) (fun c57 => ?_)
  · replace h := ifp_ c57 h
    refine aw_pick [1, 2, 3, 4] rfl ?_
    exact hk54 _ _ h
  · replace h := ifn_ c57 h
    refine a_iload_n 2 dX8_bids_16 rfl rfl ?_
    refine a_iconst (v := 0) dX8_bids_17 (by decide) ?_
    refine a_bipush (v := 99) dX8_bids_18 (by decide) ?_
    obtain ⟨v60, m58, e59, h⟩ := bm_some h
    have he59 := e_X8_within (G := G) hl e59
    refine c_I he59.1 (rn_S (n := 3) (As := [vI_ i1, vI_ 0, vI_ 99]) he59 (lw_S q1823 q1824 q97 q1825) (by decide +kernel) rfl (Nat.le_of_ble_eq_true rfl) (Nat.le_of_ble_eq_true rfl) (Nat.le_of_ble_eq_true rfl) dX8_bids_20) (fun z => (os_aS (As := [vI_ i1, vI_ 0, vI_ 99]) z).2) ?_
    refine a_if_eq (tgt := 50) dX8_bids_23 (by decide) (fun c61 => ?_) (fun c61 => ?_)
    · replace h := ifp_ c61 h
      refine aw_pick [1, 2, 3, 4] rfl ?_
      exact hk54 _ _ h
    · replace h := ifn_ c61 h
      refine a_iload_n 3 dX8_bids_26 rfl rfl ?_
      refine a_iconst (v := 0) dX8_bids_27 (by decide) ?_
      refine a_bipush (v := 99) dX8_bids_28 (by decide) ?_
      obtain ⟨v64, m62, e63, h⟩ := bm_some h
      have he63 := e_X8_within (G := G) hl e63
      refine c_I he63.1 (rn_S (n := 3) (As := [vI_ i2, vI_ 0, vI_ 99]) he63 (lw_S q1823 q1824 q97 q1825) (by decide +kernel) rfl (Nat.le_of_ble_eq_true rfl) (Nat.le_of_ble_eq_true rfl) (Nat.le_of_ble_eq_true rfl) dX8_bids_30) (fun z => (os_aS (As := [vI_ i2, vI_ 0, vI_ 99]) z).2) ?_
      refine a_if_eq (tgt := 50) dX8_bids_33 (by decide) (fun c65 => ?_) (fun c65 => ?_)
      · replace h := ifp_ c65 h
        refine aw_pick [1, 2, 3, 4] rfl ?_
        exact hk54 _ _ h
      · replace h := ifn_ c65 h
        refine a_iload 4 dX8_bids_36 rfl ?_
        refine a_iconst (v := 0) dX8_bids_38 (by decide) ?_
        refine a_iconst (v := 2) dX8_bids_39 (by decide) ?_
        obtain ⟨v68, m66, e67, h⟩ := bm_some h
        have he67 := e_X8_within (G := G) hl e67
        refine c_I he67.1 (rn_S (n := 3) (As := [vI_ i3, vI_ 0, vI_ 2]) he67 (lw_S q1823 q1824 q97 q1825) (by decide +kernel) rfl (Nat.le_of_ble_eq_true rfl) (Nat.le_of_ble_eq_true rfl) (Nat.le_of_ble_eq_true rfl) dX8_bids_40) (fun z => (os_aS (As := [vI_ i3, vI_ 0, vI_ 2]) z).2) ?_
        refine a_if_eq (tgt := 50) dX8_bids_43 (by decide) (fun c69 => ?_) (fun c69 => ?_)
        · replace h := ifp_ c69 h
          refine aw_pick [1, 2, 3, 4] rfl ?_
          exact hk54 _ _ h
        · replace h := ifn_ c69 h
          refine a_iconst (v := 1) dX8_bids_46 (by decide) ?_
          refine a_goto (tgt := 51) dX8_bids_47 (by decide) ?_
          refine aw_pick [1, 2, 3, 4] rfl ?_
          exact hk6 _ _ _ h
def f_X8_has (F : Nat)  (t : pm_A) (i0 : Int32) (i1 : Int32) (i2 : Int32) (m : pm_M) : Option (Int32 × pm_M) :=
  lt_ (pI_ m t 0 0) fun m1 =>
  bm_ (f_X8_within F i0 0 99 m1) fun v5 m3 =>
  jn_ (fun (y8 : Option pm_A) (y9 : Int32) (m7 : pm_M) =>
    gd_ 8 y8 fun a10 =>
    bm_ (f_X8_may F a10 y9 1 1 m7) fun v15 m13 =>
    if v15 = 0 then
      some (0, m13)
    else
      bm_ (f_X8_hasBy F i0 i1 i2 m13) fun v19 m17 =>
      some (v19, m17)
  ) fun k6 =>
  jn_ (fun (y22 : Option pm_A) (m21 : pm_M) =>
    k6 y22 0 m21
  ) fun k20 =>
  if v5 = 0 then
    k20 (some t) m3
  else
    bm_ (f_X8_within F i1 0 99 m3) fun v26 m24 =>
    if v26 = 0 then
      k20 (some t) m24
    else
      bm_ (f_X8_within F i2 0 99 m24) fun v30 m28 =>
      if v30 = 0 then
        k20 (some t) m28
      else
        k6 (some t) 1 m28
set_option maxHeartbeats 4000000 in
theorem e_X8_has {G : xg_T} {l : Launch} (hl : l.stackTraces = false) {F : Nat}    {t : pm_A} {i0 : Int32} {i1 : Int32} {i2 : Int32} {m0 m' : pm_M} {r : Int32} (ht : t.1 = 8) (h : f_X8_has F t i0 i1 i2 m0 = some (r, m')) : Cal_ G l yX8_has (ws_ yX8_has cX8_has 4 (some .int)) 3 [vR_ (some t), vI_ i0, vI_ i1, vI_ i2] m0 (.inl (some (vI_ r))) m' := by
  refine cal_of (by decide +kernel) (Nat.le_of_ble_eq_true rfl) ?_
  unfold f_X8_has at h
  show AW_ cX8_has RX8 (some (.int), "has", 3, 4, m0, m', (.inl (some (vI_ r))), G, l, [], true) m0 0 [(0, vR_ (some t)), (1, vI_ i0), (2, vI_ i1), (3, vI_ i2)] []
  refine a_aload_n 0 dX8_has_0 rfl rfl ?_
  refine a_iconst (v := 0) dX8_has_1 (by decide) ?_
  obtain ⟨m1, e2, h⟩ := lt_some h
  refine a_putI kc_8 0 (by decide) rfl ht q1554 rfl rfl rfl dX8_has_2 ?_
  rw [← e2]
  refine a_aload_n 0 dX8_has_5 rfl rfl ?_
  refine a_iload_n 1 dX8_has_6 rfl rfl ?_
  refine a_iconst (v := 0) dX8_has_7 (by decide) ?_
  refine a_bipush (v := 99) dX8_has_8 (by decide) ?_
  obtain ⟨v5, m3, e4, h⟩ := bm_some h
  have he4 := e_X8_within (G := G) hl e4
  refine c_I he4.1 (rn_S (n := 3) (As := [vI_ i0, vI_ 0, vI_ 99]) he4 (lw_S q1823 q1824 q97 q1825) (by decide +kernel) rfl (Nat.le_of_ble_eq_true rfl) (Nat.le_of_ble_eq_true rfl) (Nat.le_of_ble_eq_true rfl) dX8_has_10) (fun z => (os_aS (As := [vI_ i0, vI_ 0, vI_ 99]) z).2) ?_
  obtain ⟨k6, e33, h⟩ := jn3_some h
  have hk6 : ∀ (y8 : Option pm_A) (y9 : Int32) (m7 : pm_M), k6 y8 y9 m7 = some (r, m') → AW_ cX8_has RX8 (some (.int), "has", 3, 4, m0, m', (.inl (some (vI_ r))), G, l, [], true) m7 41 [(1, vI_ i0), (2, vI_ i1), (3, vI_ i2)] [vI_ y9, vR_ y8] := by
    intro y8 y9 m7 h
    have h := (e33 y8 y9 m7).symm.trans h
    refine a_iconst (v := 1) dX8_has_41 (by decide) ?_
    refine a_iconst (v := 1) dX8_has_42 (by decide) ?_
    obtain ⟨a10, e11, f12, h⟩ := gd_some h
    rw [e11]
    obtain ⟨v15, m13, e14, h⟩ := bm_some h
    have he14 := e_X8_may (G := G) hl f12 e14
    refine c_I he14.1 (rn_V (n := 3) (As := [vI_ y9, vI_ 1, vI_ 1]) kc_8 f12 he14 (lw_V q1744 q1746 qs32 q97 q1747) (by decide +kernel) rfl (Nat.le_of_ble_eq_true rfl) (Nat.le_of_ble_eq_true rfl) (Nat.le_of_ble_eq_true rfl) dX8_has_43) (fun z => (os_av (As := [vI_ y9, vI_ 1, vI_ 1]) z).2.1) ?_
    refine a_if_ne (tgt := 51) dX8_has_46 (by decide) (fun c16 => ?_) (fun c16 => ?_)
    · replace h := ifn_ c16 h
      refine a_iload_n 0 dX8_has_51 rfl rfl ?_
      refine a_iload_n 1 dX8_has_52 rfl rfl ?_
      refine a_iload_n 2 dX8_has_53 rfl rfl ?_
      obtain ⟨v19, m17, e18, h⟩ := bm_some h
      have he18 := e_X8_hasBy (G := G) hl e18
      refine c_I he18.1 (rn_S (n := 3) (As := [vI_ i0, vI_ i1, vI_ i2]) he18 (lw_S q2141 q2142 q97 q2143) (by decide +kernel) rfl (Nat.le_of_ble_eq_true rfl) (Nat.le_of_ble_eq_true rfl) (Nat.le_of_ble_eq_true rfl) dX8_has_54) (fun z => (os_aS (As := [vI_ i0, vI_ i1, vI_ i2]) z).2) ?_
      cases h
      exact a_ireturn rfl rfl rfl rfl rfl dX8_has_57
    · replace h := ifp_ c16 h
      refine a_iconst (v := 0) dX8_has_49 (by decide) ?_
      cases h
      exact a_ireturn rfl rfl rfl rfl rfl dX8_has_50
  obtain ⟨k20, e32, h⟩ := jn2_some h
  have hk20 : ∀ (y22 : Option pm_A) (m21 : pm_M), k20 y22 m21 = some (r, m') → AW_ cX8_has RX8 (some (.int), "has", 3, 4, m0, m', (.inl (some (vI_ r))), G, l, [], true) m21 40 [(1, vI_ i0), (2, vI_ i1), (3, vI_ i2)] [vR_ y22] := by
    intro y22 m21 h
    have h := (e32 y22 m21).symm.trans h
    refine a_iconst (v := 0) dX8_has_40 (by decide) ?_
    exact hk6 _ _ _ h
  refine a_if_eq (tgt := 40) dX8_has_13 (by decide) (fun c23 => ?_) (fun c23 => ?_)
  · replace h := ifp_ c23 h
    refine aw_pick [1, 2, 3] rfl ?_
    exact hk20 _ _ h
  · replace h := ifn_ c23 h
    refine a_iload_n 2 dX8_has_16 rfl rfl ?_
    refine a_iconst (v := 0) dX8_has_17 (by decide) ?_
    refine a_bipush (v := 99) dX8_has_18 (by decide) ?_
    obtain ⟨v26, m24, e25, h⟩ := bm_some h
    have he25 := e_X8_within (G := G) hl e25
    refine c_I he25.1 (rn_S (n := 3) (As := [vI_ i1, vI_ 0, vI_ 99]) he25 (lw_S q1823 q1824 q97 q1825) (by decide +kernel) rfl (Nat.le_of_ble_eq_true rfl) (Nat.le_of_ble_eq_true rfl) (Nat.le_of_ble_eq_true rfl) dX8_has_20) (fun z => (os_aS (As := [vI_ i1, vI_ 0, vI_ 99]) z).2) ?_
    refine a_if_eq (tgt := 40) dX8_has_23 (by decide) (fun c27 => ?_) (fun c27 => ?_)
    · replace h := ifp_ c27 h
      refine aw_pick [1, 2, 3] rfl ?_
      exact hk20 _ _ h
    · replace h := ifn_ c27 h
      refine a_iload_n 3 dX8_has_26 rfl rfl ?_
      refine a_iconst (v := 0) dX8_has_27 (by decide) ?_
      refine a_bipush (v := 99) dX8_has_28 (by decide) ?_
      obtain ⟨v30, m28, e29, h⟩ := bm_some h
      have he29 := e_X8_within (G := G) hl e29
      refine c_I he29.1 (rn_S (n := 3) (As := [vI_ i2, vI_ 0, vI_ 99]) he29 (lw_S q1823 q1824 q97 q1825) (by decide +kernel) rfl (Nat.le_of_ble_eq_true rfl) (Nat.le_of_ble_eq_true rfl) (Nat.le_of_ble_eq_true rfl) dX8_has_30) (fun z => (os_aS (As := [vI_ i2, vI_ 0, vI_ 99]) z).2) ?_
      refine a_if_eq (tgt := 40) dX8_has_33 (by decide) (fun c31 => ?_) (fun c31 => ?_)
      · replace h := ifp_ c31 h
        refine aw_pick [1, 2, 3] rfl ?_
        exact hk20 _ _ h
      · replace h := ifn_ c31 h
        refine a_iconst (v := 1) dX8_has_36 (by decide) ?_
        refine a_goto (tgt := 41) dX8_has_37 (by decide) ?_
        refine aw_pick [1, 2, 3] rfl ?_
        exact hk6 _ _ _ h
def f_X8_isVoyage (F : Nat)  (i0 : Int32) (i1 : Int32) (i2 : Int32) (m : pm_M) : Option (Int32 × pm_M) :=
  if i0 < 0 then
    some (0, m)
  else
    if 16 < i0 then
      some (0, m)
    else
      if i1 < 0 then
        some (0, m)
      else
        if 40 < i1 then
          some (0, m)
        else
          if i2 < 1 then
            some (0, m)
          else
            if 99 < i2 then
              some (0, m)
            else
              some (1, m)
set_option maxHeartbeats 4000000 in
theorem e_X8_isVoyage {G : xg_T} {l : Launch} (hl : l.stackTraces = false) {F : Nat}    {i0 : Int32} {i1 : Int32} {i2 : Int32} {m0 m' : pm_M} {r : Int32} (h : f_X8_isVoyage F i0 i1 i2 m0 = some (r, m')) : Cal_ G l yX8_isVoyage (ws_ yX8_isVoyage cX8_isVoyage 3 (some .boolean)) 2 [vI_ i0, vI_ i1, vI_ i2] m0 (.inl (some (vI_ r))) m' := by
  refine cal_of (by decide +kernel) (Nat.le_of_ble_eq_true rfl) ?_
  unfold f_X8_isVoyage at h
  show AW_ cX8_isVoyage RX8 (some (.boolean), "isVoyage", 2, 3, m0, m', (.inl (some (vI_ r))), G, l, [], true) m0 0 [(0, vI_ i0), (1, vI_ i1), (2, vI_ i2)] []
  refine a_iload_n 0 dX8_isVoyage_0 rfl rfl ?_
  refine a_if_lt (tgt := 35) dX8_isVoyage_1 (by decide) (fun c1 => ?_) (fun c1 => ?_)
  · replace h := ifp_ c1 h
    refine a_iconst (v := 0) dX8_isVoyage_35 (by decide) ?_
    cases h
    exact a_ireturn rfl rfl rfl rfl rfl dX8_isVoyage_36
  · replace h := ifn_ c1 h
    refine a_iload_n 0 dX8_isVoyage_4 rfl rfl ?_
    refine a_bipush (v := 16) dX8_isVoyage_5 (by decide) ?_
    refine a_icmp_gt (tgt := 35) dX8_isVoyage_7 (by decide) (fun c2 => ?_) (fun c2 => ?_)
    · replace h := ifp_ c2 h
      refine a_iconst (v := 0) dX8_isVoyage_35 (by decide) ?_
      cases h
      exact a_ireturn rfl rfl rfl rfl rfl dX8_isVoyage_36
    · replace h := ifn_ c2 h
      refine a_iload_n 1 dX8_isVoyage_10 rfl rfl ?_
      refine a_if_lt (tgt := 35) dX8_isVoyage_11 (by decide) (fun c3 => ?_) (fun c3 => ?_)
      · replace h := ifp_ c3 h
        refine a_iconst (v := 0) dX8_isVoyage_35 (by decide) ?_
        cases h
        exact a_ireturn rfl rfl rfl rfl rfl dX8_isVoyage_36
      · replace h := ifn_ c3 h
        refine a_iload_n 1 dX8_isVoyage_14 rfl rfl ?_
        refine a_bipush (v := 40) dX8_isVoyage_15 (by decide) ?_
        refine a_icmp_gt (tgt := 35) dX8_isVoyage_17 (by decide) (fun c4 => ?_) (fun c4 => ?_)
        · replace h := ifp_ c4 h
          refine a_iconst (v := 0) dX8_isVoyage_35 (by decide) ?_
          cases h
          exact a_ireturn rfl rfl rfl rfl rfl dX8_isVoyage_36
        · replace h := ifn_ c4 h
          refine a_iload_n 2 dX8_isVoyage_20 rfl rfl ?_
          refine a_iconst (v := 1) dX8_isVoyage_21 (by decide) ?_
          refine a_icmp_lt (tgt := 35) dX8_isVoyage_22 (by decide) (fun c5 => ?_) (fun c5 => ?_)
          · replace h := ifp_ c5 h
            refine a_iconst (v := 0) dX8_isVoyage_35 (by decide) ?_
            cases h
            exact a_ireturn rfl rfl rfl rfl rfl dX8_isVoyage_36
          · replace h := ifn_ c5 h
            refine a_iload_n 2 dX8_isVoyage_25 rfl rfl ?_
            refine a_bipush (v := 99) dX8_isVoyage_26 (by decide) ?_
            refine a_icmp_gt (tgt := 35) dX8_isVoyage_28 (by decide) (fun c6 => ?_) (fun c6 => ?_)
            · replace h := ifp_ c6 h
              refine a_iconst (v := 0) dX8_isVoyage_35 (by decide) ?_
              cases h
              exact a_ireturn rfl rfl rfl rfl rfl dX8_isVoyage_36
            · replace h := ifn_ c6 h
              refine a_iconst (v := 1) dX8_isVoyage_31 (by decide) ?_
              refine a_goto (tgt := 36) dX8_isVoyage_32 (by decide) ?_
              cases h
              exact a_ireturn rfl rfl rfl rfl rfl dX8_isVoyage_36
def f_X8_draws (F : Nat)  (t : pm_A) (m : pm_M) : Option (Int32 × pm_M) :=
  lt_ (pI_ m t 55 (((gI_ m t 55) * 1103515245) + 12345)) fun m1 =>
  some (((((gI_ m1 t 55) >>> ((16 : Int32) &&& 31)) &&& 32767) - (((gI_ m1 t 55) >>> ((16 : Int32) &&& 31)) &&& 32767) / 16 * 16), m1)
set_option maxHeartbeats 4000000 in
theorem e_X8_draws {G : xg_T} {l : Launch} (hl : l.stackTraces = false) {F : Nat}    {t : pm_A} {m0 m' : pm_M} {r : Int32} (ht : t.1 = 8) (h : f_X8_draws F t m0 = some (r, m')) : Cal_ G l yX8_draws (ws_ yX8_draws cX8_draws 1 (some .int)) 2 [vR_ (some t)] m0 (.inl (some (vI_ r))) m' := by
  refine cal_of (by decide +kernel) (Nat.le_of_ble_eq_true rfl) ?_
  unfold f_X8_draws at h
  show AW_ cX8_draws RX8 (some (.int), "draws", 2, 1, m0, m', (.inl (some (vI_ r))), G, l, [], true) m0 0 [(0, vR_ (some t))] []
  refine a_aload_n 0 dX8_draws_0 rfl rfl ?_
  refine a_aload_n 0 dX8_draws_1 rfl rfl ?_
  refine a_getI kc_8 55 (by decide) rfl ht q1609 dX8_draws_2 ?_
  refine a_ldcw (v := 1103515245) q2163 dX8_draws_5 ?_
  refine a_imul dX8_draws_8 ?_
  refine a_sipush (v := 12345) dX8_draws_9 (by decide) ?_
  refine a_iadd dX8_draws_12 ?_
  obtain ⟨m1, e2, h⟩ := lt_some h
  refine a_putI kc_8 55 (by decide) rfl ht q1609 rfl rfl rfl dX8_draws_13 ?_
  rw [← e2]
  refine a_aload_n 0 dX8_draws_16 rfl rfl ?_
  refine a_getI kc_8 55 (by decide) rfl ht q1609 dX8_draws_17 ?_
  refine a_bipush (v := 16) dX8_draws_20 (by decide) ?_
  refine a_ishr dX8_draws_22 ?_
  refine a_sipush (v := 32767) dX8_draws_23 (by decide) ?_
  refine a_iand dX8_draws_26 ?_
  refine a_bipush (v := 16) dX8_draws_27 (by decide) ?_
  refine a_irem dX8_draws_29 (by decide) ?_
  cases h
  exact a_ireturn rfl rfl rfl rfl rfl dX8_draws_30
def f_X8_sails_L17 (F : Nat)  (p8 : pm_A) (p10 : Int32) (p11 : Int32) (p12 : Int32) : Nat → Int32 → pm_M → Option (Unit × pm_M)
  | 0, _, _ => none
  | n13 + 1, x15, m14 =>
    if p12 ≤ x15 then
      some ((), m14)
    else
      bm_ (f_X8_draws F p8 m14) fun v19 m17 =>
      jn_ (fun  (m21 : pm_M) =>
        bm_ (f_X8_passes F p8 m21) fun v24 m22 =>
        (f_X8_sails_L17 F p8 p10 p11 p12 n13) (x15 + 1) m22
      ) fun k20 =>
      if p10 ≤ v19 then
        k20 m17
      else
        lt_ (pI_ m17 p8 56 ((gI_ m17 p8 56) + 1)) fun m26 =>
        gd_ 100 (gR_ m26 p8 38) fun a28 =>
        iz_ (!(ib_ 65 a28.2.1)) <|
        if (gI_ m26 a28 (65 : Int32).toNatClampNeg) ≤ p11 then
          iz_ (!(ib_ 65 a28.2.1)) <|
          lt_ (pI_ m26 a28 ((65 : Int32).toNatClampNeg) 0) fun m34 =>
          k20 m34
        else
          gd_ 100 (gR_ m26 p8 38) fun a36 =>
          iz_ (!(ib_ 65 a36.2.1)) <|
          iz_ (!(ib_ 65 a28.2.1)) <|
          lt_ (pI_ m26 a28 ((65 : Int32).toNatClampNeg) ((gI_ m26 a36 (65 : Int32).toNatClampNeg) - p11)) fun m41 =>
          k20 m41
set_option maxHeartbeats 4000000 in
theorem w_X8_sails_L17 {G : xg_T} {l : Launch} (hl : l.stackTraces = false) {F : Nat}    (p8 : pm_A) (p10 : Int32) (p11 : Int32) (p12 : Int32) {m0 m' : pm_M} {r : Unit} (hf9 : p8.1 = 8)  : ∀ (n : Nat) (x15 : Int32) (m14 : pm_M), f_X8_sails_L17 F p8 p10 p11 p12 n x15 m14 = some (r, m') → AW_ cX8_sails RX8 (none, "sails", 9, 6, m0, m', (.inl none), G, l, [], true) m14 17 [(0, vR_ (some p8)), (2, vI_ p10), (3, vI_ p11), (4, vI_ p12), (5, vI_ x15)] [] := by
  intro n
  induction n with
  | zero => intro x15 m14 h; cases h
  | succ n13 ih =>
    intro x15 m14 h
    rw [f_X8_sails_L17] at h
    refine a_iload 4 dX8_sails_17 rfl ?_
    refine a_iload 3 dX8_sails_19 rfl ?_
    refine a_icmp_ge (tgt := 83) dX8_sails_21 (by decide) (fun c16 => ?_) (fun c16 => ?_)
    · replace h := ifp_ c16 h
      cases h
      exact a_return rfl rfl rfl rfl dX8_sails_83
    · replace h := ifn_ c16 h
      refine a_aload_n 0 dX8_sails_24 rfl rfl ?_
      obtain ⟨v19, m17, e18, h⟩ := bm_some h
      have he18 := e_X8_draws (G := G) hl hf9 e18
      refine c_I he18.1 (rn_V (n := 0) (As := []) kc_8 hf9 he18 (lw_V q2159 q2161 qs86 q97 q2162) (by decide +kernel) rfl (Nat.le_of_ble_eq_true rfl) (Nat.le_of_ble_eq_true rfl) (Nat.le_of_ble_eq_true rfl) dX8_sails_25) (fun z => (os_av (As := []) z).2.1) ?_
      refine a_iload_n 1 dX8_sails_28 rfl rfl ?_
      obtain ⟨k20, e43, h⟩ := jn1_some h
      have hk20 : ∀  (m21 : pm_M), k20 m21 = some (r, m') → AW_ cX8_sails RX8 (none, "sails", 9, 6, m0, m', (.inl none), G, l, [], true) m21 73 [(0, vR_ (some p8)), (2, vI_ p10), (3, vI_ p11), (4, vI_ p12), (5, vI_ x15)] [] := by
        intro m21 h
        have h := (e43 m21).symm.trans h
        refine a_aload_n 0 dX8_sails_73 rfl rfl ?_
        obtain ⟨v24, m22, e23, h⟩ := bm_some h
        have he23 := e_X8_passes (G := G) hl hf9 e23
        refine c_V he23.1 (rn_V (n := 0) (As := []) kc_8 hf9 he23 (lw_V q1963 q1965 qs74 q97 q1966) (by decide +kernel) rfl (Nat.le_of_ble_eq_true rfl) (Nat.le_of_ble_eq_true rfl) (Nat.le_of_ble_eq_true rfl) dX8_sails_74) (fun z => (os_av (As := []) z).2.1) ?_
        refine a_iinc (v := x15 + 1) (ls' := [(5, vI_ (x15 + 1)), (0, vR_ (some p8)), (2, vI_ p10), (3, vI_ p11), (4, vI_ p12)]) 4 dX8_sails_77 rfl rfl (Nat.le_of_ble_eq_true rfl) rfl ?_
        refine a_goto (tgt := 17) dX8_sails_80 (by decide) ?_
        refine aw_pick [1, 2, 3, 4, 0] rfl ?_
        exact ih _ _ h
      refine a_icmp_ge (tgt := 73) dX8_sails_29 (by decide) (fun c25 => ?_) (fun c25 => ?_)
      · replace h := ifp_ c25 h
        exact hk20 _ h
      · replace h := ifn_ c25 h
        refine a_aload_n 0 dX8_sails_32 rfl rfl ?_
        refine a_dup dX8_sails_33 rfl ?_
        refine a_getI kc_8 56 (by decide) rfl hf9 q1610 dX8_sails_34 ?_
        refine a_iconst (v := 1) dX8_sails_37 (by decide) ?_
        refine a_iadd dX8_sails_38 ?_
        obtain ⟨m26, e27, h⟩ := lt_some h
        refine a_putI kc_8 56 (by decide) rfl hf9 q1610 rfl rfl rfl dX8_sails_39 ?_
        rw [← e27]
        refine a_aload_n 0 dX8_sails_42 rfl rfl ?_
        refine a_getR kc_8 38 (by decide) rfl hf9 q1592 dX8_sails_43 ?_
        refine a_bipush (v := 65) dX8_sails_46 (by decide) ?_
        refine a_aload_n 0 dX8_sails_48 rfl rfl ?_
        refine a_getR kc_8 38 (by decide) rfl hf9 q1592 dX8_sails_49 ?_
        refine a_bipush (v := 65) dX8_sails_52 (by decide) ?_
        obtain ⟨a28, e29, f30, h⟩ := gd_some h
        rw [e29]
        obtain ⟨c31, h⟩ := iz_some h
        refine a_iald f30 (bn_ c31) dX8_sails_54 ?_
        refine a_iload_n 2 dX8_sails_55 rfl rfl ?_
        refine a_icmp_le (tgt := 71) dX8_sails_56 (by decide) (fun c32 => ?_) (fun c32 => ?_)
        · replace h := ifp_ c32 h
          refine a_iconst (v := 0) dX8_sails_71 (by decide) ?_
          obtain ⟨c33, h⟩ := iz_some h
          obtain ⟨m34, e35, h⟩ := lt_some h
          refine a_iast f30 (bn_ c33) dX8_sails_72 ?_
          rw [← e35]
          exact hk20 _ h
        · replace h := ifn_ c32 h
          refine a_aload_n 0 dX8_sails_59 rfl rfl ?_
          refine a_getR kc_8 38 (by decide) rfl hf9 q1592 dX8_sails_60 ?_
          refine a_bipush (v := 65) dX8_sails_63 (by decide) ?_
          obtain ⟨a36, e37, f38, h⟩ := gd_some h
          rw [e37]
          obtain ⟨c39, h⟩ := iz_some h
          refine a_iald f38 (bn_ c39) dX8_sails_65 ?_
          refine a_iload_n 2 dX8_sails_66 rfl rfl ?_
          refine a_isub dX8_sails_67 ?_
          refine a_goto (tgt := 72) dX8_sails_68 (by decide) ?_
          obtain ⟨c40, h⟩ := iz_some h
          obtain ⟨m41, e42, h⟩ := lt_some h
          refine a_iast f30 (bn_ c40) dX8_sails_72 ?_
          rw [← e42]
          exact hk20 _ h
def f_X8_sails (F : Nat)  (t : pm_A) (i0 : Int32) (i1 : Int32) (i2 : Int32) (i3 : Int32) (m : pm_M) : Option (Unit × pm_M) :=
  bm_ (f_X8_take F t m) fun v3 m1 =>
  lt_ (pI_ m1 t 55 i0) fun m4 =>
  lt_ (pI_ m4 t 56 0) fun m6 =>
  f_X8_sails_L17 F t i1 i2 i3 F 0 m6
set_option maxHeartbeats 4000000 in
theorem e_X8_sails {G : xg_T} {l : Launch} (hl : l.stackTraces = false) {F : Nat}    {t : pm_A} {i0 : Int32} {i1 : Int32} {i2 : Int32} {i3 : Int32} {m0 m' : pm_M} {r : Unit} (ht : t.1 = 8) (h : f_X8_sails F t i0 i1 i2 i3 m0 = some (r, m')) : Cal_ G l yX8_sails (ws_ yX8_sails cX8_sails 6 none) 9 [vR_ (some t), vI_ i0, vI_ i1, vI_ i2, vI_ i3] m0 (.inl none) m' := by
  refine cal_of (by decide +kernel) (Nat.le_of_ble_eq_true rfl) ?_
  unfold f_X8_sails at h
  show AW_ cX8_sails RX8 (none, "sails", 9, 6, m0, m', (.inl none), G, l, [], true) m0 0 [(0, vR_ (some t)), (1, vI_ i0), (2, vI_ i1), (3, vI_ i2), (4, vI_ i3)] []
  refine a_aload_n 0 dX8_sails_0 rfl rfl ?_
  obtain ⟨v3, m1, e2, h⟩ := bm_some h
  have he2 := e_X8_take (G := G) hl ht e2
  refine c_V he2.1 (rn_V (n := 0) (As := []) kc_8 ht he2 (lw_V q1888 q1890 qs56 q97 q1891) (by decide +kernel) rfl (Nat.le_of_ble_eq_true rfl) (Nat.le_of_ble_eq_true rfl) (Nat.le_of_ble_eq_true rfl) dX8_sails_1) (fun z => (os_av (As := []) z).2.1) ?_
  refine a_aload_n 0 dX8_sails_4 rfl rfl ?_
  refine a_iload_n 1 dX8_sails_5 rfl rfl ?_
  obtain ⟨m4, e5, h⟩ := lt_some h
  refine a_putI kc_8 55 (by decide) rfl ht q1609 rfl rfl rfl dX8_sails_6 ?_
  rw [← e5]
  refine a_aload_n 0 dX8_sails_9 rfl rfl ?_
  refine a_iconst (v := 0) dX8_sails_10 (by decide) ?_
  obtain ⟨m6, e7, h⟩ := lt_some h
  refine a_putI kc_8 56 (by decide) rfl ht q1610 rfl rfl rfl dX8_sails_11 ?_
  rw [← e7]
  refine a_iconst (v := 0) dX8_sails_14 (by decide) ?_
  refine a_istore (ls' := [(5, vI_ 0), (0, vR_ (some t)), (1, vI_ i0), (2, vI_ i1), (3, vI_ i2), (4, vI_ i3)]) dX8_sails_15 (Nat.le_of_ble_eq_true rfl) rfl ?_
  refine aw_pick [1, 3, 4, 5, 0] rfl ?_
  exact w_X8_sails_L17 hl _ _ _ _ ht _ _ _ h
