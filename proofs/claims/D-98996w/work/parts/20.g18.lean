/-! PRINTED BY dec.py: X8_fare X8_canPay X8_enough X8_level X8_hunger X8_moreBy X8_findTerms X8_terms X8_isTold X8_worstAt X8_ask X8_power X8_courtBy X8_least -/
set_option maxRecDepth 100000
def f_X8_fare (F : Nat)  (t : pm_A) (i0 : Int32) (m : pm_M) : Option (Int32 × pm_M) :=
  lt_ (pI_ m t 0 0) fun m1 =>
  bm_ (f_X8_isSigner F t i0 1 m1) fun v5 m3 =>
  if v5 = 0 then
    some (0, m3)
  else
    bm_ (f_X8_take F t m3) fun v9 m7 =>
    gd_ 100 (gR_ m7 t 38) fun a10 =>
    iz_ (!(ib_ (0 + i0) a10.2.1)) <|
    if (gI_ m7 a10 (0 + i0).toNatClampNeg) = 0 then
      some (((-1)), m7)
    else
      bm_ (f_X8_owesOf F t i0 m7) fun v17 m15 =>
      some ((v17 / 4), m15)
set_option maxHeartbeats 4000000 in
theorem e_X8_fare {G : xg_T} {l : Launch} (hl : l.stackTraces = false) {F : Nat}    {t : pm_A} {i0 : Int32} {m0 m' : pm_M} {r : Int32} (ht : t.1 = 8) (h : f_X8_fare F t i0 m0 = some (r, m')) : Cal_ G l yX8_fare (ws_ yX8_fare cX8_fare 2 (some .int)) 8 [vR_ (some t), vI_ i0] m0 (.inl (some (vI_ r))) m' := by
  refine cal_of (by decide +kernel) (Nat.le_of_ble_eq_true rfl) ?_
  unfold f_X8_fare at h
  show AW_ cX8_fare RX8 (some (.int), "fare", 8, 2, m0, m', (.inl (some (vI_ r))), G, l, [], true) m0 0 [(0, vR_ (some t)), (1, vI_ i0)] []
  refine a_aload_n 0 dX8_fare_0 rfl rfl ?_
  refine a_iconst (v := 0) dX8_fare_1 (by decide) ?_
  obtain ⟨m1, e2, h⟩ := lt_some h
  refine a_putI kc_8 0 (by decide) rfl ht q1554 rfl rfl rfl dX8_fare_2 ?_
  rw [← e2]
  refine a_aload_n 0 dX8_fare_5 rfl rfl ?_
  refine a_iload_n 1 dX8_fare_6 rfl rfl ?_
  refine a_iconst (v := 1) dX8_fare_7 (by decide) ?_
  obtain ⟨v5, m3, e4, h⟩ := bm_some h
  have he4 := e_X8_isSigner (G := G) hl ht e4
  refine c_I he4.1 (rn_V (n := 2) (As := [vI_ i0, vI_ 1]) kc_8 ht he4 (lw_V q1983 q1985 qs75 q97 q1986) (by decide +kernel) rfl (Nat.le_of_ble_eq_true rfl) (Nat.le_of_ble_eq_true rfl) (Nat.le_of_ble_eq_true rfl) dX8_fare_8) (fun z => (os_av (As := [vI_ i0, vI_ 1]) z).2.1) ?_
  refine a_if_ne (tgt := 16) dX8_fare_11 (by decide) (fun c6 => ?_) (fun c6 => ?_)
  · replace h := ifn_ c6 h
    refine a_aload_n 0 dX8_fare_16 rfl rfl ?_
    obtain ⟨v9, m7, e8, h⟩ := bm_some h
    have he8 := e_X8_take (G := G) hl ht e8
    refine c_V he8.1 (rn_V (n := 0) (As := []) kc_8 ht he8 (lw_V q1888 q1890 qs56 q97 q1891) (by decide +kernel) rfl (Nat.le_of_ble_eq_true rfl) (Nat.le_of_ble_eq_true rfl) (Nat.le_of_ble_eq_true rfl) dX8_fare_17) (fun z => (os_av (As := []) z).2.1) ?_
    refine a_aload_n 0 dX8_fare_20 rfl rfl ?_
    refine a_getR kc_8 38 (by decide) rfl ht q1592 dX8_fare_21 ?_
    refine a_iconst (v := 0) dX8_fare_24 (by decide) ?_
    refine a_iload_n 1 dX8_fare_25 rfl rfl ?_
    refine a_iadd dX8_fare_26 ?_
    obtain ⟨a10, e11, f12, h⟩ := gd_some h
    rw [e11]
    obtain ⟨c13, h⟩ := iz_some h
    refine a_iald f12 (bn_ c13) dX8_fare_27 ?_
    refine a_if_ne (tgt := 35) dX8_fare_28 (by decide) (fun c14 => ?_) (fun c14 => ?_)
    · replace h := ifn_ c14 h
      refine a_aload_n 0 dX8_fare_35 rfl rfl ?_
      refine a_iload_n 1 dX8_fare_36 rfl rfl ?_
      obtain ⟨v17, m15, e16, h⟩ := bm_some h
      have he16 := e_X8_owesOf (G := G) hl ht e16
      refine c_I he16.1 (rn_V (n := 1) (As := [vI_ i0]) kc_8 ht he16 (lw_V q1928 q1930 qs66 q97 q1931) (by decide +kernel) rfl (Nat.le_of_ble_eq_true rfl) (Nat.le_of_ble_eq_true rfl) (Nat.le_of_ble_eq_true rfl) dX8_fare_37) (fun z => (os_av (As := [vI_ i0]) z).2.1) ?_
      refine a_iconst (v := 4) dX8_fare_40 (by decide) ?_
      refine a_idiv dX8_fare_41 (by decide) ?_
      cases h
      exact a_ireturn rfl rfl rfl rfl rfl dX8_fare_42
    · replace h := ifp_ c14 h
      refine a_iconst (v := (-1)) dX8_fare_31 (by decide) ?_
      refine a_goto (tgt := 42) dX8_fare_32 (by decide) ?_
      cases h
      exact a_ireturn rfl rfl rfl rfl rfl dX8_fare_42
  · replace h := ifp_ c6 h
    refine a_iconst (v := 0) dX8_fare_14 (by decide) ?_
    cases h
    exact a_ireturn rfl rfl rfl rfl rfl dX8_fare_15
def f_X8_canPay (F : Nat)  (t : pm_A) (i0 : Int32) (m : pm_M) : Option (Int32 × pm_M) :=
  lt_ (pI_ m t 0 0) fun m1 =>
  bm_ (f_X8_isSigner F t i0 1 m1) fun v5 m3 =>
  if v5 = 0 then
    some (0, m3)
  else
    bm_ (f_X8_take F t m3) fun v9 m7 =>
    bm_ (f_X8_canPayNow F t i0 m7) fun v12 m10 =>
    iz_ (!(nr_ .boolean v12)) <|
    some (v12, m10)
set_option maxHeartbeats 4000000 in
theorem e_X8_canPay {G : xg_T} {l : Launch} (hl : l.stackTraces = false) {F : Nat}    {t : pm_A} {i0 : Int32} {m0 m' : pm_M} {r : Int32} (ht : t.1 = 8) (h : f_X8_canPay F t i0 m0 = some (r, m')) : Cal_ G l yX8_canPay (ws_ yX8_canPay cX8_canPay 2 (some .boolean)) 9 [vR_ (some t), vI_ i0] m0 (.inl (some (vI_ r))) m' := by
  refine cal_of (by decide +kernel) (Nat.le_of_ble_eq_true rfl) ?_
  unfold f_X8_canPay at h
  show AW_ cX8_canPay RX8 (some (.boolean), "canPay", 9, 2, m0, m', (.inl (some (vI_ r))), G, l, [], true) m0 0 [(0, vR_ (some t)), (1, vI_ i0)] []
  refine a_aload_n 0 dX8_canPay_0 rfl rfl ?_
  refine a_iconst (v := 0) dX8_canPay_1 (by decide) ?_
  obtain ⟨m1, e2, h⟩ := lt_some h
  refine a_putI kc_8 0 (by decide) rfl ht q1554 rfl rfl rfl dX8_canPay_2 ?_
  rw [← e2]
  refine a_aload_n 0 dX8_canPay_5 rfl rfl ?_
  refine a_iload_n 1 dX8_canPay_6 rfl rfl ?_
  refine a_iconst (v := 1) dX8_canPay_7 (by decide) ?_
  obtain ⟨v5, m3, e4, h⟩ := bm_some h
  have he4 := e_X8_isSigner (G := G) hl ht e4
  refine c_I he4.1 (rn_V (n := 2) (As := [vI_ i0, vI_ 1]) kc_8 ht he4 (lw_V q1983 q1985 qs75 q97 q1986) (by decide +kernel) rfl (Nat.le_of_ble_eq_true rfl) (Nat.le_of_ble_eq_true rfl) (Nat.le_of_ble_eq_true rfl) dX8_canPay_8) (fun z => (os_av (As := [vI_ i0, vI_ 1]) z).2.1) ?_
  refine a_if_ne (tgt := 16) dX8_canPay_11 (by decide) (fun c6 => ?_) (fun c6 => ?_)
  · replace h := ifn_ c6 h
    refine a_aload_n 0 dX8_canPay_16 rfl rfl ?_
    obtain ⟨v9, m7, e8, h⟩ := bm_some h
    have he8 := e_X8_take (G := G) hl ht e8
    refine c_V he8.1 (rn_V (n := 0) (As := []) kc_8 ht he8 (lw_V q1888 q1890 qs56 q97 q1891) (by decide +kernel) rfl (Nat.le_of_ble_eq_true rfl) (Nat.le_of_ble_eq_true rfl) (Nat.le_of_ble_eq_true rfl) dX8_canPay_17) (fun z => (os_av (As := []) z).2.1) ?_
    refine a_aload_n 0 dX8_canPay_20 rfl rfl ?_
    refine a_iload_n 1 dX8_canPay_21 rfl rfl ?_
    obtain ⟨v12, m10, e11, h⟩ := bm_some h
    have he11 := e_X8_canPayNow (G := G) hl ht e11
    refine c_I he11.1 (rn_V (n := 1) (As := [vI_ i0]) kc_8 ht he11 (lw_V q1924 q1926 qs65 q97 q1927) (by decide +kernel) rfl (Nat.le_of_ble_eq_true rfl) (Nat.le_of_ble_eq_true rfl) (Nat.le_of_ble_eq_true rfl) dX8_canPay_22) (fun z => (os_av (As := [vI_ i0]) z).2.1) ?_
    obtain ⟨c13, h⟩ := iz_some h
    cases h
    exact a_ireturn rfl (nr_ok (bn_ c13)) rfl rfl rfl dX8_canPay_25
  · replace h := ifp_ c6 h
    refine a_iconst (v := 0) dX8_canPay_14 (by decide) ?_
    cases h
    exact a_ireturn rfl rfl rfl rfl rfl dX8_canPay_15
def f_X8_enough (F : Nat)  (t : pm_A) (i0 : Int32) (m : pm_M) : Option (Int32 × pm_M) :=
  lt_ (pI_ m t 0 0) fun m1 =>
  bm_ (f_X8_within F i0 0 99 m1) fun v5 m3 =>
  bm_ (f_X8_may F t v5 1 1 m3) fun v8 m6 =>
  if v8 = 0 then
    some (0, m6)
  else
    bm_ (f_X8_take F t m6) fun v12 m10 =>
    bm_ (f_X8_many F t 0 m10) fun v15 m13 =>
    some ((v15 * i0), m13)
set_option maxHeartbeats 4000000 in
theorem e_X8_enough {G : xg_T} {l : Launch} (hl : l.stackTraces = false) {F : Nat}    {t : pm_A} {i0 : Int32} {m0 m' : pm_M} {r : Int32} (ht : t.1 = 8) (h : f_X8_enough F t i0 m0 = some (r, m')) : Cal_ G l yX8_enough (ws_ yX8_enough cX8_enough 2 (some .int)) 4 [vR_ (some t), vI_ i0] m0 (.inl (some (vI_ r))) m' := by
  refine cal_of (by decide +kernel) (Nat.le_of_ble_eq_true rfl) ?_
  unfold f_X8_enough at h
  show AW_ cX8_enough RX8 (some (.int), "enough", 4, 2, m0, m', (.inl (some (vI_ r))), G, l, [], true) m0 0 [(0, vR_ (some t)), (1, vI_ i0)] []
  refine a_aload_n 0 dX8_enough_0 rfl rfl ?_
  refine a_iconst (v := 0) dX8_enough_1 (by decide) ?_
  obtain ⟨m1, e2, h⟩ := lt_some h
  refine a_putI kc_8 0 (by decide) rfl ht q1554 rfl rfl rfl dX8_enough_2 ?_
  rw [← e2]
  refine a_aload_n 0 dX8_enough_5 rfl rfl ?_
  refine a_iload_n 1 dX8_enough_6 rfl rfl ?_
  refine a_iconst (v := 0) dX8_enough_7 (by decide) ?_
  refine a_bipush (v := 99) dX8_enough_8 (by decide) ?_
  obtain ⟨v5, m3, e4, h⟩ := bm_some h
  have he4 := e_X8_within (G := G) hl e4
  refine c_I he4.1 (rn_S (n := 3) (As := [vI_ i0, vI_ 0, vI_ 99]) he4 (lw_S q1823 q1824 q97 q1825) (by decide +kernel) rfl (Nat.le_of_ble_eq_true rfl) (Nat.le_of_ble_eq_true rfl) (Nat.le_of_ble_eq_true rfl) dX8_enough_10) (fun z => (os_aS (As := [vI_ i0, vI_ 0, vI_ 99]) z).2) ?_
  refine a_iconst (v := 1) dX8_enough_13 (by decide) ?_
  refine a_iconst (v := 1) dX8_enough_14 (by decide) ?_
  obtain ⟨v8, m6, e7, h⟩ := bm_some h
  have he7 := e_X8_may (G := G) hl ht e7
  refine c_I he7.1 (rn_V (n := 3) (As := [vI_ v5, vI_ 1, vI_ 1]) kc_8 ht he7 (lw_V q1744 q1746 qs32 q97 q1747) (by decide +kernel) rfl (Nat.le_of_ble_eq_true rfl) (Nat.le_of_ble_eq_true rfl) (Nat.le_of_ble_eq_true rfl) dX8_enough_15) (fun z => (os_av (As := [vI_ v5, vI_ 1, vI_ 1]) z).2.1) ?_
  refine a_if_ne (tgt := 23) dX8_enough_18 (by decide) (fun c9 => ?_) (fun c9 => ?_)
  · replace h := ifn_ c9 h
    refine a_aload_n 0 dX8_enough_23 rfl rfl ?_
    obtain ⟨v12, m10, e11, h⟩ := bm_some h
    have he11 := e_X8_take (G := G) hl ht e11
    refine c_V he11.1 (rn_V (n := 0) (As := []) kc_8 ht he11 (lw_V q1888 q1890 qs56 q97 q1891) (by decide +kernel) rfl (Nat.le_of_ble_eq_true rfl) (Nat.le_of_ble_eq_true rfl) (Nat.le_of_ble_eq_true rfl) dX8_enough_24) (fun z => (os_av (As := []) z).2.1) ?_
    refine a_aload_n 0 dX8_enough_27 rfl rfl ?_
    refine a_iconst (v := 0) dX8_enough_28 (by decide) ?_
    obtain ⟨v15, m13, e14, h⟩ := bm_some h
    have he14 := e_X8_many (G := G) hl ht e14
    refine c_I he14.1 (rn_V (n := 1) (As := [vI_ 0]) kc_8 ht he14 (lw_V q1904 q1906 qs60 q97 q1907) (by decide +kernel) rfl (Nat.le_of_ble_eq_true rfl) (Nat.le_of_ble_eq_true rfl) (Nat.le_of_ble_eq_true rfl) dX8_enough_29) (fun z => (os_av (As := [vI_ 0]) z).2.1) ?_
    refine a_iload_n 1 dX8_enough_32 rfl rfl ?_
    refine a_imul dX8_enough_33 ?_
    cases h
    exact a_ireturn rfl rfl rfl rfl rfl dX8_enough_34
  · replace h := ifp_ c9 h
    refine a_iconst (v := 0) dX8_enough_21 (by decide) ?_
    cases h
    exact a_ireturn rfl rfl rfl rfl rfl dX8_enough_22
def f_X8_level (F : Nat)  (t : pm_A) (i0 : Int32) (m : pm_M) : Option (Int32 × pm_M) :=
  lt_ (pI_ m t 0 0) fun m1 =>
  bm_ (f_X8_within F i0 0 99 m1) fun v5 m3 =>
  bm_ (f_X8_may F t v5 1 1 m3) fun v8 m6 =>
  if v8 = 0 then
    some (0, m6)
  else
    bm_ (f_X8_take F t m6) fun v12 m10 =>
    bm_ (f_X8_many F t 0 m10) fun v15 m13 =>
    if v15 = 0 then
      some (((-1)), m13)
    else
      gd_ 100 (gR_ m13 t 38) fun a17 =>
      iz_ (!(ib_ 65 a17.2.1)) <|
      bm_ (f_X8_many F t 0 m13) fun v23 m21 =>
      iz_ (decide (v23 = 0)) <|
      if i0 ≤ ((gI_ m13 a17 (65 : Int32).toNatClampNeg) / v23) then
        some (i0, m21)
      else
        some (((gI_ m13 a17 (65 : Int32).toNatClampNeg) / v23), m21)
set_option maxHeartbeats 4000000 in
theorem e_X8_level {G : xg_T} {l : Launch} (hl : l.stackTraces = false) {F : Nat}    {t : pm_A} {i0 : Int32} {m0 m' : pm_M} {r : Int32} (ht : t.1 = 8) (h : f_X8_level F t i0 m0 = some (r, m')) : Cal_ G l yX8_level (ws_ yX8_level cX8_level 3 (some .int)) 4 [vR_ (some t), vI_ i0] m0 (.inl (some (vI_ r))) m' := by
  refine cal_of (by decide +kernel) (Nat.le_of_ble_eq_true rfl) ?_
  unfold f_X8_level at h
  show AW_ cX8_level RX8 (some (.int), "level", 4, 3, m0, m', (.inl (some (vI_ r))), G, l, [], true) m0 0 [(0, vR_ (some t)), (1, vI_ i0)] []
  refine a_aload_n 0 dX8_level_0 rfl rfl ?_
  refine a_iconst (v := 0) dX8_level_1 (by decide) ?_
  obtain ⟨m1, e2, h⟩ := lt_some h
  refine a_putI kc_8 0 (by decide) rfl ht q1554 rfl rfl rfl dX8_level_2 ?_
  rw [← e2]
  refine a_aload_n 0 dX8_level_5 rfl rfl ?_
  refine a_iload_n 1 dX8_level_6 rfl rfl ?_
  refine a_iconst (v := 0) dX8_level_7 (by decide) ?_
  refine a_bipush (v := 99) dX8_level_8 (by decide) ?_
  obtain ⟨v5, m3, e4, h⟩ := bm_some h
  have he4 := e_X8_within (G := G) hl e4
  refine c_I he4.1 (rn_S (n := 3) (As := [vI_ i0, vI_ 0, vI_ 99]) he4 (lw_S q1823 q1824 q97 q1825) (by decide +kernel) rfl (Nat.le_of_ble_eq_true rfl) (Nat.le_of_ble_eq_true rfl) (Nat.le_of_ble_eq_true rfl) dX8_level_10) (fun z => (os_aS (As := [vI_ i0, vI_ 0, vI_ 99]) z).2) ?_
  refine a_iconst (v := 1) dX8_level_13 (by decide) ?_
  refine a_iconst (v := 1) dX8_level_14 (by decide) ?_
  obtain ⟨v8, m6, e7, h⟩ := bm_some h
  have he7 := e_X8_may (G := G) hl ht e7
  refine c_I he7.1 (rn_V (n := 3) (As := [vI_ v5, vI_ 1, vI_ 1]) kc_8 ht he7 (lw_V q1744 q1746 qs32 q97 q1747) (by decide +kernel) rfl (Nat.le_of_ble_eq_true rfl) (Nat.le_of_ble_eq_true rfl) (Nat.le_of_ble_eq_true rfl) dX8_level_15) (fun z => (os_av (As := [vI_ v5, vI_ 1, vI_ 1]) z).2.1) ?_
  refine a_if_ne (tgt := 23) dX8_level_18 (by decide) (fun c9 => ?_) (fun c9 => ?_)
  · replace h := ifn_ c9 h
    refine a_aload_n 0 dX8_level_23 rfl rfl ?_
    obtain ⟨v12, m10, e11, h⟩ := bm_some h
    have he11 := e_X8_take (G := G) hl ht e11
    refine c_V he11.1 (rn_V (n := 0) (As := []) kc_8 ht he11 (lw_V q1888 q1890 qs56 q97 q1891) (by decide +kernel) rfl (Nat.le_of_ble_eq_true rfl) (Nat.le_of_ble_eq_true rfl) (Nat.le_of_ble_eq_true rfl) dX8_level_24) (fun z => (os_av (As := []) z).2.1) ?_
    refine a_aload_n 0 dX8_level_27 rfl rfl ?_
    refine a_iconst (v := 0) dX8_level_28 (by decide) ?_
    obtain ⟨v15, m13, e14, h⟩ := bm_some h
    have he14 := e_X8_many (G := G) hl ht e14
    refine c_I he14.1 (rn_V (n := 1) (As := [vI_ 0]) kc_8 ht he14 (lw_V q1904 q1906 qs60 q97 q1907) (by decide +kernel) rfl (Nat.le_of_ble_eq_true rfl) (Nat.le_of_ble_eq_true rfl) (Nat.le_of_ble_eq_true rfl) dX8_level_29) (fun z => (os_av (As := [vI_ 0]) z).2.1) ?_
    refine a_if_ne (tgt := 37) dX8_level_32 (by decide) (fun c16 => ?_) (fun c16 => ?_)
    · replace h := ifn_ c16 h
      refine a_aload_n 0 dX8_level_37 rfl rfl ?_
      refine a_getR kc_8 38 (by decide) rfl ht q1592 dX8_level_38 ?_
      refine a_bipush (v := 65) dX8_level_41 (by decide) ?_
      obtain ⟨a17, e18, f19, h⟩ := gd_some h
      rw [e18]
      obtain ⟨c20, h⟩ := iz_some h
      refine a_iald f19 (bn_ c20) dX8_level_43 ?_
      refine a_aload_n 0 dX8_level_44 rfl rfl ?_
      refine a_iconst (v := 0) dX8_level_45 (by decide) ?_
      obtain ⟨v23, m21, e22, h⟩ := bm_some h
      have he22 := e_X8_many (G := G) hl ht e22
      refine c_I he22.1 (rn_V (n := 1) (As := [vI_ 0]) kc_8 ht he22 (lw_V q1904 q1906 qs60 q97 q1907) (by decide +kernel) rfl (Nat.le_of_ble_eq_true rfl) (Nat.le_of_ble_eq_true rfl) (Nat.le_of_ble_eq_true rfl) dX8_level_46) (fun z => (os_av (As := [vI_ 0]) z).2.1) ?_
      obtain ⟨c24, h⟩ := iz_some h
      refine a_idiv dX8_level_49 (of_decide_eq_false c24) ?_
      refine a_istore_n (ls' := [(2, vI_ ((gI_ m13 a17 (65 : Int32).toNatClampNeg) / v23)), (0, vR_ (some t)), (1, vI_ i0)]) dX8_level_50 rfl (Nat.le_of_ble_eq_true rfl) rfl ?_
      refine a_iload_n 0 dX8_level_51 rfl rfl ?_
      refine a_iload_n 2 dX8_level_52 rfl rfl ?_
      refine a_icmp_ge (tgt := 60) dX8_level_53 (by decide) (fun c25 => ?_) (fun c25 => ?_)
      · replace h := ifp_ c25 h
        refine a_iload_n 2 dX8_level_60 rfl rfl ?_
        cases h
        exact a_ireturn rfl rfl rfl rfl rfl dX8_level_61
      · replace h := ifn_ c25 h
        refine a_iload_n 0 dX8_level_56 rfl rfl ?_
        refine a_goto (tgt := 61) dX8_level_57 (by decide) ?_
        cases h
        exact a_ireturn rfl rfl rfl rfl rfl dX8_level_61
    · replace h := ifp_ c16 h
      refine a_iconst (v := (-1)) dX8_level_35 (by decide) ?_
      cases h
      exact a_ireturn rfl rfl rfl rfl rfl dX8_level_36
  · replace h := ifp_ c9 h
    refine a_iconst (v := 0) dX8_level_21 (by decide) ?_
    cases h
    exact a_ireturn rfl rfl rfl rfl rfl dX8_level_22
def f_X8_hunger_L11 (F : Nat)  (p6 : pm_A) : Nat → Int32 → pm_M → Option (Int32 × pm_M)
  | 0, _, _ => none
  | n8 + 1, x10, m9 =>
    if 99 < x10 then
      some (((-1)), m9)
    else
      bm_ (f_X8_passes F p6 m9) fun v14 m12 =>
      if (gI_ m12 p6 41) ≤ 0 then
        (f_X8_hunger_L11 F p6 n8) (x10 + 1) m12
      else
        some (x10, m12)
set_option maxHeartbeats 4000000 in
theorem w_X8_hunger_L11 {G : xg_T} {l : Launch} (hl : l.stackTraces = false) {F : Nat}    (p6 : pm_A) {m0 m' : pm_M} {r : Int32} (hf7 : p6.1 = 8)  : ∀ (n : Nat) (x10 : Int32) (m9 : pm_M), f_X8_hunger_L11 F p6 n x10 m9 = some (r, m') → AW_ cX8_hunger RX8 (some (.int), "hunger", 9, 2, m0, m', (.inl (some (vI_ r))), G, l, [], true) m9 11 [(0, vR_ (some p6)), (1, vI_ x10)] [] := by
  intro n
  induction n with
  | zero => intro x10 m9 h; cases h
  | succ n8 ih =>
    intro x10 m9 h
    rw [f_X8_hunger_L11] at h
    refine a_iload_n 1 dX8_hunger_11 rfl rfl ?_
    refine a_bipush (v := 99) dX8_hunger_12 (by decide) ?_
    refine a_icmp_gt (tgt := 36) dX8_hunger_14 (by decide) (fun c11 => ?_) (fun c11 => ?_)
    · replace h := ifp_ c11 h
      refine a_iconst (v := (-1)) dX8_hunger_36 (by decide) ?_
      cases h
      exact a_ireturn rfl rfl rfl rfl rfl dX8_hunger_37
    · replace h := ifn_ c11 h
      refine a_aload_n 0 dX8_hunger_17 rfl rfl ?_
      obtain ⟨v14, m12, e13, h⟩ := bm_some h
      have he13 := e_X8_passes (G := G) hl hf7 e13
      refine c_V he13.1 (rn_V (n := 0) (As := []) kc_8 hf7 he13 (lw_V q1963 q1965 qs74 q97 q1966) (by decide +kernel) rfl (Nat.le_of_ble_eq_true rfl) (Nat.le_of_ble_eq_true rfl) (Nat.le_of_ble_eq_true rfl) dX8_hunger_18) (fun z => (os_av (As := []) z).2.1) ?_
      refine a_aload_n 0 dX8_hunger_21 rfl rfl ?_
      refine a_getI kc_8 41 (by decide) rfl hf7 q1595 dX8_hunger_22 ?_
      refine a_if_le (tgt := 30) dX8_hunger_25 (by decide) (fun c15 => ?_) (fun c15 => ?_)
      · replace h := ifp_ c15 h
        refine a_iinc (v := x10 + 1) (ls' := [(1, vI_ (x10 + 1)), (0, vR_ (some p6))]) 1 dX8_hunger_30 rfl rfl (Nat.le_of_ble_eq_true rfl) rfl ?_
        refine a_goto (tgt := 11) dX8_hunger_33 (by decide) ?_
        refine aw_pick [1, 0] rfl ?_
        exact ih _ _ h
      · replace h := ifn_ c15 h
        refine a_iload_n 1 dX8_hunger_28 rfl rfl ?_
        cases h
        exact a_ireturn rfl rfl rfl rfl rfl dX8_hunger_29
def f_X8_hunger (F : Nat)  (t : pm_A) (m : pm_M) : Option (Int32 × pm_M) :=
  lt_ (pI_ m t 0 0) fun m1 =>
  bm_ (f_X8_take F t m1) fun v5 m3 =>
  f_X8_hunger_L11 F t F 0 m3
set_option maxHeartbeats 4000000 in
theorem e_X8_hunger {G : xg_T} {l : Launch} (hl : l.stackTraces = false) {F : Nat}    {t : pm_A} {m0 m' : pm_M} {r : Int32} (ht : t.1 = 8) (h : f_X8_hunger F t m0 = some (r, m')) : Cal_ G l yX8_hunger (ws_ yX8_hunger cX8_hunger 2 (some .int)) 9 [vR_ (some t)] m0 (.inl (some (vI_ r))) m' := by
  refine cal_of (by decide +kernel) (Nat.le_of_ble_eq_true rfl) ?_
  unfold f_X8_hunger at h
  show AW_ cX8_hunger RX8 (some (.int), "hunger", 9, 2, m0, m', (.inl (some (vI_ r))), G, l, [], true) m0 0 [(0, vR_ (some t))] []
  refine a_aload_n 0 dX8_hunger_0 rfl rfl ?_
  refine a_iconst (v := 0) dX8_hunger_1 (by decide) ?_
  obtain ⟨m1, e2, h⟩ := lt_some h
  refine a_putI kc_8 0 (by decide) rfl ht q1554 rfl rfl rfl dX8_hunger_2 ?_
  rw [← e2]
  refine a_aload_n 0 dX8_hunger_5 rfl rfl ?_
  obtain ⟨v5, m3, e4, h⟩ := bm_some h
  have he4 := e_X8_take (G := G) hl ht e4
  refine c_V he4.1 (rn_V (n := 0) (As := []) kc_8 ht he4 (lw_V q1888 q1890 qs56 q97 q1891) (by decide +kernel) rfl (Nat.le_of_ble_eq_true rfl) (Nat.le_of_ble_eq_true rfl) (Nat.le_of_ble_eq_true rfl) dX8_hunger_6) (fun z => (os_av (As := []) z).2.1) ?_
  refine a_iconst (v := 0) dX8_hunger_9 (by decide) ?_
  refine a_istore_n (ls' := [(1, vI_ 0), (0, vR_ (some t))]) dX8_hunger_10 rfl (Nat.le_of_ble_eq_true rfl) rfl ?_
  refine aw_pick [1, 0] rfl ?_
  exact w_X8_hunger_L11 hl _ ht _ _ _ h
def f_X8_moreBy (F : Nat)  (i0 : Int32) (i1 : Int32) (m : pm_M) : Option (Int32 × pm_M) :=
  if i0 ≤ i1 then
    some (0, m)
  else
    some ((i0 - i1), m)
set_option maxHeartbeats 4000000 in
theorem e_X8_moreBy {G : xg_T} {l : Launch} (hl : l.stackTraces = false) {F : Nat}    {i0 : Int32} {i1 : Int32} {m0 m' : pm_M} {r : Int32} (h : f_X8_moreBy F i0 i1 m0 = some (r, m')) : Cal_ G l yX8_moreBy (ws_ yX8_moreBy cX8_moreBy 2 (some .int)) 2 [vI_ i0, vI_ i1] m0 (.inl (some (vI_ r))) m' := by
  refine cal_of (by decide +kernel) (Nat.le_of_ble_eq_true rfl) ?_
  unfold f_X8_moreBy at h
  show AW_ cX8_moreBy RX8 (some (.int), "moreBy", 2, 2, m0, m', (.inl (some (vI_ r))), G, l, [], true) m0 0 [(0, vI_ i0), (1, vI_ i1)] []
  refine a_iload_n 0 dX8_moreBy_0 rfl rfl ?_
  refine a_iload_n 1 dX8_moreBy_1 rfl rfl ?_
  refine a_icmp_le (tgt := 11) dX8_moreBy_2 (by decide) (fun c1 => ?_) (fun c1 => ?_)
  · replace h := ifp_ c1 h
    refine a_iconst (v := 0) dX8_moreBy_11 (by decide) ?_
    cases h
    exact a_ireturn rfl rfl rfl rfl rfl dX8_moreBy_12
  · replace h := ifn_ c1 h
    refine a_iload_n 0 dX8_moreBy_5 rfl rfl ?_
    refine a_iload_n 1 dX8_moreBy_6 rfl rfl ?_
    refine a_isub dX8_moreBy_7 ?_
    refine a_goto (tgt := 12) dX8_moreBy_8 (by decide) ?_
    cases h
    exact a_ireturn rfl rfl rfl rfl rfl dX8_moreBy_12
def f_X8_findTerms_L44 (F : Nat)  (p28 : pm_A) (p30 : Int32) (p31 : Int32) (k32 : pm_M → Option (Unit × pm_M)) : Nat → Int32 → pm_M → Option (Unit × pm_M)
  | 0, _, _ => none
  | n34 + 1, x36, m35 =>
    if (gI_ m35 p28 45) ≤ x36 then
      k32 m35
    else
      gd_ 102 (gR_ m35 p28 51) fun a38 =>
      iz_ (!(ib_ p31 a38.2.1)) <|
      if (gI_ m35 a38 p31.toNatClampNeg) = 0 then
        iz_ (!(ib_ p31 a38.2.1)) <|
        lt_ (pI_ m35 a38 p31.toNatClampNeg (vp_nar .boolean 0)) fun m44 =>
        (f_X8_findTerms_L44 F p28 p30 p31 k32 n34) (x36 + 1) m44
      else
        gd_ 100 (gR_ m35 p28 52) fun a46 =>
        iz_ (!(ib_ p31 a46.2.1)) <|
        gd_ 100 (gR_ m35 p28 44) fun a50 =>
        iz_ (!(ib_ (2 * x36) a50.2.1)) <|
        bm_ (f_X8_moreBy F (gI_ m35 a46 p31.toNatClampNeg) (gI_ m35 a50 (2 * x36).toNatClampNeg) m35) fun v56 m54 =>
        gd_ 100 (gR_ m54 p28 44) fun a57 =>
        iz_ (!(ib_ ((2 * x36) + 1) a57.2.1)) <|
        if v56 = (gI_ m54 a57 ((2 * x36) + 1).toNatClampNeg) then
          iz_ (!(ib_ p31 a38.2.1)) <|
          lt_ (pI_ m54 a38 p31.toNatClampNeg (vp_nar .boolean 1)) fun m66 =>
          (f_X8_findTerms_L44 F p28 p30 p31 k32 n34) (x36 + 1) m66
        else
          iz_ (!(ib_ p31 a38.2.1)) <|
          lt_ (pI_ m54 a38 p31.toNatClampNeg (vp_nar .boolean 0)) fun m63 =>
          (f_X8_findTerms_L44 F p28 p30 p31 k32 n34) (x36 + 1) m63
set_option maxHeartbeats 4000000 in
theorem w_X8_findTerms_L44 {G : xg_T} {l : Launch} (hl : l.stackTraces = false) {F : Nat}    (p28 : pm_A) (p30 : Int32) (p31 : Int32) (k32 : pm_M → Option (Unit × pm_M)) {m0 m' : pm_M} {r : Unit} (hf29 : p28.1 = 8) (hk32 : ∀ (m33 : pm_M), k32 m33 = some (r, m') → AW_ cX8_findTerms RX8 (none, "findTerms", 6, 4, m0, m', (.inl none), G, l, [], true) m33 108 [(0, vR_ (some p28)), (1, vI_ p30), (2, vI_ p31)] []) : ∀ (n : Nat) (x36 : Int32) (m35 : pm_M), f_X8_findTerms_L44 F p28 p30 p31 k32 n x36 m35 = some (r, m') → AW_ cX8_findTerms RX8 (none, "findTerms", 6, 4, m0, m', (.inl none), G, l, [], true) m35 44 [(0, vR_ (some p28)), (1, vI_ p30), (2, vI_ p31), (3, vI_ x36)] [] := by
  intro n
  induction n with
  | zero => intro x36 m35 h; cases h
  | succ n34 ih =>
    intro x36 m35 h
    rw [f_X8_findTerms_L44] at h
    refine a_iload_n 3 dX8_findTerms_44 rfl rfl ?_
    refine a_aload_n 0 dX8_findTerms_45 rfl rfl ?_
    refine a_getI kc_8 45 (by decide) rfl hf29 q1599 dX8_findTerms_46 ?_
    refine a_icmp_ge (tgt := 108) dX8_findTerms_49 (by decide) (fun c37 => ?_) (fun c37 => ?_)
    · replace h := ifp_ c37 h
      refine aw_pick [0, 1, 2] rfl ?_
      exact hk32 _ h
    · replace h := ifn_ c37 h
      refine a_aload_n 0 dX8_findTerms_52 rfl rfl ?_
      refine a_getR kc_8 51 (by decide) rfl hf29 q1605 dX8_findTerms_53 ?_
      refine a_iload_n 2 dX8_findTerms_56 rfl rfl ?_
      refine a_aload_n 0 dX8_findTerms_57 rfl rfl ?_
      refine a_getR kc_8 51 (by decide) rfl hf29 q1605 dX8_findTerms_58 ?_
      refine a_iload_n 2 dX8_findTerms_61 rfl rfl ?_
      obtain ⟨a38, e39, f40, h⟩ := gd_some h
      rw [e39]
      obtain ⟨c41, h⟩ := iz_some h
      refine a_zald f40 (bn_ c41) dX8_findTerms_62 ?_
      refine a_if_eq (tgt := 100) dX8_findTerms_63 (by decide) (fun c42 => ?_) (fun c42 => ?_)
      · replace h := ifp_ c42 h
        refine a_iconst (v := 0) dX8_findTerms_100 (by decide) ?_
        obtain ⟨c43, h⟩ := iz_some h
        obtain ⟨m44, e45, h⟩ := lt_some h
        refine a_zast f40 (bn_ c43) dX8_findTerms_101 ?_
        rw [← e45]
        refine a_iinc (v := x36 + 1) (ls' := [(3, vI_ (x36 + 1)), (0, vR_ (some p28)), (1, vI_ p30), (2, vI_ p31)]) 3 dX8_findTerms_102 rfl rfl (Nat.le_of_ble_eq_true rfl) rfl ?_
        refine a_goto (tgt := 44) dX8_findTerms_105 (by decide) ?_
        refine aw_pick [1, 2, 3, 0] rfl ?_
        exact ih _ _ h
      · replace h := ifn_ c42 h
        refine a_aload_n 0 dX8_findTerms_66 rfl rfl ?_
        refine a_getR kc_8 52 (by decide) rfl hf29 q1606 dX8_findTerms_67 ?_
        refine a_iload_n 2 dX8_findTerms_70 rfl rfl ?_
        obtain ⟨a46, e47, f48, h⟩ := gd_some h
        rw [e47]
        obtain ⟨c49, h⟩ := iz_some h
        refine a_iald f48 (bn_ c49) dX8_findTerms_71 ?_
        refine a_aload_n 0 dX8_findTerms_72 rfl rfl ?_
        refine a_getR kc_8 44 (by decide) rfl hf29 q1598 dX8_findTerms_73 ?_
        refine a_iconst (v := 2) dX8_findTerms_76 (by decide) ?_
        refine a_iload_n 3 dX8_findTerms_77 rfl rfl ?_
        refine a_imul dX8_findTerms_78 ?_
        obtain ⟨a50, e51, f52, h⟩ := gd_some h
        rw [e51]
        obtain ⟨c53, h⟩ := iz_some h
        refine a_iald f52 (bn_ c53) dX8_findTerms_79 ?_
        obtain ⟨v56, m54, e55, h⟩ := bm_some h
        have he55 := e_X8_moreBy (G := G) hl e55
        refine c_I he55.1 (rn_S (n := 2) (As := [vI_ (gI_ m35 a46 p31.toNatClampNeg), vI_ (gI_ m35 a50 (2 * x36).toNatClampNeg)]) he55 (lw_S q2091 q2092 q97 q2093) (by decide +kernel) rfl (Nat.le_of_ble_eq_true rfl) (Nat.le_of_ble_eq_true rfl) (Nat.le_of_ble_eq_true rfl) dX8_findTerms_80) (fun z => (os_aS (As := [vI_ (gI_ m35 a46 p31.toNatClampNeg), vI_ (gI_ m35 a50 (2 * x36).toNatClampNeg)]) z).2) ?_
        refine a_aload_n 0 dX8_findTerms_83 rfl rfl ?_
        refine a_getR kc_8 44 (by decide) rfl hf29 q1598 dX8_findTerms_84 ?_
        refine a_iconst (v := 2) dX8_findTerms_87 (by decide) ?_
        refine a_iload_n 3 dX8_findTerms_88 rfl rfl ?_
        refine a_imul dX8_findTerms_89 ?_
        refine a_iconst (v := 1) dX8_findTerms_90 (by decide) ?_
        refine a_iadd dX8_findTerms_91 ?_
        obtain ⟨a57, e58, f59, h⟩ := gd_some h
        rw [e58]
        obtain ⟨c60, h⟩ := iz_some h
        refine a_iald f59 (bn_ c60) dX8_findTerms_92 ?_
        refine a_icmp_ne (tgt := 100) dX8_findTerms_93 (by decide) (fun c61 => ?_) (fun c61 => ?_)
        · replace h := ifn_ c61 h
          refine a_iconst (v := 0) dX8_findTerms_100 (by decide) ?_
          obtain ⟨c62, h⟩ := iz_some h
          obtain ⟨m63, e64, h⟩ := lt_some h
          refine a_zast f40 (bn_ c62) dX8_findTerms_101 ?_
          rw [← e64]
          refine a_iinc (v := x36 + 1) (ls' := [(3, vI_ (x36 + 1)), (0, vR_ (some p28)), (1, vI_ p30), (2, vI_ p31)]) 3 dX8_findTerms_102 rfl rfl (Nat.le_of_ble_eq_true rfl) rfl ?_
          refine a_goto (tgt := 44) dX8_findTerms_105 (by decide) ?_
          refine aw_pick [1, 2, 3, 0] rfl ?_
          exact ih _ _ h
        · replace h := ifp_ c61 h
          refine a_iconst (v := 1) dX8_findTerms_96 (by decide) ?_
          refine a_goto (tgt := 101) dX8_findTerms_97 (by decide) ?_
          obtain ⟨c65, h⟩ := iz_some h
          obtain ⟨m66, e67, h⟩ := lt_some h
          refine a_zast f40 (bn_ c65) dX8_findTerms_101 ?_
          rw [← e67]
          refine a_iinc (v := x36 + 1) (ls' := [(3, vI_ (x36 + 1)), (0, vR_ (some p28)), (1, vI_ p30), (2, vI_ p31)]) 3 dX8_findTerms_102 rfl rfl (Nat.le_of_ble_eq_true rfl) rfl ?_
          refine a_goto (tgt := 44) dX8_findTerms_105 (by decide) ?_
          refine aw_pick [1, 2, 3, 0] rfl ?_
          exact ih _ _ h
def f_X8_findTerms_L6 (F : Nat)  (p4 : pm_A) (p6 : Int32) : Nat → Int32 → pm_M → Option (Unit × pm_M)
  | 0, _, _ => none
  | n7 + 1, x9, m8 =>
    if 225 ≤ x9 then
      some ((), m8)
    else
      bm_ (f_X8_asksOf F p4 p6 0 ((x9 / 25) + 1) (x9 - x9 / 25 * 25) m8) fun v13 m11 =>
      gd_ 100 (gR_ m8 p4 52) fun a14 =>
      iz_ (!(ib_ x9 a14.2.1)) <|
      lt_ (pI_ m11 a14 x9.toNatClampNeg v13) fun m18 =>
      gd_ 102 (gR_ m18 p4 51) fun a20 =>
      iz_ (!(ib_ x9 a20.2.1)) <|
      lt_ (pI_ m18 a20 x9.toNatClampNeg (vp_nar .boolean 1)) fun m24 =>
      jn_ (fun  (m27 : pm_M) =>
        (f_X8_findTerms_L6 F p4 p6 n7) (x9 + 1) m27
      ) fun k26 =>
      f_X8_findTerms_L44 F p4 p6 x9 k26 F 0 m24
set_option maxHeartbeats 4000000 in
theorem w_X8_findTerms_L6 {G : xg_T} {l : Launch} (hl : l.stackTraces = false) {F : Nat}    (p4 : pm_A) (p6 : Int32) {m0 m' : pm_M} {r : Unit} (hf5 : p4.1 = 8)  : ∀ (n : Nat) (x9 : Int32) (m8 : pm_M), f_X8_findTerms_L6 F p4 p6 n x9 m8 = some (r, m') → AW_ cX8_findTerms RX8 (none, "findTerms", 6, 4, m0, m', (.inl none), G, l, [], true) m8 6 [(0, vR_ (some p4)), (1, vI_ p6), (2, vI_ x9)] [] := by
  intro n
  induction n with
  | zero => intro x9 m8 h; cases h
  | succ n7 ih =>
    intro x9 m8 h
    rw [f_X8_findTerms_L6] at h
    refine a_iload_n 2 dX8_findTerms_6 rfl rfl ?_
    refine a_sipush (v := 225) dX8_findTerms_7 (by decide) ?_
    refine a_icmp_ge (tgt := 114) dX8_findTerms_10 (by decide) (fun c10 => ?_) (fun c10 => ?_)
    · replace h := ifp_ c10 h
      cases h
      exact a_return rfl rfl rfl rfl dX8_findTerms_114
    · replace h := ifn_ c10 h
      refine a_aload_n 0 dX8_findTerms_13 rfl rfl ?_
      refine a_getR kc_8 52 (by decide) rfl hf5 q1606 dX8_findTerms_14 ?_
      refine a_iload_n 2 dX8_findTerms_17 rfl rfl ?_
      refine a_aload_n 0 dX8_findTerms_18 rfl rfl ?_
      refine a_iload_n 1 dX8_findTerms_19 rfl rfl ?_
      refine a_iconst (v := 0) dX8_findTerms_20 (by decide) ?_
      refine a_iload_n 2 dX8_findTerms_21 rfl rfl ?_
      refine a_bipush (v := 25) dX8_findTerms_22 (by decide) ?_
      refine a_idiv dX8_findTerms_24 (by decide) ?_
      refine a_iconst (v := 1) dX8_findTerms_25 (by decide) ?_
      refine a_iadd dX8_findTerms_26 ?_
      refine a_iload_n 2 dX8_findTerms_27 rfl rfl ?_
      refine a_bipush (v := 25) dX8_findTerms_28 (by decide) ?_
      refine a_irem dX8_findTerms_30 (by decide) ?_
      obtain ⟨v13, m11, e12, h⟩ := bm_some h
      have he12 := e_X8_asksOf (G := G) hl hf5 e12
      refine c_I he12.1 (rn_V (n := 4) (As := [vI_ p6, vI_ 0, vI_ ((x9 / 25) + 1), vI_ (x9 - x9 / 25 * 25)]) kc_8 hf5 he12 (lw_V q1936 q1938 qs68 q97 q1939) (by decide +kernel) rfl (Nat.le_of_ble_eq_true rfl) (Nat.le_of_ble_eq_true rfl) (Nat.le_of_ble_eq_true rfl) dX8_findTerms_31) (fun z => (os_av (As := [vI_ p6, vI_ 0, vI_ ((x9 / 25) + 1), vI_ (x9 - x9 / 25 * 25)]) z).2.1) ?_
      obtain ⟨a14, e15, f16, h⟩ := gd_some h
      rw [e15]
      obtain ⟨c17, h⟩ := iz_some h
      obtain ⟨m18, e19, h⟩ := lt_some h
      refine a_iast f16 (bn_ c17) dX8_findTerms_34 ?_
      rw [← e19]
      refine a_aload_n 0 dX8_findTerms_35 rfl rfl ?_
      refine a_getR kc_8 51 (by decide) rfl hf5 q1605 dX8_findTerms_36 ?_
      refine a_iload_n 2 dX8_findTerms_39 rfl rfl ?_
      refine a_iconst (v := 1) dX8_findTerms_40 (by decide) ?_
      obtain ⟨a20, e21, f22, h⟩ := gd_some h
      rw [e21]
      obtain ⟨c23, h⟩ := iz_some h
      obtain ⟨m24, e25, h⟩ := lt_some h
      refine a_zast f22 (bn_ c23) dX8_findTerms_41 ?_
      rw [← e25]
      refine a_iconst (v := 0) dX8_findTerms_42 (by decide) ?_
      refine a_istore_n (ls' := [(3, vI_ 0), (0, vR_ (some p4)), (1, vI_ p6), (2, vI_ x9)]) dX8_findTerms_43 rfl (Nat.le_of_ble_eq_true rfl) rfl ?_
      obtain ⟨k26, e68, h⟩ := jn1_some h
      have hk26 : ∀  (m27 : pm_M), k26 m27 = some (r, m') → AW_ cX8_findTerms RX8 (none, "findTerms", 6, 4, m0, m', (.inl none), G, l, [], true) m27 108 [(0, vR_ (some p4)), (1, vI_ p6), (2, vI_ x9)] [] := by
        intro m27 h
        have h := (e68 m27).symm.trans h
        refine a_iinc (v := x9 + 1) (ls' := [(2, vI_ (x9 + 1)), (0, vR_ (some p4)), (1, vI_ p6)]) 2 dX8_findTerms_108 rfl rfl (Nat.le_of_ble_eq_true rfl) rfl ?_
        refine a_goto (tgt := 6) dX8_findTerms_111 (by decide) ?_
        refine aw_pick [1, 2, 0] rfl ?_
        exact ih _ _ h
      refine aw_pick [1, 2, 3, 0] rfl ?_
      exact w_X8_findTerms_L44 hl _ _ _ _ hf5 hk26 _ _ _ h
def f_X8_findTerms (F : Nat)  (t : pm_A) (i0 : Int32) (m : pm_M) : Option (Unit × pm_M) :=
  bm_ (f_X8_take F t m) fun v3 m1 =>
  f_X8_findTerms_L6 F t i0 F 0 m1
set_option maxHeartbeats 4000000 in
theorem e_X8_findTerms {G : xg_T} {l : Launch} (hl : l.stackTraces = false) {F : Nat}    {t : pm_A} {i0 : Int32} {m0 m' : pm_M} {r : Unit} (ht : t.1 = 8) (h : f_X8_findTerms F t i0 m0 = some (r, m')) : Cal_ G l yX8_findTerms (ws_ yX8_findTerms cX8_findTerms 4 none) 6 [vR_ (some t), vI_ i0] m0 (.inl none) m' := by
  refine cal_of (by decide +kernel) (Nat.le_of_ble_eq_true rfl) ?_
  unfold f_X8_findTerms at h
  show AW_ cX8_findTerms RX8 (none, "findTerms", 6, 4, m0, m', (.inl none), G, l, [], true) m0 0 [(0, vR_ (some t)), (1, vI_ i0)] []
  refine a_aload_n 0 dX8_findTerms_0 rfl rfl ?_
  obtain ⟨v3, m1, e2, h⟩ := bm_some h
  have he2 := e_X8_take (G := G) hl ht e2
  refine c_V he2.1 (rn_V (n := 0) (As := []) kc_8 ht he2 (lw_V q1888 q1890 qs56 q97 q1891) (by decide +kernel) rfl (Nat.le_of_ble_eq_true rfl) (Nat.le_of_ble_eq_true rfl) (Nat.le_of_ble_eq_true rfl) dX8_findTerms_1) (fun z => (os_av (As := []) z).2.1) ?_
  refine a_iconst (v := 0) dX8_findTerms_4 (by decide) ?_
  refine a_istore_n (ls' := [(2, vI_ 0), (0, vR_ (some t)), (1, vI_ i0)]) dX8_findTerms_5 rfl (Nat.le_of_ble_eq_true rfl) rfl ?_
  refine aw_pick [1, 2, 0] rfl ?_
  exact w_X8_findTerms_L6 hl _ _ ht _ _ _ h
def f_X8_terms_L50 (F : Nat)  (p26 : pm_A) (p28 : Int32) (k29 : Int32 → Int32 → Int32 → Int32 → pm_M → Option (Int32 × pm_M)) : Nat → Int32 → Int32 → Int32 → Int32 → Int32 → pm_M → Option (Int32 × pm_M)
  | 0, _, _, _, _, _, _ => none
  | n35 + 1, x37, x38, x39, x40, x41, m36 =>
    if 225 ≤ x41 then
      k29 x37 x38 x39 x40 m36
    else
      gd_ 102 (gR_ m36 p26 51) fun a43 =>
      iz_ (!(ib_ x41 a43.2.1)) <|
      if (gI_ m36 a43 x41.toNatClampNeg) = 0 then
        (f_X8_terms_L50 F p26 p28 k29 n35) x37 x38 x39 x40 (x41 + 1) m36
      else
        jn_ (fun (y50 : Int32) (m49 : pm_M) =>
          jn_ (fun (y53 : Int32) (m52 : pm_M) =>
            gd_ 100 (gR_ m52 p26 52) fun a54 =>
            iz_ (!(ib_ x41 a54.2.1)) <|
            if (gI_ m52 a54 x41.toNatClampNeg) ≤ x40 then
              (f_X8_terms_L50 F p26 p28 k29 n35) (x37 + 1) y50 y53 x40 (x41 + 1) m52
            else
              gd_ 100 (gR_ m52 p26 52) fun a59 =>
              iz_ (!(ib_ x41 a59.2.1)) <|
              (f_X8_terms_L50 F p26 p28 k29 n35) (x37 + 1) y50 y53 (gI_ m52 a59 x41.toNatClampNeg) (x41 + 1) m52
          ) fun k51 =>
          jn_ (fun  (m64 : pm_M) =>
            gd_ 100 (gR_ m64 p26 52) fun a65 =>
            iz_ (!(ib_ x41 a65.2.1)) <|
            k51 (gI_ m64 a65 x41.toNatClampNeg) m64
          ) fun k63 =>
          if x39 = ((-1)) then
            k63 m49
          else
            gd_ 100 (gR_ m49 p26 52) fun a70 =>
            iz_ (!(ib_ x41 a70.2.1)) <|
            if x39 ≤ (gI_ m49 a70 x41.toNatClampNeg) then
              k51 x39 m49
            else
              k63 m49
        ) fun k48 =>
        if x38 = ((-1)) then
          k48 ((100 * ((x41 / 25) + 1)) + (x41 - x41 / 25 * 25)) m36
        else
          k48 x38 m36
set_option maxHeartbeats 4000000 in
theorem w_X8_terms_L50 {G : xg_T} {l : Launch} (hl : l.stackTraces = false) {F : Nat}    (p26 : pm_A) (p28 : Int32) (k29 : Int32 → Int32 → Int32 → Int32 → pm_M → Option (Int32 × pm_M)) {m0 m' : pm_M} {r : Int32} (hf27 : p26.1 = 8) (hk29 : ∀ (x30 : Int32) (x31 : Int32) (x32 : Int32) (x33 : Int32) (m34 : pm_M), k29 x30 x31 x32 x33 m34 = some (r, m') → AW_ cX8_terms RX8 (some (.int), "terms", 7, 8, m0, m', (.inl (some (vI_ r))), G, l, [], true) m34 167 [(2, vI_ p28), (3, vI_ x30), (4, vI_ x31), (5, vI_ x32), (6, vI_ x33)] []) : ∀ (n : Nat) (x37 : Int32) (x38 : Int32) (x39 : Int32) (x40 : Int32) (x41 : Int32) (m36 : pm_M), f_X8_terms_L50 F p26 p28 k29 n x37 x38 x39 x40 x41 m36 = some (r, m') → AW_ cX8_terms RX8 (some (.int), "terms", 7, 8, m0, m', (.inl (some (vI_ r))), G, l, [], true) m36 50 [(0, vR_ (some p26)), (2, vI_ p28), (3, vI_ x37), (4, vI_ x38), (5, vI_ x39), (6, vI_ x40), (7, vI_ x41)] [] := by
  intro n
  induction n with
  | zero => intro x37 x38 x39 x40 x41 m36 h; cases h
  | succ n35 ih =>
    intro x37 x38 x39 x40 x41 m36 h
    rw [f_X8_terms_L50] at h
    refine a_iload 6 dX8_terms_50 rfl ?_
    refine a_sipush (v := 225) dX8_terms_52 (by decide) ?_
    refine a_icmp_ge (tgt := 167) dX8_terms_55 (by decide) (fun c42 => ?_) (fun c42 => ?_)
    · replace h := ifp_ c42 h
      refine aw_pick [1, 2, 3, 4, 5] rfl ?_
      exact hk29 _ _ _ _ _ h
    · replace h := ifn_ c42 h
      refine a_aload_n 0 dX8_terms_58 rfl rfl ?_
      refine a_getR kc_8 51 (by decide) rfl hf27 q1605 dX8_terms_59 ?_
      refine a_iload 6 dX8_terms_62 rfl ?_
      obtain ⟨a43, e44, f45, h⟩ := gd_some h
      rw [e44]
      obtain ⟨c46, h⟩ := iz_some h
      refine a_zald f45 (bn_ c46) dX8_terms_64 ?_
      refine a_if_ne (tgt := 71) dX8_terms_65 (by decide) (fun c47 => ?_) (fun c47 => ?_)
      · replace h := ifn_ c47 h
        refine a_iinc (v := x37 + 1) (ls' := [(3, vI_ (x37 + 1)), (0, vR_ (some p26)), (2, vI_ p28), (4, vI_ x38), (5, vI_ x39), (6, vI_ x40), (7, vI_ x41)]) 2 dX8_terms_71 rfl rfl (Nat.le_of_ble_eq_true rfl) rfl ?_
        refine a_iload 3 dX8_terms_74 rfl ?_
        refine a_iconst (v := (-1)) dX8_terms_76 (by decide) ?_
        obtain ⟨k48, e78, h⟩ := jn2_some h
        have hk48 : ∀ (y50 : Int32) (m49 : pm_M), k48 y50 m49 = some (r, m') → AW_ cX8_terms RX8 (some (.int), "terms", 7, 8, m0, m', (.inl (some (vI_ r))), G, l, [], true) m49 101 [(0, vR_ (some p26)), (2, vI_ p28), (3, vI_ (x37 + 1)), (5, vI_ x39), (6, vI_ x40), (7, vI_ x41)] [vI_ y50] := by
          intro y50 m49 h
          have h := (e78 y50 m49).symm.trans h
          refine a_istore (ls' := [(4, vI_ y50), (0, vR_ (some p26)), (2, vI_ p28), (3, vI_ (x37 + 1)), (5, vI_ x39), (6, vI_ x40), (7, vI_ x41)]) dX8_terms_101 (Nat.le_of_ble_eq_true rfl) rfl ?_
          refine a_iload 4 dX8_terms_103 rfl ?_
          refine a_iconst (v := (-1)) dX8_terms_105 (by decide) ?_
          obtain ⟨k51, e76, h⟩ := jn2_some h
          have hk51 : ∀ (y53 : Int32) (m52 : pm_M), k51 y53 m52 = some (r, m') → AW_ cX8_terms RX8 (some (.int), "terms", 7, 8, m0, m', (.inl (some (vI_ r))), G, l, [], true) m52 133 [(0, vR_ (some p26)), (2, vI_ p28), (3, vI_ (x37 + 1)), (4, vI_ y50), (6, vI_ x40), (7, vI_ x41)] [vI_ y53] := by
            intro y53 m52 h
            have h := (e76 y53 m52).symm.trans h
            refine a_istore (ls' := [(5, vI_ y53), (0, vR_ (some p26)), (2, vI_ p28), (3, vI_ (x37 + 1)), (4, vI_ y50), (6, vI_ x40), (7, vI_ x41)]) dX8_terms_133 (Nat.le_of_ble_eq_true rfl) rfl ?_
            refine a_aload_n 1 dX8_terms_135 rfl rfl ?_
            refine a_getR kc_8 52 (by decide) rfl hf27 q1606 dX8_terms_136 ?_
            refine a_iload 6 dX8_terms_139 rfl ?_
            obtain ⟨a54, e55, f56, h⟩ := gd_some h
            rw [e55]
            obtain ⟨c57, h⟩ := iz_some h
            refine a_iald f56 (bn_ c57) dX8_terms_141 ?_
            refine a_iload 5 dX8_terms_142 rfl ?_
            refine a_icmp_le (tgt := 157) dX8_terms_144 (by decide) (fun c58 => ?_) (fun c58 => ?_)
            · replace h := ifp_ c58 h
              refine a_iload 5 dX8_terms_157 rfl ?_
              refine a_istore (ls' := [(6, vI_ x40), (5, vI_ y53), (0, vR_ (some p26)), (2, vI_ p28), (3, vI_ (x37 + 1)), (4, vI_ y50), (7, vI_ x41)]) dX8_terms_159 (Nat.le_of_ble_eq_true rfl) rfl ?_
              refine a_iinc (v := x41 + 1) (ls' := [(7, vI_ (x41 + 1)), (6, vI_ x40), (5, vI_ y53), (0, vR_ (some p26)), (2, vI_ p28), (3, vI_ (x37 + 1)), (4, vI_ y50)]) 6 dX8_terms_161 rfl rfl (Nat.le_of_ble_eq_true rfl) rfl ?_
              refine a_goto (tgt := 50) dX8_terms_164 (by decide) ?_
              refine aw_pick [3, 4, 5, 6, 2, 1, 0] rfl ?_
              exact ih _ _ _ _ _ _ h
            · replace h := ifn_ c58 h
              refine a_aload_n 1 dX8_terms_147 rfl rfl ?_
              refine a_getR kc_8 52 (by decide) rfl hf27 q1606 dX8_terms_148 ?_
              refine a_iload 6 dX8_terms_151 rfl ?_
              obtain ⟨a59, e60, f61, h⟩ := gd_some h
              rw [e60]
              obtain ⟨c62, h⟩ := iz_some h
              refine a_iald f61 (bn_ c62) dX8_terms_153 ?_
              refine a_goto (tgt := 159) dX8_terms_154 (by decide) ?_
              refine a_istore (ls' := [(6, vI_ (gI_ m52 a59 x41.toNatClampNeg)), (5, vI_ y53), (0, vR_ (some p26)), (2, vI_ p28), (3, vI_ (x37 + 1)), (4, vI_ y50), (7, vI_ x41)]) dX8_terms_159 (Nat.le_of_ble_eq_true rfl) rfl ?_
              refine a_iinc (v := x41 + 1) (ls' := [(7, vI_ (x41 + 1)), (6, vI_ (gI_ m52 a59 x41.toNatClampNeg)), (5, vI_ y53), (0, vR_ (some p26)), (2, vI_ p28), (3, vI_ (x37 + 1)), (4, vI_ y50)]) 6 dX8_terms_161 rfl rfl (Nat.le_of_ble_eq_true rfl) rfl ?_
              refine a_goto (tgt := 50) dX8_terms_164 (by decide) ?_
              refine aw_pick [3, 4, 5, 6, 2, 1, 0] rfl ?_
              exact ih _ _ _ _ _ _ h
          obtain ⟨k63, e75, h⟩ := jn1_some h
          have hk63 : ∀  (m64 : pm_M), k63 m64 = some (r, m') → AW_ cX8_terms RX8 (some (.int), "terms", 7, 8, m0, m', (.inl (some (vI_ r))), G, l, [], true) m64 121 [(0, vR_ (some p26)), (2, vI_ p28), (3, vI_ (x37 + 1)), (4, vI_ y50), (6, vI_ x40), (7, vI_ x41)] [] := by
            intro m64 h
            have h := (e75 m64).symm.trans h
            refine a_aload_n 0 dX8_terms_121 rfl rfl ?_
            refine a_getR kc_8 52 (by decide) rfl hf27 q1606 dX8_terms_122 ?_
            refine a_iload 5 dX8_terms_125 rfl ?_
            obtain ⟨a65, e66, f67, h⟩ := gd_some h
            rw [e66]
            obtain ⟨c68, h⟩ := iz_some h
            refine a_iald f67 (bn_ c68) dX8_terms_127 ?_
            refine a_goto (tgt := 133) dX8_terms_128 (by decide) ?_
            exact hk51 _ _ h
          refine a_icmp_eq (tgt := 121) dX8_terms_106 (by decide) (fun c69 => ?_) (fun c69 => ?_)
          · replace h := ifp_ c69 h
            refine aw_pick [1, 2, 3, 0, 5, 6] rfl ?_
            exact hk63 _ h
          · replace h := ifn_ c69 h
            refine a_aload_n 1 dX8_terms_109 rfl rfl ?_
            refine a_getR kc_8 52 (by decide) rfl hf27 q1606 dX8_terms_110 ?_
            refine a_iload 6 dX8_terms_113 rfl ?_
            obtain ⟨a70, e71, f72, h⟩ := gd_some h
            rw [e71]
            obtain ⟨c73, h⟩ := iz_some h
            refine a_iald f72 (bn_ c73) dX8_terms_115 ?_
            refine a_iload 4 dX8_terms_116 rfl ?_
            refine a_icmp_ge (tgt := 131) dX8_terms_118 (by decide) (fun c74 => ?_) (fun c74 => ?_)
            · replace h := ifp_ c74 h
              refine a_iload 4 dX8_terms_131 rfl ?_
              refine aw_pick [1, 2, 3, 0, 5, 6] rfl ?_
              exact hk51 _ _ h
            · replace h := ifn_ c74 h
              refine aw_pick [1, 2, 3, 0, 5, 6] rfl ?_
              exact hk63 _ h
        refine a_icmp_ne (tgt := 99) dX8_terms_77 (by decide) (fun c77 => ?_) (fun c77 => ?_)
        · replace h := ifn_ c77 h
          refine a_iload 3 dX8_terms_99 rfl ?_
          refine aw_pick [1, 2, 0, 4, 5, 6] rfl ?_
          exact hk48 _ _ h
        · replace h := ifp_ c77 h
          refine a_bipush (v := 100) dX8_terms_80 (by decide) ?_
          refine a_iload 6 dX8_terms_82 rfl ?_
          refine a_bipush (v := 25) dX8_terms_84 (by decide) ?_
          refine a_idiv dX8_terms_86 (by decide) ?_
          refine a_iconst (v := 1) dX8_terms_87 (by decide) ?_
          refine a_iadd dX8_terms_88 ?_
          refine a_imul dX8_terms_89 ?_
          refine a_iload 6 dX8_terms_90 rfl ?_
          refine a_bipush (v := 25) dX8_terms_92 (by decide) ?_
          refine a_irem dX8_terms_94 (by decide) ?_
          refine a_iadd dX8_terms_95 ?_
          refine a_goto (tgt := 101) dX8_terms_96 (by decide) ?_
          refine aw_pick [1, 2, 0, 4, 5, 6] rfl ?_
          exact hk48 _ _ h
      · replace h := ifp_ c47 h
        refine a_goto (tgt := 161) dX8_terms_68 (by decide) ?_
        refine a_iinc (v := x41 + 1) (ls' := [(7, vI_ (x41 + 1)), (0, vR_ (some p26)), (2, vI_ p28), (3, vI_ x37), (4, vI_ x38), (5, vI_ x39), (6, vI_ x40)]) 6 dX8_terms_161 rfl rfl (Nat.le_of_ble_eq_true rfl) rfl ?_
        refine a_goto (tgt := 50) dX8_terms_164 (by decide) ?_
        refine aw_pick [1, 2, 3, 4, 5, 6, 0] rfl ?_
        exact ih _ _ _ _ _ _ h
def f_X8_terms (F : Nat)  (t : pm_A) (i0 : Int32) (i1 : Int32) (m : pm_M) : Option (Int32 × pm_M) :=
  lt_ (pI_ m t 0 0) fun m1 =>
  bm_ (f_X8_isSigner F t i0 1 m1) fun v5 m3 =>
  if v5 = 0 then
    some (0, m3)
  else
    bm_ (f_X8_within F i1 0 3 m3) fun v9 m7 =>
    bm_ (f_X8_may F t v9 2 1 m7) fun v12 m10 =>
    if v12 = 0 then
      some (0, m10)
    else
      bm_ (f_X8_findTerms F t i0 m10) fun v16 m14 =>
      jn_ (fun (x19 : Int32) (x20 : Int32) (x21 : Int32) (x22 : Int32) (m18 : pm_M) =>
        if i1 = 0 then
          some (x19, m18)
        else
          if i1 = 1 then
            some (x20, m18)
          else
            if i1 = 2 then
              some (x21, m18)
            else
              some (x22, m18)
      ) fun k17 =>
      f_X8_terms_L50 F t i1 k17 F 0 ((-1)) ((-1)) ((-1)) 0 m14
set_option maxHeartbeats 4000000 in
theorem e_X8_terms {G : xg_T} {l : Launch} (hl : l.stackTraces = false) {F : Nat}    {t : pm_A} {i0 : Int32} {i1 : Int32} {m0 m' : pm_M} {r : Int32} (ht : t.1 = 8) (h : f_X8_terms F t i0 i1 m0 = some (r, m')) : Cal_ G l yX8_terms (ws_ yX8_terms cX8_terms 8 (some .int)) 7 [vR_ (some t), vI_ i0, vI_ i1] m0 (.inl (some (vI_ r))) m' := by
  refine cal_of (by decide +kernel) (Nat.le_of_ble_eq_true rfl) ?_
  unfold f_X8_terms at h
  show AW_ cX8_terms RX8 (some (.int), "terms", 7, 8, m0, m', (.inl (some (vI_ r))), G, l, [], true) m0 0 [(0, vR_ (some t)), (1, vI_ i0), (2, vI_ i1)] []
  refine a_aload_n 0 dX8_terms_0 rfl rfl ?_
  refine a_iconst (v := 0) dX8_terms_1 (by decide) ?_
  obtain ⟨m1, e2, h⟩ := lt_some h
  refine a_putI kc_8 0 (by decide) rfl ht q1554 rfl rfl rfl dX8_terms_2 ?_
  rw [← e2]
  refine a_aload_n 0 dX8_terms_5 rfl rfl ?_
  refine a_iload_n 1 dX8_terms_6 rfl rfl ?_
  refine a_iconst (v := 1) dX8_terms_7 (by decide) ?_
  obtain ⟨v5, m3, e4, h⟩ := bm_some h
  have he4 := e_X8_isSigner (G := G) hl ht e4
  refine c_I he4.1 (rn_V (n := 2) (As := [vI_ i0, vI_ 1]) kc_8 ht he4 (lw_V q1983 q1985 qs75 q97 q1986) (by decide +kernel) rfl (Nat.le_of_ble_eq_true rfl) (Nat.le_of_ble_eq_true rfl) (Nat.le_of_ble_eq_true rfl) dX8_terms_8) (fun z => (os_av (As := [vI_ i0, vI_ 1]) z).2.1) ?_
  refine a_if_eq (tgt := 29) dX8_terms_11 (by decide) (fun c6 => ?_) (fun c6 => ?_)
  · replace h := ifp_ c6 h
    refine a_iconst (v := 0) dX8_terms_29 (by decide) ?_
    cases h
    exact a_ireturn rfl rfl rfl rfl rfl dX8_terms_30
  · replace h := ifn_ c6 h
    refine a_aload_n 0 dX8_terms_14 rfl rfl ?_
    refine a_iload_n 2 dX8_terms_15 rfl rfl ?_
    refine a_iconst (v := 0) dX8_terms_16 (by decide) ?_
    refine a_iconst (v := 3) dX8_terms_17 (by decide) ?_
    obtain ⟨v9, m7, e8, h⟩ := bm_some h
    have he8 := e_X8_within (G := G) hl e8
    refine c_I he8.1 (rn_S (n := 3) (As := [vI_ i1, vI_ 0, vI_ 3]) he8 (lw_S q1823 q1824 q97 q1825) (by decide +kernel) rfl (Nat.le_of_ble_eq_true rfl) (Nat.le_of_ble_eq_true rfl) (Nat.le_of_ble_eq_true rfl) dX8_terms_18) (fun z => (os_aS (As := [vI_ i1, vI_ 0, vI_ 3]) z).2) ?_
    refine a_iconst (v := 2) dX8_terms_21 (by decide) ?_
    refine a_iconst (v := 1) dX8_terms_22 (by decide) ?_
    obtain ⟨v12, m10, e11, h⟩ := bm_some h
    have he11 := e_X8_may (G := G) hl ht e11
    refine c_I he11.1 (rn_V (n := 3) (As := [vI_ v9, vI_ 2, vI_ 1]) kc_8 ht he11 (lw_V q1744 q1746 qs32 q97 q1747) (by decide +kernel) rfl (Nat.le_of_ble_eq_true rfl) (Nat.le_of_ble_eq_true rfl) (Nat.le_of_ble_eq_true rfl) dX8_terms_23) (fun z => (os_av (As := [vI_ v9, vI_ 2, vI_ 1]) z).2.1) ?_
    refine a_if_ne (tgt := 31) dX8_terms_26 (by decide) (fun c13 => ?_) (fun c13 => ?_)
    · replace h := ifn_ c13 h
      refine a_aload_n 0 dX8_terms_31 rfl rfl ?_
      refine a_iload_n 1 dX8_terms_32 rfl rfl ?_
      obtain ⟨v16, m14, e15, h⟩ := bm_some h
      have he15 := e_X8_findTerms (G := G) hl ht e15
      refine c_V he15.1 (rn_V (n := 1) (As := [vI_ i0]) kc_8 ht he15 (lw_V q2087 q2089 qs82 q97 q2090) (by decide +kernel) rfl (Nat.le_of_ble_eq_true rfl) (Nat.le_of_ble_eq_true rfl) (Nat.le_of_ble_eq_true rfl) dX8_terms_33) (fun z => (os_av (As := [vI_ i0]) z).2.1) ?_
      refine a_iconst (v := 0) dX8_terms_36 (by decide) ?_
      refine a_istore_n (ls' := [(3, vI_ 0), (0, vR_ (some t)), (1, vI_ i0), (2, vI_ i1)]) dX8_terms_37 rfl (Nat.le_of_ble_eq_true rfl) rfl ?_
      refine a_iconst (v := (-1)) dX8_terms_38 (by decide) ?_
      refine a_istore (ls' := [(4, vI_ ((-1))), (3, vI_ 0), (0, vR_ (some t)), (1, vI_ i0), (2, vI_ i1)]) dX8_terms_39 (Nat.le_of_ble_eq_true rfl) rfl ?_
      refine a_iconst (v := (-1)) dX8_terms_41 (by decide) ?_
      refine a_istore (ls' := [(5, vI_ ((-1))), (4, vI_ ((-1))), (3, vI_ 0), (0, vR_ (some t)), (1, vI_ i0), (2, vI_ i1)]) dX8_terms_42 (Nat.le_of_ble_eq_true rfl) rfl ?_
      refine a_iconst (v := (-1)) dX8_terms_44 (by decide) ?_
      refine a_istore (ls' := [(6, vI_ ((-1))), (5, vI_ ((-1))), (4, vI_ ((-1))), (3, vI_ 0), (0, vR_ (some t)), (1, vI_ i0), (2, vI_ i1)]) dX8_terms_45 (Nat.le_of_ble_eq_true rfl) rfl ?_
      refine a_iconst (v := 0) dX8_terms_47 (by decide) ?_
      refine a_istore (ls' := [(7, vI_ 0), (6, vI_ ((-1))), (5, vI_ ((-1))), (4, vI_ ((-1))), (3, vI_ 0), (0, vR_ (some t)), (1, vI_ i0), (2, vI_ i1)]) dX8_terms_48 (Nat.le_of_ble_eq_true rfl) rfl ?_
      obtain ⟨k17, e79, h⟩ := jn5_some h
      have hk17 : ∀ (x19 : Int32) (x20 : Int32) (x21 : Int32) (x22 : Int32) (m18 : pm_M), k17 x19 x20 x21 x22 m18 = some (r, m') → AW_ cX8_terms RX8 (some (.int), "terms", 7, 8, m0, m', (.inl (some (vI_ r))), G, l, [], true) m18 167 [(2, vI_ i1), (3, vI_ x19), (4, vI_ x20), (5, vI_ x21), (6, vI_ x22)] [] := by
        intro x19 x20 x21 x22 m18 h
        have h := (e79 x19 x20 x21 x22 m18).symm.trans h
        refine a_iload_n 0 dX8_terms_167 rfl rfl ?_
        refine a_if_ne (tgt := 175) dX8_terms_168 (by decide) (fun c23 => ?_) (fun c23 => ?_)
        · replace h := ifn_ c23 h
          refine a_iload_n 0 dX8_terms_175 rfl rfl ?_
          refine a_iconst (v := 1) dX8_terms_176 (by decide) ?_
          refine a_icmp_ne (tgt := 185) dX8_terms_177 (by decide) (fun c24 => ?_) (fun c24 => ?_)
          · replace h := ifn_ c24 h
            refine a_iload_n 0 dX8_terms_185 rfl rfl ?_
            refine a_iconst (v := 2) dX8_terms_186 (by decide) ?_
            refine a_icmp_ne (tgt := 195) dX8_terms_187 (by decide) (fun c25 => ?_) (fun c25 => ?_)
            · replace h := ifn_ c25 h
              refine a_iload 4 dX8_terms_195 rfl ?_
              cases h
              exact a_ireturn rfl rfl rfl rfl rfl dX8_terms_197
            · replace h := ifp_ c25 h
              refine a_iload 3 dX8_terms_190 rfl ?_
              refine a_goto (tgt := 197) dX8_terms_192 (by decide) ?_
              cases h
              exact a_ireturn rfl rfl rfl rfl rfl dX8_terms_197
          · replace h := ifp_ c24 h
            refine a_iload 2 dX8_terms_180 rfl ?_
            refine a_goto (tgt := 197) dX8_terms_182 (by decide) ?_
            cases h
            exact a_ireturn rfl rfl rfl rfl rfl dX8_terms_197
        · replace h := ifp_ c23 h
          refine a_iload_n 1 dX8_terms_171 rfl rfl ?_
          refine a_goto (tgt := 197) dX8_terms_172 (by decide) ?_
          cases h
          exact a_ireturn rfl rfl rfl rfl rfl dX8_terms_197
      refine aw_pick [5, 7, 4, 3, 2, 1, 0] rfl ?_
      exact w_X8_terms_L50 hl _ _ _ ht hk17 _ _ _ _ _ _ _ h
    · replace h := ifp_ c13 h
      refine a_iconst (v := 0) dX8_terms_29 (by decide) ?_
      cases h
      exact a_ireturn rfl rfl rfl rfl rfl dX8_terms_30
def f_X8_isTold_L2 (F : Nat)  (p1 : pm_A) (p3 : Int32) : Nat → Int32 → pm_M → Option (Int32 × pm_M)
  | 0, _, _ => none
  | n4 + 1, x6, m5 =>
    if (gI_ m5 p1 45) ≤ x6 then
      some (0, m5)
    else
      gd_ 100 (gR_ m5 p1 44) fun a8 =>
      iz_ (!(ib_ (2 * x6) a8.2.1)) <|
      if (gI_ m5 a8 (2 * x6).toNatClampNeg) = p3 then
        some (1, m5)
      else
        (f_X8_isTold_L2 F p1 p3 n4) (x6 + 1) m5
set_option maxHeartbeats 4000000 in
theorem w_X8_isTold_L2 {G : xg_T} {l : Launch} (hl : l.stackTraces = false) {F : Nat}    (p1 : pm_A) (p3 : Int32) {m0 m' : pm_M} {r : Int32} (hf2 : p1.1 = 8)  : ∀ (n : Nat) (x6 : Int32) (m5 : pm_M), f_X8_isTold_L2 F p1 p3 n x6 m5 = some (r, m') → AW_ cX8_isTold RX8 (some (.boolean), "isTold", 2, 3, m0, m', (.inl (some (vI_ r))), G, l, [], true) m5 2 [(0, vR_ (some p1)), (1, vI_ p3), (2, vI_ x6)] [] := by
  intro n
  induction n with
  | zero => intro x6 m5 h; cases h
  | succ n4 ih =>
    intro x6 m5 h
    rw [f_X8_isTold_L2] at h
    refine a_iload_n 2 dX8_isTold_2 rfl rfl ?_
    refine a_aload_n 0 dX8_isTold_3 rfl rfl ?_
    refine a_getI kc_8 45 (by decide) rfl hf2 q1599 dX8_isTold_4 ?_
    refine a_icmp_ge (tgt := 30) dX8_isTold_7 (by decide) (fun c7 => ?_) (fun c7 => ?_)
    · replace h := ifp_ c7 h
      refine a_iconst (v := 0) dX8_isTold_30 (by decide) ?_
      cases h
      exact a_ireturn rfl rfl rfl rfl rfl dX8_isTold_31
    · replace h := ifn_ c7 h
      refine a_aload_n 0 dX8_isTold_10 rfl rfl ?_
      refine a_getR kc_8 44 (by decide) rfl hf2 q1598 dX8_isTold_11 ?_
      refine a_iconst (v := 2) dX8_isTold_14 (by decide) ?_
      refine a_iload_n 2 dX8_isTold_15 rfl rfl ?_
      refine a_imul dX8_isTold_16 ?_
      obtain ⟨a8, e9, f10, h⟩ := gd_some h
      rw [e9]
      obtain ⟨c11, h⟩ := iz_some h
      refine a_iald f10 (bn_ c11) dX8_isTold_17 ?_
      refine a_iload_n 1 dX8_isTold_18 rfl rfl ?_
      refine a_icmp_ne (tgt := 24) dX8_isTold_19 (by decide) (fun c12 => ?_) (fun c12 => ?_)
      · replace h := ifn_ c12 h
        refine a_iinc (v := x6 + 1) (ls' := [(2, vI_ (x6 + 1)), (0, vR_ (some p1)), (1, vI_ p3)]) 2 dX8_isTold_24 rfl rfl (Nat.le_of_ble_eq_true rfl) rfl ?_
        refine a_goto (tgt := 2) dX8_isTold_27 (by decide) ?_
        refine aw_pick [1, 2, 0] rfl ?_
        exact ih _ _ h
      · replace h := ifp_ c12 h
        refine a_iconst (v := 1) dX8_isTold_22 (by decide) ?_
        cases h
        exact a_ireturn rfl rfl rfl rfl rfl dX8_isTold_23
def f_X8_isTold (F : Nat)  (t : pm_A) (i0 : Int32) (m : pm_M) : Option (Int32 × pm_M) :=
  f_X8_isTold_L2 F t i0 F 0 m
set_option maxHeartbeats 4000000 in
theorem e_X8_isTold {G : xg_T} {l : Launch} (hl : l.stackTraces = false) {F : Nat}    {t : pm_A} {i0 : Int32} {m0 m' : pm_M} {r : Int32} (ht : t.1 = 8) (h : f_X8_isTold F t i0 m0 = some (r, m')) : Cal_ G l yX8_isTold (ws_ yX8_isTold cX8_isTold 3 (some .boolean)) 2 [vR_ (some t), vI_ i0] m0 (.inl (some (vI_ r))) m' := by
  refine cal_of (by decide +kernel) (Nat.le_of_ble_eq_true rfl) ?_
  unfold f_X8_isTold at h
  show AW_ cX8_isTold RX8 (some (.boolean), "isTold", 2, 3, m0, m', (.inl (some (vI_ r))), G, l, [], true) m0 0 [(0, vR_ (some t)), (1, vI_ i0)] []
  refine a_iconst (v := 0) dX8_isTold_0 (by decide) ?_
  refine a_istore_n (ls' := [(2, vI_ 0), (0, vR_ (some t)), (1, vI_ i0)]) dX8_isTold_1 rfl (Nat.le_of_ble_eq_true rfl) rfl ?_
  refine aw_pick [1, 2, 0] rfl ?_
  exact w_X8_isTold_L2 hl _ _ ht _ _ _ h
def f_X8_worstAt_L26 (F : Nat)  (p3 : pm_A) (p5 : Int32) : Nat → Int32 → Int32 → pm_M → Option (Int32 × pm_M)
  | 0, _, _, _ => none
  | n6 + 1, x8, x9, m7 =>
    if 225 ≤ x9 then
      some (x8, m7)
    else
      gd_ 102 (gR_ m7 p3 51) fun a11 =>
      iz_ (!(ib_ x9 a11.2.1)) <|
      if (gI_ m7 a11 x9.toNatClampNeg) = 0 then
        (f_X8_worstAt_L26 F p3 p5 n6) x8 (x9 + 1) m7
      else
        gd_ 100 (gR_ m7 p3 52) fun a16 =>
        iz_ (!(ib_ x9 a16.2.1)) <|
        bm_ (f_X8_moreBy F (gI_ m7 a16 x9.toNatClampNeg) p5 m7) fun v22 m20 =>
        gd_ 100 (gR_ m20 p3 53) fun a23 =>
        iz_ (!(ib_ v22 a23.2.1)) <|
        iz_ (!(ib_ v22 a23.2.1)) <|
        lt_ (pI_ m20 a23 v22.toNatClampNeg ((gI_ m20 a23 v22.toNatClampNeg) + 1)) fun m28 =>
        gd_ 100 (gR_ m28 p3 53) fun a30 =>
        iz_ (!(ib_ v22 a30.2.1)) <|
        if (gI_ m28 a30 v22.toNatClampNeg) ≤ x8 then
          (f_X8_worstAt_L26 F p3 p5 n6) x8 (x9 + 1) m28
        else
          gd_ 100 (gR_ m28 p3 53) fun a35 =>
          iz_ (!(ib_ v22 a35.2.1)) <|
          (f_X8_worstAt_L26 F p3 p5 n6) (gI_ m28 a35 v22.toNatClampNeg) (x9 + 1) m28
set_option maxHeartbeats 4000000 in
theorem w_X8_worstAt_L26 {G : xg_T} {l : Launch} (hl : l.stackTraces = false) {F : Nat}    (p3 : pm_A) (p5 : Int32) {m0 m' : pm_M} {r : Int32} (hf4 : p3.1 = 8)  : ∀ (n : Nat) (x8 : Int32) (x9 : Int32) (m7 : pm_M), f_X8_worstAt_L26 F p3 p5 n x8 x9 m7 = some (r, m') → AW_ cX8_worstAt RX8 (some (.int), "worstAt", 3, 5, m0, m', (.inl (some (vI_ r))), G, l, [], true) m7 26 [(0, vR_ (some p3)), (1, vI_ p5), (2, vI_ x8), (3, vI_ x9)] [] := by
  intro n
  induction n with
  | zero => intro x8 x9 m7 h; cases h
  | succ n6 ih =>
    intro x8 x9 m7 h
    rw [f_X8_worstAt_L26] at h
    refine a_iload_n 3 dX8_worstAt_26 rfl rfl ?_
    refine a_sipush (v := 225) dX8_worstAt_27 (by decide) ?_
    refine a_icmp_ge (tgt := 97) dX8_worstAt_30 (by decide) (fun c10 => ?_) (fun c10 => ?_)
    · replace h := ifp_ c10 h
      refine a_iload_n 2 dX8_worstAt_97 rfl rfl ?_
      cases h
      exact a_ireturn rfl rfl rfl rfl rfl dX8_worstAt_98
    · replace h := ifn_ c10 h
      refine a_aload_n 0 dX8_worstAt_33 rfl rfl ?_
      refine a_getR kc_8 51 (by decide) rfl hf4 q1605 dX8_worstAt_34 ?_
      refine a_iload_n 3 dX8_worstAt_37 rfl rfl ?_
      obtain ⟨a11, e12, f13, h⟩ := gd_some h
      rw [e12]
      obtain ⟨c14, h⟩ := iz_some h
      refine a_zald f13 (bn_ c14) dX8_worstAt_38 ?_
      refine a_if_ne (tgt := 45) dX8_worstAt_39 (by decide) (fun c15 => ?_) (fun c15 => ?_)
      · replace h := ifn_ c15 h
        refine a_aload_n 0 dX8_worstAt_45 rfl rfl ?_
        refine a_getR kc_8 52 (by decide) rfl hf4 q1606 dX8_worstAt_46 ?_
        refine a_iload_n 3 dX8_worstAt_49 rfl rfl ?_
        obtain ⟨a16, e17, f18, h⟩ := gd_some h
        rw [e17]
        obtain ⟨c19, h⟩ := iz_some h
        refine a_iald f18 (bn_ c19) dX8_worstAt_50 ?_
        refine a_iload_n 1 dX8_worstAt_51 rfl rfl ?_
        obtain ⟨v22, m20, e21, h⟩ := bm_some h
        have he21 := e_X8_moreBy (G := G) hl e21
        refine c_I he21.1 (rn_S (n := 2) (As := [vI_ (gI_ m7 a16 x9.toNatClampNeg), vI_ p5]) he21 (lw_S q2091 q2092 q97 q2093) (by decide +kernel) rfl (Nat.le_of_ble_eq_true rfl) (Nat.le_of_ble_eq_true rfl) (Nat.le_of_ble_eq_true rfl) dX8_worstAt_52) (fun z => (os_aS (As := [vI_ (gI_ m7 a16 x9.toNatClampNeg), vI_ p5]) z).2) ?_
        refine a_istore (ls' := [(4, vI_ v22), (0, vR_ (some p3)), (1, vI_ p5), (2, vI_ x8), (3, vI_ x9)]) dX8_worstAt_55 (Nat.le_of_ble_eq_true rfl) rfl ?_
        refine a_aload_n 1 dX8_worstAt_57 rfl rfl ?_
        refine a_getR kc_8 53 (by decide) rfl hf4 q1607 dX8_worstAt_58 ?_
        refine a_iload 0 dX8_worstAt_61 rfl ?_
        refine a_dup2 dX8_worstAt_63 rfl rfl ?_
        obtain ⟨a23, e24, f25, h⟩ := gd_some h
        rw [e24]
        obtain ⟨c26, h⟩ := iz_some h
        refine a_iald f25 (bn_ c26) dX8_worstAt_64 ?_
        refine a_iconst (v := 1) dX8_worstAt_65 (by decide) ?_
        refine a_iadd dX8_worstAt_66 ?_
        obtain ⟨c27, h⟩ := iz_some h
        obtain ⟨m28, e29, h⟩ := lt_some h
        refine a_iast f25 (bn_ c27) dX8_worstAt_67 ?_
        rw [← e29]
        refine a_aload_n 1 dX8_worstAt_68 rfl rfl ?_
        refine a_getR kc_8 53 (by decide) rfl hf4 q1607 dX8_worstAt_69 ?_
        refine a_iload 0 dX8_worstAt_72 rfl ?_
        obtain ⟨a30, e31, f32, h⟩ := gd_some h
        rw [e31]
        obtain ⟨c33, h⟩ := iz_some h
        refine a_iald f32 (bn_ c33) dX8_worstAt_74 ?_
        refine a_iload_n 3 dX8_worstAt_75 rfl rfl ?_
        refine a_icmp_le (tgt := 89) dX8_worstAt_76 (by decide) (fun c34 => ?_) (fun c34 => ?_)
        · replace h := ifp_ c34 h
          refine a_iload_n 3 dX8_worstAt_89 rfl rfl ?_
          refine a_istore_n (ls' := [(2, vI_ x8), (4, vI_ v22), (0, vR_ (some p3)), (1, vI_ p5), (3, vI_ x9)]) dX8_worstAt_90 rfl (Nat.le_of_ble_eq_true rfl) rfl ?_
          refine a_iinc (v := x9 + 1) (ls' := [(3, vI_ (x9 + 1)), (2, vI_ x8), (4, vI_ v22), (0, vR_ (some p3)), (1, vI_ p5)]) 4 dX8_worstAt_91 rfl rfl (Nat.le_of_ble_eq_true rfl) rfl ?_
          refine a_goto (tgt := 26) dX8_worstAt_94 (by decide) ?_
          refine aw_pick [3, 4, 1, 0] rfl ?_
          exact ih _ _ _ h
        · replace h := ifn_ c34 h
          refine a_aload_n 1 dX8_worstAt_79 rfl rfl ?_
          refine a_getR kc_8 53 (by decide) rfl hf4 q1607 dX8_worstAt_80 ?_
          refine a_iload 0 dX8_worstAt_83 rfl ?_
          obtain ⟨a35, e36, f37, h⟩ := gd_some h
          rw [e36]
          obtain ⟨c38, h⟩ := iz_some h
          refine a_iald f37 (bn_ c38) dX8_worstAt_85 ?_
          refine a_goto (tgt := 90) dX8_worstAt_86 (by decide) ?_
          refine a_istore_n (ls' := [(2, vI_ (gI_ m28 a35 v22.toNatClampNeg)), (4, vI_ v22), (0, vR_ (some p3)), (1, vI_ p5), (3, vI_ x9)]) dX8_worstAt_90 rfl (Nat.le_of_ble_eq_true rfl) rfl ?_
          refine a_iinc (v := x9 + 1) (ls' := [(3, vI_ (x9 + 1)), (2, vI_ (gI_ m28 a35 v22.toNatClampNeg)), (4, vI_ v22), (0, vR_ (some p3)), (1, vI_ p5)]) 4 dX8_worstAt_91 rfl rfl (Nat.le_of_ble_eq_true rfl) rfl ?_
          refine a_goto (tgt := 26) dX8_worstAt_94 (by decide) ?_
          refine aw_pick [3, 4, 1, 0] rfl ?_
          exact ih _ _ _ h
      · replace h := ifp_ c15 h
        refine a_goto (tgt := 91) dX8_worstAt_42 (by decide) ?_
        refine a_iinc (v := x9 + 1) (ls' := [(3, vI_ (x9 + 1)), (0, vR_ (some p3)), (1, vI_ p5), (2, vI_ x8)]) 3 dX8_worstAt_91 rfl rfl (Nat.le_of_ble_eq_true rfl) rfl ?_
        refine a_goto (tgt := 26) dX8_worstAt_94 (by decide) ?_
        refine aw_pick [1, 2, 3, 0] rfl ?_
        exact ih _ _ _ h
def f_X8_worstAt_L2 (F : Nat)  (p39 : pm_A) (p41 : Int32) (k42 : pm_M → Option (Int32 × pm_M)) : Nat → Int32 → pm_M → Option (Int32 × pm_M)
  | 0, _, _ => none
  | n44 + 1, x46, m45 =>
    if 1000 ≤ x46 then
      k42 m45
    else
      gd_ 100 (gR_ m45 p39 53) fun a48 =>
      iz_ (!(ib_ x46 a48.2.1)) <|
      lt_ (pI_ m45 a48 x46.toNatClampNeg 0) fun m52 =>
      (f_X8_worstAt_L2 F p39 p41 k42 n44) (x46 + 1) m52
set_option maxHeartbeats 4000000 in
theorem w_X8_worstAt_L2 {G : xg_T} {l : Launch} (hl : l.stackTraces = false) {F : Nat}    (p39 : pm_A) (p41 : Int32) (k42 : pm_M → Option (Int32 × pm_M)) {m0 m' : pm_M} {r : Int32} (hf40 : p39.1 = 8) (hk42 : ∀ (m43 : pm_M), k42 m43 = some (r, m') → AW_ cX8_worstAt RX8 (some (.int), "worstAt", 3, 5, m0, m', (.inl (some (vI_ r))), G, l, [], true) m43 22 [(0, vR_ (some p39)), (1, vI_ p41)] []) : ∀ (n : Nat) (x46 : Int32) (m45 : pm_M), f_X8_worstAt_L2 F p39 p41 k42 n x46 m45 = some (r, m') → AW_ cX8_worstAt RX8 (some (.int), "worstAt", 3, 5, m0, m', (.inl (some (vI_ r))), G, l, [], true) m45 2 [(0, vR_ (some p39)), (1, vI_ p41), (2, vI_ x46)] [] := by
  intro n
  induction n with
  | zero => intro x46 m45 h; cases h
  | succ n44 ih =>
    intro x46 m45 h
    rw [f_X8_worstAt_L2] at h
    refine a_iload_n 2 dX8_worstAt_2 rfl rfl ?_
    refine a_sipush (v := 1000) dX8_worstAt_3 (by decide) ?_
    refine a_icmp_ge (tgt := 22) dX8_worstAt_6 (by decide) (fun c47 => ?_) (fun c47 => ?_)
    · replace h := ifp_ c47 h
      refine aw_pick [0, 1] rfl ?_
      exact hk42 _ h
    · replace h := ifn_ c47 h
      refine a_aload_n 0 dX8_worstAt_9 rfl rfl ?_
      refine a_getR kc_8 53 (by decide) rfl hf40 q1607 dX8_worstAt_10 ?_
      refine a_iload_n 2 dX8_worstAt_13 rfl rfl ?_
      refine a_iconst (v := 0) dX8_worstAt_14 (by decide) ?_
      obtain ⟨a48, e49, f50, h⟩ := gd_some h
      rw [e49]
      obtain ⟨c51, h⟩ := iz_some h
      obtain ⟨m52, e53, h⟩ := lt_some h
      refine a_iast f50 (bn_ c51) dX8_worstAt_15 ?_
      rw [← e53]
      refine a_iinc (v := x46 + 1) (ls' := [(2, vI_ (x46 + 1)), (0, vR_ (some p39)), (1, vI_ p41)]) 2 dX8_worstAt_16 rfl rfl (Nat.le_of_ble_eq_true rfl) rfl ?_
      refine a_goto (tgt := 2) dX8_worstAt_19 (by decide) ?_
      refine aw_pick [1, 2, 0] rfl ?_
      exact ih _ _ h
def f_X8_worstAt (F : Nat)  (t : pm_A) (i0 : Int32) (m : pm_M) : Option (Int32 × pm_M) :=
  jn_ (fun  (m2 : pm_M) =>
    f_X8_worstAt_L26 F t i0 F 0 0 m2
  ) fun k1 =>
  f_X8_worstAt_L2 F t i0 k1 F 0 m
set_option maxHeartbeats 4000000 in
theorem e_X8_worstAt {G : xg_T} {l : Launch} (hl : l.stackTraces = false) {F : Nat}    {t : pm_A} {i0 : Int32} {m0 m' : pm_M} {r : Int32} (ht : t.1 = 8) (h : f_X8_worstAt F t i0 m0 = some (r, m')) : Cal_ G l yX8_worstAt (ws_ yX8_worstAt cX8_worstAt 5 (some .int)) 3 [vR_ (some t), vI_ i0] m0 (.inl (some (vI_ r))) m' := by
  refine cal_of (by decide +kernel) (Nat.le_of_ble_eq_true rfl) ?_
  unfold f_X8_worstAt at h
  show AW_ cX8_worstAt RX8 (some (.int), "worstAt", 3, 5, m0, m', (.inl (some (vI_ r))), G, l, [], true) m0 0 [(0, vR_ (some t)), (1, vI_ i0)] []
  refine a_iconst (v := 0) dX8_worstAt_0 (by decide) ?_
  refine a_istore_n (ls' := [(2, vI_ 0), (0, vR_ (some t)), (1, vI_ i0)]) dX8_worstAt_1 rfl (Nat.le_of_ble_eq_true rfl) rfl ?_
  obtain ⟨k1, e54, h⟩ := jn1_some h
  have hk1 : ∀  (m2 : pm_M), k1 m2 = some (r, m') → AW_ cX8_worstAt RX8 (some (.int), "worstAt", 3, 5, m0, m', (.inl (some (vI_ r))), G, l, [], true) m2 22 [(0, vR_ (some t)), (1, vI_ i0)] [] := by
    intro m2 h
    have h := (e54 m2).symm.trans h
    refine a_iconst (v := 0) dX8_worstAt_22 (by decide) ?_
    refine a_istore_n (ls' := [(2, vI_ 0), (0, vR_ (some t)), (1, vI_ i0)]) dX8_worstAt_23 rfl (Nat.le_of_ble_eq_true rfl) rfl ?_
    refine a_iconst (v := 0) dX8_worstAt_24 (by decide) ?_
    refine a_istore_n (ls' := [(3, vI_ 0), (2, vI_ 0), (0, vR_ (some t)), (1, vI_ i0)]) dX8_worstAt_25 rfl (Nat.le_of_ble_eq_true rfl) rfl ?_
    refine aw_pick [2, 3, 1, 0] rfl ?_
    exact w_X8_worstAt_L26 hl _ _ ht _ _ _ _ h
  refine aw_pick [1, 2, 0] rfl ?_
  exact w_X8_worstAt_L2 hl _ _ _ ht hk1 _ _ _ h
def f_X8_ask_L44 (F : Nat)  (p22 : pm_A) (p24 : Int32) (k25 : Int32 → Int32 → pm_M → Option (Int32 × pm_M)) : Nat → Int32 → Int32 → Int32 → pm_M → Option (Int32 × pm_M)
  | 0, _, _, _, _ => none
  | n29 + 1, x31, x32, x33, m30 =>
    if 500 ≤ x33 then
      k25 x31 x32 m30
    else
      bm_ (f_X8_isTold F p22 x33 m30) fun v37 m35 =>
      if v37 = 0 then
        bm_ (f_X8_worstAt F p22 x33 m35) fun v41 m39 =>
        jn_ (fun  (m43 : pm_M) =>
          (f_X8_ask_L44 F p22 p24 k25 n29) x33 v41 (x33 + 1) m43
        ) fun k42 =>
        if x31 = ((-1)) then
          k42 m39
        else
          if v41 < x32 then
            k42 m39
          else
            (f_X8_ask_L44 F p22 p24 k25 n29) x31 x32 (x33 + 1) m39
      else
        (f_X8_ask_L44 F p22 p24 k25 n29) x31 x32 (x33 + 1) m35
set_option maxHeartbeats 4000000 in
theorem w_X8_ask_L44 {G : xg_T} {l : Launch} (hl : l.stackTraces = false) {F : Nat}    (p22 : pm_A) (p24 : Int32) (k25 : Int32 → Int32 → pm_M → Option (Int32 × pm_M)) {m0 m' : pm_M} {r : Int32} (hf23 : p22.1 = 8) (hk25 : ∀ (x26 : Int32) (x27 : Int32) (m28 : pm_M), k25 x26 x27 m28 = some (r, m') → AW_ cX8_ask RX8 (some (.int), "ask", 7, 7, m0, m', (.inl (some (vI_ r))), G, l, [], true) m28 100 [(2, vI_ p24), (3, vI_ x26), (4, vI_ x27)] []) : ∀ (n : Nat) (x31 : Int32) (x32 : Int32) (x33 : Int32) (m30 : pm_M), f_X8_ask_L44 F p22 p24 k25 n x31 x32 x33 m30 = some (r, m') → AW_ cX8_ask RX8 (some (.int), "ask", 7, 7, m0, m', (.inl (some (vI_ r))), G, l, [], true) m30 44 [(0, vR_ (some p22)), (2, vI_ p24), (3, vI_ x31), (4, vI_ x32), (5, vI_ x33)] [] := by
  intro n
  induction n with
  | zero => intro x31 x32 x33 m30 h; cases h
  | succ n29 ih =>
    intro x31 x32 x33 m30 h
    rw [f_X8_ask_L44] at h
    refine a_iload 4 dX8_ask_44 rfl ?_
    refine a_sipush (v := 500) dX8_ask_46 (by decide) ?_
    refine a_icmp_ge (tgt := 100) dX8_ask_49 (by decide) (fun c34 => ?_) (fun c34 => ?_)
    · replace h := ifp_ c34 h
      refine aw_pick [1, 2, 3] rfl ?_
      exact hk25 _ _ _ h
    · replace h := ifn_ c34 h
      refine a_aload_n 0 dX8_ask_52 rfl rfl ?_
      refine a_iload 4 dX8_ask_53 rfl ?_
      obtain ⟨v37, m35, e36, h⟩ := bm_some h
      have he36 := e_X8_isTold (G := G) hl hf23 e36
      refine c_I he36.1 (rn_V (n := 1) (As := [vI_ x33]) kc_8 hf23 he36 (lw_V q2098 q2100 qs83 q97 q2101) (by decide +kernel) rfl (Nat.le_of_ble_eq_true rfl) (Nat.le_of_ble_eq_true rfl) (Nat.le_of_ble_eq_true rfl) dX8_ask_55) (fun z => (os_av (As := [vI_ x33]) z).2.1) ?_
      refine a_if_eq (tgt := 64) dX8_ask_58 (by decide) (fun c38 => ?_) (fun c38 => ?_)
      · replace h := ifp_ c38 h
        refine a_aload_n 0 dX8_ask_64 rfl rfl ?_
        refine a_iload 4 dX8_ask_65 rfl ?_
        obtain ⟨v41, m39, e40, h⟩ := bm_some h
        have he40 := e_X8_worstAt (G := G) hl hf23 e40
        refine c_I he40.1 (rn_V (n := 1) (As := [vI_ x33]) kc_8 hf23 he40 (lw_V q2102 q2104 qs84 q97 q2105) (by decide +kernel) rfl (Nat.le_of_ble_eq_true rfl) (Nat.le_of_ble_eq_true rfl) (Nat.le_of_ble_eq_true rfl) dX8_ask_67) (fun z => (os_av (As := [vI_ x33]) z).2.1) ?_
        refine a_istore (ls' := [(6, vI_ v41), (0, vR_ (some p22)), (2, vI_ p24), (3, vI_ x31), (4, vI_ x32), (5, vI_ x33)]) dX8_ask_70 (Nat.le_of_ble_eq_true rfl) rfl ?_
        refine a_iload_n 3 dX8_ask_72 rfl rfl ?_
        refine a_iconst (v := (-1)) dX8_ask_73 (by decide) ?_
        obtain ⟨k42, e46, h⟩ := jn1_some h
        have hk42 : ∀  (m43 : pm_M), k42 m43 = some (r, m') → AW_ cX8_ask RX8 (some (.int), "ask", 7, 7, m0, m', (.inl (some (vI_ r))), G, l, [], true) m43 87 [(0, vR_ (some p22)), (2, vI_ p24), (5, vI_ x33), (6, vI_ v41)] [] := by
          intro m43 h
          have h := (e46 m43).symm.trans h
          refine a_iload 2 dX8_ask_87 rfl ?_
          refine a_istore_n (ls' := [(3, vI_ x33), (0, vR_ (some p22)), (2, vI_ p24), (5, vI_ x33), (6, vI_ v41)]) dX8_ask_89 rfl (Nat.le_of_ble_eq_true rfl) rfl ?_
          refine a_iload 4 dX8_ask_90 rfl ?_
          refine a_istore (ls' := [(4, vI_ v41), (3, vI_ x33), (0, vR_ (some p22)), (2, vI_ p24), (5, vI_ x33), (6, vI_ v41)]) dX8_ask_92 (Nat.le_of_ble_eq_true rfl) rfl ?_
          refine a_iinc (v := x33 + 1) (ls' := [(5, vI_ (x33 + 1)), (4, vI_ v41), (3, vI_ x33), (0, vR_ (some p22)), (2, vI_ p24), (6, vI_ v41)]) 4 dX8_ask_94 rfl rfl (Nat.le_of_ble_eq_true rfl) rfl ?_
          refine a_goto (tgt := 44) dX8_ask_97 (by decide) ?_
          refine aw_pick [3, 4, 2, 1, 0] rfl ?_
          exact ih _ _ _ _ h
        refine a_icmp_eq (tgt := 87) dX8_ask_74 (by decide) (fun c44 => ?_) (fun c44 => ?_)
        · replace h := ifp_ c44 h
          refine aw_pick [1, 2, 5, 0] rfl ?_
          exact hk42 _ h
        · replace h := ifn_ c44 h
          refine a_iload 0 dX8_ask_77 rfl ?_
          refine a_iload 4 dX8_ask_79 rfl ?_
          refine a_icmp_lt (tgt := 87) dX8_ask_81 (by decide) (fun c45 => ?_) (fun c45 => ?_)
          · replace h := ifp_ c45 h
            refine aw_pick [1, 2, 5, 0] rfl ?_
            exact hk42 _ h
          · replace h := ifn_ c45 h
            refine a_goto (tgt := 94) dX8_ask_84 (by decide) ?_
            refine a_iinc (v := x33 + 1) (ls' := [(5, vI_ (x33 + 1)), (6, vI_ v41), (0, vR_ (some p22)), (2, vI_ p24), (3, vI_ x31), (4, vI_ x32)]) 5 dX8_ask_94 rfl rfl (Nat.le_of_ble_eq_true rfl) rfl ?_
            refine a_goto (tgt := 44) dX8_ask_97 (by decide) ?_
            refine aw_pick [2, 3, 4, 5, 0] rfl ?_
            exact ih _ _ _ _ h
      · replace h := ifn_ c38 h
        refine a_goto (tgt := 94) dX8_ask_61 (by decide) ?_
        refine a_iinc (v := x33 + 1) (ls' := [(5, vI_ (x33 + 1)), (0, vR_ (some p22)), (2, vI_ p24), (3, vI_ x31), (4, vI_ x32)]) 4 dX8_ask_94 rfl rfl (Nat.le_of_ble_eq_true rfl) rfl ?_
        refine a_goto (tgt := 44) dX8_ask_97 (by decide) ?_
        refine aw_pick [1, 2, 3, 4, 0] rfl ?_
        exact ih _ _ _ _ h
def f_X8_ask (F : Nat)  (t : pm_A) (i0 : Int32) (i1 : Int32) (m : pm_M) : Option (Int32 × pm_M) :=
  lt_ (pI_ m t 0 0) fun m1 =>
  bm_ (f_X8_isSigner F t i0 1 m1) fun v5 m3 =>
  if v5 = 0 then
    some (0, m3)
  else
    bm_ (f_X8_within F i1 0 1 m3) fun v9 m7 =>
    bm_ (f_X8_may F t v9 2 1 m7) fun v12 m10 =>
    if v12 = 0 then
      some (0, m10)
    else
      bm_ (f_X8_findTerms F t i0 m10) fun v16 m14 =>
      jn_ (fun (x19 : Int32) (x20 : Int32) (m18 : pm_M) =>
        if i1 = 0 then
          some (x19, m18)
        else
          some (x20, m18)
      ) fun k17 =>
      f_X8_ask_L44 F t i1 k17 F ((-1)) ((-1)) 0 m14
set_option maxHeartbeats 4000000 in
theorem e_X8_ask {G : xg_T} {l : Launch} (hl : l.stackTraces = false) {F : Nat}    {t : pm_A} {i0 : Int32} {i1 : Int32} {m0 m' : pm_M} {r : Int32} (ht : t.1 = 8) (h : f_X8_ask F t i0 i1 m0 = some (r, m')) : Cal_ G l yX8_ask (ws_ yX8_ask cX8_ask 7 (some .int)) 7 [vR_ (some t), vI_ i0, vI_ i1] m0 (.inl (some (vI_ r))) m' := by
  refine cal_of (by decide +kernel) (Nat.le_of_ble_eq_true rfl) ?_
  unfold f_X8_ask at h
  show AW_ cX8_ask RX8 (some (.int), "ask", 7, 7, m0, m', (.inl (some (vI_ r))), G, l, [], true) m0 0 [(0, vR_ (some t)), (1, vI_ i0), (2, vI_ i1)] []
  refine a_aload_n 0 dX8_ask_0 rfl rfl ?_
  refine a_iconst (v := 0) dX8_ask_1 (by decide) ?_
  obtain ⟨m1, e2, h⟩ := lt_some h
  refine a_putI kc_8 0 (by decide) rfl ht q1554 rfl rfl rfl dX8_ask_2 ?_
  rw [← e2]
  refine a_aload_n 0 dX8_ask_5 rfl rfl ?_
  refine a_iload_n 1 dX8_ask_6 rfl rfl ?_
  refine a_iconst (v := 1) dX8_ask_7 (by decide) ?_
  obtain ⟨v5, m3, e4, h⟩ := bm_some h
  have he4 := e_X8_isSigner (G := G) hl ht e4
  refine c_I he4.1 (rn_V (n := 2) (As := [vI_ i0, vI_ 1]) kc_8 ht he4 (lw_V q1983 q1985 qs75 q97 q1986) (by decide +kernel) rfl (Nat.le_of_ble_eq_true rfl) (Nat.le_of_ble_eq_true rfl) (Nat.le_of_ble_eq_true rfl) dX8_ask_8) (fun z => (os_av (As := [vI_ i0, vI_ 1]) z).2.1) ?_
  refine a_if_eq (tgt := 29) dX8_ask_11 (by decide) (fun c6 => ?_) (fun c6 => ?_)
  · replace h := ifp_ c6 h
    refine a_iconst (v := 0) dX8_ask_29 (by decide) ?_
    cases h
    exact a_ireturn rfl rfl rfl rfl rfl dX8_ask_30
  · replace h := ifn_ c6 h
    refine a_aload_n 0 dX8_ask_14 rfl rfl ?_
    refine a_iload_n 2 dX8_ask_15 rfl rfl ?_
    refine a_iconst (v := 0) dX8_ask_16 (by decide) ?_
    refine a_iconst (v := 1) dX8_ask_17 (by decide) ?_
    obtain ⟨v9, m7, e8, h⟩ := bm_some h
    have he8 := e_X8_within (G := G) hl e8
    refine c_I he8.1 (rn_S (n := 3) (As := [vI_ i1, vI_ 0, vI_ 1]) he8 (lw_S q1823 q1824 q97 q1825) (by decide +kernel) rfl (Nat.le_of_ble_eq_true rfl) (Nat.le_of_ble_eq_true rfl) (Nat.le_of_ble_eq_true rfl) dX8_ask_18) (fun z => (os_aS (As := [vI_ i1, vI_ 0, vI_ 1]) z).2) ?_
    refine a_iconst (v := 2) dX8_ask_21 (by decide) ?_
    refine a_iconst (v := 1) dX8_ask_22 (by decide) ?_
    obtain ⟨v12, m10, e11, h⟩ := bm_some h
    have he11 := e_X8_may (G := G) hl ht e11
    refine c_I he11.1 (rn_V (n := 3) (As := [vI_ v9, vI_ 2, vI_ 1]) kc_8 ht he11 (lw_V q1744 q1746 qs32 q97 q1747) (by decide +kernel) rfl (Nat.le_of_ble_eq_true rfl) (Nat.le_of_ble_eq_true rfl) (Nat.le_of_ble_eq_true rfl) dX8_ask_23) (fun z => (os_av (As := [vI_ v9, vI_ 2, vI_ 1]) z).2.1) ?_
    refine a_if_ne (tgt := 31) dX8_ask_26 (by decide) (fun c13 => ?_) (fun c13 => ?_)
    · replace h := ifn_ c13 h
      refine a_aload_n 0 dX8_ask_31 rfl rfl ?_
      refine a_iload_n 1 dX8_ask_32 rfl rfl ?_
      obtain ⟨v16, m14, e15, h⟩ := bm_some h
      have he15 := e_X8_findTerms (G := G) hl ht e15
      refine c_V he15.1 (rn_V (n := 1) (As := [vI_ i0]) kc_8 ht he15 (lw_V q2087 q2089 qs82 q97 q2090) (by decide +kernel) rfl (Nat.le_of_ble_eq_true rfl) (Nat.le_of_ble_eq_true rfl) (Nat.le_of_ble_eq_true rfl) dX8_ask_33) (fun z => (os_av (As := [vI_ i0]) z).2.1) ?_
      refine a_iconst (v := (-1)) dX8_ask_36 (by decide) ?_
      refine a_istore_n (ls' := [(3, vI_ ((-1))), (0, vR_ (some t)), (1, vI_ i0), (2, vI_ i1)]) dX8_ask_37 rfl (Nat.le_of_ble_eq_true rfl) rfl ?_
      refine a_iconst (v := (-1)) dX8_ask_38 (by decide) ?_
      refine a_istore (ls' := [(4, vI_ ((-1))), (3, vI_ ((-1))), (0, vR_ (some t)), (1, vI_ i0), (2, vI_ i1)]) dX8_ask_39 (Nat.le_of_ble_eq_true rfl) rfl ?_
      refine a_iconst (v := 0) dX8_ask_41 (by decide) ?_
      refine a_istore (ls' := [(5, vI_ 0), (4, vI_ ((-1))), (3, vI_ ((-1))), (0, vR_ (some t)), (1, vI_ i0), (2, vI_ i1)]) dX8_ask_42 (Nat.le_of_ble_eq_true rfl) rfl ?_
      obtain ⟨k17, e47, h⟩ := jn3_some h
      have hk17 : ∀ (x19 : Int32) (x20 : Int32) (m18 : pm_M), k17 x19 x20 m18 = some (r, m') → AW_ cX8_ask RX8 (some (.int), "ask", 7, 7, m0, m', (.inl (some (vI_ r))), G, l, [], true) m18 100 [(2, vI_ i1), (3, vI_ x19), (4, vI_ x20)] [] := by
        intro x19 x20 m18 h
        have h := (e47 x19 x20 m18).symm.trans h
        refine a_iload_n 0 dX8_ask_100 rfl rfl ?_
        refine a_if_ne (tgt := 108) dX8_ask_101 (by decide) (fun c21 => ?_) (fun c21 => ?_)
        · replace h := ifn_ c21 h
          refine a_iload 2 dX8_ask_108 rfl ?_
          cases h
          exact a_ireturn rfl rfl rfl rfl rfl dX8_ask_110
        · replace h := ifp_ c21 h
          refine a_iload_n 1 dX8_ask_104 rfl rfl ?_
          refine a_goto (tgt := 110) dX8_ask_105 (by decide) ?_
          cases h
          exact a_ireturn rfl rfl rfl rfl rfl dX8_ask_110
      refine aw_pick [3, 5, 2, 1, 0] rfl ?_
      exact w_X8_ask_L44 hl _ _ _ ht hk17 _ _ _ _ _ h
    · replace h := ifp_ c13 h
      refine a_iconst (v := 0) dX8_ask_29 (by decide) ?_
      cases h
      exact a_ireturn rfl rfl rfl rfl rfl dX8_ask_30
def f_X8_power_L5 (F : Nat)  (p1 : Int64) (p2 : Int32) : Nat → Int64 → Int32 → pm_M → Option (Int64 × pm_M)
  | 0, _, _, _ => none
  | n3 + 1, x5, x6, m4 =>
    if p2 ≤ x6 then
      some (x5, m4)
    else
      (f_X8_power_L5 F p1 p2 n3) (x5 * p1) (x6 + 1) m4
set_option maxHeartbeats 4000000 in
theorem w_X8_power_L5 {G : xg_T} {l : Launch} (hl : l.stackTraces = false) {F : Nat}    (p1 : Int64) (p2 : Int32) {m0 m' : pm_M} {r : Int64}   : ∀ (n : Nat) (x5 : Int64) (x6 : Int32) (m4 : pm_M), f_X8_power_L5 F p1 p2 n x5 x6 m4 = some (r, m') → AW_ cX8_power RX8 (some (.long), "power", 2, 6, m0, m', (.inl (some (vL_ r))), G, l, [], true) m4 5 [(0, vL_ p1), (2, vI_ p2), (3, vL_ x5), (5, vI_ x6)] [] := by
  intro n
  induction n with
  | zero => intro x5 x6 m4 h; cases h
  | succ n3 ih =>
    intro x5 x6 m4 h
    rw [f_X8_power_L5] at h
    refine a_iload 3 dX8_power_5 rfl ?_
    refine a_iload_n 1 dX8_power_7 rfl rfl ?_
    refine a_icmp_ge (tgt := 21) dX8_power_8 (by decide) (fun c7 => ?_) (fun c7 => ?_)
    · replace h := ifp_ c7 h
      refine a_lload_n 2 dX8_power_21 rfl rfl ?_
      cases h
      exact a_lreturn rfl rfl rfl rfl dX8_power_22
    · replace h := ifn_ c7 h
      refine a_lload_n 2 dX8_power_11 rfl rfl ?_
      refine a_lload_n 0 dX8_power_12 rfl rfl ?_
      refine a_lmul dX8_power_13 ?_
      refine a_lstore_n (ls' := [(3, vL_ (x5 * p1)), (0, vL_ p1), (2, vI_ p2), (5, vI_ x6)]) dX8_power_14 rfl (Nat.le_of_ble_eq_true rfl) rfl ?_
      refine a_iinc (v := x6 + 1) (ls' := [(5, vI_ (x6 + 1)), (3, vL_ (x5 * p1)), (0, vL_ p1), (2, vI_ p2)]) 3 dX8_power_15 rfl rfl (Nat.le_of_ble_eq_true rfl) rfl ?_
      refine a_goto (tgt := 5) dX8_power_18 (by decide) ?_
      refine aw_pick [2, 3, 1, 0] rfl ?_
      exact ih _ _ _ h
def f_X8_power (F : Nat)  (i0 : Int64) (i1 : Int32) (m : pm_M) : Option (Int64 × pm_M) :=
  f_X8_power_L5 F i0 i1 F 1 0 m
set_option maxHeartbeats 4000000 in
theorem e_X8_power {G : xg_T} {l : Launch} (hl : l.stackTraces = false) {F : Nat}    {i0 : Int64} {i1 : Int32} {m0 m' : pm_M} {r : Int64} (h : f_X8_power F i0 i1 m0 = some (r, m')) : Cal_ G l yX8_power (ws_ yX8_power cX8_power 6 (some .long)) 2 [vL_ i0, vI_ i1] m0 (.inl (some (vL_ r))) m' := by
  refine cal_of (by decide +kernel) (Nat.le_of_ble_eq_true rfl) ?_
  unfold f_X8_power at h
  show AW_ cX8_power RX8 (some (.long), "power", 2, 6, m0, m', (.inl (some (vL_ r))), G, l, [], true) m0 0 [(0, vL_ i0), (2, vI_ i1)] []
  refine a_lconst (v := 1) dX8_power_0 (by decide) ?_
  refine a_lstore_n (ls' := [(3, vL_ 1), (0, vL_ i0), (2, vI_ i1)]) dX8_power_1 rfl (Nat.le_of_ble_eq_true rfl) rfl ?_
  refine a_iconst (v := 0) dX8_power_2 (by decide) ?_
  refine a_istore (ls' := [(5, vI_ 0), (3, vL_ 1), (0, vL_ i0), (2, vI_ i1)]) dX8_power_3 (Nat.le_of_ble_eq_true rfl) rfl ?_
  refine aw_pick [2, 3, 1, 0] rfl ?_
  exact w_X8_power_L5 hl _ _ _ _ _ _ h
def f_X8_courtBy_L19 (F : Nat)  (p18 : Int32) (p19 : Int32) (p20 : Int64) (p21 : Int32) (k22 : Int32 → pm_M → Option (Int64 × pm_M)) : Nat → Int32 → Int32 → pm_M → Option (Int64 × pm_M)
  | 0, _, _, _ => none
  | n25 + 1, x27, x28, m26 =>
    if p18 ≤ x28 then
      k22 x27 m26
    else
      (f_X8_courtBy_L19 F p18 p19 p20 p21 k22 n25) (x27 + ((p21 >>> (x28 &&& 31)) &&& 1)) (x28 + 1) m26
set_option maxHeartbeats 4000000 in
theorem w_X8_courtBy_L19 {G : xg_T} {l : Launch} (hl : l.stackTraces = false) {F : Nat}    (p18 : Int32) (p19 : Int32) (p20 : Int64) (p21 : Int32) (k22 : Int32 → pm_M → Option (Int64 × pm_M)) {m0 m' : pm_M} {r : Int64}  (hk22 : ∀ (x23 : Int32) (m24 : pm_M), k22 x23 m24 = some (r, m') → AW_ cX8_courtBy RX8 (some (.long), "courtBy", 3, 7, m0, m', (.inl (some (vL_ r))), G, l, [], true) m24 43 [(0, vI_ p18), (1, vI_ p19), (2, vL_ p20), (4, vI_ p21), (5, vI_ x23)] []) : ∀ (n : Nat) (x27 : Int32) (x28 : Int32) (m26 : pm_M), f_X8_courtBy_L19 F p18 p19 p20 p21 k22 n x27 x28 m26 = some (r, m') → AW_ cX8_courtBy RX8 (some (.long), "courtBy", 3, 7, m0, m', (.inl (some (vL_ r))), G, l, [], true) m26 19 [(0, vI_ p18), (1, vI_ p19), (2, vL_ p20), (4, vI_ p21), (5, vI_ x27), (6, vI_ x28)] [] := by
  intro n
  induction n with
  | zero => intro x27 x28 m26 h; cases h
  | succ n25 ih =>
    intro x27 x28 m26 h
    rw [f_X8_courtBy_L19] at h
    refine a_iload 5 dX8_courtBy_19 rfl ?_
    refine a_iload_n 0 dX8_courtBy_21 rfl rfl ?_
    refine a_icmp_ge (tgt := 43) dX8_courtBy_22 (by decide) (fun c29 => ?_) (fun c29 => ?_)
    · replace h := ifp_ c29 h
      refine aw_pick [0, 1, 2, 3, 4] rfl ?_
      exact hk22 _ _ h
    · replace h := ifn_ c29 h
      refine a_iload 4 dX8_courtBy_25 rfl ?_
      refine a_iload 3 dX8_courtBy_27 rfl ?_
      refine a_iload 5 dX8_courtBy_29 rfl ?_
      refine a_ishr dX8_courtBy_31 ?_
      refine a_iconst (v := 1) dX8_courtBy_32 (by decide) ?_
      refine a_iand dX8_courtBy_33 ?_
      refine a_iadd dX8_courtBy_34 ?_
      refine a_istore (ls' := [(5, vI_ (x27 + ((p21 >>> (x28 &&& 31)) &&& 1))), (0, vI_ p18), (1, vI_ p19), (2, vL_ p20), (4, vI_ p21), (6, vI_ x28)]) dX8_courtBy_35 (Nat.le_of_ble_eq_true rfl) rfl ?_
      refine a_iinc (v := x28 + 1) (ls' := [(6, vI_ (x28 + 1)), (5, vI_ (x27 + ((p21 >>> (x28 &&& 31)) &&& 1))), (0, vI_ p18), (1, vI_ p19), (2, vL_ p20), (4, vI_ p21)]) 5 dX8_courtBy_37 rfl rfl (Nat.le_of_ble_eq_true rfl) rfl ?_
      refine a_goto (tgt := 19) dX8_courtBy_40 (by decide) ?_
      refine aw_pick [2, 3, 4, 5, 1, 0] rfl ?_
      exact ih _ _ _ h
def f_X8_courtBy_L5 (F : Nat)  (p1 : Int32) (p2 : Int32) : Nat → Int64 → Int32 → pm_M → Option (Int64 × pm_M)
  | 0, _, _, _ => none
  | n3 + 1, x5, x6, m4 =>
    if ((1 : Int32) <<< (p1 &&& 31)) ≤ x6 then
      some (x5, m4)
    else
      jn_ (fun (x10 : Int32) (m9 : pm_M) =>
        if (2 * x10) ≤ p1 then
          (f_X8_courtBy_L5 F p1 p2 n3) (x5 + 0) (x6 + 1) m9
        else
          bm_ (f_X8_power F p2.toInt64 x10 m9) fun v14 m12 =>
          bm_ (f_X8_power F ((16 - p2).toInt64) (p1 - x10) m12) fun v17 m15 =>
          (f_X8_courtBy_L5 F p1 p2 n3) (x5 + (v14 * v17)) (x6 + 1) m15
      ) fun k8 =>
      f_X8_courtBy_L19 F p1 p2 x5 x6 k8 F 0 0 m4
set_option maxHeartbeats 4000000 in
theorem w_X8_courtBy_L5 {G : xg_T} {l : Launch} (hl : l.stackTraces = false) {F : Nat}    (p1 : Int32) (p2 : Int32) {m0 m' : pm_M} {r : Int64}   : ∀ (n : Nat) (x5 : Int64) (x6 : Int32) (m4 : pm_M), f_X8_courtBy_L5 F p1 p2 n x5 x6 m4 = some (r, m') → AW_ cX8_courtBy RX8 (some (.long), "courtBy", 3, 7, m0, m', (.inl (some (vL_ r))), G, l, [], true) m4 5 [(0, vI_ p1), (1, vI_ p2), (2, vL_ x5), (4, vI_ x6)] [] := by
  intro n
  induction n with
  | zero => intro x5 x6 m4 h; cases h
  | succ n3 ih =>
    intro x5 x6 m4 h
    rw [f_X8_courtBy_L5] at h
    refine a_iload 3 dX8_courtBy_5 rfl ?_
    refine a_iconst (v := 1) dX8_courtBy_7 (by decide) ?_
    refine a_iload_n 0 dX8_courtBy_8 rfl rfl ?_
    refine a_ishl dX8_courtBy_9 ?_
    refine a_icmp_ge (tgt := 84) dX8_courtBy_10 (by decide) (fun c7 => ?_) (fun c7 => ?_)
    · replace h := ifp_ c7 h
      refine a_lload_n 2 dX8_courtBy_84 rfl rfl ?_
      cases h
      exact a_lreturn rfl rfl rfl rfl dX8_courtBy_85
    · replace h := ifn_ c7 h
      refine a_iconst (v := 0) dX8_courtBy_13 (by decide) ?_
      refine a_istore (ls' := [(5, vI_ 0), (0, vI_ p1), (1, vI_ p2), (2, vL_ x5), (4, vI_ x6)]) dX8_courtBy_14 (Nat.le_of_ble_eq_true rfl) rfl ?_
      refine a_iconst (v := 0) dX8_courtBy_16 (by decide) ?_
      refine a_istore (ls' := [(6, vI_ 0), (5, vI_ 0), (0, vI_ p1), (1, vI_ p2), (2, vL_ x5), (4, vI_ x6)]) dX8_courtBy_17 (Nat.le_of_ble_eq_true rfl) rfl ?_
      obtain ⟨k8, e30, h⟩ := jn2_some h
      have hk8 : ∀ (x10 : Int32) (m9 : pm_M), k8 x10 m9 = some (r, m') → AW_ cX8_courtBy RX8 (some (.long), "courtBy", 3, 7, m0, m', (.inl (some (vL_ r))), G, l, [], true) m9 43 [(0, vI_ p1), (1, vI_ p2), (2, vL_ x5), (4, vI_ x6), (5, vI_ x10)] [] := by
        intro x10 m9 h
        have h := (e30 x10 m9).symm.trans h
        refine a_lload_n 2 dX8_courtBy_43 rfl rfl ?_
        refine a_iconst (v := 2) dX8_courtBy_44 (by decide) ?_
        refine a_iload 4 dX8_courtBy_45 rfl ?_
        refine a_imul dX8_courtBy_47 ?_
        refine a_iload_n 0 dX8_courtBy_48 rfl rfl ?_
        refine a_icmp_le (tgt := 75) dX8_courtBy_49 (by decide) (fun c11 => ?_) (fun c11 => ?_)
        · replace h := ifp_ c11 h
          refine a_lconst (v := 0) dX8_courtBy_75 (by decide) ?_
          refine a_ladd dX8_courtBy_76 ?_
          refine a_lstore_n (ls' := [(2, vL_ (x5 + 0)), (0, vI_ p1), (1, vI_ p2), (4, vI_ x6), (5, vI_ x10)]) dX8_courtBy_77 rfl (Nat.le_of_ble_eq_true rfl) rfl ?_
          refine a_iinc (v := x6 + 1) (ls' := [(4, vI_ (x6 + 1)), (2, vL_ (x5 + 0)), (0, vI_ p1), (1, vI_ p2), (5, vI_ x10)]) 3 dX8_courtBy_78 rfl rfl (Nat.le_of_ble_eq_true rfl) rfl ?_
          refine a_goto (tgt := 5) dX8_courtBy_81 (by decide) ?_
          refine aw_pick [2, 3, 1, 0] rfl ?_
          exact ih _ _ _ h
        · replace h := ifn_ c11 h
          refine a_iload_n 1 dX8_courtBy_52 rfl rfl ?_
          refine a_i2l dX8_courtBy_53 ?_
          refine a_iload 4 dX8_courtBy_54 rfl ?_
          obtain ⟨v14, m12, e13, h⟩ := bm_some h
          have he13 := e_X8_power (G := G) hl e13
          refine c_L he13.1 (rn_S (n := 2) (As := [vL_ p2.toInt64, vI_ x10]) he13 (lw_S q2113 q2114 q97 q2115) (by decide +kernel) rfl (Nat.le_of_ble_eq_true rfl) (Nat.le_of_ble_eq_true rfl) (Nat.le_of_ble_eq_true rfl) dX8_courtBy_56) (fun z => (os_aS (As := [vL_ p2.toInt64, vI_ x10]) z).2) ?_
          refine a_bipush (v := 16) dX8_courtBy_59 (by decide) ?_
          refine a_iload_n 1 dX8_courtBy_61 rfl rfl ?_
          refine a_isub dX8_courtBy_62 ?_
          refine a_i2l dX8_courtBy_63 ?_
          refine a_iload_n 0 dX8_courtBy_64 rfl rfl ?_
          refine a_iload 4 dX8_courtBy_65 rfl ?_
          refine a_isub dX8_courtBy_67 ?_
          obtain ⟨v17, m15, e16, h⟩ := bm_some h
          have he16 := e_X8_power (G := G) hl e16
          refine c_L he16.1 (rn_S (n := 2) (As := [vL_ ((16 - p2).toInt64), vI_ (p1 - x10)]) he16 (lw_S q2113 q2114 q97 q2115) (by decide +kernel) rfl (Nat.le_of_ble_eq_true rfl) (Nat.le_of_ble_eq_true rfl) (Nat.le_of_ble_eq_true rfl) dX8_courtBy_68) (fun z => (os_aS (As := [vL_ ((16 - p2).toInt64), vI_ (p1 - x10)]) z).2) ?_
          refine a_lmul dX8_courtBy_71 ?_
          refine a_goto (tgt := 76) dX8_courtBy_72 (by decide) ?_
          refine a_ladd dX8_courtBy_76 ?_
          refine a_lstore_n (ls' := [(2, vL_ (x5 + (v14 * v17))), (0, vI_ p1), (1, vI_ p2), (4, vI_ x6), (5, vI_ x10)]) dX8_courtBy_77 rfl (Nat.le_of_ble_eq_true rfl) rfl ?_
          refine a_iinc (v := x6 + 1) (ls' := [(4, vI_ (x6 + 1)), (2, vL_ (x5 + (v14 * v17))), (0, vI_ p1), (1, vI_ p2), (5, vI_ x10)]) 3 dX8_courtBy_78 rfl rfl (Nat.le_of_ble_eq_true rfl) rfl ?_
          refine a_goto (tgt := 5) dX8_courtBy_81 (by decide) ?_
          refine aw_pick [2, 3, 1, 0] rfl ?_
          exact ih _ _ _ h
      refine aw_pick [2, 3, 4, 5, 1, 0] rfl ?_
      exact w_X8_courtBy_L19 hl _ _ _ _ _ hk8 _ _ _ _ h
def f_X8_courtBy (F : Nat)  (i0 : Int32) (i1 : Int32) (m : pm_M) : Option (Int64 × pm_M) :=
  f_X8_courtBy_L5 F i0 i1 F 0 0 m
set_option maxHeartbeats 4000000 in
theorem e_X8_courtBy {G : xg_T} {l : Launch} (hl : l.stackTraces = false) {F : Nat}    {i0 : Int32} {i1 : Int32} {m0 m' : pm_M} {r : Int64} (h : f_X8_courtBy F i0 i1 m0 = some (r, m')) : Cal_ G l yX8_courtBy (ws_ yX8_courtBy cX8_courtBy 7 (some .long)) 3 [vI_ i0, vI_ i1] m0 (.inl (some (vL_ r))) m' := by
  refine cal_of (by decide +kernel) (Nat.le_of_ble_eq_true rfl) ?_
  unfold f_X8_courtBy at h
  show AW_ cX8_courtBy RX8 (some (.long), "courtBy", 3, 7, m0, m', (.inl (some (vL_ r))), G, l, [], true) m0 0 [(0, vI_ i0), (1, vI_ i1)] []
  refine a_lconst (v := 0) dX8_courtBy_0 (by decide) ?_
  refine a_lstore_n (ls' := [(2, vL_ 0), (0, vI_ i0), (1, vI_ i1)]) dX8_courtBy_1 rfl (Nat.le_of_ble_eq_true rfl) rfl ?_
  refine a_iconst (v := 0) dX8_courtBy_2 (by decide) ?_
  refine a_istore (ls' := [(4, vI_ 0), (2, vL_ 0), (0, vI_ i0), (1, vI_ i1)]) dX8_courtBy_3 (Nat.le_of_ble_eq_true rfl) rfl ?_
  refine aw_pick [2, 3, 1, 0] rfl ?_
  exact w_X8_courtBy_L5 hl _ _ _ _ _ _ h
def f_X8_least_L6 (F : Nat)  (p7 : Int64) (p8 : Int64) (p9 : Int32) (k10 : Int64 → pm_M → Option (Int64 × pm_M)) : Nat → Int64 → Int64 → pm_M → Option (Int64 × pm_M)
  | 0, _, _, _ => none
  | n13 + 1, x15, x16, m14 =>
    if (lg_cmp x16 0) = 0 then
      k10 x15 m14
    else
      iz_ (decide (x16 = 0)) <|
      (f_X8_least_L6 F p7 p8 p9 k10 n13) x16 (x15 - x15 / x16 * x16) m14
set_option maxHeartbeats 4000000 in
theorem w_X8_least_L6 {G : xg_T} {l : Launch} (hl : l.stackTraces = false) {F : Nat}    (p7 : Int64) (p8 : Int64) (p9 : Int32) (k10 : Int64 → pm_M → Option (Int64 × pm_M)) {m0 m' : pm_M} {r : Int64}  (hk10 : ∀ (x11 : Int64) (m12 : pm_M), k10 x11 m12 = some (r, m') → AW_ cX8_least RX8 (some (.long), "least", 2, 11, m0, m', (.inl (some (vL_ r))), G, l, [], true) m12 31 [(0, vL_ p7), (2, vL_ p8), (4, vI_ p9), (5, vL_ x11)] []) : ∀ (n : Nat) (x15 : Int64) (x16 : Int64) (m14 : pm_M), f_X8_least_L6 F p7 p8 p9 k10 n x15 x16 m14 = some (r, m') → AW_ cX8_least RX8 (some (.long), "least", 2, 11, m0, m', (.inl (some (vL_ r))), G, l, [], true) m14 6 [(0, vL_ p7), (2, vL_ p8), (4, vI_ p9), (5, vL_ x15), (7, vL_ x16)] [] := by
  intro n
  induction n with
  | zero => intro x15 x16 m14 h; cases h
  | succ n13 ih =>
    intro x15 x16 m14 h
    rw [f_X8_least_L6] at h
    refine a_lload 4 dX8_least_6 rfl ?_
    refine a_lconst (v := 0) dX8_least_8 (by decide) ?_
    refine a_lcmp dX8_least_9 ?_
    refine a_if_eq (tgt := 31) dX8_least_10 (by decide) (fun c17 => ?_) (fun c17 => ?_)
    · replace h := ifp_ c17 h
      refine aw_pick [0, 1, 2, 3] rfl ?_
      exact hk10 _ _ h
    · replace h := ifn_ c17 h
      refine a_lload 3 dX8_least_13 rfl ?_
      refine a_lload 4 dX8_least_15 rfl ?_
      obtain ⟨c18, h⟩ := iz_some h
      refine a_lrem dX8_least_17 (of_decide_eq_false c18) ?_
      refine a_lstore (ls' := [(9, vL_ (x15 - x15 / x16 * x16)), (0, vL_ p7), (2, vL_ p8), (4, vI_ p9), (5, vL_ x15), (7, vL_ x16)]) dX8_least_18 (Nat.le_of_ble_eq_true rfl) rfl ?_
      refine a_lload 5 dX8_least_20 rfl ?_
      refine a_lstore (ls' := [(5, vL_ x16), (9, vL_ (x15 - x15 / x16 * x16)), (0, vL_ p7), (2, vL_ p8), (4, vI_ p9), (7, vL_ x16)]) dX8_least_22 (Nat.le_of_ble_eq_true rfl) rfl ?_
      refine a_lload 1 dX8_least_24 rfl ?_
      refine a_lstore (ls' := [(7, vL_ (x15 - x15 / x16 * x16)), (5, vL_ x16), (9, vL_ (x15 - x15 / x16 * x16)), (0, vL_ p7), (2, vL_ p8), (4, vI_ p9)]) dX8_least_26 (Nat.le_of_ble_eq_true rfl) rfl ?_
      refine a_goto (tgt := 6) dX8_least_28 (by decide) ?_
      refine aw_pick [3, 4, 5, 1, 0] rfl ?_
      exact ih _ _ _ h
def f_X8_least (F : Nat)  (i0 : Int64) (i1 : Int64) (i2 : Int32) (m : pm_M) : Option (Int64 × pm_M) :=
  jn_ (fun (x3 : Int64) (m2 : pm_M) =>
    if i2 = 0 then
      iz_ (decide (x3 = 0)) <|
      some ((i0 / x3), m2)
    else
      iz_ (decide (x3 = 0)) <|
      some ((i1 / x3), m2)
  ) fun k1 =>
  f_X8_least_L6 F i0 i1 i2 k1 F i0 i1 m
set_option maxHeartbeats 4000000 in
theorem e_X8_least {G : xg_T} {l : Launch} (hl : l.stackTraces = false) {F : Nat}    {i0 : Int64} {i1 : Int64} {i2 : Int32} {m0 m' : pm_M} {r : Int64} (h : f_X8_least F i0 i1 i2 m0 = some (r, m')) : Cal_ G l yX8_least (ws_ yX8_least cX8_least 11 (some .long)) 2 [vL_ i0, vL_ i1, vI_ i2] m0 (.inl (some (vL_ r))) m' := by
  refine cal_of (by decide +kernel) (Nat.le_of_ble_eq_true rfl) ?_
  unfold f_X8_least at h
  show AW_ cX8_least RX8 (some (.long), "least", 2, 11, m0, m', (.inl (some (vL_ r))), G, l, [], true) m0 0 [(0, vL_ i0), (2, vL_ i1), (4, vI_ i2)] []
  refine a_lload_n 0 dX8_least_0 rfl rfl ?_
  refine a_lstore (ls' := [(5, vL_ i0), (0, vL_ i0), (2, vL_ i1), (4, vI_ i2)]) dX8_least_1 (Nat.le_of_ble_eq_true rfl) rfl ?_
  refine a_lload_n 2 dX8_least_3 rfl rfl ?_
  refine a_lstore (ls' := [(7, vL_ i1), (5, vL_ i0), (0, vL_ i0), (2, vL_ i1), (4, vI_ i2)]) dX8_least_4 (Nat.le_of_ble_eq_true rfl) rfl ?_
  obtain ⟨k1, e19, h⟩ := jn2_some h
  have hk1 : ∀ (x3 : Int64) (m2 : pm_M), k1 x3 m2 = some (r, m') → AW_ cX8_least RX8 (some (.long), "least", 2, 11, m0, m', (.inl (some (vL_ r))), G, l, [], true) m2 31 [(0, vL_ i0), (2, vL_ i1), (4, vI_ i2), (5, vL_ x3)] [] := by
    intro x3 m2 h
    have h := (e19 x3 m2).symm.trans h
    refine a_iload 2 dX8_least_31 rfl ?_
    refine a_if_ne (tgt := 40) dX8_least_33 (by decide) (fun c4 => ?_) (fun c4 => ?_)
    · replace h := ifn_ c4 h
      refine a_lload_n 1 dX8_least_40 rfl rfl ?_
      refine a_lload 3 dX8_least_41 rfl ?_
      obtain ⟨c5, h⟩ := iz_some h
      refine a_ldiv dX8_least_43 (of_decide_eq_false c5) ?_
      cases h
      exact a_lreturn rfl rfl rfl rfl dX8_least_44
    · replace h := ifp_ c4 h
      refine a_lload_n 0 dX8_least_36 rfl rfl ?_
      refine a_goto (tgt := 41) dX8_least_37 (by decide) ?_
      refine a_lload 3 dX8_least_41 rfl ?_
      obtain ⟨c6, h⟩ := iz_some h
      refine a_ldiv dX8_least_43 (of_decide_eq_false c6) ?_
      cases h
      exact a_lreturn rfl rfl rfl rfl dX8_least_44
  refine aw_pick [2, 3, 4, 1, 0] rfl ?_
  exact w_X8_least_L6 hl _ _ _ _ hk1 _ _ _ _ h
