/-! PRINTED BY dec.py: X4_asksBy X4_asks X4_owesBy X4_frees X4_passes X4_goes X22_acts X4_strikes X4_owes X4_fare X4_mayPay X4_pays X4_loses X23_acts X24_begins X18_acts X1_work -/
set_option maxRecDepth 100000
def f_X4_asksBy (F : Nat)  (t : pm_A) (i0 : Int32) (i1 : Int32) (i2 : Int32) (i3 : Int32) (m : pm_M) : Option (Int32 × pm_M) :=
  gd_ 5 (gR_ m t 8) fun a1 =>
  lt_ (pI_ m a1 0 i1) fun m4 =>
  gd_ 5 (gR_ m4 t 8) fun a6 =>
  lt_ (pI_ m4 a6 1 i2) fun m9 =>
  gd_ 6 (gR_ m9 t 10) fun a11 =>
  gd_ 100 (gR_ m9 a11 1) fun a14 =>
  iz_ (!(ib_ i0 a14.2.1)) <|
  gd_ 5 (gR_ m9 t 8) fun a18 =>
  lt_ (pI_ m9 a18 2 (gI_ m9 a14 i0.toNatClampNeg)) fun m21 =>
  gd_ 100 (gR_ m21 t 4) fun a23 =>
  iz_ (!(ib_ i0 a23.2.1)) <|
  gd_ 5 (gR_ m21 t 8) fun a27 =>
  lt_ (pI_ m21 a27 3 (gI_ m21 a23 i0.toNatClampNeg)) fun m30 =>
  gd_ 6 (gR_ m30 t 10) fun a32 =>
  bm_ (f_X6_kinOf F a32 i0 m30) fun v37 m35 =>
  bm_ (f_J9_bitCount F v37 m35) fun v40 m38 =>
  gd_ 5 (gR_ m30 t 8) fun a41 =>
  lt_ (pI_ m38 a41 4 v40) fun m44 =>
  gd_ 102 (gR_ m44 t 7) fun a46 =>
  iz_ (!(ib_ i0 a46.2.1)) <|
  jn_ (fun (y52 : Option pm_A) (y53 : Int32) (m51 : pm_M) =>
    gd_ 5 y52 fun a54 =>
    lt_ (pI_ m51 a54 5 y53) fun m57 =>
    gd_ 100 (gR_ m57 t 5) fun a59 =>
    iz_ (!(ib_ i0 a59.2.1)) <|
    jn_ (fun (y65 : Option pm_A) (y66 : Int32) (m64 : pm_M) =>
      gd_ 5 y65 fun a67 =>
      lt_ (pI_ m64 a67 6 y66) fun m70 =>
      gd_ 5 (gR_ m70 t 8) fun a72 =>
      lt_ (pI_ m70 a72 7 (gI_ m70 t 11)) fun m75 =>
      gd_ 2 (gR_ m75 t 9) fun a77 =>
      bm_ (f_X2_asks F a77 (gR_ m75 t 8) i3 m75) fun v82 m80 =>
      some (v82, m80)
    ) fun k63 =>
    if (gI_ m57 a59 i0.toNatClampNeg) = ((-1)) then
      k63 (gR_ m57 t 8) (gI_ m57 t 11) m57
    else
      gd_ 100 (gR_ m57 t 5) fun a84 =>
      iz_ (!(ib_ i0 a84.2.1)) <|
      k63 (gR_ m57 t 8) (gI_ m57 a84 i0.toNatClampNeg) m57
  ) fun k50 =>
  if (gI_ m44 a46 i0.toNatClampNeg) = 0 then
    k50 (gR_ m44 t 8) 0 m44
  else
    k50 (gR_ m44 t 8) 1 m44
set_option maxHeartbeats 4000000 in
theorem e_X4_asksBy {G : xg_T} {l : Launch} (hl : l.stackTraces = false) {F : Nat}    {t : pm_A} {i0 : Int32} {i1 : Int32} {i2 : Int32} {i3 : Int32} {m0 m' : pm_M} {r : Int32} (ht : t.1 = 4) (h : f_X4_asksBy F t i0 i1 i2 i3 m0 = some (r, m')) : Cal_ G l yX4_asksBy (ws_ yX4_asksBy cX4_asksBy 5 (some .int)) 166 [vR_ (some t), vI_ i0, vI_ i1, vI_ i2, vI_ i3] m0 (.inl (some (vI_ r))) m' := by
  refine cal_of (by decide +kernel) (Nat.le_of_ble_eq_true rfl) ?_
  unfold f_X4_asksBy at h
  show AW_ cX4_asksBy RX4 (some (.int), "asksBy", 166, 5, m0, m', (.inl (some (vI_ r))), G, l, [], true) m0 0 [(0, vR_ (some t)), (1, vI_ i0), (2, vI_ i1), (3, vI_ i2), (4, vI_ i3)] []
  refine a_aload_n 0 dX4_asksBy_0 rfl rfl ?_
  refine a_getR kc_4 8 (by decide) rfl ht q299 dX4_asksBy_1 ?_
  refine a_iload_n 2 dX4_asksBy_4 rfl rfl ?_
  obtain ⟨a1, e2, f3, h⟩ := gd_some h
  rw [e2]
  obtain ⟨m4, e5, h⟩ := lt_some h
  refine a_putIN kc_5 0 (by decide) rfl f3 q169 rfl rfl rfl dX4_asksBy_5 ?_
  rw [← e5]
  refine a_aload_n 0 dX4_asksBy_8 rfl rfl ?_
  refine a_getR kc_4 8 (by decide) rfl ht q299 dX4_asksBy_9 ?_
  refine a_iload_n 3 dX4_asksBy_12 rfl rfl ?_
  obtain ⟨a6, e7, f8, h⟩ := gd_some h
  rw [e7]
  obtain ⟨m9, e10, h⟩ := lt_some h
  refine a_putIN kc_5 1 (by decide) rfl f8 q173 rfl rfl rfl dX4_asksBy_13 ?_
  rw [← e10]
  refine a_aload_n 0 dX4_asksBy_16 rfl rfl ?_
  refine a_getR kc_4 8 (by decide) rfl ht q299 dX4_asksBy_17 ?_
  refine a_aload_n 0 dX4_asksBy_20 rfl rfl ?_
  refine a_getR kc_4 10 (by decide) rfl ht q301 dX4_asksBy_21 ?_
  obtain ⟨a11, e12, f13, h⟩ := gd_some h
  rw [e12]
  refine a_getRN kc_6 1 (by decide) rfl f13 q222 dX4_asksBy_24 ?_
  refine a_iload_n 1 dX4_asksBy_27 rfl rfl ?_
  obtain ⟨a14, e15, f16, h⟩ := gd_some h
  rw [e15]
  obtain ⟨c17, h⟩ := iz_some h
  refine a_iald f16 (bn_ c17) dX4_asksBy_28 ?_
  obtain ⟨a18, e19, f20, h⟩ := gd_some h
  rw [e19]
  obtain ⟨m21, e22, h⟩ := lt_some h
  refine a_putIN kc_5 2 (by decide) rfl f20 q176 rfl rfl rfl dX4_asksBy_29 ?_
  rw [← e22]
  refine a_aload_n 0 dX4_asksBy_32 rfl rfl ?_
  refine a_getR kc_4 8 (by decide) rfl ht q299 dX4_asksBy_33 ?_
  refine a_aload_n 0 dX4_asksBy_36 rfl rfl ?_
  refine a_getR kc_4 4 (by decide) rfl ht q292 dX4_asksBy_37 ?_
  refine a_iload_n 1 dX4_asksBy_40 rfl rfl ?_
  obtain ⟨a23, e24, f25, h⟩ := gd_some h
  rw [e24]
  obtain ⟨c26, h⟩ := iz_some h
  refine a_iald f25 (bn_ c26) dX4_asksBy_41 ?_
  obtain ⟨a27, e28, f29, h⟩ := gd_some h
  rw [e28]
  obtain ⟨m30, e31, h⟩ := lt_some h
  refine a_putIN kc_5 3 (by decide) rfl f29 q179 rfl rfl rfl dX4_asksBy_42 ?_
  rw [← e31]
  refine a_aload_n 0 dX4_asksBy_45 rfl rfl ?_
  refine a_getR kc_4 8 (by decide) rfl ht q299 dX4_asksBy_46 ?_
  refine a_aload_n 0 dX4_asksBy_49 rfl rfl ?_
  refine a_getR kc_4 10 (by decide) rfl ht q301 dX4_asksBy_50 ?_
  refine a_iload_n 1 dX4_asksBy_53 rfl rfl ?_
  obtain ⟨a32, e33, f34, h⟩ := gd_some h
  rw [e33]
  obtain ⟨v37, m35, e36, h⟩ := bm_some h
  have he36 := e_X6_kinOf (G := G) hl f34 e36
  refine c_I he36.1 (rn_V (n := 1) (As := [vI_ i0]) kc_6 f34 he36 (lw_V q478 q479 q480 q95 q481) (by decide +kernel) rfl (Nat.le_of_ble_eq_true rfl) (Nat.le_of_ble_eq_true rfl) (Nat.le_of_ble_eq_true rfl) dX4_asksBy_54) (fun z => (os_av (As := [vI_ i0]) z).2.1) ?_
  obtain ⟨v40, m38, e39, h⟩ := bm_some h
  have he39 := e_J9_bitCount (G := G) hl e39
  refine c_I he39.1 (rn_S (n := 1) (As := [vI_ v37]) he39 (lw_S q482 q483 q124 q484) (by decide +kernel) rfl (Nat.le_of_ble_eq_true rfl) (Nat.le_of_ble_eq_true rfl) (Nat.le_of_ble_eq_true rfl) dX4_asksBy_57) (fun z => (os_aS (As := [vI_ v37]) z).2) ?_
  obtain ⟨a41, e42, f43, h⟩ := gd_some h
  rw [e42]
  obtain ⟨m44, e45, h⟩ := lt_some h
  refine a_putIN kc_5 4 (by decide) rfl f43 q182 rfl rfl rfl dX4_asksBy_60 ?_
  rw [← e45]
  refine a_aload_n 0 dX4_asksBy_63 rfl rfl ?_
  refine a_getR kc_4 8 (by decide) rfl ht q299 dX4_asksBy_64 ?_
  refine a_aload_n 0 dX4_asksBy_67 rfl rfl ?_
  refine a_getR kc_4 7 (by decide) rfl ht q297 dX4_asksBy_68 ?_
  refine a_iload_n 1 dX4_asksBy_71 rfl rfl ?_
  obtain ⟨a46, e47, f48, h⟩ := gd_some h
  rw [e47]
  obtain ⟨c49, h⟩ := iz_some h
  refine a_zald f48 (bn_ c49) dX4_asksBy_72 ?_
  obtain ⟨k50, e90, h⟩ := jn3_some h
  have hk50 : ∀ (y52 : Option pm_A) (y53 : Int32) (m51 : pm_M), k50 y52 y53 m51 = some (r, m') → AW_ cX4_asksBy RX4 (some (.int), "asksBy", 166, 5, m0, m', (.inl (some (vI_ r))), G, l, [], true) m51 81 [(0, vR_ (some t)), (1, vI_ i0), (4, vI_ i3)] [vI_ y53, vR_ y52] := by
    intro y52 y53 m51 h
    have h := (e90 y52 y53 m51).symm.trans h
    obtain ⟨a54, e55, f56, h⟩ := gd_some h
    rw [e55]
    obtain ⟨m57, e58, h⟩ := lt_some h
    refine a_putIN kc_5 5 (by decide) rfl f56 q184 rfl rfl rfl dX4_asksBy_81 ?_
    rw [← e58]
    refine a_aload_n 0 dX4_asksBy_84 rfl rfl ?_
    refine a_getR kc_4 8 (by decide) rfl ht q299 dX4_asksBy_85 ?_
    refine a_aload_n 0 dX4_asksBy_88 rfl rfl ?_
    refine a_getR kc_4 5 (by decide) rfl ht q294 dX4_asksBy_89 ?_
    refine a_iload_n 1 dX4_asksBy_92 rfl rfl ?_
    obtain ⟨a59, e60, f61, h⟩ := gd_some h
    rw [e60]
    obtain ⟨c62, h⟩ := iz_some h
    refine a_iald f61 (bn_ c62) dX4_asksBy_93 ?_
    refine a_iconst (v := (-1)) dX4_asksBy_94 (by decide) ?_
    obtain ⟨k63, e88, h⟩ := jn3_some h
    have hk63 : ∀ (y65 : Option pm_A) (y66 : Int32) (m64 : pm_M), k63 y65 y66 m64 = some (r, m') → AW_ cX4_asksBy RX4 (some (.int), "asksBy", 166, 5, m0, m', (.inl (some (vI_ r))), G, l, [], true) m64 111 [(0, vR_ (some t)), (4, vI_ i3)] [vI_ y66, vR_ y65] := by
      intro y65 y66 m64 h
      have h := (e88 y65 y66 m64).symm.trans h
      obtain ⟨a67, e68, f69, h⟩ := gd_some h
      rw [e68]
      obtain ⟨m70, e71, h⟩ := lt_some h
      refine a_putIN kc_5 6 (by decide) rfl f69 q187 rfl rfl rfl dX4_asksBy_111 ?_
      rw [← e71]
      refine a_aload_n 0 dX4_asksBy_114 rfl rfl ?_
      refine a_getR kc_4 8 (by decide) rfl ht q299 dX4_asksBy_115 ?_
      refine a_aload_n 0 dX4_asksBy_118 rfl rfl ?_
      refine a_getI kc_4 11 (by decide) rfl ht q303 dX4_asksBy_119 ?_
      obtain ⟨a72, e73, f74, h⟩ := gd_some h
      rw [e73]
      obtain ⟨m75, e76, h⟩ := lt_some h
      refine a_putIN kc_5 7 (by decide) rfl f74 q189 rfl rfl rfl dX4_asksBy_122 ?_
      rw [← e76]
      refine a_aload_n 0 dX4_asksBy_125 rfl rfl ?_
      refine a_getR kc_4 9 (by decide) rfl ht q300 dX4_asksBy_126 ?_
      refine a_aload_n 0 dX4_asksBy_129 rfl rfl ?_
      refine a_getR kc_4 8 (by decide) rfl ht q299 dX4_asksBy_130 ?_
      refine a_iload 1 dX4_asksBy_133 rfl ?_
      obtain ⟨a77, e78, f79, h⟩ := gd_some h
      rw [e78]
      obtain ⟨v82, m80, e81, h⟩ := bm_some h
      have he81 := e_X2_asks (G := G) hl f79 e81
      refine c_I he81.1 (rn_V (n := 2) (As := [vR_ (gR_ m75 t 8), vI_ i3]) kc_2 f79 he81 (lw_V q488 q489 q490 q91 q491) (by decide +kernel) rfl (Nat.le_of_ble_eq_true rfl) (Nat.le_of_ble_eq_true rfl) (Nat.le_of_ble_eq_true rfl) dX4_asksBy_135) (fun z => (os_av (As := [vR_ (gR_ m75 t 8), vI_ i3]) z).2.1) ?_
      cases h
      exact a_ireturn rfl rfl rfl rfl rfl dX4_asksBy_138
    refine a_icmp_ne (tgt := 105) dX4_asksBy_95 (by decide) (fun c83 => ?_) (fun c83 => ?_)
    · replace h := ifn_ c83 h
      refine a_aload_n 0 dX4_asksBy_105 rfl rfl ?_
      refine a_getR kc_4 5 (by decide) rfl ht q294 dX4_asksBy_106 ?_
      refine a_iload_n 1 dX4_asksBy_109 rfl rfl ?_
      obtain ⟨a84, e85, f86, h⟩ := gd_some h
      rw [e85]
      obtain ⟨c87, h⟩ := iz_some h
      refine a_iald f86 (bn_ c87) dX4_asksBy_110 ?_
      refine aw_pick [0, 2] rfl ?_
      exact hk63 _ _ _ h
    · replace h := ifp_ c83 h
      refine a_aload_n 0 dX4_asksBy_98 rfl rfl ?_
      refine a_getI kc_4 11 (by decide) rfl ht q303 dX4_asksBy_99 ?_
      refine a_goto (tgt := 111) dX4_asksBy_102 (by decide) ?_
      refine aw_pick [0, 2] rfl ?_
      exact hk63 _ _ _ h
  refine a_if_eq (tgt := 80) dX4_asksBy_73 (by decide) (fun c89 => ?_) (fun c89 => ?_)
  · replace h := ifp_ c89 h
    refine a_iconst (v := 0) dX4_asksBy_80 (by decide) ?_
    refine aw_pick [0, 1, 4] rfl ?_
    exact hk50 _ _ _ h
  · replace h := ifn_ c89 h
    refine a_iconst (v := 1) dX4_asksBy_76 (by decide) ?_
    refine a_goto (tgt := 81) dX4_asksBy_77 (by decide) ?_
    refine aw_pick [0, 1, 4] rfl ?_
    exact hk50 _ _ _ h
def f_X4_asks (F : Nat)  (t : pm_A) (i0 : Int32) (i1 : Int32) (m : pm_M) : Option (Int32 × pm_M) :=
  gd_ 6 (gR_ m t 10) fun a1 =>
  gd_ 100 (gR_ m a1 0) fun a4 =>
  iz_ (!(ib_ i0 a4.2.1)) <|
  gd_ 100 (gR_ m t 3) fun a8 =>
  iz_ (!(ib_ i0 a8.2.1)) <|
  bm_ (f_X4_asksBy F t i0 (gI_ m a4 i0.toNatClampNeg) (gI_ m a8 i0.toNatClampNeg) i1 m) fun v14 m12 =>
  some (v14, m12)
set_option maxHeartbeats 4000000 in
theorem e_X4_asks {G : xg_T} {l : Launch} (hl : l.stackTraces = false) {F : Nat}    {t : pm_A} {i0 : Int32} {i1 : Int32} {m0 m' : pm_M} {r : Int32} (ht : t.1 = 4) (h : f_X4_asks F t i0 i1 m0 = some (r, m')) : Cal_ G l yX4_asks (ws_ yX4_asks cX4_asks 3 (some .int)) 167 [vR_ (some t), vI_ i0, vI_ i1] m0 (.inl (some (vI_ r))) m' := by
  refine cal_of (by decide +kernel) (Nat.le_of_ble_eq_true rfl) ?_
  unfold f_X4_asks at h
  show AW_ cX4_asks RX4 (some (.int), "asks", 167, 3, m0, m', (.inl (some (vI_ r))), G, l, [], true) m0 0 [(0, vR_ (some t)), (1, vI_ i0), (2, vI_ i1)] []
  refine a_aload_n 0 dX4_asks_0 rfl rfl ?_
  refine a_iload_n 1 dX4_asks_1 rfl rfl ?_
  refine a_aload_n 0 dX4_asks_2 rfl rfl ?_
  refine a_getR kc_4 10 (by decide) rfl ht q301 dX4_asks_3 ?_
  obtain ⟨a1, e2, f3, h⟩ := gd_some h
  rw [e2]
  refine a_getRN kc_6 0 (by decide) rfl f3 q218 dX4_asks_6 ?_
  refine a_iload_n 1 dX4_asks_9 rfl rfl ?_
  obtain ⟨a4, e5, f6, h⟩ := gd_some h
  rw [e5]
  obtain ⟨c7, h⟩ := iz_some h
  refine a_iald f6 (bn_ c7) dX4_asks_10 ?_
  refine a_aload_n 0 dX4_asks_11 rfl rfl ?_
  refine a_getR kc_4 3 (by decide) rfl ht q290 dX4_asks_12 ?_
  refine a_iload_n 1 dX4_asks_15 rfl rfl ?_
  obtain ⟨a8, e9, f10, h⟩ := gd_some h
  rw [e9]
  obtain ⟨c11, h⟩ := iz_some h
  refine a_iald f10 (bn_ c11) dX4_asks_16 ?_
  refine a_iload_n 2 dX4_asks_17 rfl rfl ?_
  obtain ⟨v14, m12, e13, h⟩ := bm_some h
  have he13 := e_X4_asksBy (G := G) hl ht e13
  refine c_I he13.1 (rn_V (n := 4) (As := [vI_ i0, vI_ (gI_ m0 a4 i0.toNatClampNeg), vI_ (gI_ m0 a8 i0.toNatClampNeg), vI_ i1]) kc_4 ht he13 (lw_V q474 q475 q476 q93 q477) (by decide +kernel) rfl (Nat.le_of_ble_eq_true rfl) (Nat.le_of_ble_eq_true rfl) (Nat.le_of_ble_eq_true rfl) dX4_asks_18) (fun z => (os_av (As := [vI_ i0, vI_ (gI_ m0 a4 i0.toNatClampNeg), vI_ (gI_ m0 a8 i0.toNatClampNeg), vI_ i1]) z).2.1) ?_
  cases h
  exact a_ireturn rfl rfl rfl rfl rfl dX4_asks_21
def f_X4_owesBy (F : Nat)  (t : pm_A) (i0 : Int32) (i1 : Int32) (m : pm_M) : Option (Int32 × pm_M) :=
  gd_ 100 (gR_ m t 0) fun a1 =>
  iz_ (!(ib_ i0 a1.2.1)) <|
  if (gI_ m a1 i0.toNatClampNeg) = 3 then
    some (0, m)
  else
    bm_ (f_X4_asks F t i0 i1 m) fun v8 m6 =>
    gd_ 100 (gR_ m6 t 2) fun a9 =>
    iz_ (!(ib_ i0 a9.2.1)) <|
    bm_ (f_J8_max F 0 (v8 - (gI_ m6 a9 i0.toNatClampNeg)) m6) fun v15 m13 =>
    some (v15, m13)
set_option maxHeartbeats 4000000 in
theorem e_X4_owesBy {G : xg_T} {l : Launch} (hl : l.stackTraces = false) {F : Nat}    {t : pm_A} {i0 : Int32} {i1 : Int32} {m0 m' : pm_M} {r : Int32} (ht : t.1 = 4) (h : f_X4_owesBy F t i0 i1 m0 = some (r, m')) : Cal_ G l yX4_owesBy (ws_ yX4_owesBy cX4_owesBy 3 (some .int)) 168 [vR_ (some t), vI_ i0, vI_ i1] m0 (.inl (some (vI_ r))) m' := by
  refine cal_of (by decide +kernel) (Nat.le_of_ble_eq_true rfl) ?_
  unfold f_X4_owesBy at h
  show AW_ cX4_owesBy RX4 (some (.int), "owesBy", 168, 3, m0, m', (.inl (some (vI_ r))), G, l, [], true) m0 0 [(0, vR_ (some t)), (1, vI_ i0), (2, vI_ i1)] []
  refine a_aload_n 0 dX4_owesBy_0 rfl rfl ?_
  refine a_getR kc_4 0 (by decide) rfl ht q283 dX4_owesBy_1 ?_
  refine a_iload_n 1 dX4_owesBy_4 rfl rfl ?_
  obtain ⟨a1, e2, f3, h⟩ := gd_some h
  rw [e2]
  obtain ⟨c4, h⟩ := iz_some h
  refine a_iald f3 (bn_ c4) dX4_owesBy_5 ?_
  refine a_iconst (v := 3) dX4_owesBy_6 (by decide) ?_
  refine a_icmp_ne (tgt := 14) dX4_owesBy_7 (by decide) (fun c5 => ?_) (fun c5 => ?_)
  · replace h := ifn_ c5 h
    refine a_iconst (v := 0) dX4_owesBy_14 (by decide) ?_
    refine a_aload_n 0 dX4_owesBy_15 rfl rfl ?_
    refine a_iload_n 1 dX4_owesBy_16 rfl rfl ?_
    refine a_iload_n 2 dX4_owesBy_17 rfl rfl ?_
    obtain ⟨v8, m6, e7, h⟩ := bm_some h
    have he7 := e_X4_asks (G := G) hl ht e7
    refine c_I he7.1 (rn_V (n := 2) (As := [vI_ i0, vI_ i1]) kc_4 ht he7 (lw_V q470 q471 q472 q93 q473) (by decide +kernel) rfl (Nat.le_of_ble_eq_true rfl) (Nat.le_of_ble_eq_true rfl) (Nat.le_of_ble_eq_true rfl) dX4_owesBy_18) (fun z => (os_av (As := [vI_ i0, vI_ i1]) z).2.1) ?_
    refine a_aload_n 0 dX4_owesBy_21 rfl rfl ?_
    refine a_getR kc_4 2 (by decide) rfl ht q288 dX4_owesBy_22 ?_
    refine a_iload_n 1 dX4_owesBy_25 rfl rfl ?_
    obtain ⟨a9, e10, f11, h⟩ := gd_some h
    rw [e10]
    obtain ⟨c12, h⟩ := iz_some h
    refine a_iald f11 (bn_ c12) dX4_owesBy_26 ?_
    refine a_isub dX4_owesBy_27 ?_
    obtain ⟨v15, m13, e14, h⟩ := bm_some h
    have he14 := e_J8_max (G := G) hl e14
    refine c_I he14.1 (rn_S (n := 2) (As := [vI_ 0, vI_ (v8 - (gI_ m6 a9 i0.toNatClampNeg))]) he14 (lw_S q528 q524 q109 q525) (by decide +kernel) rfl (Nat.le_of_ble_eq_true rfl) (Nat.le_of_ble_eq_true rfl) (Nat.le_of_ble_eq_true rfl) dX4_owesBy_28) (fun z => (os_aS (As := [vI_ 0, vI_ (v8 - (gI_ m6 a9 i0.toNatClampNeg))]) z).2) ?_
    cases h
    exact a_ireturn rfl rfl rfl rfl rfl dX4_owesBy_31
  · replace h := ifp_ c5 h
    refine a_iconst (v := 0) dX4_owesBy_10 (by decide) ?_
    refine a_goto (tgt := 31) dX4_owesBy_11 (by decide) ?_
    cases h
    exact a_ireturn rfl rfl rfl rfl rfl dX4_owesBy_31
def f_X4_frees (F : Nat)  (t : pm_A) (i0 : Int32) (m : pm_M) : Option (Unit × pm_M) :=
  gd_ 100 (gR_ m t 0) fun a1 =>
  iz_ (!(ib_ i0 a1.2.1)) <|
  lt_ (pI_ m a1 i0.toNatClampNeg 3) fun m5 =>
  gd_ 100 (gR_ m5 t 1) fun a7 =>
  iz_ (!(ib_ i0 a7.2.1)) <|
  lt_ (pI_ m5 a7 i0.toNatClampNeg ((-1))) fun m11 =>
  some ((), m11)
set_option maxHeartbeats 4000000 in
theorem e_X4_frees {G : xg_T} {l : Launch} (hl : l.stackTraces = false) {F : Nat}    {t : pm_A} {i0 : Int32} {m0 m' : pm_M} {r : Unit} (ht : t.1 = 4) (h : f_X4_frees F t i0 m0 = some (r, m')) : Cal_ G l yX4_frees (ws_ yX4_frees cX4_frees 2 none) 2 [vR_ (some t), vI_ i0] m0 (.inl none) m' := by
  refine cal_of (by decide +kernel) (Nat.le_of_ble_eq_true rfl) ?_
  unfold f_X4_frees at h
  show AW_ cX4_frees RX4 (none, "frees", 2, 2, m0, m', (.inl none), G, l, [], true) m0 0 [(0, vR_ (some t)), (1, vI_ i0)] []
  refine a_aload_n 0 dX4_frees_0 rfl rfl ?_
  refine a_getR kc_4 0 (by decide) rfl ht q283 dX4_frees_1 ?_
  refine a_iload_n 1 dX4_frees_4 rfl rfl ?_
  refine a_iconst (v := 3) dX4_frees_5 (by decide) ?_
  obtain ⟨a1, e2, f3, h⟩ := gd_some h
  rw [e2]
  obtain ⟨c4, h⟩ := iz_some h
  obtain ⟨m5, e6, h⟩ := lt_some h
  refine a_iast f3 (bn_ c4) dX4_frees_6 ?_
  rw [← e6]
  refine a_aload_n 0 dX4_frees_7 rfl rfl ?_
  refine a_getR kc_4 1 (by decide) rfl ht q286 dX4_frees_8 ?_
  refine a_iload_n 1 dX4_frees_11 rfl rfl ?_
  refine a_iconst (v := (-1)) dX4_frees_12 (by decide) ?_
  obtain ⟨a7, e8, f9, h⟩ := gd_some h
  rw [e8]
  obtain ⟨c10, h⟩ := iz_some h
  obtain ⟨m11, e12, h⟩ := lt_some h
  refine a_iast f9 (bn_ c10) dX4_frees_13 ?_
  rw [← e12]
  cases h
  exact a_return rfl rfl rfl rfl dX4_frees_14
def f_X4_passes_L94 (F : Nat)  (p5 : pm_A) : Nat → Int32 → pm_M → Option (Unit × pm_M)
  | 0, _, _ => none
  | n7 + 1, x9, m8 =>
    gd_ 6 (gR_ m8 p5 10) fun a10 =>
    if (gI_ m8 a10 7) ≤ x9 then
      some ((), m8)
    else
      bm_ (f_X4_isBound F p5 x9 m8) fun v16 m14 =>
      if v16 = 0 then
        (f_X4_passes_L94 F p5 n7) (x9 + 1) m14
      else
        bm_ (f_X4_owesBy F p5 x9 (gI_ m14 p5 13) m14) fun v20 m18 =>
        if v20 = 0 then
          bm_ (f_X4_frees F p5 x9 m18) fun v24 m22 =>
          (f_X4_passes_L94 F p5 n7) (x9 + 1) m22
        else
          (f_X4_passes_L94 F p5 n7) (x9 + 1) m18
set_option maxHeartbeats 4000000 in
theorem w_X4_passes_L94 {G : xg_T} {l : Launch} (hl : l.stackTraces = false) {F : Nat}    (p5 : pm_A) {m0 m' : pm_M} {r : Unit} (hf6 : p5.1 = 4)  : ∀ (n : Nat) (x9 : Int32) (m8 : pm_M), f_X4_passes_L94 F p5 n x9 m8 = some (r, m') → AW_ cX4_passes RX4 (none, "passes", 169, 2, m0, m', (.inl none), G, l, [], true) m8 94 [(0, vR_ (some p5)), (1, vI_ x9)] [] := by
  intro n
  induction n with
  | zero => intro x9 m8 h; cases h
  | succ n7 ih =>
    intro x9 m8 h
    rw [f_X4_passes_L94] at h
    refine a_iload_n 1 dX4_passes_94 rfl rfl ?_
    refine a_aload_n 0 dX4_passes_95 rfl rfl ?_
    refine a_getR kc_4 10 (by decide) rfl hf6 q301 dX4_passes_96 ?_
    obtain ⟨a10, e11, f12, h⟩ := gd_some h
    rw [e11]
    refine a_getIN kc_6 7 (by decide) rfl f12 q248 dX4_passes_99 ?_
    refine a_icmp_ge (tgt := 136) dX4_passes_102 (by decide) (fun c13 => ?_) (fun c13 => ?_)
    · replace h := ifp_ c13 h
      cases h
      exact a_return rfl rfl rfl rfl dX4_passes_136
    · replace h := ifn_ c13 h
      refine a_aload_n 0 dX4_passes_105 rfl rfl ?_
      refine a_iload_n 1 dX4_passes_106 rfl rfl ?_
      obtain ⟨v16, m14, e15, h⟩ := bm_some h
      have he15 := e_X4_isBound (G := G) hl hf6 e15
      refine c_I he15.1 (rn_V (n := 1) (As := [vI_ x9]) kc_4 hf6 he15 (lw_V q1133 q463 q464 q93 q465) (by decide +kernel) rfl (Nat.le_of_ble_eq_true rfl) (Nat.le_of_ble_eq_true rfl) (Nat.le_of_ble_eq_true rfl) dX4_passes_107) (fun z => (os_av (As := [vI_ x9]) z).2.1) ?_
      refine a_if_eq (tgt := 130) dX4_passes_110 (by decide) (fun c17 => ?_) (fun c17 => ?_)
      · replace h := ifp_ c17 h
        refine a_iinc (v := x9 + 1) (ls' := [(1, vI_ (x9 + 1)), (0, vR_ (some p5))]) 1 dX4_passes_130 rfl rfl (Nat.le_of_ble_eq_true rfl) rfl ?_
        refine a_goto (tgt := 94) dX4_passes_133 (by decide) ?_
        refine aw_pick [1, 0] rfl ?_
        exact ih _ _ h
      · replace h := ifn_ c17 h
        refine a_aload_n 0 dX4_passes_113 rfl rfl ?_
        refine a_iload_n 1 dX4_passes_114 rfl rfl ?_
        refine a_aload_n 0 dX4_passes_115 rfl rfl ?_
        refine a_getI kc_4 13 (by decide) rfl hf6 q307 dX4_passes_116 ?_
        obtain ⟨v20, m18, e19, h⟩ := bm_some h
        have he19 := e_X4_owesBy (G := G) hl hf6 e19
        refine c_I he19.1 (rn_V (n := 2) (As := [vI_ x9, vI_ (gI_ m14 p5 13)]) kc_4 hf6 he19 (lw_V q1162 q467 q468 q93 q469) (by decide +kernel) rfl (Nat.le_of_ble_eq_true rfl) (Nat.le_of_ble_eq_true rfl) (Nat.le_of_ble_eq_true rfl) dX4_passes_119) (fun z => (os_av (As := [vI_ x9, vI_ (gI_ m14 p5 13)]) z).2.1) ?_
        refine a_if_ne (tgt := 130) dX4_passes_122 (by decide) (fun c21 => ?_) (fun c21 => ?_)
        · replace h := ifn_ c21 h
          refine a_iinc (v := x9 + 1) (ls' := [(1, vI_ (x9 + 1)), (0, vR_ (some p5))]) 1 dX4_passes_130 rfl rfl (Nat.le_of_ble_eq_true rfl) rfl ?_
          refine a_goto (tgt := 94) dX4_passes_133 (by decide) ?_
          refine aw_pick [1, 0] rfl ?_
          exact ih _ _ h
        · replace h := ifp_ c21 h
          refine a_aload_n 0 dX4_passes_125 rfl rfl ?_
          refine a_iload_n 1 dX4_passes_126 rfl rfl ?_
          obtain ⟨v24, m22, e23, h⟩ := bm_some h
          have he23 := e_X4_frees (G := G) hl hf6 e23
          refine c_V he23.1 (rn_V (n := 1) (As := [vI_ x9]) kc_4 hf6 he23 (lw_V q1163 q1165 qs14 q93 q1166) (by decide +kernel) rfl (Nat.le_of_ble_eq_true rfl) (Nat.le_of_ble_eq_true rfl) (Nat.le_of_ble_eq_true rfl) dX4_passes_127) (fun z => (os_av (As := [vI_ x9]) z).2.1) ?_
          refine a_iinc (v := x9 + 1) (ls' := [(1, vI_ (x9 + 1)), (0, vR_ (some p5))]) 1 dX4_passes_130 rfl rfl (Nat.le_of_ble_eq_true rfl) rfl ?_
          refine a_goto (tgt := 94) dX4_passes_133 (by decide) ?_
          refine aw_pick [1, 0] rfl ?_
          exact ih _ _ h
def f_X4_passes_L2 (F : Nat)  (p25 : pm_A) (k27 : pm_M → Option (Unit × pm_M)) : Nat → Int32 → pm_M → Option (Unit × pm_M)
  | 0, _, _ => none
  | n29 + 1, x31, m30 =>
    gd_ 6 (gR_ m30 p25 10) fun a32 =>
    if (gI_ m30 a32 7) ≤ x31 then
      k27 m30
    else
      gd_ 100 (gR_ m30 p25 0) fun a36 =>
      iz_ (!(ib_ x31 a36.2.1)) <|
      jn_ (fun  (m41 : pm_M) =>
        bm_ (f_X4_isBound F p25 x31 m41) fun v44 m42 =>
        jn_ (fun  (m46 : pm_M) =>
          bm_ (f_J8_max F 0 (gI_ m46 p25 12) m46) fun v49 m47 =>
          lt_ (pI_ m47 p25 12 v49) fun m50 =>
          (f_X4_passes_L2 F p25 k27 n29) (x31 + 1) m50
        ) fun k45 =>
        if v44 = 0 then
          k45 m42
        else
          gd_ 100 (gR_ m42 p25 2) fun a53 =>
          iz_ (!(ib_ x31 a53.2.1)) <|
          iz_ (!(ib_ x31 a53.2.1)) <|
          lt_ (pI_ m42 a53 x31.toNatClampNeg ((gI_ m42 a53 x31.toNatClampNeg) + 1)) fun m58 =>
          k45 m58
      ) fun k40 =>
      if (gI_ m30 a36 x31.toNatClampNeg) = 0 then
        lt_ (pI_ m30 p25 12 ((gI_ m30 p25 12) - 1)) fun m62 =>
        if 0 ≤ ((gI_ m30 p25 12) - 1) then
          k40 m62
        else
          gd_ 100 (gR_ m62 p25 4) fun a65 =>
          iz_ (!(ib_ x31 a65.2.1)) <|
          iz_ (!(ib_ x31 a65.2.1)) <|
          lt_ (pI_ m62 a65 x31.toNatClampNeg ((gI_ m62 a65 x31.toNatClampNeg) + 1)) fun m70 =>
          k40 m70
      else
        k40 m30
set_option maxHeartbeats 4000000 in
theorem w_X4_passes_L2 {G : xg_T} {l : Launch} (hl : l.stackTraces = false) {F : Nat}    (p25 : pm_A) (k27 : pm_M → Option (Unit × pm_M)) {m0 m' : pm_M} {r : Unit} (hf26 : p25.1 = 4) (hk27 : ∀ (m28 : pm_M), k27 m28 = some (r, m') → AW_ cX4_passes RX4 (none, "passes", 169, 2, m0, m', (.inl none), G, l, [], true) m28 82 [(0, vR_ (some p25))] []) : ∀ (n : Nat) (x31 : Int32) (m30 : pm_M), f_X4_passes_L2 F p25 k27 n x31 m30 = some (r, m') → AW_ cX4_passes RX4 (none, "passes", 169, 2, m0, m', (.inl none), G, l, [], true) m30 2 [(0, vR_ (some p25)), (1, vI_ x31)] [] := by
  intro n
  induction n with
  | zero => intro x31 m30 h; cases h
  | succ n29 ih =>
    intro x31 m30 h
    rw [f_X4_passes_L2] at h
    refine a_iload_n 1 dX4_passes_2 rfl rfl ?_
    refine a_aload_n 0 dX4_passes_3 rfl rfl ?_
    refine a_getR kc_4 10 (by decide) rfl hf26 q301 dX4_passes_4 ?_
    obtain ⟨a32, e33, f34, h⟩ := gd_some h
    rw [e33]
    refine a_getIN kc_6 7 (by decide) rfl f34 q248 dX4_passes_7 ?_
    refine a_icmp_ge (tgt := 82) dX4_passes_10 (by decide) (fun c35 => ?_) (fun c35 => ?_)
    · replace h := ifp_ c35 h
      refine aw_pick [0] rfl ?_
      exact hk27 _ h
    · replace h := ifn_ c35 h
      refine a_aload_n 0 dX4_passes_13 rfl rfl ?_
      refine a_getR kc_4 0 (by decide) rfl hf26 q283 dX4_passes_14 ?_
      refine a_iload_n 1 dX4_passes_17 rfl rfl ?_
      obtain ⟨a36, e37, f38, h⟩ := gd_some h
      rw [e37]
      obtain ⟨c39, h⟩ := iz_some h
      refine a_iald f38 (bn_ c39) dX4_passes_18 ?_
      obtain ⟨k40, e72, h⟩ := jn1_some h
      have hk40 : ∀  (m41 : pm_M), k40 m41 = some (r, m') → AW_ cX4_passes RX4 (none, "passes", 169, 2, m0, m', (.inl none), G, l, [], true) m41 46 [(0, vR_ (some p25)), (1, vI_ x31)] [] := by
        intro m41 h
        have h := (e72 m41).symm.trans h
        refine a_aload_n 0 dX4_passes_46 rfl rfl ?_
        refine a_iload_n 1 dX4_passes_47 rfl rfl ?_
        obtain ⟨v44, m42, e43, h⟩ := bm_some h
        have he43 := e_X4_isBound (G := G) hl hf26 e43
        refine c_I he43.1 (rn_V (n := 1) (As := [vI_ x31]) kc_4 hf26 he43 (lw_V q1133 q463 q464 q93 q465) (by decide +kernel) rfl (Nat.le_of_ble_eq_true rfl) (Nat.le_of_ble_eq_true rfl) (Nat.le_of_ble_eq_true rfl) dX4_passes_48) (fun z => (os_av (As := [vI_ x31]) z).2.1) ?_
        obtain ⟨k45, e60, h⟩ := jn1_some h
        have hk45 : ∀  (m46 : pm_M), k45 m46 = some (r, m') → AW_ cX4_passes RX4 (none, "passes", 169, 2, m0, m', (.inl none), G, l, [], true) m46 64 [(0, vR_ (some p25)), (1, vI_ x31)] [] := by
          intro m46 h
          have h := (e60 m46).symm.trans h
          refine a_aload_n 0 dX4_passes_64 rfl rfl ?_
          refine a_iconst (v := 0) dX4_passes_65 (by decide) ?_
          refine a_aload_n 0 dX4_passes_66 rfl rfl ?_
          refine a_getI kc_4 12 (by decide) rfl hf26 q305 dX4_passes_67 ?_
          obtain ⟨v49, m47, e48, h⟩ := bm_some h
          have he48 := e_J8_max (G := G) hl e48
          refine c_I he48.1 (rn_S (n := 2) (As := [vI_ 0, vI_ (gI_ m46 p25 12)]) he48 (lw_S q528 q524 q109 q525) (by decide +kernel) rfl (Nat.le_of_ble_eq_true rfl) (Nat.le_of_ble_eq_true rfl) (Nat.le_of_ble_eq_true rfl) dX4_passes_70) (fun z => (os_aS (As := [vI_ 0, vI_ (gI_ m46 p25 12)]) z).2) ?_
          obtain ⟨m50, e51, h⟩ := lt_some h
          refine a_putI kc_4 12 (by decide) rfl hf26 q305 rfl rfl rfl dX4_passes_73 ?_
          rw [← e51]
          refine a_iinc (v := x31 + 1) (ls' := [(1, vI_ (x31 + 1)), (0, vR_ (some p25))]) 1 dX4_passes_76 rfl rfl (Nat.le_of_ble_eq_true rfl) rfl ?_
          refine a_goto (tgt := 2) dX4_passes_79 (by decide) ?_
          refine aw_pick [1, 0] rfl ?_
          exact ih _ _ h
        refine a_if_eq (tgt := 64) dX4_passes_51 (by decide) (fun c52 => ?_) (fun c52 => ?_)
        · replace h := ifp_ c52 h
          exact hk45 _ h
        · replace h := ifn_ c52 h
          refine a_aload_n 0 dX4_passes_54 rfl rfl ?_
          refine a_getR kc_4 2 (by decide) rfl hf26 q288 dX4_passes_55 ?_
          refine a_iload_n 1 dX4_passes_58 rfl rfl ?_
          refine a_dup2 dX4_passes_59 rfl rfl ?_
          obtain ⟨a53, e54, f55, h⟩ := gd_some h
          rw [e54]
          obtain ⟨c56, h⟩ := iz_some h
          refine a_iald f55 (bn_ c56) dX4_passes_60 ?_
          refine a_iconst (v := 1) dX4_passes_61 (by decide) ?_
          refine a_iadd dX4_passes_62 ?_
          obtain ⟨c57, h⟩ := iz_some h
          obtain ⟨m58, e59, h⟩ := lt_some h
          refine a_iast f55 (bn_ c57) dX4_passes_63 ?_
          rw [← e59]
          exact hk45 _ h
      refine a_if_ne (tgt := 46) dX4_passes_19 (by decide) (fun c61 => ?_) (fun c61 => ?_)
      · replace h := ifn_ c61 h
        exact hk40 _ h
      · replace h := ifp_ c61 h
        refine a_aload_n 0 dX4_passes_22 rfl rfl ?_
        refine a_dup dX4_passes_23 rfl ?_
        refine a_getI kc_4 12 (by decide) rfl hf26 q305 dX4_passes_24 ?_
        refine a_iconst (v := 1) dX4_passes_27 (by decide) ?_
        refine a_isub dX4_passes_28 ?_
        refine a_dup_x1 dX4_passes_29 rfl rfl ?_
        obtain ⟨m62, e63, h⟩ := lt_some h
        refine a_putI kc_4 12 (by decide) rfl hf26 q305 rfl rfl rfl dX4_passes_30 ?_
        rw [← e63]
        refine a_if_ge (tgt := 46) dX4_passes_33 (by decide) (fun c64 => ?_) (fun c64 => ?_)
        · replace h := ifp_ c64 h
          exact hk40 _ h
        · replace h := ifn_ c64 h
          refine a_aload_n 0 dX4_passes_36 rfl rfl ?_
          refine a_getR kc_4 4 (by decide) rfl hf26 q292 dX4_passes_37 ?_
          refine a_iload_n 1 dX4_passes_40 rfl rfl ?_
          refine a_dup2 dX4_passes_41 rfl rfl ?_
          obtain ⟨a65, e66, f67, h⟩ := gd_some h
          rw [e66]
          obtain ⟨c68, h⟩ := iz_some h
          refine a_iald f67 (bn_ c68) dX4_passes_42 ?_
          refine a_iconst (v := 1) dX4_passes_43 (by decide) ?_
          refine a_iadd dX4_passes_44 ?_
          obtain ⟨c69, h⟩ := iz_some h
          obtain ⟨m70, e71, h⟩ := lt_some h
          refine a_iast f67 (bn_ c69) dX4_passes_45 ?_
          rw [← e71]
          exact hk40 _ h
def f_X4_passes (F : Nat)  (t : pm_A) (m : pm_M) : Option (Unit × pm_M) :=
  jn_ (fun  (m2 : pm_M) =>
    lt_ (pI_ m2 t 11 ((gI_ m2 t 11) + 1)) fun m3 =>
    f_X4_passes_L94 F t F 0 m3
  ) fun k1 =>
  f_X4_passes_L2 F t k1 F 0 m
set_option maxHeartbeats 4000000 in
theorem e_X4_passes {G : xg_T} {l : Launch} (hl : l.stackTraces = false) {F : Nat}    {t : pm_A} {m0 m' : pm_M} {r : Unit} (ht : t.1 = 4) (h : f_X4_passes F t m0 = some (r, m')) : Cal_ G l yX4_passes (ws_ yX4_passes cX4_passes 2 none) 169 [vR_ (some t)] m0 (.inl none) m' := by
  refine cal_of (by decide +kernel) (Nat.le_of_ble_eq_true rfl) ?_
  unfold f_X4_passes at h
  show AW_ cX4_passes RX4 (none, "passes", 169, 2, m0, m', (.inl none), G, l, [], true) m0 0 [(0, vR_ (some t))] []
  refine a_iconst (v := 0) dX4_passes_0 (by decide) ?_
  refine a_istore_n (ls' := [(1, vI_ 0), (0, vR_ (some t))]) dX4_passes_1 rfl (Nat.le_of_ble_eq_true rfl) rfl ?_
  obtain ⟨k1, e73, h⟩ := jn1_some h
  have hk1 : ∀  (m2 : pm_M), k1 m2 = some (r, m') → AW_ cX4_passes RX4 (none, "passes", 169, 2, m0, m', (.inl none), G, l, [], true) m2 82 [(0, vR_ (some t))] [] := by
    intro m2 h
    have h := (e73 m2).symm.trans h
    refine a_aload_n 0 dX4_passes_82 rfl rfl ?_
    refine a_dup dX4_passes_83 rfl ?_
    refine a_getI kc_4 11 (by decide) rfl ht q303 dX4_passes_84 ?_
    refine a_iconst (v := 1) dX4_passes_87 (by decide) ?_
    refine a_iadd dX4_passes_88 ?_
    obtain ⟨m3, e4, h⟩ := lt_some h
    refine a_putI kc_4 11 (by decide) rfl ht q303 rfl rfl rfl dX4_passes_89 ?_
    rw [← e4]
    refine a_iconst (v := 0) dX4_passes_92 (by decide) ?_
    refine a_istore_n (ls' := [(1, vI_ 0), (0, vR_ (some t))]) dX4_passes_93 rfl (Nat.le_of_ble_eq_true rfl) rfl ?_
    refine aw_pick [1, 0] rfl ?_
    exact w_X4_passes_L94 hl _ ht _ _ _ h
  refine aw_pick [1, 0] rfl ?_
  exact w_X4_passes_L2 hl _ _ ht hk1 _ _ _ h
def f_X4_goes (F : Nat)  (t : pm_A) (m : pm_M) : Option (Int32 × pm_M) :=
  if (gI_ m t 11) < 900 then
    bm_ (f_X4_passes F t m) fun v4 m2 =>
    some (1, m2)
  else
    some (0, m)
set_option maxHeartbeats 4000000 in
theorem e_X4_goes {G : xg_T} {l : Launch} (hl : l.stackTraces = false) {F : Nat}    {t : pm_A} {m0 m' : pm_M} {r : Int32} (ht : t.1 = 4) (h : f_X4_goes F t m0 = some (r, m')) : Cal_ G l yX4_goes (ws_ yX4_goes cX4_goes 1 (some .boolean)) 170 [vR_ (some t)] m0 (.inl (some (vI_ r))) m' := by
  refine cal_of (by decide +kernel) (Nat.le_of_ble_eq_true rfl) ?_
  unfold f_X4_goes at h
  show AW_ cX4_goes RX4 (some (.boolean), "goes", 170, 1, m0, m', (.inl (some (vI_ r))), G, l, [], true) m0 0 [(0, vR_ (some t))] []
  refine a_aload_n 0 dX4_goes_0 rfl rfl ?_
  refine a_getI kc_4 11 (by decide) rfl ht q303 dX4_goes_1 ?_
  refine a_sipush (v := 900) dX4_goes_4 (by decide) ?_
  refine a_icmp_lt (tgt := 12) dX4_goes_7 (by decide) (fun c1 => ?_) (fun c1 => ?_)
  · replace h := ifp_ c1 h
    refine a_aload_n 0 dX4_goes_12 rfl rfl ?_
    obtain ⟨v4, m2, e3, h⟩ := bm_some h
    have he3 := e_X4_passes (G := G) hl ht e3
    refine c_V he3.1 (rn_V (n := 0) (As := []) kc_4 ht he3 (lw_V q1201 q1202 q1203 q93 q1204) (by decide +kernel) rfl (Nat.le_of_ble_eq_true rfl) (Nat.le_of_ble_eq_true rfl) (Nat.le_of_ble_eq_true rfl) dX4_goes_13) (fun z => (os_av (As := []) z).2.1) ?_
    refine a_iconst (v := 1) dX4_goes_16 (by decide) ?_
    cases h
    exact a_ireturn rfl rfl rfl rfl rfl dX4_goes_17
  · replace h := ifn_ c1 h
    refine a_iconst (v := 0) dX4_goes_10 (by decide) ?_
    cases h
    exact a_ireturn rfl rfl rfl rfl rfl dX4_goes_11
def f_X22_acts (F : Nat)  (t : pm_A) (i0 : Option pm_A) (m : pm_M) : Option (Unit × pm_M) :=
  gd_ 24 i0 fun a1 =>
  gd_ 4 (gR_ m a1 0) fun a4 =>
  bm_ (f_X4_goes F a4 m) fun v9 m7 =>
  bm_ (f_X24_tells F a1 v9 m7) fun v12 m10 =>
  some ((), m10)
set_option maxHeartbeats 4000000 in
theorem e_X22_acts {G : xg_T} {l : Launch} (hl : l.stackTraces = false) {F : Nat}    {t : pm_A} {i0 : Option pm_A} {m0 m' : pm_M} {r : Unit} (ht : t.1 = 22) (h : f_X22_acts F t i0 m0 = some (r, m')) : Cal_ G l yX22_acts (ws_ yX22_acts cX22_acts 2 none) 171 [vR_ (some t), vR_ i0] m0 (.inl none) m' := by
  refine cal_of (by decide +kernel) (Nat.le_of_ble_eq_true rfl) ?_
  unfold f_X22_acts at h
  show AW_ cX22_acts RX22 (none, "acts", 171, 2, m0, m', (.inl none), G, l, [], true) m0 0 [(0, vR_ (some t)), (1, vR_ i0)] []
  refine a_aload_n 1 dX22_acts_0 rfl rfl ?_
  refine a_aload_n 1 dX22_acts_1 rfl rfl ?_
  obtain ⟨a1, e2, f3, h⟩ := gd_some h
  rw [e2]
  refine a_getRN kc_24 0 (by decide) rfl f3 q1096 dX22_acts_2 ?_
  obtain ⟨a4, e5, f6, h⟩ := gd_some h
  rw [e5]
  obtain ⟨v9, m7, e8, h⟩ := bm_some h
  have he8 := e_X4_goes (G := G) hl f6 e8
  refine c_I he8.1 (rn_V (n := 0) (As := []) kc_4 f6 he8 (lw_V q1197 q1198 q1199 q93 q1200) (by decide +kernel) rfl (Nat.le_of_ble_eq_true rfl) (Nat.le_of_ble_eq_true rfl) (Nat.le_of_ble_eq_true rfl) dX22_acts_5) (fun z => (os_av (As := []) z).2.1) ?_
  obtain ⟨v12, m10, e11, h⟩ := bm_some h
  have he11 := e_X24_tells (G := G) hl f3 e11
  refine c_V he11.1 (rn_V (n := 1) (As := [vI_ v9]) kc_24 f3 he11 (lw_V q1205 q1136 q1137 q122 q1138) (by decide +kernel) rfl (Nat.le_of_ble_eq_true rfl) (Nat.le_of_ble_eq_true rfl) (Nat.le_of_ble_eq_true rfl) dX22_acts_8) (fun z => (os_av (As := [vI_ v9]) z).2.1) ?_
  cases h
  exact a_return rfl rfl rfl rfl dX22_acts_11
def f_X4_strikes (F : Nat)  (t : pm_A) (i0 : Int32) (m : pm_M) : Option (Int32 × pm_M) :=
  gd_ 100 (gR_ m t 3) fun a1 =>
  iz_ (!(ib_ i0 a1.2.1)) <|
  if (gI_ m a1 i0.toNatClampNeg) = 0 then
    some (0, m)
  else
    gd_ 100 (gR_ m t 3) fun a6 =>
    iz_ (!(ib_ i0 a6.2.1)) <|
    lt_ (pI_ m a6 i0.toNatClampNeg 0) fun m10 =>
    some (1, m10)
set_option maxHeartbeats 4000000 in
theorem e_X4_strikes {G : xg_T} {l : Launch} (hl : l.stackTraces = false) {F : Nat}    {t : pm_A} {i0 : Int32} {m0 m' : pm_M} {r : Int32} (ht : t.1 = 4) (h : f_X4_strikes F t i0 m0 = some (r, m')) : Cal_ G l yX4_strikes (ws_ yX4_strikes cX4_strikes 2 (some .boolean)) 2 [vR_ (some t), vI_ i0] m0 (.inl (some (vI_ r))) m' := by
  refine cal_of (by decide +kernel) (Nat.le_of_ble_eq_true rfl) ?_
  unfold f_X4_strikes at h
  show AW_ cX4_strikes RX4 (some (.boolean), "strikes", 2, 2, m0, m', (.inl (some (vI_ r))), G, l, [], true) m0 0 [(0, vR_ (some t)), (1, vI_ i0)] []
  refine a_aload_n 0 dX4_strikes_0 rfl rfl ?_
  refine a_getR kc_4 3 (by decide) rfl ht q290 dX4_strikes_1 ?_
  refine a_iload_n 1 dX4_strikes_4 rfl rfl ?_
  obtain ⟨a1, e2, f3, h⟩ := gd_some h
  rw [e2]
  obtain ⟨c4, h⟩ := iz_some h
  refine a_iald f3 (bn_ c4) dX4_strikes_5 ?_
  refine a_if_ne (tgt := 11) dX4_strikes_6 (by decide) (fun c5 => ?_) (fun c5 => ?_)
  · replace h := ifn_ c5 h
    refine a_aload_n 0 dX4_strikes_11 rfl rfl ?_
    refine a_getR kc_4 3 (by decide) rfl ht q290 dX4_strikes_12 ?_
    refine a_iload_n 1 dX4_strikes_15 rfl rfl ?_
    refine a_iconst (v := 0) dX4_strikes_16 (by decide) ?_
    obtain ⟨a6, e7, f8, h⟩ := gd_some h
    rw [e7]
    obtain ⟨c9, h⟩ := iz_some h
    obtain ⟨m10, e11, h⟩ := lt_some h
    refine a_iast f8 (bn_ c9) dX4_strikes_17 ?_
    rw [← e11]
    refine a_iconst (v := 1) dX4_strikes_18 (by decide) ?_
    cases h
    exact a_ireturn rfl rfl rfl rfl rfl dX4_strikes_19
  · replace h := ifp_ c5 h
    refine a_iconst (v := 0) dX4_strikes_9 (by decide) ?_
    cases h
    exact a_ireturn rfl rfl rfl rfl rfl dX4_strikes_10
def f_X4_owes (F : Nat)  (t : pm_A) (i0 : Int32) (m : pm_M) : Option (Int32 × pm_M) :=
  bm_ (f_X4_owesBy F t i0 0 m) fun v3 m1 =>
  some (v3, m1)
set_option maxHeartbeats 4000000 in
theorem e_X4_owes {G : xg_T} {l : Launch} (hl : l.stackTraces = false) {F : Nat}    {t : pm_A} {i0 : Int32} {m0 m' : pm_M} {r : Int32} (ht : t.1 = 4) (h : f_X4_owes F t i0 m0 = some (r, m')) : Cal_ G l yX4_owes (ws_ yX4_owes cX4_owes 2 (some .int)) 169 [vR_ (some t), vI_ i0] m0 (.inl (some (vI_ r))) m' := by
  refine cal_of (by decide +kernel) (Nat.le_of_ble_eq_true rfl) ?_
  unfold f_X4_owes at h
  show AW_ cX4_owes RX4 (some (.int), "owes", 169, 2, m0, m', (.inl (some (vI_ r))), G, l, [], true) m0 0 [(0, vR_ (some t)), (1, vI_ i0)] []
  refine a_aload_n 0 dX4_owes_0 rfl rfl ?_
  refine a_iload_n 1 dX4_owes_1 rfl rfl ?_
  refine a_iconst (v := 0) dX4_owes_2 (by decide) ?_
  obtain ⟨v3, m1, e2, h⟩ := bm_some h
  have he2 := e_X4_owesBy (G := G) hl ht e2
  refine c_I he2.1 (rn_V (n := 2) (As := [vI_ i0, vI_ 0]) kc_4 ht he2 (lw_V q1162 q467 q468 q93 q469) (by decide +kernel) rfl (Nat.le_of_ble_eq_true rfl) (Nat.le_of_ble_eq_true rfl) (Nat.le_of_ble_eq_true rfl) dX4_owes_3) (fun z => (os_av (As := [vI_ i0, vI_ 0]) z).2.1) ?_
  cases h
  exact a_ireturn rfl rfl rfl rfl rfl dX4_owes_6
def f_X4_fare (F : Nat)  (t : pm_A) (i0 : Int32) (m : pm_M) : Option (Int32 × pm_M) :=
  bm_ (f_X4_owes F t i0 m) fun v3 m1 =>
  some ((v3 / 4), m1)
set_option maxHeartbeats 4000000 in
theorem e_X4_fare {G : xg_T} {l : Launch} (hl : l.stackTraces = false) {F : Nat}    {t : pm_A} {i0 : Int32} {m0 m' : pm_M} {r : Int32} (ht : t.1 = 4) (h : f_X4_fare F t i0 m0 = some (r, m')) : Cal_ G l yX4_fare (ws_ yX4_fare cX4_fare 2 (some .int)) 170 [vR_ (some t), vI_ i0] m0 (.inl (some (vI_ r))) m' := by
  refine cal_of (by decide +kernel) (Nat.le_of_ble_eq_true rfl) ?_
  unfold f_X4_fare at h
  show AW_ cX4_fare RX4 (some (.int), "fare", 170, 2, m0, m', (.inl (some (vI_ r))), G, l, [], true) m0 0 [(0, vR_ (some t)), (1, vI_ i0)] []
  refine a_aload_n 0 dX4_fare_0 rfl rfl ?_
  refine a_iload_n 1 dX4_fare_1 rfl rfl ?_
  obtain ⟨v3, m1, e2, h⟩ := bm_some h
  have he2 := e_X4_owes (G := G) hl ht e2
  refine c_I he2.1 (rn_V (n := 1) (As := [vI_ i0]) kc_4 ht he2 (lw_V q1158 q1159 q1160 q93 q1161) (by decide +kernel) rfl (Nat.le_of_ble_eq_true rfl) (Nat.le_of_ble_eq_true rfl) (Nat.le_of_ble_eq_true rfl) dX4_fare_2) (fun z => (os_av (As := [vI_ i0]) z).2.1) ?_
  refine a_iconst (v := 4) dX4_fare_5 (by decide) ?_
  refine a_idiv dX4_fare_6 (by decide) ?_
  cases h
  exact a_ireturn rfl rfl rfl rfl rfl dX4_fare_7
def f_X4_mayPay (F : Nat)  (t : pm_A) (i0 : Int32) (m : pm_M) : Option (Int32 × pm_M) :=
  gd_ 100 (gR_ m t 0) fun a1 =>
  iz_ (!(ib_ i0 a1.2.1)) <|
  jn_ (fun  (m6 : pm_M) =>
    gd_ 100 (gR_ m6 t 6) fun a7 =>
    iz_ (!(ib_ i0 a7.2.1)) <|
    bm_ (f_X4_fare F t i0 m6) fun v13 m11 =>
    if (gI_ m6 a7 i0.toNatClampNeg) < v13 then
      some (0, m11)
    else
      some (1, m11)
  ) fun k5 =>
  if (gI_ m a1 i0.toNatClampNeg) = 1 then
    k5 m
  else
    gd_ 100 (gR_ m t 0) fun a16 =>
    iz_ (!(ib_ i0 a16.2.1)) <|
    if (gI_ m a16 i0.toNatClampNeg) = 2 then
      k5 m
    else
      some (0, m)
set_option maxHeartbeats 4000000 in
theorem e_X4_mayPay {G : xg_T} {l : Launch} (hl : l.stackTraces = false) {F : Nat}    {t : pm_A} {i0 : Int32} {m0 m' : pm_M} {r : Int32} (ht : t.1 = 4) (h : f_X4_mayPay F t i0 m0 = some (r, m')) : Cal_ G l yX4_mayPay (ws_ yX4_mayPay cX4_mayPay 2 (some .boolean)) 171 [vR_ (some t), vI_ i0] m0 (.inl (some (vI_ r))) m' := by
  refine cal_of (by decide +kernel) (Nat.le_of_ble_eq_true rfl) ?_
  unfold f_X4_mayPay at h
  show AW_ cX4_mayPay RX4 (some (.boolean), "mayPay", 171, 2, m0, m', (.inl (some (vI_ r))), G, l, [], true) m0 0 [(0, vR_ (some t)), (1, vI_ i0)] []
  refine a_aload_n 0 dX4_mayPay_0 rfl rfl ?_
  refine a_getR kc_4 0 (by decide) rfl ht q283 dX4_mayPay_1 ?_
  refine a_iload_n 1 dX4_mayPay_4 rfl rfl ?_
  obtain ⟨a1, e2, f3, h⟩ := gd_some h
  rw [e2]
  obtain ⟨c4, h⟩ := iz_some h
  refine a_iald f3 (bn_ c4) dX4_mayPay_5 ?_
  refine a_iconst (v := 1) dX4_mayPay_6 (by decide) ?_
  obtain ⟨k5, e21, h⟩ := jn1_some h
  have hk5 : ∀  (m6 : pm_M), k5 m6 = some (r, m') → AW_ cX4_mayPay RX4 (some (.boolean), "mayPay", 171, 2, m0, m', (.inl (some (vI_ r))), G, l, [], true) m6 20 [(0, vR_ (some t)), (1, vI_ i0)] [] := by
    intro m6 h
    have h := (e21 m6).symm.trans h
    refine a_aload_n 0 dX4_mayPay_20 rfl rfl ?_
    refine a_getR kc_4 6 (by decide) rfl ht q295 dX4_mayPay_21 ?_
    refine a_iload_n 1 dX4_mayPay_24 rfl rfl ?_
    obtain ⟨a7, e8, f9, h⟩ := gd_some h
    rw [e8]
    obtain ⟨c10, h⟩ := iz_some h
    refine a_iald f9 (bn_ c10) dX4_mayPay_25 ?_
    refine a_aload_n 0 dX4_mayPay_26 rfl rfl ?_
    refine a_iload_n 1 dX4_mayPay_27 rfl rfl ?_
    obtain ⟨v13, m11, e12, h⟩ := bm_some h
    have he12 := e_X4_fare (G := G) hl ht e12
    refine c_I he12.1 (rn_V (n := 1) (As := [vI_ i0]) kc_4 ht he12 (lw_V q1154 q1155 q1156 q93 q1157) (by decide +kernel) rfl (Nat.le_of_ble_eq_true rfl) (Nat.le_of_ble_eq_true rfl) (Nat.le_of_ble_eq_true rfl) dX4_mayPay_28) (fun z => (os_av (As := [vI_ i0]) z).2.1) ?_
    refine a_icmp_lt (tgt := 38) dX4_mayPay_31 (by decide) (fun c14 => ?_) (fun c14 => ?_)
    · replace h := ifp_ c14 h
      refine a_iconst (v := 0) dX4_mayPay_38 (by decide) ?_
      cases h
      exact a_ireturn rfl rfl rfl rfl rfl dX4_mayPay_39
    · replace h := ifn_ c14 h
      refine a_iconst (v := 1) dX4_mayPay_34 (by decide) ?_
      refine a_goto (tgt := 39) dX4_mayPay_35 (by decide) ?_
      cases h
      exact a_ireturn rfl rfl rfl rfl rfl dX4_mayPay_39
  refine a_icmp_eq (tgt := 20) dX4_mayPay_7 (by decide) (fun c15 => ?_) (fun c15 => ?_)
  · replace h := ifp_ c15 h
    exact hk5 _ h
  · replace h := ifn_ c15 h
    refine a_aload_n 0 dX4_mayPay_10 rfl rfl ?_
    refine a_getR kc_4 0 (by decide) rfl ht q283 dX4_mayPay_11 ?_
    refine a_iload_n 1 dX4_mayPay_14 rfl rfl ?_
    obtain ⟨a16, e17, f18, h⟩ := gd_some h
    rw [e17]
    obtain ⟨c19, h⟩ := iz_some h
    refine a_iald f18 (bn_ c19) dX4_mayPay_15 ?_
    refine a_iconst (v := 2) dX4_mayPay_16 (by decide) ?_
    refine a_icmp_ne (tgt := 38) dX4_mayPay_17 (by decide) (fun c20 => ?_) (fun c20 => ?_)
    · replace h := ifn_ c20 h
      refine a_iconst (v := 0) dX4_mayPay_38 (by decide) ?_
      cases h
      exact a_ireturn rfl rfl rfl rfl rfl dX4_mayPay_39
    · replace h := ifp_ c20 h
      exact hk5 _ h
def f_X4_pays (F : Nat)  (t : pm_A) (i0 : Int32) (m : pm_M) : Option (Int32 × pm_M) :=
  bm_ (f_X4_mayPay F t i0 m) fun v3 m1 =>
  if v3 = 0 then
    some (0, m1)
  else
    gd_ 100 (gR_ m1 t 6) fun a5 =>
    iz_ (!(ib_ i0 a5.2.1)) <|
    bm_ (f_X4_fare F t i0 m1) fun v11 m9 =>
    iz_ (!(ib_ i0 a5.2.1)) <|
    lt_ (pI_ m9 a5 i0.toNatClampNeg ((gI_ m1 a5 i0.toNatClampNeg) - v11)) fun m13 =>
    bm_ (f_X4_frees F t i0 m13) fun v17 m15 =>
    some (1, m15)
set_option maxHeartbeats 4000000 in
theorem e_X4_pays {G : xg_T} {l : Launch} (hl : l.stackTraces = false) {F : Nat}    {t : pm_A} {i0 : Int32} {m0 m' : pm_M} {r : Int32} (ht : t.1 = 4) (h : f_X4_pays F t i0 m0 = some (r, m')) : Cal_ G l yX4_pays (ws_ yX4_pays cX4_pays 2 (some .boolean)) 172 [vR_ (some t), vI_ i0] m0 (.inl (some (vI_ r))) m' := by
  refine cal_of (by decide +kernel) (Nat.le_of_ble_eq_true rfl) ?_
  unfold f_X4_pays at h
  show AW_ cX4_pays RX4 (some (.boolean), "pays", 172, 2, m0, m', (.inl (some (vI_ r))), G, l, [], true) m0 0 [(0, vR_ (some t)), (1, vI_ i0)] []
  refine a_aload_n 0 dX4_pays_0 rfl rfl ?_
  refine a_iload_n 1 dX4_pays_1 rfl rfl ?_
  obtain ⟨v3, m1, e2, h⟩ := bm_some h
  have he2 := e_X4_mayPay (G := G) hl ht e2
  refine c_I he2.1 (rn_V (n := 1) (As := [vI_ i0]) kc_4 ht he2 (lw_V q1150 q1151 q1152 q93 q1153) (by decide +kernel) rfl (Nat.le_of_ble_eq_true rfl) (Nat.le_of_ble_eq_true rfl) (Nat.le_of_ble_eq_true rfl) dX4_pays_2) (fun z => (os_av (As := [vI_ i0]) z).2.1) ?_
  refine a_if_ne (tgt := 10) dX4_pays_5 (by decide) (fun c4 => ?_) (fun c4 => ?_)
  · replace h := ifn_ c4 h
    refine a_aload_n 0 dX4_pays_10 rfl rfl ?_
    refine a_getR kc_4 6 (by decide) rfl ht q295 dX4_pays_11 ?_
    refine a_iload_n 1 dX4_pays_14 rfl rfl ?_
    refine a_dup2 dX4_pays_15 rfl rfl ?_
    obtain ⟨a5, e6, f7, h⟩ := gd_some h
    rw [e6]
    obtain ⟨c8, h⟩ := iz_some h
    refine a_iald f7 (bn_ c8) dX4_pays_16 ?_
    refine a_aload_n 0 dX4_pays_17 rfl rfl ?_
    refine a_iload_n 1 dX4_pays_18 rfl rfl ?_
    obtain ⟨v11, m9, e10, h⟩ := bm_some h
    have he10 := e_X4_fare (G := G) hl ht e10
    refine c_I he10.1 (rn_V (n := 1) (As := [vI_ i0]) kc_4 ht he10 (lw_V q1154 q1155 q1156 q93 q1157) (by decide +kernel) rfl (Nat.le_of_ble_eq_true rfl) (Nat.le_of_ble_eq_true rfl) (Nat.le_of_ble_eq_true rfl) dX4_pays_19) (fun z => (os_av (As := [vI_ i0]) z).2.1) ?_
    refine a_isub dX4_pays_22 ?_
    obtain ⟨c12, h⟩ := iz_some h
    obtain ⟨m13, e14, h⟩ := lt_some h
    refine a_iast f7 (bn_ c12) dX4_pays_23 ?_
    rw [← e14]
    refine a_aload_n 0 dX4_pays_24 rfl rfl ?_
    refine a_iload_n 1 dX4_pays_25 rfl rfl ?_
    obtain ⟨v17, m15, e16, h⟩ := bm_some h
    have he16 := e_X4_frees (G := G) hl ht e16
    refine c_V he16.1 (rn_V (n := 1) (As := [vI_ i0]) kc_4 ht he16 (lw_V q1163 q1165 qs14 q93 q1166) (by decide +kernel) rfl (Nat.le_of_ble_eq_true rfl) (Nat.le_of_ble_eq_true rfl) (Nat.le_of_ble_eq_true rfl) dX4_pays_26) (fun z => (os_av (As := [vI_ i0]) z).2.1) ?_
    refine a_iconst (v := 1) dX4_pays_29 (by decide) ?_
    cases h
    exact a_ireturn rfl rfl rfl rfl rfl dX4_pays_30
  · replace h := ifp_ c4 h
    refine a_iconst (v := 0) dX4_pays_8 (by decide) ?_
    cases h
    exact a_ireturn rfl rfl rfl rfl rfl dX4_pays_9
def f_X4_loses (F : Nat)  (t : pm_A) (i0 : Int32) (i1 : Int32) (m : pm_M) : Option (Int32 × pm_M) :=
  gd_ 100 (gR_ m t 0) fun a1 =>
  iz_ (!(ib_ i0 a1.2.1)) <|
  if (gI_ m a1 i0.toNatClampNeg) = 3 then
    some (0, m)
  else
    gd_ 102 (gR_ m t 7) fun a6 =>
    iz_ (!(ib_ i0 a6.2.1)) <|
    if (gI_ m a6 i0.toNatClampNeg) = i1 then
      some (0, m)
    else
      gd_ 102 (gR_ m t 7) fun a11 =>
      iz_ (!(ib_ i0 a11.2.1)) <|
      lt_ (pI_ m a11 i0.toNatClampNeg (vp_nar .boolean i1)) fun m15 =>
      some (1, m15)
set_option maxHeartbeats 4000000 in
theorem e_X4_loses {G : xg_T} {l : Launch} (hl : l.stackTraces = false) {F : Nat}    {t : pm_A} {i0 : Int32} {i1 : Int32} {m0 m' : pm_M} {r : Int32} (ht : t.1 = 4) (h : f_X4_loses F t i0 i1 m0 = some (r, m')) : Cal_ G l yX4_loses (ws_ yX4_loses cX4_loses 3 (some .boolean)) 2 [vR_ (some t), vI_ i0, vI_ i1] m0 (.inl (some (vI_ r))) m' := by
  refine cal_of (by decide +kernel) (Nat.le_of_ble_eq_true rfl) ?_
  unfold f_X4_loses at h
  show AW_ cX4_loses RX4 (some (.boolean), "loses", 2, 3, m0, m', (.inl (some (vI_ r))), G, l, [], true) m0 0 [(0, vR_ (some t)), (1, vI_ i0), (2, vI_ i1)] []
  refine a_aload_n 0 dX4_loses_0 rfl rfl ?_
  refine a_getR kc_4 0 (by decide) rfl ht q283 dX4_loses_1 ?_
  refine a_iload_n 1 dX4_loses_4 rfl rfl ?_
  obtain ⟨a1, e2, f3, h⟩ := gd_some h
  rw [e2]
  obtain ⟨c4, h⟩ := iz_some h
  refine a_iald f3 (bn_ c4) dX4_loses_5 ?_
  refine a_iconst (v := 3) dX4_loses_6 (by decide) ?_
  refine a_icmp_eq (tgt := 20) dX4_loses_7 (by decide) (fun c5 => ?_) (fun c5 => ?_)
  · replace h := ifp_ c5 h
    refine a_iconst (v := 0) dX4_loses_20 (by decide) ?_
    cases h
    exact a_ireturn rfl rfl rfl rfl rfl dX4_loses_21
  · replace h := ifn_ c5 h
    refine a_aload_n 0 dX4_loses_10 rfl rfl ?_
    refine a_getR kc_4 7 (by decide) rfl ht q297 dX4_loses_11 ?_
    refine a_iload_n 1 dX4_loses_14 rfl rfl ?_
    obtain ⟨a6, e7, f8, h⟩ := gd_some h
    rw [e7]
    obtain ⟨c9, h⟩ := iz_some h
    refine a_zald f8 (bn_ c9) dX4_loses_15 ?_
    refine a_iload_n 2 dX4_loses_16 rfl rfl ?_
    refine a_icmp_ne (tgt := 22) dX4_loses_17 (by decide) (fun c10 => ?_) (fun c10 => ?_)
    · replace h := ifn_ c10 h
      refine a_aload_n 0 dX4_loses_22 rfl rfl ?_
      refine a_getR kc_4 7 (by decide) rfl ht q297 dX4_loses_23 ?_
      refine a_iload_n 1 dX4_loses_26 rfl rfl ?_
      refine a_iload_n 2 dX4_loses_27 rfl rfl ?_
      obtain ⟨a11, e12, f13, h⟩ := gd_some h
      rw [e12]
      obtain ⟨c14, h⟩ := iz_some h
      obtain ⟨m15, e16, h⟩ := lt_some h
      refine a_zast f13 (bn_ c14) dX4_loses_28 ?_
      rw [← e16]
      refine a_iconst (v := 1) dX4_loses_29 (by decide) ?_
      cases h
      exact a_ireturn rfl rfl rfl rfl rfl dX4_loses_30
    · replace h := ifp_ c10 h
      refine a_iconst (v := 0) dX4_loses_20 (by decide) ?_
      cases h
      exact a_ireturn rfl rfl rfl rfl rfl dX4_loses_21
def f_X23_acts (F : Nat)  (t : pm_A) (i0 : Option pm_A) (m : pm_M) : Option (Unit × pm_M) :=
  gd_ 24 i0 fun a1 =>
  jn_ (fun (y6 : Option pm_A) (y7 : Int32) (m5 : pm_M) =>
    gd_ 24 y6 fun a8 =>
    bm_ (f_X24_tells F a8 y7 m5) fun v13 m11 =>
    some ((), m11)
  ) fun k4 =>
  if (gI_ m t 0) = 0 then
    gd_ 4 (gR_ m a1 0) fun a36 =>
    bm_ (f_X4_strikes F a36 (gI_ m t 1) m) fun v41 m39 =>
    k4 (some a1) v41 m39
  else
    if (gI_ m t 0) = 3 then
      gd_ 4 (gR_ m a1 0) fun a30 =>
      bm_ (f_X4_pays F a30 (gI_ m t 1) m) fun v35 m33 =>
      k4 (some a1) v35 m33
    else
      jn_ (fun (y18 : Option pm_A) (y19 : Option pm_A) (y20 : Int32) (y21 : Int32) (m17 : pm_M) =>
        gd_ 4 y19 fun a22 =>
        bm_ (f_X4_loses F a22 y20 y21 m17) fun v27 m25 =>
        k4 y18 v27 m25
      ) fun k16 =>
      if (gI_ m t 0) = 1 then
        k16 (some a1) (gR_ m a1 0) (gI_ m t 1) 1 m
      else
        k16 (some a1) (gR_ m a1 0) (gI_ m t 1) 0 m
set_option maxHeartbeats 4000000 in
theorem e_X23_acts {G : xg_T} {l : Launch} (hl : l.stackTraces = false) {F : Nat}    {t : pm_A} {i0 : Option pm_A} {m0 m' : pm_M} {r : Unit} (ht : t.1 = 23) (h : f_X23_acts F t i0 m0 = some (r, m')) : Cal_ G l yX23_acts (ws_ yX23_acts cX23_acts 3 none) 173 [vR_ (some t), vR_ i0] m0 (.inl none) m' := by
  refine cal_of (by decide +kernel) (Nat.le_of_ble_eq_true rfl) ?_
  unfold f_X23_acts at h
  show AW_ cX23_acts RX23 (none, "acts", 173, 3, m0, m', (.inl none), G, l, [], true) m0 0 [(0, vR_ (some t)), (1, vR_ i0)] []
  refine a_aload_n 1 dX23_acts_0 rfl rfl ?_
  obtain ⟨a1, e2, f3, h⟩ := gd_some h
  rw [e2]
  refine a_getRN kc_24 0 (by decide) rfl f3 q1092 dX23_acts_1 ?_
  refine a_astore_n (ls' := [(2, vR_ (gR_ m0 a1 0)), (0, vR_ (some t)), (1, vR_ (some a1))]) dX23_acts_4 rfl (Nat.le_of_ble_eq_true rfl) rfl ?_
  refine a_aload_n 2 dX23_acts_5 rfl rfl ?_
  refine a_aload_n 1 dX23_acts_6 rfl rfl ?_
  refine a_getI kc_23 0 (by decide) rfl ht q1077 dX23_acts_7 ?_
  obtain ⟨k4, e42, h⟩ := jn3_some h
  have hk4 : ∀ (y6 : Option pm_A) (y7 : Int32) (m5 : pm_M), k4 y6 y7 m5 = some (r, m') → AW_ cX23_acts RX23 (none, "acts", 173, 3, m0, m', (.inl none), G, l, [], true) m5 64 [] [vI_ y7, vR_ y6] := by
    intro y6 y7 m5 h
    have h := (e42 y6 y7 m5).symm.trans h
    obtain ⟨a8, e9, f10, h⟩ := gd_some h
    rw [e9]
    obtain ⟨v13, m11, e12, h⟩ := bm_some h
    have he12 := e_X24_tells (G := G) hl f10 e12
    refine c_V he12.1 (rn_V (n := 1) (As := [vI_ y7]) kc_24 f10 he12 (lw_V q1171 q1136 q1137 q122 q1138) (by decide +kernel) rfl (Nat.le_of_ble_eq_true rfl) (Nat.le_of_ble_eq_true rfl) (Nat.le_of_ble_eq_true rfl) dX23_acts_64) (fun z => (os_av (As := [vI_ y7]) z).2.1) ?_
    cases h
    exact a_return rfl rfl rfl rfl dX23_acts_67
  refine a_if_ne (tgt := 24) dX23_acts_10 (by decide) (fun c14 => ?_) (fun c14 => ?_)
  · replace h := ifn_ c14 h
    refine a_aload_n 1 dX23_acts_24 rfl rfl ?_
    refine a_getI kc_23 0 (by decide) rfl ht q1077 dX23_acts_25 ?_
    refine a_iconst (v := 3) dX23_acts_28 (by decide) ?_
    refine a_icmp_ne (tgt := 43) dX23_acts_29 (by decide) (fun c15 => ?_) (fun c15 => ?_)
    · replace h := ifn_ c15 h
      refine a_aload_n 0 dX23_acts_43 rfl rfl ?_
      refine a_aload_n 1 dX23_acts_44 rfl rfl ?_
      refine a_getI kc_23 1 (by decide) rfl ht q1078 dX23_acts_45 ?_
      refine a_aload_n 1 dX23_acts_48 rfl rfl ?_
      refine a_getI kc_23 0 (by decide) rfl ht q1077 dX23_acts_49 ?_
      refine a_iconst (v := 1) dX23_acts_52 (by decide) ?_
      obtain ⟨k16, e29, h⟩ := jn5_some h
      have hk16 : ∀ (y18 : Option pm_A) (y19 : Option pm_A) (y20 : Int32) (y21 : Int32) (m17 : pm_M), k16 y18 y19 y20 y21 m17 = some (r, m') → AW_ cX23_acts RX23 (none, "acts", 173, 3, m0, m', (.inl none), G, l, [], true) m17 61 [] [vI_ y21, vI_ y20, vR_ y19, vR_ y18] := by
        intro y18 y19 y20 y21 m17 h
        have h := (e29 y18 y19 y20 y21 m17).symm.trans h
        obtain ⟨a22, e23, f24, h⟩ := gd_some h
        rw [e23]
        obtain ⟨v27, m25, e26, h⟩ := bm_some h
        have he26 := e_X4_loses (G := G) hl f24 e26
        refine c_I he26.1 (rn_V (n := 2) (As := [vI_ y20, vI_ y21]) kc_4 f24 he26 (lw_V q1167 q1168 q1169 q93 q1170) (by decide +kernel) rfl (Nat.le_of_ble_eq_true rfl) (Nat.le_of_ble_eq_true rfl) (Nat.le_of_ble_eq_true rfl) dX23_acts_61) (fun z => (os_av (As := [vI_ y20, vI_ y21]) z).2.1) ?_
        exact hk4 _ _ _ h
      refine a_icmp_ne (tgt := 60) dX23_acts_53 (by decide) (fun c28 => ?_) (fun c28 => ?_)
      · replace h := ifn_ c28 h
        refine a_iconst (v := 0) dX23_acts_60 (by decide) ?_
        refine aw_pick [] rfl ?_
        exact hk16 _ _ _ _ _ h
      · replace h := ifp_ c28 h
        refine a_iconst (v := 1) dX23_acts_56 (by decide) ?_
        refine a_goto (tgt := 61) dX23_acts_57 (by decide) ?_
        refine aw_pick [] rfl ?_
        exact hk16 _ _ _ _ _ h
    · replace h := ifp_ c15 h
      refine a_aload_n 0 dX23_acts_32 rfl rfl ?_
      refine a_aload_n 1 dX23_acts_33 rfl rfl ?_
      refine a_getI kc_23 1 (by decide) rfl ht q1078 dX23_acts_34 ?_
      obtain ⟨a30, e31, f32, h⟩ := gd_some h
      rw [e31]
      obtain ⟨v35, m33, e34, h⟩ := bm_some h
      have he34 := e_X4_pays (G := G) hl f32 e34
      refine c_I he34.1 (rn_V (n := 1) (As := [vI_ (gI_ m0 t 1)]) kc_4 f32 he34 (lw_V q1146 q1147 q1148 q93 q1149) (by decide +kernel) rfl (Nat.le_of_ble_eq_true rfl) (Nat.le_of_ble_eq_true rfl) (Nat.le_of_ble_eq_true rfl) dX23_acts_37) (fun z => (os_av (As := [vI_ (gI_ m0 t 1)]) z).2.1) ?_
      refine a_goto (tgt := 64) dX23_acts_40 (by decide) ?_
      refine aw_pick [] rfl ?_
      exact hk4 _ _ _ h
  · replace h := ifp_ c14 h
    refine a_aload_n 0 dX23_acts_13 rfl rfl ?_
    refine a_aload_n 1 dX23_acts_14 rfl rfl ?_
    refine a_getI kc_23 1 (by decide) rfl ht q1078 dX23_acts_15 ?_
    obtain ⟨a36, e37, f38, h⟩ := gd_some h
    rw [e37]
    obtain ⟨v41, m39, e40, h⟩ := bm_some h
    have he40 := e_X4_strikes (G := G) hl f38 e40
    refine c_I he40.1 (rn_V (n := 1) (As := [vI_ (gI_ m0 t 1)]) kc_4 f38 he40 (lw_V q1142 q1143 q1144 q93 q1145) (by decide +kernel) rfl (Nat.le_of_ble_eq_true rfl) (Nat.le_of_ble_eq_true rfl) (Nat.le_of_ble_eq_true rfl) dX23_acts_18) (fun z => (os_av (As := [vI_ (gI_ m0 t 1)]) z).2.1) ?_
    refine a_goto (tgt := 64) dX23_acts_21 (by decide) ?_
    refine aw_pick [] rfl ?_
    exact hk4 _ _ _ h
theorem uw_PassagePapers_Run_19_18 : ∀ w ∈ va_wsU "PassagePapers$Run" 19 "PassagePapers$Row" "PassagePapers$Step" ⟨"PassagePapers$Step", "acts", "(LPassagePapers$Run;)V"⟩ yX18_acts (ws_ yX18_acts cX18_acts 4 none), w ∈ lw_all := by
  intro w hw
  unfold va_wsU at hw
  rcases List.mem_append.mp hw with h | h
  · simp only [List.mem_cons, List.not_mem_nil, or_false] at h
    rcases h with h | h | h | h | h
    · rw [h]; exact q1123
    · rw [h]; exact q1125
    · rw [h]; exact q1193
    · rw [h]; exact q1112
    · rw [h]; exact q116
  · exact (lw_meth q1114 w h).1
theorem uw_PassagePapers_Run_19_19 : ∀ w ∈ va_wsU "PassagePapers$Run" 19 "PassagePapers$Place" "PassagePapers$Step" ⟨"PassagePapers$Step", "acts", "(LPassagePapers$Run;)V"⟩ yX19_acts (ws_ yX19_acts cX19_acts 2 none), w ∈ lw_all := by
  intro w hw
  unfold va_wsU at hw
  rcases List.mem_append.mp hw with h | h
  · simp only [List.mem_cons, List.not_mem_nil, or_false] at h
    rcases h with h | h | h | h | h
    · rw [h]; exact q1123
    · rw [h]; exact q1125
    · rw [h]; exact q1181
    · rw [h]; exact q1182
    · rw [h]; exact q117
  · exact (lw_meth q1183 w h).1
theorem uw_PassagePapers_Run_19_20 : ∀ w ∈ va_wsU "PassagePapers$Run" 19 "PassagePapers$Add" "PassagePapers$Step" ⟨"PassagePapers$Step", "acts", "(LPassagePapers$Run;)V"⟩ yX20_acts (ws_ yX20_acts cX20_acts 2 none), w ∈ lw_all := by
  intro w hw
  unfold va_wsU at hw
  rcases List.mem_append.mp hw with h | h
  · simp only [List.mem_cons, List.not_mem_nil, or_false] at h
    rcases h with h | h | h | h | h
    · rw [h]; exact q1123
    · rw [h]; exact q1125
    · rw [h]; exact q1126
    · rw [h]; exact q1127
    · rw [h]; exact q118
  · exact (lw_meth q1128 w h).1
theorem uw_PassagePapers_Run_19_21 : ∀ w ∈ va_wsU "PassagePapers$Run" 19 "PassagePapers$Land" "PassagePapers$Step" ⟨"PassagePapers$Step", "acts", "(LPassagePapers$Run;)V"⟩ yX21_acts (ws_ yX21_acts cX21_acts 2 none), w ∈ lw_all := by
  intro w hw
  unfold va_wsU at hw
  rcases List.mem_append.mp hw with h | h
  · simp only [List.mem_cons, List.not_mem_nil, or_false] at h
    rcases h with h | h | h | h | h
    · rw [h]; exact q1123
    · rw [h]; exact q1125
    · rw [h]; exact q1172
    · rw [h]; exact q1173
    · rw [h]; exact q119
  · exact (lw_meth q1174 w h).1
theorem uw_PassagePapers_Run_19_22 : ∀ w ∈ va_wsU "PassagePapers$Run" 19 "PassagePapers$Week" "PassagePapers$Step" ⟨"PassagePapers$Step", "acts", "(LPassagePapers$Run;)V"⟩ yX22_acts (ws_ yX22_acts cX22_acts 2 none), w ∈ lw_all := by
  intro w hw
  unfold va_wsU at hw
  rcases List.mem_append.mp hw with h | h
  · simp only [List.mem_cons, List.not_mem_nil, or_false] at h
    rcases h with h | h | h | h | h
    · rw [h]; exact q1123
    · rw [h]; exact q1125
    · rw [h]; exact q1194
    · rw [h]; exact q1195
    · rw [h]; exact q120
  · exact (lw_meth q1196 w h).1
theorem uw_PassagePapers_Run_19_23 : ∀ w ∈ va_wsU "PassagePapers$Run" 19 "PassagePapers$Alone" "PassagePapers$Step" ⟨"PassagePapers$Step", "acts", "(LPassagePapers$Run;)V"⟩ yX23_acts (ws_ yX23_acts cX23_acts 3 none), w ∈ lw_all := by
  intro w hw
  unfold va_wsU at hw
  rcases List.mem_append.mp hw with h | h
  · simp only [List.mem_cons, List.not_mem_nil, or_false] at h
    rcases h with h | h | h | h | h
    · rw [h]; exact q1123
    · rw [h]; exact q1125
    · rw [h]; exact q1139
    · rw [h]; exact q1140
    · rw [h]; exact q121
  · exact (lw_meth q1141 w h).1
def f_X24_begins (F : Nat) (z_ : pm_A → Option pm_A → pm_M → Option (Unit × pm_M)) (t : pm_A) (i0 : Option pm_A) (m : pm_M) : Option (Unit × pm_M) :=
  lt_ (pI_ m t 1 ((gI_ m t 1) + 1)) fun m1 =>
  nn_ i0 fun a3 =>
  jn_ (fun (m6 : pm_M) =>
    some ((), m6)
  ) fun k5 =>
  if a3.1 = 18 then
    bm_ (z_ a3 (some t) m1) fun v11 m9 =>
    k5 m9
  else
  if a3.1 = 19 then
    bm_ (f_X19_acts F a3 (some t) m1) fun v15 m13 =>
    k5 m13
  else
  if a3.1 = 20 then
    bm_ (f_X20_acts F a3 (some t) m1) fun v19 m17 =>
    k5 m17
  else
  if a3.1 = 21 then
    bm_ (f_X21_acts F a3 (some t) m1) fun v23 m21 =>
    k5 m21
  else
  if a3.1 = 22 then
    bm_ (f_X22_acts F a3 (some t) m1) fun v27 m25 =>
    k5 m25
  else
  if a3.1 = 23 then
    bm_ (f_X23_acts F a3 (some t) m1) fun v31 m29 =>
    k5 m29
  else
  none
set_option maxHeartbeats 4000000 in
theorem e_X24_begins {G : xg_T} {l : Launch} (hl : l.stackTraces = false) {F : Nat} {dz : Nat} {z_ : pm_A → Option pm_A → pm_M → Option (Unit × pm_M)} (hz : ∀ (w0 : pm_A) (w1 : Option pm_A) (m m' : pm_M) (r : Unit), w0.1 = 18 → z_ w0 w1 m = some (r, m') → Cal_ G l yX18_acts (ws_ yX18_acts cX18_acts 4 none) dz [vR_ (some w0), vR_ w1] m (.inl none) m') (hdz : 174 ≤ dz) {t : pm_A} {i0 : Option pm_A} {m0 m' : pm_M} {r : Unit} (ht : t.1 = 24) (h : f_X24_begins F z_ t i0 m0 = some (r, m')) : Cal_ G l yX24_begins (ws_ yX24_begins cX24_begins 2 none) (dz + 1) [vR_ (some t), vR_ i0] m0 (.inl none) m' := by
  refine cal_of (by decide +kernel) (Nat.le_of_ble_eq_true rfl) ?_
  unfold f_X24_begins at h
  show AW_ cX24_begins RX24 (none, "begins", (dz + 1), 2, m0, m', (.inl none), G, l, [], true) m0 0 [(0, vR_ (some t)), (1, vR_ i0)] []
  refine a_aload_n 0 dX24_begins_0 rfl rfl ?_
  refine a_dup dX24_begins_1 rfl ?_
  refine a_getI kc_24 1 (by decide) rfl ht q1097 dX24_begins_2 ?_
  refine a_iconst (v := 1) dX24_begins_5 (by decide) ?_
  refine a_iadd dX24_begins_6 ?_
  obtain ⟨m1, e2, h⟩ := lt_some h
  refine a_putI kc_24 1 (by decide) rfl ht q1097 rfl rfl rfl dX24_begins_7 ?_
  rw [← e2]
  refine a_aload_n 1 dX24_begins_10 rfl rfl ?_
  refine a_aload_n 0 dX24_begins_11 rfl rfl ?_
  obtain ⟨a3, e4, h⟩ := nn_some h
  rw [e4]
  obtain ⟨k5, e7, h⟩ := jn1_some h
  have hk5 : ∀ (m6 : pm_M), k5 m6 = some (r, m') → AW_ cX24_begins RX24 (none, "begins", (dz + 1), 2, m0, m', (.inl none), G, l, [], true) m6 15 [(0, vR_ (some t)), (1, vR_ (some a3))] [] := by
    intro m6 h
    have h := (e7 m6).symm.trans h
    cases h
    exact a_return rfl rfl rfl rfl dX24_begins_15
  by_cases c8 : a3.1 = 18
  · replace h := ifp_ c8 h
    obtain ⟨v11, m9, e10, h⟩ := bm_some h
    have he10 := hz _ _ _ _ _ c8 e10
    refine c_V he10.1 (rn_U (x := ⟨"PassagePapers$Step", "acts", "(LPassagePapers$Run;)V"⟩) (owner := "PassagePapers$Step") (n := 1) (As := [vR_ (some t)]) kc_18 c8 he10 uw_PassagePapers_Run_19_18 q1124 (by decide +kernel) rfl (by show dz + 1 ≤ (dz + 1); omega) (Nat.le_of_ble_eq_true rfl) (Nat.le_of_ble_eq_true rfl) dX24_begins_12) (fun z => (os_av (As := [vR_ (some t)]) z).2.1) ?_
    exact hk5 _ h
  replace h := ifn_ c8 h
  by_cases c12 : a3.1 = 19
  · replace h := ifp_ c12 h
    obtain ⟨v15, m13, e14, h⟩ := bm_some h
    have he14 := e_X19_acts (G := G) hl c12 e14
    refine c_V he14.1 (rn_U (x := ⟨"PassagePapers$Step", "acts", "(LPassagePapers$Run;)V"⟩) (owner := "PassagePapers$Step") (n := 1) (As := [vR_ (some t)]) kc_19 c12 he14 uw_PassagePapers_Run_19_19 q1124 (by decide +kernel) rfl (by show 4 + 1 ≤ (dz + 1); omega) (Nat.le_of_ble_eq_true rfl) (Nat.le_of_ble_eq_true rfl) dX24_begins_12) (fun z => (os_av (As := [vR_ (some t)]) z).2.1) ?_
    exact hk5 _ h
  replace h := ifn_ c12 h
  by_cases c16 : a3.1 = 20
  · replace h := ifp_ c16 h
    obtain ⟨v19, m17, e18, h⟩ := bm_some h
    have he18 := e_X20_acts (G := G) hl c16 e18
    refine c_V he18.1 (rn_U (x := ⟨"PassagePapers$Step", "acts", "(LPassagePapers$Run;)V"⟩) (owner := "PassagePapers$Step") (n := 1) (As := [vR_ (some t)]) kc_20 c16 he18 uw_PassagePapers_Run_19_20 q1124 (by decide +kernel) rfl (by show 4 + 1 ≤ (dz + 1); omega) (Nat.le_of_ble_eq_true rfl) (Nat.le_of_ble_eq_true rfl) dX24_begins_12) (fun z => (os_av (As := [vR_ (some t)]) z).2.1) ?_
    exact hk5 _ h
  replace h := ifn_ c16 h
  by_cases c20 : a3.1 = 21
  · replace h := ifp_ c20 h
    obtain ⟨v23, m21, e22, h⟩ := bm_some h
    have he22 := e_X21_acts (G := G) hl c20 e22
    refine c_V he22.1 (rn_U (x := ⟨"PassagePapers$Step", "acts", "(LPassagePapers$Run;)V"⟩) (owner := "PassagePapers$Step") (n := 1) (As := [vR_ (some t)]) kc_21 c20 he22 uw_PassagePapers_Run_19_21 q1124 (by decide +kernel) rfl (by show 4 + 1 ≤ (dz + 1); omega) (Nat.le_of_ble_eq_true rfl) (Nat.le_of_ble_eq_true rfl) dX24_begins_12) (fun z => (os_av (As := [vR_ (some t)]) z).2.1) ?_
    exact hk5 _ h
  replace h := ifn_ c20 h
  by_cases c24 : a3.1 = 22
  · replace h := ifp_ c24 h
    obtain ⟨v27, m25, e26, h⟩ := bm_some h
    have he26 := e_X22_acts (G := G) hl c24 e26
    refine c_V he26.1 (rn_U (x := ⟨"PassagePapers$Step", "acts", "(LPassagePapers$Run;)V"⟩) (owner := "PassagePapers$Step") (n := 1) (As := [vR_ (some t)]) kc_22 c24 he26 uw_PassagePapers_Run_19_22 q1124 (by decide +kernel) rfl (by show 171 + 1 ≤ (dz + 1); omega) (Nat.le_of_ble_eq_true rfl) (Nat.le_of_ble_eq_true rfl) dX24_begins_12) (fun z => (os_av (As := [vR_ (some t)]) z).2.1) ?_
    exact hk5 _ h
  replace h := ifn_ c24 h
  by_cases c28 : a3.1 = 23
  · replace h := ifp_ c28 h
    obtain ⟨v31, m29, e30, h⟩ := bm_some h
    have he30 := e_X23_acts (G := G) hl c28 e30
    refine c_V he30.1 (rn_U (x := ⟨"PassagePapers$Step", "acts", "(LPassagePapers$Run;)V"⟩) (owner := "PassagePapers$Step") (n := 1) (As := [vR_ (some t)]) kc_23 c28 he30 uw_PassagePapers_Run_19_23 q1124 (by decide +kernel) rfl (by show 173 + 1 ≤ (dz + 1); omega) (Nat.le_of_ble_eq_true rfl) (Nat.le_of_ble_eq_true rfl) dX24_begins_12) (fun z => (os_av (As := [vR_ (some t)]) z).2.1) ?_
    exact hk5 _ h
  replace h := ifn_ c28 h
  cases h
def f_X18_acts_L19 (F : Nat) (z_ : pm_A → Option pm_A → pm_M → Option (Unit × pm_M)) (p18 : pm_A) (p20 : pm_A) (p22 : Int32) (k23 : pm_M → Option (Unit × pm_M)) : Nat → Int32 → pm_M → Option (Unit × pm_M)
  | 0, _, _ => none
  | n25 + 1, x27, m26 =>
    if (gI_ m26 p18 2) ≤ x27 then
      k23 m26
    else
      bm_ (f_X24_mayBegin F p20 m26) fun v31 m29 =>
      if v31 = 0 then
        k23 m29
      else
        gd_ 107 (gR_ m29 p18 1) fun a33 =>
        iz_ (!(ib_ x27 a33.2.1)) <|
        bm_ (f_X24_begins F z_ p20 (gR_ m29 a33 x27.toNatClampNeg) m29) fun v39 m37 =>
        (f_X18_acts_L19 F z_ p18 p20 p22 k23 n25) (x27 + 1) m37
set_option maxHeartbeats 4000000 in
theorem w_X18_acts_L19 {G : xg_T} {l : Launch} (hl : l.stackTraces = false) {F : Nat} {dz : Nat} {z_ : pm_A → Option pm_A → pm_M → Option (Unit × pm_M)} (hz : ∀ (w0 : pm_A) (w1 : Option pm_A) (m m' : pm_M) (r : Unit), w0.1 = 18 → z_ w0 w1 m = some (r, m') → Cal_ G l yX18_acts (ws_ yX18_acts cX18_acts 4 none) dz [vR_ (some w0), vR_ w1] m (.inl none) m') (hdz : 174 ≤ dz) (p18 : pm_A) (p20 : pm_A) (p22 : Int32) (k23 : pm_M → Option (Unit × pm_M)) {m0 m' : pm_M} {r : Unit} (hf19 : p18.1 = 18) (hf21 : p20.1 = 24) (hk23 : ∀ (m24 : pm_M), k23 m24 = some (r, m') → AW_ cX18_acts RX18 (none, "acts", (dz + 2), 4, m0, m', (.inl none), G, l, [], true) m24 50 [(0, vR_ (some p18)), (1, vR_ (some p20)), (2, vI_ p22)] []) : ∀ (n : Nat) (x27 : Int32) (m26 : pm_M), f_X18_acts_L19 F z_ p18 p20 p22 k23 n x27 m26 = some (r, m') → AW_ cX18_acts RX18 (none, "acts", (dz + 2), 4, m0, m', (.inl none), G, l, [], true) m26 19 [(0, vR_ (some p18)), (1, vR_ (some p20)), (2, vI_ p22), (3, vI_ x27)] [] := by
  intro n
  induction n with
  | zero => intro x27 m26 h; cases h
  | succ n25 ih =>
    intro x27 m26 h
    rw [f_X18_acts_L19] at h
    refine a_iload_n 3 dX18_acts_19 rfl rfl ?_
    refine a_aload_n 0 dX18_acts_20 rfl rfl ?_
    refine a_getI kc_18 2 (by decide) rfl hf19 q996 dX18_acts_21 ?_
    refine a_icmp_ge (tgt := 50) dX18_acts_24 (by decide) (fun c28 => ?_) (fun c28 => ?_)
    · replace h := ifp_ c28 h
      refine aw_pick [0, 1, 2] rfl ?_
      exact hk23 _ h
    · replace h := ifn_ c28 h
      refine a_aload_n 1 dX18_acts_27 rfl rfl ?_
      obtain ⟨v31, m29, e30, h⟩ := bm_some h
      have he30 := e_X24_mayBegin (G := G) hl hf21 e30
      refine c_I he30.1 (rn_V (n := 0) (As := []) kc_24 hf21 he30 (lw_V q1115 q1116 q1117 q122 q1118) (by decide +kernel) rfl (by show 2 + 1 ≤ (dz + 2); omega) (Nat.le_of_ble_eq_true rfl) (Nat.le_of_ble_eq_true rfl) dX18_acts_28) (fun z => (os_av (As := []) z).2.1) ?_
      refine a_if_eq (tgt := 50) dX18_acts_31 (by decide) (fun c32 => ?_) (fun c32 => ?_)
      · replace h := ifp_ c32 h
        refine aw_pick [0, 1, 2] rfl ?_
        exact hk23 _ h
      · replace h := ifn_ c32 h
        refine a_aload_n 1 dX18_acts_34 rfl rfl ?_
        refine a_aload_n 0 dX18_acts_35 rfl rfl ?_
        refine a_getR kc_18 1 (by decide) rfl hf19 q995 dX18_acts_36 ?_
        refine a_iload_n 3 dX18_acts_39 rfl rfl ?_
        obtain ⟨a33, e34, f35, h⟩ := gd_some h
        rw [e34]
        obtain ⟨c36, h⟩ := iz_some h
        refine a_aald (t0 := 7) f35 (by decide) (by decide) rfl (bn_ c36) dX18_acts_40 ?_
        obtain ⟨v39, m37, e38, h⟩ := bm_some h
        have he38 := e_X24_begins (G := G) hl hz hdz hf21 e38
        refine c_V he38.1 (rn_V (n := 1) (As := [vR_ (gR_ m29 a33 x27.toNatClampNeg)]) kc_24 hf21 he38 (lw_V q1119 q1120 q1121 q122 q1122) (by decide +kernel) rfl (by show (dz + 1) + 1 ≤ (dz + 2); omega) (Nat.le_of_ble_eq_true rfl) (Nat.le_of_ble_eq_true rfl) dX18_acts_41) (fun z => (os_av (As := [vR_ (gR_ m29 a33 x27.toNatClampNeg)]) z).2.1) ?_
        refine a_iinc (v := x27 + 1) (ls' := [(3, vI_ (x27 + 1)), (0, vR_ (some p18)), (1, vR_ (some p20)), (2, vI_ p22)]) 3 dX18_acts_44 rfl rfl (Nat.le_of_ble_eq_true rfl) rfl ?_
        refine a_goto (tgt := 19) dX18_acts_47 (by decide) ?_
        refine aw_pick [1, 2, 3, 0] rfl ?_
        exact ih _ _ h
def f_X18_acts_L2 (F : Nat) (z_ : pm_A → Option pm_A → pm_M → Option (Unit × pm_M)) (p1 : pm_A) (p3 : Option pm_A) : Nat → Int32 → pm_M → Option (Unit × pm_M)
  | 0, _, _ => none
  | n4 + 1, x6, m5 =>
    if (gI_ m5 p1 0) ≤ x6 then
      some ((), m5)
    else
      gd_ 24 p3 fun a8 =>
      bm_ (f_X24_mayBegin F a8 m5) fun v13 m11 =>
      if v13 = 0 then
        some ((), m11)
      else
        jn_ (fun  (m16 : pm_M) =>
          (f_X18_acts_L2 F z_ p1 p3 n4) (x6 + 1) m16
        ) fun k15 =>
        f_X18_acts_L19 F z_ p1 a8 x6 k15 F 0 m11
set_option maxHeartbeats 4000000 in
theorem w_X18_acts_L2 {G : xg_T} {l : Launch} (hl : l.stackTraces = false) {F : Nat} {dz : Nat} {z_ : pm_A → Option pm_A → pm_M → Option (Unit × pm_M)} (hz : ∀ (w0 : pm_A) (w1 : Option pm_A) (m m' : pm_M) (r : Unit), w0.1 = 18 → z_ w0 w1 m = some (r, m') → Cal_ G l yX18_acts (ws_ yX18_acts cX18_acts 4 none) dz [vR_ (some w0), vR_ w1] m (.inl none) m') (hdz : 174 ≤ dz) (p1 : pm_A) (p3 : Option pm_A) {m0 m' : pm_M} {r : Unit} (hf2 : p1.1 = 18)  : ∀ (n : Nat) (x6 : Int32) (m5 : pm_M), f_X18_acts_L2 F z_ p1 p3 n x6 m5 = some (r, m') → AW_ cX18_acts RX18 (none, "acts", (dz + 2), 4, m0, m', (.inl none), G, l, [], true) m5 2 [(0, vR_ (some p1)), (1, vR_ p3), (2, vI_ x6)] [] := by
  intro n
  induction n with
  | zero => intro x6 m5 h; cases h
  | succ n4 ih =>
    intro x6 m5 h
    rw [f_X18_acts_L2] at h
    refine a_iload_n 2 dX18_acts_2 rfl rfl ?_
    refine a_aload_n 0 dX18_acts_3 rfl rfl ?_
    refine a_getI kc_18 0 (by decide) rfl hf2 q994 dX18_acts_4 ?_
    refine a_icmp_ge (tgt := 56) dX18_acts_7 (by decide) (fun c7 => ?_) (fun c7 => ?_)
    · replace h := ifp_ c7 h
      cases h
      exact a_return rfl rfl rfl rfl dX18_acts_56
    · replace h := ifn_ c7 h
      refine a_aload_n 1 dX18_acts_10 rfl rfl ?_
      obtain ⟨a8, e9, f10, h⟩ := gd_some h
      rw [e9]
      obtain ⟨v13, m11, e12, h⟩ := bm_some h
      have he12 := e_X24_mayBegin (G := G) hl f10 e12
      refine c_I he12.1 (rn_V (n := 0) (As := []) kc_24 f10 he12 (lw_V q1115 q1116 q1117 q122 q1118) (by decide +kernel) rfl (by show 2 + 1 ≤ (dz + 2); omega) (Nat.le_of_ble_eq_true rfl) (Nat.le_of_ble_eq_true rfl) dX18_acts_11) (fun z => (os_av (As := []) z).2.1) ?_
      refine a_if_eq (tgt := 56) dX18_acts_14 (by decide) (fun c14 => ?_) (fun c14 => ?_)
      · replace h := ifp_ c14 h
        cases h
        exact a_return rfl rfl rfl rfl dX18_acts_56
      · replace h := ifn_ c14 h
        refine a_iconst (v := 0) dX18_acts_17 (by decide) ?_
        refine a_istore_n (ls' := [(3, vI_ 0), (0, vR_ (some p1)), (1, vR_ (some a8)), (2, vI_ x6)]) dX18_acts_18 rfl (Nat.le_of_ble_eq_true rfl) rfl ?_
        obtain ⟨k15, e40, h⟩ := jn1_some h
        have hk15 : ∀  (m16 : pm_M), k15 m16 = some (r, m') → AW_ cX18_acts RX18 (none, "acts", (dz + 2), 4, m0, m', (.inl none), G, l, [], true) m16 50 [(0, vR_ (some p1)), (1, vR_ (some a8)), (2, vI_ x6)] [] := by
          intro m16 h
          have h := (e40 m16).symm.trans h
          refine a_iinc (v := x6 + 1) (ls' := [(2, vI_ (x6 + 1)), (0, vR_ (some p1)), (1, vR_ (some a8))]) 2 dX18_acts_50 rfl rfl (Nat.le_of_ble_eq_true rfl) rfl ?_
          refine a_goto (tgt := 2) dX18_acts_53 (by decide) ?_
          refine aw_pick [1, 2, 0] rfl ?_
          have q17 := ih _ _ h
          rw [e9] at q17
          exact q17
        refine aw_pick [1, 2, 3, 0] rfl ?_
        exact w_X18_acts_L19 hl hz hdz _ _ _ _ hf2 f10 hk15 _ _ _ h
def b_X18_acts (F : Nat) (z_ : pm_A → Option pm_A → pm_M → Option (Unit × pm_M)) (t : pm_A) (i0 : Option pm_A) (m : pm_M) : Option (Unit × pm_M) :=
  f_X18_acts_L2 F z_ t i0 F 0 m
set_option maxHeartbeats 4000000 in
theorem eb_X18_acts {G : xg_T} {l : Launch} (hl : l.stackTraces = false) {F : Nat} {dz : Nat} {z_ : pm_A → Option pm_A → pm_M → Option (Unit × pm_M)} (hz : ∀ (w0 : pm_A) (w1 : Option pm_A) (m m' : pm_M) (r : Unit), w0.1 = 18 → z_ w0 w1 m = some (r, m') → Cal_ G l yX18_acts (ws_ yX18_acts cX18_acts 4 none) dz [vR_ (some w0), vR_ w1] m (.inl none) m') (hdz : 174 ≤ dz) {t : pm_A} {i0 : Option pm_A} {m0 m' : pm_M} {r : Unit} (ht : t.1 = 18) (h : b_X18_acts F z_ t i0 m0 = some (r, m')) : Cal_ G l yX18_acts (ws_ yX18_acts cX18_acts 4 none) (dz + 2) [vR_ (some t), vR_ i0] m0 (.inl none) m' := by
  refine cal_of (by decide +kernel) (Nat.le_of_ble_eq_true rfl) ?_
  unfold b_X18_acts at h
  show AW_ cX18_acts RX18 (none, "acts", (dz + 2), 4, m0, m', (.inl none), G, l, [], true) m0 0 [(0, vR_ (some t)), (1, vR_ i0)] []
  refine a_iconst (v := 0) dX18_acts_0 (by decide) ?_
  refine a_istore_n (ls' := [(2, vI_ 0), (0, vR_ (some t)), (1, vR_ i0)]) dX18_acts_1 rfl (Nat.le_of_ble_eq_true rfl) rfl ?_
  refine aw_pick [1, 2, 0] rfl ?_
  exact w_X18_acts_L2 hl hz hdz _ _ ht _ _ _ h
def f_X18_acts (F : Nat) : Nat → pm_A → Option pm_A → pm_M → Option (Unit × pm_M)
  | 0, _, _, _ => none
  | D + 1, t, i0, m => b_X18_acts F (f_X18_acts F D) t i0 m
theorem er_X18_acts {G : xg_T} {l : Launch} (hl : l.stackTraces = false) {F : Nat} : ∀ (D : Nat) (t : pm_A) (i0 : Option pm_A) (m m' : pm_M) (r : Unit), t.1 = 18 → f_X18_acts F D t i0 m = some (r, m') → Cal_ G l yX18_acts (ws_ yX18_acts cX18_acts 4 none) (2 * D + 174) [vR_ (some t), vR_ i0] m (.inl none) m' := by
  intro D
  induction D with
  | zero => intro t i0 m m' r ht h; cases h
  | succ D ih =>
    intro t i0 m m' r ht h
    have h : b_X18_acts F (f_X18_acts F D) t i0 m = some (r, m') := h
    have q := eb_X18_acts (dz := 2 * D + 174) hl ih (by omega) ht h
    rw [show 2 * (D + 1) + 174 = 2 * D + 174 + 2 by omega]
    exact q
theorem e_X18_acts {G : xg_T} {l : Launch} (hl : l.stackTraces = false) {F : Nat} {t : pm_A} {i0 : Option pm_A} {m m' : pm_M} {r : Unit} (ht : t.1 = 18) (h : f_X18_acts F 10 t i0 m = some (r, m')) : Cal_ G l yX18_acts (ws_ yX18_acts cX18_acts 4 none) 194 [vR_ (some t), vR_ i0] m (.inl none) m' := er_X18_acts hl 10 _ _ _ _ _ ht h
def f_X1_work (F : Nat)  (t : pm_A) (i0 : Int32) (m : pm_M) : Option ((Int32 ⊕ pm_A) × pm_M) :=
  bm_ (f_J8_min F (gI_ m t 13) 150 m) fun v3 m1 =>
  bt_ (f_X1_within F t i0 0 v3 m1) (fun v6 m4 =>
    gd_ 3 (gR_ m4 t 2) fun a9 =>
    if (gI_ m4 a9 1) = 16 then
      lt_ (pI_ m4 t 13 0) fun m66 =>
      lt_ (pI_ m66 t 14 ((-1))) fun m68 =>
      some (.inl ((-20)), m68)
    else
      lt_ (pN_ m4 16 0 3) fun m13 =>
      bm_ (f_X1_reader F t i0 m13) fun v17 m15 =>
      bm_ (f_X16_init F ((16, 0, gN_ m4)) v17 (gR_ m15 t 12) m15) fun v20 m18 =>
      bt_ (f_X16_reads F ((16, 0, gN_ m4)) m18) (fun v23 m21 =>
        gd_ 3 (gR_ m21 t 2) fun a26 =>
        bm_ (f_X3_now F a26 m21) fun v31 m29 =>
        gd_ 3 (gR_ m29 t 2) fun a32 =>
        lt_ (pI_ m29 a32 1 ((gI_ m29 a32 1) + 1)) fun m35 =>
        lt_ (pN_ m35 24 0 4) fun m37 =>
        gd_ 3 (gR_ m37 t 2) fun a39 =>
        bm_ (f_X3_now F a39 m37) fun v44 m42 =>
        gd_ 4 v44 fun a45 =>
        bm_ (f_X4_as F a45 v31 m42) fun v50 m48 =>
        bm_ (f_X24_init F ((24, 0, gN_ m35)) v50 m48) fun v53 m51 =>
        gd_ 18 v23 fun a54 =>
        bm_ (f_X18_acts F 10 a54 (some ((24, 0, gN_ m35))) m51) fun v59 m57 =>
        lt_ (pI_ m57 t 16 (gI_ m57 ((24, 0, gN_ m35)) 3)) fun m60 =>
        some (.inl (gI_ m60 ((24, 0, gN_ m35)) 2), m60)
      ) fun b25 m24 =>
        if b25.1 = 11 then
          bm_ (f_X1_faulty F t (some b25) m24) fun v65 m63 =>
          some (.inl v65, m63)
        else
        none
  ) fun b8 m7 =>
    some (.inr b8, m7)
set_option maxHeartbeats 4000000 in
theorem e_X1_work {G : xg_T} {l : Launch} (hl : l.stackTraces = false) {F : Nat}    {t : pm_A} {i0 : Int32} {m0 m' : pm_M} {r : (Int32 ⊕ pm_A)} (ht : t.1 = 1) (h : f_X1_work F t i0 m0 = some (r, m')) : Cal_ G l yX1_work (wsW_ yX1_work cX1_work 5 (some .int) [(43, 63, 66, 110)]) 195 [vR_ (some t), vI_ i0] m0 (oI_ r) m' := by
  refine cal_ofH (by decide +kernel) (Nat.le_of_ble_eq_true rfl) ?_
  unfold f_X1_work at h
  show AW_ cX1_work RX1 (some (.int), "work", 195, 5, m0, m', (oI_ r), G, l, [(43, 63, 66, 110)], true) m0 0 [(0, vR_ (some t)), (1, vI_ i0)] []
  refine a_aload_n 0 dX1_work_0 rfl rfl ?_
  refine a_iload_n 1 dX1_work_1 rfl rfl ?_
  refine a_iconst (v := 0) dX1_work_2 (by decide) ?_
  refine a_aload_n 0 dX1_work_3 rfl rfl ?_
  refine a_getI kc_1 13 (by decide) rfl ht q401 dX1_work_4 ?_
  refine a_sipush (v := 150) dX1_work_7 (by decide) ?_
  obtain ⟨v3, m1, e2, h⟩ := bm_some h
  have he2 := e_J8_min (G := G) hl e2
  refine c_I he2.1 (rn_S (n := 2) (As := [vI_ (gI_ m0 t 13), vI_ 150]) he2 (lw_S q847 q521 q109 q522) (by decide +kernel) rfl (Nat.le_of_ble_eq_true rfl) (Nat.le_of_ble_eq_true rfl) (Nat.le_of_ble_eq_true rfl) dX1_work_10) (fun z => (os_aS (As := [vI_ (gI_ m0 t 13), vI_ 150]) z).2) ?_
  rcases bt_some h with ⟨v6, m4, e5, h⟩ | ⟨b8, m7, e5, h⟩
  · have he5 := e_X1_within (G := G) hl ht e5
    refine c_V he5.1 (rn_V (n := 3) (As := [vI_ i0, vI_ 0, vI_ v3]) kc_1 ht he5 (lw_V q581 q583 qs0 q90 q584) (by decide +kernel) rfl (Nat.le_of_ble_eq_true rfl) (Nat.le_of_ble_eq_true rfl) (Nat.le_of_ble_eq_true rfl) dX1_work_13) (fun z => (os_av (As := [vI_ i0, vI_ 0, vI_ v3]) z).2.1) ?_
    refine a_aload_n 0 dX1_work_16 rfl rfl ?_
    refine a_getR kc_1 2 (by decide) rfl ht q390 dX1_work_17 ?_
    obtain ⟨a9, e10, f11, h⟩ := gd_some h
    rw [e10]
    refine a_getIN kc_3 1 (by decide) rfl f11 q340 dX1_work_20 ?_
    refine a_bipush (v := 16) dX1_work_23 (by decide) ?_
    refine a_icmp_ne (tgt := 41) dX1_work_25 (by decide) (fun c12 => ?_) (fun c12 => ?_)
    · replace h := ifn_ c12 h
      refine a_null dX1_work_41 ?_
      refine a_astore_n (ls' := [(2, vR_ none), (0, vR_ (some t)), (1, vI_ i0)]) dX1_work_42 rfl (Nat.le_of_ble_eq_true rfl) rfl ?_
      obtain ⟨m13, e14, h⟩ := lt_some h
      refine a_new kc_16 q953 q954 q114 dX1_work_43 ?_
      rw [← e14]
      refine a_dup dX1_work_46 rfl ?_
      refine a_aload_n 1 dX1_work_47 rfl rfl ?_
      refine a_iload_n 2 dX1_work_48 rfl rfl ?_
      obtain ⟨v17, m15, e16, h⟩ := bm_some h
      have he16 := e_X1_reader (G := G) hl ht e16
      refine c_R he16.1 (rn_V (n := 1) (As := [vI_ i0]) kc_1 ht he16 (lw_V q651 q653 qs2 q90 q654) (by decide +kernel) rfl (Nat.le_of_ble_eq_true rfl) (Nat.le_of_ble_eq_true rfl) (Nat.le_of_ble_eq_true rfl) dX1_work_49) (fun z => (os_av (As := [vI_ i0]) z).2.1) ?_
      refine a_aload_n 1 dX1_work_52 rfl rfl ?_
      refine a_getR kc_1 12 (by decide) rfl ht q400 dX1_work_53 ?_
      obtain ⟨v20, m18, e19, h⟩ := bm_some h
      have he19 := e_X16_init (G := G) hl rfl e19
      refine c_V he19.1 (rn_I (n := 2) (As := [vR_ v17, vR_ (gR_ m15 t 12)]) he19 q955 q956 q114 q957 rfl (by decide +kernel) rfl (Nat.le_of_ble_eq_true rfl) (Nat.le_of_ble_eq_true rfl) (Nat.le_of_ble_eq_true rfl) dX1_work_56) (fun z => (os_av (As := [vR_ v17, vR_ (gR_ m15 t 12)]) z).2.1) ?_
      rcases bt_some h with ⟨v23, m21, e22, h⟩ | ⟨b25, m24, e22, h⟩
      · have he22 := e_X16_reads (G := G) hl rfl e22
        refine c_R (v := v23) he22.1 (rn_V (n := 0) (As := []) kc_16 rfl he22 (lw_V q979 q980 q981 q114 q982) (by decide +kernel) rfl (Nat.le_of_ble_eq_true rfl) (Nat.le_of_ble_eq_true rfl) (Nat.le_of_ble_eq_true rfl) dX1_work_59) (fun z => (os_av (As := []) z).2.1) ?_
        refine a_astore_n (ls' := [(2, vR_ v23), (0, vR_ (some t)), (1, vI_ i0)]) dX1_work_62 rfl (Nat.le_of_ble_eq_true rfl) rfl ?_
        refine a_goto (tgt := 73) dX1_work_63 (by decide) ?_
        refine a_aload_n 1 dX1_work_73 rfl rfl ?_
        refine a_getR kc_1 2 (by decide) rfl ht q390 dX1_work_74 ?_
        obtain ⟨a26, e27, f28, h⟩ := gd_some h
        rw [e27]
        obtain ⟨v31, m29, e30, h⟩ := bm_some h
        have he30 := e_X3_now (G := G) hl f28 e30
        refine c_R he30.1 (rn_V (n := 0) (As := []) kc_3 f28 he30 (lw_V q380 q381 q382 q92 q383) (by decide +kernel) rfl (Nat.le_of_ble_eq_true rfl) (Nat.le_of_ble_eq_true rfl) (Nat.le_of_ble_eq_true rfl) dX1_work_77) (fun z => (os_av (As := []) z).2.1) ?_
        refine a_astore_n (ls' := [(3, vR_ v31), (2, vR_ v23), (0, vR_ (some t)), (1, vI_ i0)]) dX1_work_80 rfl (Nat.le_of_ble_eq_true rfl) rfl ?_
        refine a_aload_n 2 dX1_work_81 rfl rfl ?_
        refine a_getR kc_1 2 (by decide) rfl ht q390 dX1_work_82 ?_
        refine a_dup dX1_work_85 rfl ?_
        obtain ⟨a32, e33, f34, h⟩ := gd_some h
        rw [e33]
        refine a_getIN kc_3 1 (by decide) rfl f34 q340 dX1_work_86 ?_
        refine a_iconst (v := 1) dX1_work_89 (by decide) ?_
        refine a_iadd dX1_work_90 ?_
        obtain ⟨m35, e36, h⟩ := lt_some h
        refine a_putIN kc_3 1 (by decide) rfl f34 q340 rfl rfl rfl dX1_work_91 ?_
        rw [← e36]
        obtain ⟨m37, e38, h⟩ := lt_some h
        refine a_new kc_24 q1084 q1085 q122 dX1_work_94 ?_
        rw [← e38]
        refine a_dup dX1_work_97 rfl ?_
        refine a_aload_n 2 dX1_work_98 rfl rfl ?_
        refine a_getR kc_1 2 (by decide) rfl ht q390 dX1_work_99 ?_
        obtain ⟨a39, e40, f41, h⟩ := gd_some h
        rw [e40]
        obtain ⟨v44, m42, e43, h⟩ := bm_some h
        have he43 := e_X3_now (G := G) hl f41 e43
        refine c_R he43.1 (rn_V (n := 0) (As := []) kc_3 f41 he43 (lw_V q380 q381 q382 q92 q383) (by decide +kernel) rfl (Nat.le_of_ble_eq_true rfl) (Nat.le_of_ble_eq_true rfl) (Nat.le_of_ble_eq_true rfl) dX1_work_102) (fun z => (os_av (As := []) z).2.1) ?_
        refine a_aload_n 0 dX1_work_105 rfl rfl ?_
        obtain ⟨a45, e46, f47, h⟩ := gd_some h
        rw [e46]
        obtain ⟨v50, m48, e49, h⟩ := bm_some h
        have he49 := e_X4_as (G := G) hl f47 e49
        refine c_R he49.1 (rn_V (n := 1) (As := [vR_ v31]) kc_4 f47 he49 (lw_V q1086 q551 q552 q93 q553) (by decide +kernel) rfl (Nat.le_of_ble_eq_true rfl) (Nat.le_of_ble_eq_true rfl) (Nat.le_of_ble_eq_true rfl) dX1_work_106) (fun z => (os_av (As := [vR_ v31]) z).2.1) ?_
        obtain ⟨v53, m51, e52, h⟩ := bm_some h
        have he52 := e_X24_init (G := G) hl rfl e52
        refine c_V he52.1 (rn_I (n := 1) (As := [vR_ v50]) he52 q1087 q1088 q122 q1089 rfl (by decide +kernel) rfl (Nat.le_of_ble_eq_true rfl) (Nat.le_of_ble_eq_true rfl) (Nat.le_of_ble_eq_true rfl) dX1_work_109) (fun z => (os_av (As := [vR_ v50]) z).2.1) ?_
        refine a_astore (ls' := [(4, vR_ (some ((24, 0, gN_ m35)))), (3, vR_ v31), (2, vR_ v23), (0, vR_ (some t)), (1, vI_ i0)]) dX1_work_112 (Nat.le_of_ble_eq_true rfl) rfl ?_
        refine a_aload_n 2 dX1_work_114 rfl rfl ?_
        refine a_aload 0 dX1_work_115 rfl ?_
        obtain ⟨a54, e55, f56, h⟩ := gd_some h
        rw [e55]
        obtain ⟨v59, m57, e58, h⟩ := bm_some h
        have he58 := e_X18_acts (G := G) hl f56 e58
        refine c_V he58.1 (rn_V (n := 1) (As := [vR_ (some ((24, 0, gN_ m35)))]) kc_18 f56 he58 (lw_V q1111 q1112 q1113 q116 q1114) (by decide +kernel) rfl (Nat.le_of_ble_eq_true rfl) (Nat.le_of_ble_eq_true rfl) (Nat.le_of_ble_eq_true rfl) dX1_work_117) (fun z => (os_av (As := [vR_ (some ((24, 0, gN_ m35)))]) z).2.1) ?_
        refine a_aload_n 3 dX1_work_120 rfl rfl ?_
        refine a_aload 0 dX1_work_121 rfl ?_
        refine a_getIN kc_24 3 (by decide) rfl rfl q1101 dX1_work_123 ?_
        obtain ⟨m60, e61, h⟩ := lt_some h
        refine a_putI kc_1 16 (by decide) rfl ht q404 rfl rfl rfl dX1_work_126 ?_
        rw [← e61]
        refine a_aload 0 dX1_work_129 rfl ?_
        refine a_getIN kc_24 2 (by decide) rfl rfl q1099 dX1_work_131 ?_
        cases h
        exact a_ireturn rfl rfl rfl rfl rfl dX1_work_134
      · have he22 := e_X16_reads (G := G) hl rfl e22
        refine c_X (b := b25) he22.1 (rn_V (n := 0) (As := []) kc_16 rfl he22 (lw_V q979 q980 q981 q114 q982) (by decide +kernel) rfl (Nat.le_of_ble_eq_true rfl) (Nat.le_of_ble_eq_true rfl) (Nat.le_of_ble_eq_true rfl) dX1_work_59) ?_
        by_cases c62 : b25.1 = 11
        · replace h := ifp_ c62 h
          refine a_catch [] ⟨43, 63, 66, 110⟩ [] rfl (fun z hz => nomatch hz) rfl (by decide) q580 (by rw [c62]; exact q783) ?_
          refine a_astore_n (ls' := [(3, vR_ (some b25)), (2, vR_ none), (0, vR_ (some t)), (1, vI_ i0)]) dX1_work_66 rfl (Nat.le_of_ble_eq_true rfl) rfl ?_
          refine a_aload_n 2 dX1_work_67 rfl rfl ?_
          refine a_aload_n 0 dX1_work_68 rfl rfl ?_
          obtain ⟨v65, m63, e64, h⟩ := bm_some h
          have he64 := e_X1_faulty (G := G) hl ht e64
          refine c_I he64.1 (rn_V (n := 1) (As := [vR_ (some b25)]) kc_1 ht he64 (lw_V q836 q838 qs7 q90 q839) (by decide +kernel) rfl (Nat.le_of_ble_eq_true rfl) (Nat.le_of_ble_eq_true rfl) (Nat.le_of_ble_eq_true rfl) dX1_work_69) (fun z => (os_av (As := [vR_ (some b25)]) z).2.1) ?_
          cases h
          exact a_ireturn rfl rfl rfl rfl rfl dX1_work_72
        replace h := ifn_ c62 h
        cases h
    · replace h := ifp_ c12 h
      refine a_aload_n 0 dX1_work_28 rfl rfl ?_
      refine a_iconst (v := 0) dX1_work_29 (by decide) ?_
      obtain ⟨m66, e67, h⟩ := lt_some h
      refine a_putI kc_1 13 (by decide) rfl ht q401 rfl rfl rfl dX1_work_30 ?_
      rw [← e67]
      refine a_aload_n 0 dX1_work_33 rfl rfl ?_
      refine a_iconst (v := (-1)) dX1_work_34 (by decide) ?_
      obtain ⟨m68, e69, h⟩ := lt_some h
      refine a_putI kc_1 14 (by decide) rfl ht q402 rfl rfl rfl dX1_work_35 ?_
      rw [← e69]
      refine a_bipush (v := (-20)) dX1_work_38 (by decide) ?_
      cases h
      exact a_ireturn rfl rfl rfl rfl rfl dX1_work_40
  · have he5 := e_X1_within (G := G) hl ht e5
    refine c_X (b := b8) he5.1 (rn_V (n := 3) (As := [vI_ i0, vI_ 0, vI_ v3]) kc_1 ht he5 (lw_V q581 q583 qs0 q90 q584) (by decide +kernel) rfl (Nat.le_of_ble_eq_true rfl) (Nat.le_of_ble_eq_true rfl) (Nat.le_of_ble_eq_true rfl) dX1_work_13) ?_
    cases h
    exact a_out rfl rfl rfl rfl
