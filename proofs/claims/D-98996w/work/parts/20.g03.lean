/-! PRINTED BY dec.py: X4_as X24_init X24_mayBegin X4_boundTo X4_places X24_tells X19_acts X4_isBound X4_adds X20_acts X4_many X4_lands X21_acts X6_kinOf X14_on X5_known X15_on X13_on X2_asks -/
set_option maxRecDepth 100000
def f_X4_as (F : Nat)  (t : pm_A) (i0 : Option pm_A) (m : pm_M) : Option (Option pm_A × pm_M) :=
  gd_ 4 i0 fun a1 =>
  lt_ (pR_ m t 10 (gR_ m a1 10)) fun m4 =>
  lt_ (pI_ m4 t 11 (gI_ m4 a1 11)) fun m6 =>
  lt_ (pI_ m6 t 12 (gI_ m6 a1 12)) fun m8 =>
  lt_ (pI_ m8 t 13 0) fun m10 =>
  bm_ (f_X4_copies F (gR_ m10 a1 0) (gR_ m10 t 0) m10) fun v14 m12 =>
  bm_ (f_X4_copies F (gR_ m12 a1 1) (gR_ m12 t 1) m12) fun v17 m15 =>
  bm_ (f_X4_copies F (gR_ m15 a1 2) (gR_ m15 t 2) m15) fun v20 m18 =>
  bm_ (f_X4_copies F (gR_ m18 a1 3) (gR_ m18 t 3) m18) fun v23 m21 =>
  bm_ (f_X4_copies F (gR_ m21 a1 4) (gR_ m21 t 4) m21) fun v26 m24 =>
  bm_ (f_X4_copies F (gR_ m24 a1 5) (gR_ m24 t 5) m24) fun v29 m27 =>
  bm_ (f_X4_copies F (gR_ m27 a1 6) (gR_ m27 t 6) m27) fun v32 m30 =>
  gd_ 102 (gR_ m30 a1 7) fun a33 =>
  gd_ 102 (gR_ m30 t 7) fun a36 =>
  iz_ (!(decide (0 + 8 ≤ a33.2.1) && decide (0 + 8 ≤ a36.2.1))) <|
  iz_ (!(bz_ m30 a33 0 8)) <|
  lt_ (pC_ m30 a33 0 a36 0 8) fun m41 =>
  some ((some t), m41)
set_option maxHeartbeats 4000000 in
theorem e_X4_as {G : xg_T} {l : Launch} (hl : l.stackTraces = false) {F : Nat}    {t : pm_A} {i0 : Option pm_A} {m0 m' : pm_M} {r : Option pm_A} (ht : t.1 = 4) (h : f_X4_as F t i0 m0 = some (r, m')) : Cal_ G l yX4_as (ws_ yX4_as cX4_as 2 (some (.object "PassagePapers$State"))) 3 [vR_ (some t), vR_ i0] m0 (.inl (some (vR_ r))) m' := by
  refine cal_of (by decide +kernel) (Nat.le_of_ble_eq_true rfl) ?_
  unfold f_X4_as at h
  show AW_ cX4_as RX4 (some (.object "PassagePapers$State"), "as", 3, 2, m0, m', (.inl (some (vR_ r))), G, l, [], true) m0 0 [(0, vR_ (some t)), (1, vR_ i0)] []
  refine a_aload_n 0 dX4_as_0 rfl rfl ?_
  refine a_aload_n 1 dX4_as_1 rfl rfl ?_
  obtain ⟨a1, e2, f3, h⟩ := gd_some h
  rw [e2]
  refine a_getR kc_4 10 (by decide) rfl f3 q301 dX4_as_2 ?_
  obtain ⟨m4, e5, h⟩ := lt_some h
  refine a_putR kc_4 10 (by decide) rfl ht q301 rfl na_obj dX4_as_5 ?_
  rw [← e5]
  refine a_aload_n 0 dX4_as_8 rfl rfl ?_
  refine a_aload_n 1 dX4_as_9 rfl rfl ?_
  refine a_getI kc_4 11 (by decide) rfl f3 q303 dX4_as_10 ?_
  obtain ⟨m6, e7, h⟩ := lt_some h
  refine a_putI kc_4 11 (by decide) rfl ht q303 rfl rfl rfl dX4_as_13 ?_
  rw [← e7]
  refine a_aload_n 0 dX4_as_16 rfl rfl ?_
  refine a_aload_n 1 dX4_as_17 rfl rfl ?_
  refine a_getI kc_4 12 (by decide) rfl f3 q305 dX4_as_18 ?_
  obtain ⟨m8, e9, h⟩ := lt_some h
  refine a_putI kc_4 12 (by decide) rfl ht q305 rfl rfl rfl dX4_as_21 ?_
  rw [← e9]
  refine a_aload_n 0 dX4_as_24 rfl rfl ?_
  refine a_iconst (v := 0) dX4_as_25 (by decide) ?_
  obtain ⟨m10, e11, h⟩ := lt_some h
  refine a_putI kc_4 13 (by decide) rfl ht q307 rfl rfl rfl dX4_as_26 ?_
  rw [← e11]
  refine a_aload_n 1 dX4_as_29 rfl rfl ?_
  refine a_getR kc_4 0 (by decide) rfl f3 q283 dX4_as_30 ?_
  refine a_aload_n 0 dX4_as_33 rfl rfl ?_
  refine a_getR kc_4 0 (by decide) rfl ht q283 dX4_as_34 ?_
  obtain ⟨v14, m12, e13, h⟩ := bm_some h
  have he13 := e_X4_copies (G := G) hl e13
  refine c_V he13.1 (rn_S (n := 2) (As := [vR_ (gR_ m10 a1 0), vR_ (gR_ m10 t 0)]) he13 (lw_S q554 q555 q93 q556) (by decide +kernel) rfl (Nat.le_of_ble_eq_true rfl) (Nat.le_of_ble_eq_true rfl) (Nat.le_of_ble_eq_true rfl) dX4_as_37) (fun z => (os_aS (As := [vR_ (gR_ m10 a1 0), vR_ (gR_ m10 t 0)]) z).2) ?_
  refine a_aload_n 1 dX4_as_40 rfl rfl ?_
  refine a_getR kc_4 1 (by decide) rfl f3 q286 dX4_as_41 ?_
  refine a_aload_n 0 dX4_as_44 rfl rfl ?_
  refine a_getR kc_4 1 (by decide) rfl ht q286 dX4_as_45 ?_
  obtain ⟨v17, m15, e16, h⟩ := bm_some h
  have he16 := e_X4_copies (G := G) hl e16
  refine c_V he16.1 (rn_S (n := 2) (As := [vR_ (gR_ m12 a1 1), vR_ (gR_ m12 t 1)]) he16 (lw_S q554 q555 q93 q556) (by decide +kernel) rfl (Nat.le_of_ble_eq_true rfl) (Nat.le_of_ble_eq_true rfl) (Nat.le_of_ble_eq_true rfl) dX4_as_48) (fun z => (os_aS (As := [vR_ (gR_ m12 a1 1), vR_ (gR_ m12 t 1)]) z).2) ?_
  refine a_aload_n 1 dX4_as_51 rfl rfl ?_
  refine a_getR kc_4 2 (by decide) rfl f3 q288 dX4_as_52 ?_
  refine a_aload_n 0 dX4_as_55 rfl rfl ?_
  refine a_getR kc_4 2 (by decide) rfl ht q288 dX4_as_56 ?_
  obtain ⟨v20, m18, e19, h⟩ := bm_some h
  have he19 := e_X4_copies (G := G) hl e19
  refine c_V he19.1 (rn_S (n := 2) (As := [vR_ (gR_ m15 a1 2), vR_ (gR_ m15 t 2)]) he19 (lw_S q554 q555 q93 q556) (by decide +kernel) rfl (Nat.le_of_ble_eq_true rfl) (Nat.le_of_ble_eq_true rfl) (Nat.le_of_ble_eq_true rfl) dX4_as_59) (fun z => (os_aS (As := [vR_ (gR_ m15 a1 2), vR_ (gR_ m15 t 2)]) z).2) ?_
  refine a_aload_n 1 dX4_as_62 rfl rfl ?_
  refine a_getR kc_4 3 (by decide) rfl f3 q290 dX4_as_63 ?_
  refine a_aload_n 0 dX4_as_66 rfl rfl ?_
  refine a_getR kc_4 3 (by decide) rfl ht q290 dX4_as_67 ?_
  obtain ⟨v23, m21, e22, h⟩ := bm_some h
  have he22 := e_X4_copies (G := G) hl e22
  refine c_V he22.1 (rn_S (n := 2) (As := [vR_ (gR_ m18 a1 3), vR_ (gR_ m18 t 3)]) he22 (lw_S q554 q555 q93 q556) (by decide +kernel) rfl (Nat.le_of_ble_eq_true rfl) (Nat.le_of_ble_eq_true rfl) (Nat.le_of_ble_eq_true rfl) dX4_as_70) (fun z => (os_aS (As := [vR_ (gR_ m18 a1 3), vR_ (gR_ m18 t 3)]) z).2) ?_
  refine a_aload_n 1 dX4_as_73 rfl rfl ?_
  refine a_getR kc_4 4 (by decide) rfl f3 q292 dX4_as_74 ?_
  refine a_aload_n 0 dX4_as_77 rfl rfl ?_
  refine a_getR kc_4 4 (by decide) rfl ht q292 dX4_as_78 ?_
  obtain ⟨v26, m24, e25, h⟩ := bm_some h
  have he25 := e_X4_copies (G := G) hl e25
  refine c_V he25.1 (rn_S (n := 2) (As := [vR_ (gR_ m21 a1 4), vR_ (gR_ m21 t 4)]) he25 (lw_S q554 q555 q93 q556) (by decide +kernel) rfl (Nat.le_of_ble_eq_true rfl) (Nat.le_of_ble_eq_true rfl) (Nat.le_of_ble_eq_true rfl) dX4_as_81) (fun z => (os_aS (As := [vR_ (gR_ m21 a1 4), vR_ (gR_ m21 t 4)]) z).2) ?_
  refine a_aload_n 1 dX4_as_84 rfl rfl ?_
  refine a_getR kc_4 5 (by decide) rfl f3 q294 dX4_as_85 ?_
  refine a_aload_n 0 dX4_as_88 rfl rfl ?_
  refine a_getR kc_4 5 (by decide) rfl ht q294 dX4_as_89 ?_
  obtain ⟨v29, m27, e28, h⟩ := bm_some h
  have he28 := e_X4_copies (G := G) hl e28
  refine c_V he28.1 (rn_S (n := 2) (As := [vR_ (gR_ m24 a1 5), vR_ (gR_ m24 t 5)]) he28 (lw_S q554 q555 q93 q556) (by decide +kernel) rfl (Nat.le_of_ble_eq_true rfl) (Nat.le_of_ble_eq_true rfl) (Nat.le_of_ble_eq_true rfl) dX4_as_92) (fun z => (os_aS (As := [vR_ (gR_ m24 a1 5), vR_ (gR_ m24 t 5)]) z).2) ?_
  refine a_aload_n 1 dX4_as_95 rfl rfl ?_
  refine a_getR kc_4 6 (by decide) rfl f3 q295 dX4_as_96 ?_
  refine a_aload_n 0 dX4_as_99 rfl rfl ?_
  refine a_getR kc_4 6 (by decide) rfl ht q295 dX4_as_100 ?_
  obtain ⟨v32, m30, e31, h⟩ := bm_some h
  have he31 := e_X4_copies (G := G) hl e31
  refine c_V he31.1 (rn_S (n := 2) (As := [vR_ (gR_ m27 a1 6), vR_ (gR_ m27 t 6)]) he31 (lw_S q554 q555 q93 q556) (by decide +kernel) rfl (Nat.le_of_ble_eq_true rfl) (Nat.le_of_ble_eq_true rfl) (Nat.le_of_ble_eq_true rfl) dX4_as_103) (fun z => (os_aS (As := [vR_ (gR_ m27 a1 6), vR_ (gR_ m27 t 6)]) z).2) ?_
  refine a_aload_n 1 dX4_as_106 rfl rfl ?_
  refine a_getR kc_4 7 (by decide) rfl f3 q297 dX4_as_107 ?_
  refine a_iconst (v := 0) dX4_as_110 (by decide) ?_
  refine a_aload_n 0 dX4_as_111 rfl rfl ?_
  refine a_getR kc_4 7 (by decide) rfl ht q297 dX4_as_112 ?_
  refine a_iconst (v := 0) dX4_as_115 (by decide) ?_
  refine a_bipush (v := 8) dX4_as_116 (by decide) ?_
  obtain ⟨a33, e34, f35, h⟩ := gd_some h
  rw [e34]
  obtain ⟨a36, e37, f38, h⟩ := gd_some h
  rw [e37]
  obtain ⟨c39, h⟩ := iz_some h
  have c39 := da_ok (bn_ c39)
  obtain ⟨c40, h⟩ := iz_some h
  obtain ⟨m41, e42, h⟩ := lt_some h
  refine a_cpyZ q557 f35 f38 (by decide) (by decide) (by decide) c39.1 c39.2 (bn_ c40) (Nat.le_of_ble_eq_true rfl) (Nat.le_of_ble_eq_true rfl) dX4_as_118 ?_
  rw [show pC_ _ _ (Int32.toNatClampNeg 0) _ (Int32.toNatClampNeg 0) (Int32.toNatClampNeg 8) = pC_ _ _ 0 _ 0 8 from rfl, ← e42]
  refine a_aload_n 0 dX4_as_121 rfl rfl ?_
  cases h
  exact a_areturn rfl (Or.inl ⟨_, rfl⟩) rfl rfl rfl dX4_as_122
def f_X24_init (F : Nat)  (t : pm_A) (i0 : Option pm_A) (m : pm_M) : Option (Unit × pm_M) :=
  lt_ (pR_ m t 0 i0) fun m1 =>
  some ((), m1)
set_option maxHeartbeats 4000000 in
theorem e_X24_init {G : xg_T} {l : Launch} (hl : l.stackTraces = false) {F : Nat}    {t : pm_A} {i0 : Option pm_A} {m0 m' : pm_M} {r : Unit} (ht : t.1 = 24) (h : f_X24_init F t i0 m0 = some (r, m')) : Cal_ G l yX24_init (ws_ yX24_init cX24_init 2 none) 2 [vR_ (some t), vR_ i0] m0 (.inl none) m' := by
  refine cal_of (by decide +kernel) (Nat.le_of_ble_eq_true rfl) ?_
  unfold f_X24_init at h
  show AW_ cX24_init RX24 (none, "<init>", 2, 2, m0, m', (.inl none), G, l, [], true) m0 0 [(0, vR_ (some t)), (1, vR_ i0)] []
  refine a_aload_n 0 dX24_init_0 rfl rfl ?_
  refine a_obj q1090 q132 q133 (Nat.le_of_ble_eq_true rfl) (Nat.le_of_ble_eq_true rfl) dX24_init_1 ?_
  refine a_aload_n 0 dX24_init_4 rfl rfl ?_
  refine a_aload_n 1 dX24_init_5 rfl rfl ?_
  obtain ⟨m1, e2, h⟩ := lt_some h
  refine a_putRF kc_24 0 (by decide) rfl ht q1091 rfl rfl rfl na_obj dX24_init_6 ?_
  rw [← e2]
  cases h
  exact a_return rfl rfl rfl rfl dX24_init_9
def f_X24_mayBegin (F : Nat)  (t : pm_A) (m : pm_M) : Option (Int32 × pm_M) :=
  if 200 ≤ (gI_ m t 1) then
    some (0, m)
  else
    some (1, m)
set_option maxHeartbeats 4000000 in
theorem e_X24_mayBegin {G : xg_T} {l : Launch} (hl : l.stackTraces = false) {F : Nat}    {t : pm_A} {m0 m' : pm_M} {r : Int32} (ht : t.1 = 24) (h : f_X24_mayBegin F t m0 = some (r, m')) : Cal_ G l yX24_mayBegin (ws_ yX24_mayBegin cX24_mayBegin 1 (some .boolean)) 2 [vR_ (some t)] m0 (.inl (some (vI_ r))) m' := by
  refine cal_of (by decide +kernel) (Nat.le_of_ble_eq_true rfl) ?_
  unfold f_X24_mayBegin at h
  show AW_ cX24_mayBegin RX24 (some (.boolean), "mayBegin", 2, 1, m0, m', (.inl (some (vI_ r))), G, l, [], true) m0 0 [(0, vR_ (some t))] []
  refine a_aload_n 0 dX24_mayBegin_0 rfl rfl ?_
  refine a_getI kc_24 1 (by decide) rfl ht q1097 dX24_mayBegin_1 ?_
  refine a_sipush (v := 200) dX24_mayBegin_4 (by decide) ?_
  refine a_icmp_ge (tgt := 14) dX24_mayBegin_7 (by decide) (fun c1 => ?_) (fun c1 => ?_)
  · replace h := ifp_ c1 h
    refine a_iconst (v := 0) dX24_mayBegin_14 (by decide) ?_
    cases h
    exact a_ireturn rfl rfl rfl rfl rfl dX24_mayBegin_15
  · replace h := ifn_ c1 h
    refine a_iconst (v := 1) dX24_mayBegin_10 (by decide) ?_
    refine a_goto (tgt := 15) dX24_mayBegin_11 (by decide) ?_
    cases h
    exact a_ireturn rfl rfl rfl rfl rfl dX24_mayBegin_15
def f_X4_boundTo_L4 (F : Nat)  (p1 : pm_A) (p3 : Int32) : Nat → Int32 → Int32 → pm_M → Option (Int32 × pm_M)
  | 0, _, _, _ => none
  | n4 + 1, x6, x7, m5 =>
    gd_ 6 (gR_ m5 p1 10) fun a8 =>
    if (gI_ m5 a8 7) ≤ x7 then
      some (x6, m5)
    else
      gd_ 100 (gR_ m5 p1 1) fun a12 =>
      iz_ (!(ib_ x7 a12.2.1)) <|
      if (gI_ m5 a12 x7.toNatClampNeg) = p3 then
        (f_X4_boundTo_L4 F p1 p3 n4) (x6 + 1) (x7 + 1) m5
      else
        (f_X4_boundTo_L4 F p1 p3 n4) x6 (x7 + 1) m5
set_option maxHeartbeats 4000000 in
theorem w_X4_boundTo_L4 {G : xg_T} {l : Launch} (hl : l.stackTraces = false) {F : Nat}    (p1 : pm_A) (p3 : Int32) {m0 m' : pm_M} {r : Int32} (hf2 : p1.1 = 4)  : ∀ (n : Nat) (x6 : Int32) (x7 : Int32) (m5 : pm_M), f_X4_boundTo_L4 F p1 p3 n x6 x7 m5 = some (r, m') → AW_ cX4_boundTo RX4 (some (.int), "boundTo", 2, 4, m0, m', (.inl (some (vI_ r))), G, l, [], true) m5 4 [(0, vR_ (some p1)), (1, vI_ p3), (2, vI_ x6), (3, vI_ x7)] [] := by
  intro n
  induction n with
  | zero => intro x6 x7 m5 h; cases h
  | succ n4 ih =>
    intro x6 x7 m5 h
    rw [f_X4_boundTo_L4] at h
    refine a_iload_n 3 dX4_boundTo_4 rfl rfl ?_
    refine a_aload_n 0 dX4_boundTo_5 rfl rfl ?_
    refine a_getR kc_4 10 (by decide) rfl hf2 q301 dX4_boundTo_6 ?_
    obtain ⟨a8, e9, f10, h⟩ := gd_some h
    rw [e9]
    refine a_getIN kc_6 7 (by decide) rfl f10 q248 dX4_boundTo_9 ?_
    refine a_icmp_ge (tgt := 34) dX4_boundTo_12 (by decide) (fun c11 => ?_) (fun c11 => ?_)
    · replace h := ifp_ c11 h
      refine a_iload_n 2 dX4_boundTo_34 rfl rfl ?_
      cases h
      exact a_ireturn rfl rfl rfl rfl rfl dX4_boundTo_35
    · replace h := ifn_ c11 h
      refine a_aload_n 0 dX4_boundTo_15 rfl rfl ?_
      refine a_getR kc_4 1 (by decide) rfl hf2 q286 dX4_boundTo_16 ?_
      refine a_iload_n 3 dX4_boundTo_19 rfl rfl ?_
      obtain ⟨a12, e13, f14, h⟩ := gd_some h
      rw [e13]
      obtain ⟨c15, h⟩ := iz_some h
      refine a_iald f14 (bn_ c15) dX4_boundTo_20 ?_
      refine a_iload_n 1 dX4_boundTo_21 rfl rfl ?_
      refine a_icmp_ne (tgt := 28) dX4_boundTo_22 (by decide) (fun c16 => ?_) (fun c16 => ?_)
      · replace h := ifn_ c16 h
        refine a_iinc (v := x7 + 1) (ls' := [(3, vI_ (x7 + 1)), (0, vR_ (some p1)), (1, vI_ p3), (2, vI_ x6)]) 3 dX4_boundTo_28 rfl rfl (Nat.le_of_ble_eq_true rfl) rfl ?_
        refine a_goto (tgt := 4) dX4_boundTo_31 (by decide) ?_
        refine aw_pick [1, 2, 3, 0] rfl ?_
        exact ih _ _ _ h
      · replace h := ifp_ c16 h
        refine a_iinc (v := x6 + 1) (ls' := [(2, vI_ (x6 + 1)), (0, vR_ (some p1)), (1, vI_ p3), (3, vI_ x7)]) 2 dX4_boundTo_25 rfl rfl (Nat.le_of_ble_eq_true rfl) rfl ?_
        refine a_iinc (v := x7 + 1) (ls' := [(3, vI_ (x7 + 1)), (2, vI_ (x6 + 1)), (0, vR_ (some p1)), (1, vI_ p3)]) 3 dX4_boundTo_28 rfl rfl (Nat.le_of_ble_eq_true rfl) rfl ?_
        refine a_goto (tgt := 4) dX4_boundTo_31 (by decide) ?_
        refine aw_pick [2, 3, 1, 0] rfl ?_
        exact ih _ _ _ h
def f_X4_boundTo (F : Nat)  (t : pm_A) (i0 : Int32) (m : pm_M) : Option (Int32 × pm_M) :=
  f_X4_boundTo_L4 F t i0 F 0 0 m
set_option maxHeartbeats 4000000 in
theorem e_X4_boundTo {G : xg_T} {l : Launch} (hl : l.stackTraces = false) {F : Nat}    {t : pm_A} {i0 : Int32} {m0 m' : pm_M} {r : Int32} (ht : t.1 = 4) (h : f_X4_boundTo F t i0 m0 = some (r, m')) : Cal_ G l yX4_boundTo (ws_ yX4_boundTo cX4_boundTo 4 (some .int)) 2 [vR_ (some t), vI_ i0] m0 (.inl (some (vI_ r))) m' := by
  refine cal_of (by decide +kernel) (Nat.le_of_ble_eq_true rfl) ?_
  unfold f_X4_boundTo at h
  show AW_ cX4_boundTo RX4 (some (.int), "boundTo", 2, 4, m0, m', (.inl (some (vI_ r))), G, l, [], true) m0 0 [(0, vR_ (some t)), (1, vI_ i0)] []
  refine a_iconst (v := 0) dX4_boundTo_0 (by decide) ?_
  refine a_istore_n (ls' := [(2, vI_ 0), (0, vR_ (some t)), (1, vI_ i0)]) dX4_boundTo_1 rfl (Nat.le_of_ble_eq_true rfl) rfl ?_
  refine a_iconst (v := 0) dX4_boundTo_2 (by decide) ?_
  refine a_istore_n (ls' := [(3, vI_ 0), (2, vI_ 0), (0, vR_ (some t)), (1, vI_ i0)]) dX4_boundTo_3 rfl (Nat.le_of_ble_eq_true rfl) rfl ?_
  refine aw_pick [2, 3, 1, 0] rfl ?_
  exact w_X4_boundTo_L4 hl _ _ ht _ _ _ _ h
def f_X4_places (F : Nat)  (t : pm_A) (i0 : Int32) (i1 : Int32) (m : pm_M) : Option (Int32 × pm_M) :=
  gd_ 100 (gR_ m t 0) fun a1 =>
  iz_ (!(ib_ i0 a1.2.1)) <|
  if (gI_ m a1 i0.toNatClampNeg) = 1 then
    bm_ (f_X4_boundTo F t i1 m) fun v8 m6 =>
    gd_ 6 (gR_ m6 t 10) fun a9 =>
    gd_ 100 (gR_ m6 a9 6) fun a12 =>
    iz_ (!(ib_ i1 a12.2.1)) <|
    if v8 < (gI_ m6 a12 i1.toNatClampNeg) then
      gd_ 100 (gR_ m6 t 0) fun a17 =>
      iz_ (!(ib_ i0 a17.2.1)) <|
      lt_ (pI_ m6 a17 i0.toNatClampNeg 2) fun m21 =>
      gd_ 100 (gR_ m21 t 1) fun a23 =>
      iz_ (!(ib_ i0 a23.2.1)) <|
      lt_ (pI_ m21 a23 i0.toNatClampNeg i1) fun m27 =>
      gd_ 100 (gR_ m27 t 2) fun a29 =>
      iz_ (!(ib_ i0 a29.2.1)) <|
      lt_ (pI_ m27 a29 i0.toNatClampNeg 0) fun m33 =>
      gd_ 100 (gR_ m33 t 5) fun a35 =>
      iz_ (!(ib_ i0 a35.2.1)) <|
      lt_ (pI_ m33 a35 i0.toNatClampNeg (gI_ m33 t 11)) fun m39 =>
      some (1, m39)
    else
      some (0, m6)
  else
    some (0, m)
set_option maxHeartbeats 4000000 in
theorem e_X4_places {G : xg_T} {l : Launch} (hl : l.stackTraces = false) {F : Nat}    {t : pm_A} {i0 : Int32} {i1 : Int32} {m0 m' : pm_M} {r : Int32} (ht : t.1 = 4) (h : f_X4_places F t i0 i1 m0 = some (r, m')) : Cal_ G l yX4_places (ws_ yX4_places cX4_places 3 (some .boolean)) 3 [vR_ (some t), vI_ i0, vI_ i1] m0 (.inl (some (vI_ r))) m' := by
  refine cal_of (by decide +kernel) (Nat.le_of_ble_eq_true rfl) ?_
  unfold f_X4_places at h
  show AW_ cX4_places RX4 (some (.boolean), "places", 3, 3, m0, m', (.inl (some (vI_ r))), G, l, [], true) m0 0 [(0, vR_ (some t)), (1, vI_ i0), (2, vI_ i1)] []
  refine a_aload_n 0 dX4_places_0 rfl rfl ?_
  refine a_getR kc_4 0 (by decide) rfl ht q283 dX4_places_1 ?_
  refine a_iload_n 1 dX4_places_4 rfl rfl ?_
  obtain ⟨a1, e2, f3, h⟩ := gd_some h
  rw [e2]
  obtain ⟨c4, h⟩ := iz_some h
  refine a_iald f3 (bn_ c4) dX4_places_5 ?_
  refine a_iconst (v := 1) dX4_places_6 (by decide) ?_
  refine a_icmp_ne (tgt := 27) dX4_places_7 (by decide) (fun c5 => ?_) (fun c5 => ?_)
  · replace h := ifn_ c5 h
    refine a_iconst (v := 0) dX4_places_27 (by decide) ?_
    cases h
    exact a_ireturn rfl rfl rfl rfl rfl dX4_places_28
  · replace h := ifp_ c5 h
    refine a_aload_n 0 dX4_places_10 rfl rfl ?_
    refine a_iload_n 2 dX4_places_11 rfl rfl ?_
    obtain ⟨v8, m6, e7, h⟩ := bm_some h
    have he7 := e_X4_boundTo (G := G) hl ht e7
    refine c_I he7.1 (rn_V (n := 1) (As := [vI_ i1]) kc_4 ht he7 (lw_V q1188 q1189 q1190 q93 q1191) (by decide +kernel) rfl (Nat.le_of_ble_eq_true rfl) (Nat.le_of_ble_eq_true rfl) (Nat.le_of_ble_eq_true rfl) dX4_places_12) (fun z => (os_av (As := [vI_ i1]) z).2.1) ?_
    refine a_aload_n 0 dX4_places_15 rfl rfl ?_
    refine a_getR kc_4 10 (by decide) rfl ht q301 dX4_places_16 ?_
    obtain ⟨a9, e10, f11, h⟩ := gd_some h
    rw [e10]
    refine a_getRN kc_6 6 (by decide) rfl f11 q241 dX4_places_19 ?_
    refine a_iload_n 2 dX4_places_22 rfl rfl ?_
    obtain ⟨a12, e13, f14, h⟩ := gd_some h
    rw [e13]
    obtain ⟨c15, h⟩ := iz_some h
    refine a_iald f14 (bn_ c15) dX4_places_23 ?_
    refine a_icmp_lt (tgt := 29) dX4_places_24 (by decide) (fun c16 => ?_) (fun c16 => ?_)
    · replace h := ifp_ c16 h
      refine a_aload_n 0 dX4_places_29 rfl rfl ?_
      refine a_getR kc_4 0 (by decide) rfl ht q283 dX4_places_30 ?_
      refine a_iload_n 1 dX4_places_33 rfl rfl ?_
      refine a_iconst (v := 2) dX4_places_34 (by decide) ?_
      obtain ⟨a17, e18, f19, h⟩ := gd_some h
      rw [e18]
      obtain ⟨c20, h⟩ := iz_some h
      obtain ⟨m21, e22, h⟩ := lt_some h
      refine a_iast f19 (bn_ c20) dX4_places_35 ?_
      rw [← e22]
      refine a_aload_n 0 dX4_places_36 rfl rfl ?_
      refine a_getR kc_4 1 (by decide) rfl ht q286 dX4_places_37 ?_
      refine a_iload_n 1 dX4_places_40 rfl rfl ?_
      refine a_iload_n 2 dX4_places_41 rfl rfl ?_
      obtain ⟨a23, e24, f25, h⟩ := gd_some h
      rw [e24]
      obtain ⟨c26, h⟩ := iz_some h
      obtain ⟨m27, e28, h⟩ := lt_some h
      refine a_iast f25 (bn_ c26) dX4_places_42 ?_
      rw [← e28]
      refine a_aload_n 0 dX4_places_43 rfl rfl ?_
      refine a_getR kc_4 2 (by decide) rfl ht q288 dX4_places_44 ?_
      refine a_iload_n 1 dX4_places_47 rfl rfl ?_
      refine a_iconst (v := 0) dX4_places_48 (by decide) ?_
      obtain ⟨a29, e30, f31, h⟩ := gd_some h
      rw [e30]
      obtain ⟨c32, h⟩ := iz_some h
      obtain ⟨m33, e34, h⟩ := lt_some h
      refine a_iast f31 (bn_ c32) dX4_places_49 ?_
      rw [← e34]
      refine a_aload_n 0 dX4_places_50 rfl rfl ?_
      refine a_getR kc_4 5 (by decide) rfl ht q294 dX4_places_51 ?_
      refine a_iload_n 1 dX4_places_54 rfl rfl ?_
      refine a_aload_n 0 dX4_places_55 rfl rfl ?_
      refine a_getI kc_4 11 (by decide) rfl ht q303 dX4_places_56 ?_
      obtain ⟨a35, e36, f37, h⟩ := gd_some h
      rw [e36]
      obtain ⟨c38, h⟩ := iz_some h
      obtain ⟨m39, e40, h⟩ := lt_some h
      refine a_iast f37 (bn_ c38) dX4_places_59 ?_
      rw [← e40]
      refine a_iconst (v := 1) dX4_places_60 (by decide) ?_
      cases h
      exact a_ireturn rfl rfl rfl rfl rfl dX4_places_61
    · replace h := ifn_ c16 h
      refine a_iconst (v := 0) dX4_places_27 (by decide) ?_
      cases h
      exact a_ireturn rfl rfl rfl rfl rfl dX4_places_28
def f_X24_tells (F : Nat)  (t : pm_A) (i0 : Int32) (m : pm_M) : Option (Unit × pm_M) :=
  if i0 = 0 then
    lt_ (pI_ m t 3 ((gI_ m t 3) + 1)) fun m2 =>
    some ((), m2)
  else
    lt_ (pI_ m t 2 ((gI_ m t 2) + 1)) fun m4 =>
    some ((), m4)
set_option maxHeartbeats 4000000 in
theorem e_X24_tells {G : xg_T} {l : Launch} (hl : l.stackTraces = false) {F : Nat}    {t : pm_A} {i0 : Int32} {m0 m' : pm_M} {r : Unit} (ht : t.1 = 24) (h : f_X24_tells F t i0 m0 = some (r, m')) : Cal_ G l yX24_tells (ws_ yX24_tells cX24_tells 2 none) 2 [vR_ (some t), vI_ i0] m0 (.inl none) m' := by
  refine cal_of (by decide +kernel) (Nat.le_of_ble_eq_true rfl) ?_
  unfold f_X24_tells at h
  show AW_ cX24_tells RX24 (none, "tells", 2, 2, m0, m', (.inl none), G, l, [], true) m0 0 [(0, vR_ (some t)), (1, vI_ i0)] []
  refine a_iload_n 1 dX24_tells_0 rfl rfl ?_
  refine a_if_eq (tgt := 17) dX24_tells_1 (by decide) (fun c1 => ?_) (fun c1 => ?_)
  · replace h := ifp_ c1 h
    refine a_aload_n 0 dX24_tells_17 rfl rfl ?_
    refine a_dup dX24_tells_18 rfl ?_
    refine a_getI kc_24 3 (by decide) rfl ht q1100 dX24_tells_19 ?_
    refine a_iconst (v := 1) dX24_tells_22 (by decide) ?_
    refine a_iadd dX24_tells_23 ?_
    obtain ⟨m2, e3, h⟩ := lt_some h
    refine a_putI kc_24 3 (by decide) rfl ht q1100 rfl rfl rfl dX24_tells_24 ?_
    rw [← e3]
    cases h
    exact a_return rfl rfl rfl rfl dX24_tells_27
  · replace h := ifn_ c1 h
    refine a_aload_n 0 dX24_tells_4 rfl rfl ?_
    refine a_dup dX24_tells_5 rfl ?_
    refine a_getI kc_24 2 (by decide) rfl ht q1098 dX24_tells_6 ?_
    refine a_iconst (v := 1) dX24_tells_9 (by decide) ?_
    refine a_iadd dX24_tells_10 ?_
    obtain ⟨m4, e5, h⟩ := lt_some h
    refine a_putI kc_24 2 (by decide) rfl ht q1098 rfl rfl rfl dX24_tells_11 ?_
    rw [← e5]
    refine a_goto (tgt := 27) dX24_tells_14 (by decide) ?_
    cases h
    exact a_return rfl rfl rfl rfl dX24_tells_27
def f_X19_acts (F : Nat)  (t : pm_A) (i0 : Option pm_A) (m : pm_M) : Option (Unit × pm_M) :=
  gd_ 24 i0 fun a1 =>
  gd_ 4 (gR_ m a1 0) fun a4 =>
  bm_ (f_X4_places F a4 (gI_ m t 0) (gI_ m t 1) m) fun v9 m7 =>
  bm_ (f_X24_tells F a1 v9 m7) fun v12 m10 =>
  some ((), m10)
set_option maxHeartbeats 4000000 in
theorem e_X19_acts {G : xg_T} {l : Launch} (hl : l.stackTraces = false) {F : Nat}    {t : pm_A} {i0 : Option pm_A} {m0 m' : pm_M} {r : Unit} (ht : t.1 = 19) (h : f_X19_acts F t i0 m0 = some (r, m')) : Cal_ G l yX19_acts (ws_ yX19_acts cX19_acts 2 none) 4 [vR_ (some t), vR_ i0] m0 (.inl none) m' := by
  refine cal_of (by decide +kernel) (Nat.le_of_ble_eq_true rfl) ?_
  unfold f_X19_acts at h
  show AW_ cX19_acts RX19 (none, "acts", 4, 2, m0, m', (.inl none), G, l, [], true) m0 0 [(0, vR_ (some t)), (1, vR_ i0)] []
  refine a_aload_n 1 dX19_acts_0 rfl rfl ?_
  refine a_aload_n 1 dX19_acts_1 rfl rfl ?_
  obtain ⟨a1, e2, f3, h⟩ := gd_some h
  rw [e2]
  refine a_getRN kc_24 0 (by decide) rfl f3 q1095 dX19_acts_2 ?_
  refine a_aload_n 0 dX19_acts_5 rfl rfl ?_
  refine a_getI kc_19 0 (by decide) rfl ht q1026 dX19_acts_6 ?_
  refine a_aload_n 0 dX19_acts_9 rfl rfl ?_
  refine a_getI kc_19 1 (by decide) rfl ht q1027 dX19_acts_10 ?_
  obtain ⟨a4, e5, f6, h⟩ := gd_some h
  rw [e5]
  obtain ⟨v9, m7, e8, h⟩ := bm_some h
  have he8 := e_X4_places (G := G) hl f6 e8
  refine c_I he8.1 (rn_V (n := 2) (As := [vI_ (gI_ m0 t 0), vI_ (gI_ m0 t 1)]) kc_4 f6 he8 (lw_V q1184 q1185 q1186 q93 q1187) (by decide +kernel) rfl (Nat.le_of_ble_eq_true rfl) (Nat.le_of_ble_eq_true rfl) (Nat.le_of_ble_eq_true rfl) dX19_acts_13) (fun z => (os_av (As := [vI_ (gI_ m0 t 0), vI_ (gI_ m0 t 1)]) z).2.1) ?_
  obtain ⟨v12, m10, e11, h⟩ := bm_some h
  have he11 := e_X24_tells (G := G) hl f3 e11
  refine c_V he11.1 (rn_V (n := 1) (As := [vI_ v9]) kc_24 f3 he11 (lw_V q1192 q1136 q1137 q122 q1138) (by decide +kernel) rfl (Nat.le_of_ble_eq_true rfl) (Nat.le_of_ble_eq_true rfl) (Nat.le_of_ble_eq_true rfl) dX19_acts_16) (fun z => (os_av (As := [vI_ v9]) z).2.1) ?_
  cases h
  exact a_return rfl rfl rfl rfl dX19_acts_19
def f_X4_isBound (F : Nat)  (t : pm_A) (i0 : Int32) (m : pm_M) : Option (Int32 × pm_M) :=
  gd_ 100 (gR_ m t 0) fun a1 =>
  iz_ (!(ib_ i0 a1.2.1)) <|
  if (gI_ m a1 i0.toNatClampNeg) = 2 then
    some (1, m)
  else
    some (0, m)
set_option maxHeartbeats 4000000 in
theorem e_X4_isBound {G : xg_T} {l : Launch} (hl : l.stackTraces = false) {F : Nat}    {t : pm_A} {i0 : Int32} {m0 m' : pm_M} {r : Int32} (ht : t.1 = 4) (h : f_X4_isBound F t i0 m0 = some (r, m')) : Cal_ G l yX4_isBound (ws_ yX4_isBound cX4_isBound 2 (some .boolean)) 2 [vR_ (some t), vI_ i0] m0 (.inl (some (vI_ r))) m' := by
  refine cal_of (by decide +kernel) (Nat.le_of_ble_eq_true rfl) ?_
  unfold f_X4_isBound at h
  show AW_ cX4_isBound RX4 (some (.boolean), "isBound", 2, 2, m0, m', (.inl (some (vI_ r))), G, l, [], true) m0 0 [(0, vR_ (some t)), (1, vI_ i0)] []
  refine a_aload_n 0 dX4_isBound_0 rfl rfl ?_
  refine a_getR kc_4 0 (by decide) rfl ht q283 dX4_isBound_1 ?_
  refine a_iload_n 1 dX4_isBound_4 rfl rfl ?_
  obtain ⟨a1, e2, f3, h⟩ := gd_some h
  rw [e2]
  obtain ⟨c4, h⟩ := iz_some h
  refine a_iald f3 (bn_ c4) dX4_isBound_5 ?_
  refine a_iconst (v := 2) dX4_isBound_6 (by decide) ?_
  refine a_icmp_ne (tgt := 14) dX4_isBound_7 (by decide) (fun c5 => ?_) (fun c5 => ?_)
  · replace h := ifn_ c5 h
    refine a_iconst (v := 0) dX4_isBound_14 (by decide) ?_
    cases h
    exact a_ireturn rfl rfl rfl rfl rfl dX4_isBound_15
  · replace h := ifp_ c5 h
    refine a_iconst (v := 1) dX4_isBound_10 (by decide) ?_
    refine a_goto (tgt := 15) dX4_isBound_11 (by decide) ?_
    cases h
    exact a_ireturn rfl rfl rfl rfl rfl dX4_isBound_15
def f_X4_adds (F : Nat)  (t : pm_A) (i0 : Int32) (i1 : Int32) (m : pm_M) : Option (Int32 × pm_M) :=
  bm_ (f_X4_isBound F t i0 m) fun v3 m1 =>
  if v3 = 0 then
    some (0, m1)
  else
    gd_ 100 (gR_ m1 t 3) fun a5 =>
    iz_ (!(ib_ i0 a5.2.1)) <|
    if (gI_ m1 a5 i0.toNatClampNeg) = 99 then
      some (0, m1)
    else
      gd_ 100 (gR_ m1 t 3) fun a10 =>
      iz_ (!(ib_ i0 a10.2.1)) <|
      bm_ (f_J8_min F 99 ((gI_ m1 a10 i0.toNatClampNeg) + i1) m1) fun v16 m14 =>
      iz_ (!(ib_ i0 a10.2.1)) <|
      lt_ (pI_ m14 a10 i0.toNatClampNeg v16) fun m18 =>
      some (1, m18)
set_option maxHeartbeats 4000000 in
theorem e_X4_adds {G : xg_T} {l : Launch} (hl : l.stackTraces = false) {F : Nat}    {t : pm_A} {i0 : Int32} {i1 : Int32} {m0 m' : pm_M} {r : Int32} (ht : t.1 = 4) (h : f_X4_adds F t i0 i1 m0 = some (r, m')) : Cal_ G l yX4_adds (ws_ yX4_adds cX4_adds 3 (some .boolean)) 3 [vR_ (some t), vI_ i0, vI_ i1] m0 (.inl (some (vI_ r))) m' := by
  refine cal_of (by decide +kernel) (Nat.le_of_ble_eq_true rfl) ?_
  unfold f_X4_adds at h
  show AW_ cX4_adds RX4 (some (.boolean), "adds", 3, 3, m0, m', (.inl (some (vI_ r))), G, l, [], true) m0 0 [(0, vR_ (some t)), (1, vI_ i0), (2, vI_ i1)] []
  refine a_aload_n 0 dX4_adds_0 rfl rfl ?_
  refine a_iload_n 1 dX4_adds_1 rfl rfl ?_
  obtain ⟨v3, m1, e2, h⟩ := bm_some h
  have he2 := e_X4_isBound (G := G) hl ht e2
  refine c_I he2.1 (rn_V (n := 1) (As := [vI_ i0]) kc_4 ht he2 (lw_V q1133 q463 q464 q93 q465) (by decide +kernel) rfl (Nat.le_of_ble_eq_true rfl) (Nat.le_of_ble_eq_true rfl) (Nat.le_of_ble_eq_true rfl) dX4_adds_2) (fun z => (os_av (As := [vI_ i0]) z).2.1) ?_
  refine a_if_eq (tgt := 19) dX4_adds_5 (by decide) (fun c4 => ?_) (fun c4 => ?_)
  · replace h := ifp_ c4 h
    refine a_iconst (v := 0) dX4_adds_19 (by decide) ?_
    cases h
    exact a_ireturn rfl rfl rfl rfl rfl dX4_adds_20
  · replace h := ifn_ c4 h
    refine a_aload_n 0 dX4_adds_8 rfl rfl ?_
    refine a_getR kc_4 3 (by decide) rfl ht q290 dX4_adds_9 ?_
    refine a_iload_n 1 dX4_adds_12 rfl rfl ?_
    obtain ⟨a5, e6, f7, h⟩ := gd_some h
    rw [e6]
    obtain ⟨c8, h⟩ := iz_some h
    refine a_iald f7 (bn_ c8) dX4_adds_13 ?_
    refine a_bipush (v := 99) dX4_adds_14 (by decide) ?_
    refine a_icmp_ne (tgt := 21) dX4_adds_16 (by decide) (fun c9 => ?_) (fun c9 => ?_)
    · replace h := ifn_ c9 h
      refine a_aload_n 0 dX4_adds_21 rfl rfl ?_
      refine a_getR kc_4 3 (by decide) rfl ht q290 dX4_adds_22 ?_
      refine a_iload_n 1 dX4_adds_25 rfl rfl ?_
      refine a_bipush (v := 99) dX4_adds_26 (by decide) ?_
      refine a_aload_n 0 dX4_adds_28 rfl rfl ?_
      refine a_getR kc_4 3 (by decide) rfl ht q290 dX4_adds_29 ?_
      refine a_iload_n 1 dX4_adds_32 rfl rfl ?_
      obtain ⟨a10, e11, f12, h⟩ := gd_some h
      rw [e11]
      obtain ⟨c13, h⟩ := iz_some h
      refine a_iald f12 (bn_ c13) dX4_adds_33 ?_
      refine a_iload_n 2 dX4_adds_34 rfl rfl ?_
      refine a_iadd dX4_adds_35 ?_
      obtain ⟨v16, m14, e15, h⟩ := bm_some h
      have he15 := e_J8_min (G := G) hl e15
      refine c_I he15.1 (rn_S (n := 2) (As := [vI_ 99, vI_ ((gI_ m1 a10 i0.toNatClampNeg) + i1)]) he15 (lw_S q1134 q521 q109 q522) (by decide +kernel) rfl (Nat.le_of_ble_eq_true rfl) (Nat.le_of_ble_eq_true rfl) (Nat.le_of_ble_eq_true rfl) dX4_adds_36) (fun z => (os_aS (As := [vI_ 99, vI_ ((gI_ m1 a10 i0.toNatClampNeg) + i1)]) z).2) ?_
      obtain ⟨c17, h⟩ := iz_some h
      obtain ⟨m18, e19, h⟩ := lt_some h
      refine a_iast f12 (bn_ c17) dX4_adds_39 ?_
      rw [← e19]
      refine a_iconst (v := 1) dX4_adds_40 (by decide) ?_
      cases h
      exact a_ireturn rfl rfl rfl rfl rfl dX4_adds_41
    · replace h := ifp_ c9 h
      refine a_iconst (v := 0) dX4_adds_19 (by decide) ?_
      cases h
      exact a_ireturn rfl rfl rfl rfl rfl dX4_adds_20
def f_X20_acts (F : Nat)  (t : pm_A) (i0 : Option pm_A) (m : pm_M) : Option (Unit × pm_M) :=
  gd_ 24 i0 fun a1 =>
  gd_ 4 (gR_ m a1 0) fun a4 =>
  bm_ (f_X4_adds F a4 (gI_ m t 0) (gI_ m t 1) m) fun v9 m7 =>
  bm_ (f_X24_tells F a1 v9 m7) fun v12 m10 =>
  some ((), m10)
set_option maxHeartbeats 4000000 in
theorem e_X20_acts {G : xg_T} {l : Launch} (hl : l.stackTraces = false) {F : Nat}    {t : pm_A} {i0 : Option pm_A} {m0 m' : pm_M} {r : Unit} (ht : t.1 = 20) (h : f_X20_acts F t i0 m0 = some (r, m')) : Cal_ G l yX20_acts (ws_ yX20_acts cX20_acts 2 none) 4 [vR_ (some t), vR_ i0] m0 (.inl none) m' := by
  refine cal_of (by decide +kernel) (Nat.le_of_ble_eq_true rfl) ?_
  unfold f_X20_acts at h
  show AW_ cX20_acts RX20 (none, "acts", 4, 2, m0, m', (.inl none), G, l, [], true) m0 0 [(0, vR_ (some t)), (1, vR_ i0)] []
  refine a_aload_n 1 dX20_acts_0 rfl rfl ?_
  refine a_aload_n 1 dX20_acts_1 rfl rfl ?_
  obtain ⟨a1, e2, f3, h⟩ := gd_some h
  rw [e2]
  refine a_getRN kc_24 0 (by decide) rfl f3 q1093 dX20_acts_2 ?_
  refine a_aload_n 0 dX20_acts_5 rfl rfl ?_
  refine a_getI kc_20 0 (by decide) rfl ht q1039 dX20_acts_6 ?_
  refine a_aload_n 0 dX20_acts_9 rfl rfl ?_
  refine a_getI kc_20 1 (by decide) rfl ht q1040 dX20_acts_10 ?_
  obtain ⟨a4, e5, f6, h⟩ := gd_some h
  rw [e5]
  obtain ⟨v9, m7, e8, h⟩ := bm_some h
  have he8 := e_X4_adds (G := G) hl f6 e8
  refine c_I he8.1 (rn_V (n := 2) (As := [vI_ (gI_ m0 t 0), vI_ (gI_ m0 t 1)]) kc_4 f6 he8 (lw_V q1129 q1130 q1131 q93 q1132) (by decide +kernel) rfl (Nat.le_of_ble_eq_true rfl) (Nat.le_of_ble_eq_true rfl) (Nat.le_of_ble_eq_true rfl) dX20_acts_13) (fun z => (os_av (As := [vI_ (gI_ m0 t 0), vI_ (gI_ m0 t 1)]) z).2.1) ?_
  obtain ⟨v12, m10, e11, h⟩ := bm_some h
  have he11 := e_X24_tells (G := G) hl f3 e11
  refine c_V he11.1 (rn_V (n := 1) (As := [vI_ v9]) kc_24 f3 he11 (lw_V q1135 q1136 q1137 q122 q1138) (by decide +kernel) rfl (Nat.le_of_ble_eq_true rfl) (Nat.le_of_ble_eq_true rfl) (Nat.le_of_ble_eq_true rfl) dX20_acts_16) (fun z => (os_av (As := [vI_ v9]) z).2.1) ?_
  cases h
  exact a_return rfl rfl rfl rfl dX20_acts_19
def f_X4_many_L4 (F : Nat)  (p1 : pm_A) (p3 : Int32) : Nat → Int32 → Int32 → pm_M → Option (Int32 × pm_M)
  | 0, _, _, _ => none
  | n4 + 1, x6, x7, m5 =>
    gd_ 6 (gR_ m5 p1 10) fun a8 =>
    if (gI_ m5 a8 7) ≤ x7 then
      some (x6, m5)
    else
      gd_ 100 (gR_ m5 p1 0) fun a12 =>
      iz_ (!(ib_ x7 a12.2.1)) <|
      if (gI_ m5 a12 x7.toNatClampNeg) = p3 then
        (f_X4_many_L4 F p1 p3 n4) (x6 + 1) (x7 + 1) m5
      else
        (f_X4_many_L4 F p1 p3 n4) x6 (x7 + 1) m5
set_option maxHeartbeats 4000000 in
theorem w_X4_many_L4 {G : xg_T} {l : Launch} (hl : l.stackTraces = false) {F : Nat}    (p1 : pm_A) (p3 : Int32) {m0 m' : pm_M} {r : Int32} (hf2 : p1.1 = 4)  : ∀ (n : Nat) (x6 : Int32) (x7 : Int32) (m5 : pm_M), f_X4_many_L4 F p1 p3 n x6 x7 m5 = some (r, m') → AW_ cX4_many RX4 (some (.int), "many", 2, 4, m0, m', (.inl (some (vI_ r))), G, l, [], true) m5 4 [(0, vR_ (some p1)), (1, vI_ p3), (2, vI_ x6), (3, vI_ x7)] [] := by
  intro n
  induction n with
  | zero => intro x6 x7 m5 h; cases h
  | succ n4 ih =>
    intro x6 x7 m5 h
    rw [f_X4_many_L4] at h
    refine a_iload_n 3 dX4_many_4 rfl rfl ?_
    refine a_aload_n 0 dX4_many_5 rfl rfl ?_
    refine a_getR kc_4 10 (by decide) rfl hf2 q301 dX4_many_6 ?_
    obtain ⟨a8, e9, f10, h⟩ := gd_some h
    rw [e9]
    refine a_getIN kc_6 7 (by decide) rfl f10 q248 dX4_many_9 ?_
    refine a_icmp_ge (tgt := 34) dX4_many_12 (by decide) (fun c11 => ?_) (fun c11 => ?_)
    · replace h := ifp_ c11 h
      refine a_iload_n 2 dX4_many_34 rfl rfl ?_
      cases h
      exact a_ireturn rfl rfl rfl rfl rfl dX4_many_35
    · replace h := ifn_ c11 h
      refine a_aload_n 0 dX4_many_15 rfl rfl ?_
      refine a_getR kc_4 0 (by decide) rfl hf2 q283 dX4_many_16 ?_
      refine a_iload_n 3 dX4_many_19 rfl rfl ?_
      obtain ⟨a12, e13, f14, h⟩ := gd_some h
      rw [e13]
      obtain ⟨c15, h⟩ := iz_some h
      refine a_iald f14 (bn_ c15) dX4_many_20 ?_
      refine a_iload_n 1 dX4_many_21 rfl rfl ?_
      refine a_icmp_ne (tgt := 28) dX4_many_22 (by decide) (fun c16 => ?_) (fun c16 => ?_)
      · replace h := ifn_ c16 h
        refine a_iinc (v := x7 + 1) (ls' := [(3, vI_ (x7 + 1)), (0, vR_ (some p1)), (1, vI_ p3), (2, vI_ x6)]) 3 dX4_many_28 rfl rfl (Nat.le_of_ble_eq_true rfl) rfl ?_
        refine a_goto (tgt := 4) dX4_many_31 (by decide) ?_
        refine aw_pick [1, 2, 3, 0] rfl ?_
        exact ih _ _ _ h
      · replace h := ifp_ c16 h
        refine a_iinc (v := x6 + 1) (ls' := [(2, vI_ (x6 + 1)), (0, vR_ (some p1)), (1, vI_ p3), (3, vI_ x7)]) 2 dX4_many_25 rfl rfl (Nat.le_of_ble_eq_true rfl) rfl ?_
        refine a_iinc (v := x7 + 1) (ls' := [(3, vI_ (x7 + 1)), (2, vI_ (x6 + 1)), (0, vR_ (some p1)), (1, vI_ p3)]) 3 dX4_many_28 rfl rfl (Nat.le_of_ble_eq_true rfl) rfl ?_
        refine a_goto (tgt := 4) dX4_many_31 (by decide) ?_
        refine aw_pick [2, 3, 1, 0] rfl ?_
        exact ih _ _ _ h
def f_X4_many (F : Nat)  (t : pm_A) (i0 : Int32) (m : pm_M) : Option (Int32 × pm_M) :=
  f_X4_many_L4 F t i0 F 0 0 m
set_option maxHeartbeats 4000000 in
theorem e_X4_many {G : xg_T} {l : Launch} (hl : l.stackTraces = false) {F : Nat}    {t : pm_A} {i0 : Int32} {m0 m' : pm_M} {r : Int32} (ht : t.1 = 4) (h : f_X4_many F t i0 m0 = some (r, m')) : Cal_ G l yX4_many (ws_ yX4_many cX4_many 4 (some .int)) 2 [vR_ (some t), vI_ i0] m0 (.inl (some (vI_ r))) m' := by
  refine cal_of (by decide +kernel) (Nat.le_of_ble_eq_true rfl) ?_
  unfold f_X4_many at h
  show AW_ cX4_many RX4 (some (.int), "many", 2, 4, m0, m', (.inl (some (vI_ r))), G, l, [], true) m0 0 [(0, vR_ (some t)), (1, vI_ i0)] []
  refine a_iconst (v := 0) dX4_many_0 (by decide) ?_
  refine a_istore_n (ls' := [(2, vI_ 0), (0, vR_ (some t)), (1, vI_ i0)]) dX4_many_1 rfl (Nat.le_of_ble_eq_true rfl) rfl ?_
  refine a_iconst (v := 0) dX4_many_2 (by decide) ?_
  refine a_istore_n (ls' := [(3, vI_ 0), (2, vI_ 0), (0, vR_ (some t)), (1, vI_ i0)]) dX4_many_3 rfl (Nat.le_of_ble_eq_true rfl) rfl ?_
  refine aw_pick [2, 3, 1, 0] rfl ?_
  exact w_X4_many_L4 hl _ _ ht _ _ _ _ h
def f_X4_lands_L26 (F : Nat)  (p9 : pm_A) : Nat → Int32 → pm_M → Option (Int32 × pm_M)
  | 0, _, _ => none
  | n11 + 1, x13, m12 =>
    gd_ 6 (gR_ m12 p9 10) fun a14 =>
    if (gI_ m12 a14 7) ≤ x13 then
      some (1, m12)
    else
      gd_ 100 (gR_ m12 p9 0) fun a18 =>
      iz_ (!(ib_ x13 a18.2.1)) <|
      if (gI_ m12 a18 x13.toNatClampNeg) = 0 then
        gd_ 100 (gR_ m12 p9 0) fun a23 =>
        iz_ (!(ib_ x13 a23.2.1)) <|
        lt_ (pI_ m12 a23 x13.toNatClampNeg 1) fun m27 =>
        (f_X4_lands_L26 F p9 n11) (x13 + 1) m27
      else
        (f_X4_lands_L26 F p9 n11) (x13 + 1) m12
set_option maxHeartbeats 4000000 in
theorem w_X4_lands_L26 {G : xg_T} {l : Launch} (hl : l.stackTraces = false) {F : Nat}    (p9 : pm_A) {m0 m' : pm_M} {r : Int32} (hf10 : p9.1 = 4)  : ∀ (n : Nat) (x13 : Int32) (m12 : pm_M), f_X4_lands_L26 F p9 n x13 m12 = some (r, m') → AW_ cX4_lands RX4 (some (.boolean), "lands", 3, 2, m0, m', (.inl (some (vI_ r))), G, l, [], true) m12 26 [(0, vR_ (some p9)), (1, vI_ x13)] [] := by
  intro n
  induction n with
  | zero => intro x13 m12 h; cases h
  | succ n11 ih =>
    intro x13 m12 h
    rw [f_X4_lands_L26] at h
    refine a_iload_n 1 dX4_lands_26 rfl rfl ?_
    refine a_aload_n 0 dX4_lands_27 rfl rfl ?_
    refine a_getR kc_4 10 (by decide) rfl hf10 q301 dX4_lands_28 ?_
    obtain ⟨a14, e15, f16, h⟩ := gd_some h
    rw [e15]
    refine a_getIN kc_6 7 (by decide) rfl f16 q248 dX4_lands_31 ?_
    refine a_icmp_ge (tgt := 59) dX4_lands_34 (by decide) (fun c17 => ?_) (fun c17 => ?_)
    · replace h := ifp_ c17 h
      refine a_iconst (v := 1) dX4_lands_59 (by decide) ?_
      cases h
      exact a_ireturn rfl rfl rfl rfl rfl dX4_lands_60
    · replace h := ifn_ c17 h
      refine a_aload_n 0 dX4_lands_37 rfl rfl ?_
      refine a_getR kc_4 0 (by decide) rfl hf10 q283 dX4_lands_38 ?_
      refine a_iload_n 1 dX4_lands_41 rfl rfl ?_
      obtain ⟨a18, e19, f20, h⟩ := gd_some h
      rw [e19]
      obtain ⟨c21, h⟩ := iz_some h
      refine a_iald f20 (bn_ c21) dX4_lands_42 ?_
      refine a_if_ne (tgt := 53) dX4_lands_43 (by decide) (fun c22 => ?_) (fun c22 => ?_)
      · replace h := ifn_ c22 h
        refine a_iinc (v := x13 + 1) (ls' := [(1, vI_ (x13 + 1)), (0, vR_ (some p9))]) 1 dX4_lands_53 rfl rfl (Nat.le_of_ble_eq_true rfl) rfl ?_
        refine a_goto (tgt := 26) dX4_lands_56 (by decide) ?_
        refine aw_pick [1, 0] rfl ?_
        exact ih _ _ h
      · replace h := ifp_ c22 h
        refine a_aload_n 0 dX4_lands_46 rfl rfl ?_
        refine a_getR kc_4 0 (by decide) rfl hf10 q283 dX4_lands_47 ?_
        refine a_iload_n 1 dX4_lands_50 rfl rfl ?_
        refine a_iconst (v := 1) dX4_lands_51 (by decide) ?_
        obtain ⟨a23, e24, f25, h⟩ := gd_some h
        rw [e24]
        obtain ⟨c26, h⟩ := iz_some h
        obtain ⟨m27, e28, h⟩ := lt_some h
        refine a_iast f25 (bn_ c26) dX4_lands_52 ?_
        rw [← e28]
        refine a_iinc (v := x13 + 1) (ls' := [(1, vI_ (x13 + 1)), (0, vR_ (some p9))]) 1 dX4_lands_53 rfl rfl (Nat.le_of_ble_eq_true rfl) rfl ?_
        refine a_goto (tgt := 26) dX4_lands_56 (by decide) ?_
        refine aw_pick [1, 0] rfl ?_
        exact ih _ _ h
def f_X4_lands (F : Nat)  (t : pm_A) (m : pm_M) : Option (Int32 × pm_M) :=
  gd_ 6 (gR_ m t 10) fun a1 =>
  if (gI_ m t 11) < (gI_ m a1 10) then
    some (0, m)
  else
    bm_ (f_X4_many F t 0 m) fun v7 m5 =>
    if v7 = 0 then
      some (0, m5)
    else
      f_X4_lands_L26 F t F 0 m5
set_option maxHeartbeats 4000000 in
theorem e_X4_lands {G : xg_T} {l : Launch} (hl : l.stackTraces = false) {F : Nat}    {t : pm_A} {m0 m' : pm_M} {r : Int32} (ht : t.1 = 4) (h : f_X4_lands F t m0 = some (r, m')) : Cal_ G l yX4_lands (ws_ yX4_lands cX4_lands 2 (some .boolean)) 3 [vR_ (some t)] m0 (.inl (some (vI_ r))) m' := by
  refine cal_of (by decide +kernel) (Nat.le_of_ble_eq_true rfl) ?_
  unfold f_X4_lands at h
  show AW_ cX4_lands RX4 (some (.boolean), "lands", 3, 2, m0, m', (.inl (some (vI_ r))), G, l, [], true) m0 0 [(0, vR_ (some t))] []
  refine a_aload_n 0 dX4_lands_0 rfl rfl ?_
  refine a_getI kc_4 11 (by decide) rfl ht q303 dX4_lands_1 ?_
  refine a_aload_n 0 dX4_lands_4 rfl rfl ?_
  refine a_getR kc_4 10 (by decide) rfl ht q301 dX4_lands_5 ?_
  obtain ⟨a1, e2, f3, h⟩ := gd_some h
  rw [e2]
  refine a_getIN kc_6 10 (by decide) rfl f3 q258 dX4_lands_8 ?_
  refine a_icmp_lt (tgt := 22) dX4_lands_11 (by decide) (fun c4 => ?_) (fun c4 => ?_)
  · replace h := ifp_ c4 h
    refine a_iconst (v := 0) dX4_lands_22 (by decide) ?_
    cases h
    exact a_ireturn rfl rfl rfl rfl rfl dX4_lands_23
  · replace h := ifn_ c4 h
    refine a_aload_n 0 dX4_lands_14 rfl rfl ?_
    refine a_iconst (v := 0) dX4_lands_15 (by decide) ?_
    obtain ⟨v7, m5, e6, h⟩ := bm_some h
    have he6 := e_X4_many (G := G) hl ht e6
    refine c_I he6.1 (rn_V (n := 1) (As := [vI_ 0]) kc_4 ht he6 (lw_V q1179 q539 q540 q93 q541) (by decide +kernel) rfl (Nat.le_of_ble_eq_true rfl) (Nat.le_of_ble_eq_true rfl) (Nat.le_of_ble_eq_true rfl) dX4_lands_16) (fun z => (os_av (As := [vI_ 0]) z).2.1) ?_
    refine a_if_ne (tgt := 24) dX4_lands_19 (by decide) (fun c8 => ?_) (fun c8 => ?_)
    · replace h := ifn_ c8 h
      refine a_iconst (v := 0) dX4_lands_24 (by decide) ?_
      refine a_istore_n (ls' := [(1, vI_ 0), (0, vR_ (some t))]) dX4_lands_25 rfl (Nat.le_of_ble_eq_true rfl) rfl ?_
      refine aw_pick [1, 0] rfl ?_
      exact w_X4_lands_L26 hl _ ht _ _ _ h
    · replace h := ifp_ c8 h
      refine a_iconst (v := 0) dX4_lands_22 (by decide) ?_
      cases h
      exact a_ireturn rfl rfl rfl rfl rfl dX4_lands_23
def f_X21_acts (F : Nat)  (t : pm_A) (i0 : Option pm_A) (m : pm_M) : Option (Unit × pm_M) :=
  gd_ 24 i0 fun a1 =>
  gd_ 4 (gR_ m a1 0) fun a4 =>
  bm_ (f_X4_lands F a4 m) fun v9 m7 =>
  bm_ (f_X24_tells F a1 v9 m7) fun v12 m10 =>
  some ((), m10)
set_option maxHeartbeats 4000000 in
theorem e_X21_acts {G : xg_T} {l : Launch} (hl : l.stackTraces = false) {F : Nat}    {t : pm_A} {i0 : Option pm_A} {m0 m' : pm_M} {r : Unit} (ht : t.1 = 21) (h : f_X21_acts F t i0 m0 = some (r, m')) : Cal_ G l yX21_acts (ws_ yX21_acts cX21_acts 2 none) 4 [vR_ (some t), vR_ i0] m0 (.inl none) m' := by
  refine cal_of (by decide +kernel) (Nat.le_of_ble_eq_true rfl) ?_
  unfold f_X21_acts at h
  show AW_ cX21_acts RX21 (none, "acts", 4, 2, m0, m', (.inl none), G, l, [], true) m0 0 [(0, vR_ (some t)), (1, vR_ i0)] []
  refine a_aload_n 1 dX21_acts_0 rfl rfl ?_
  refine a_aload_n 1 dX21_acts_1 rfl rfl ?_
  obtain ⟨a1, e2, f3, h⟩ := gd_some h
  rw [e2]
  refine a_getRN kc_24 0 (by decide) rfl f3 q1094 dX21_acts_2 ?_
  obtain ⟨a4, e5, f6, h⟩ := gd_some h
  rw [e5]
  obtain ⟨v9, m7, e8, h⟩ := bm_some h
  have he8 := e_X4_lands (G := G) hl f6 e8
  refine c_I he8.1 (rn_V (n := 0) (As := []) kc_4 f6 he8 (lw_V q1175 q1176 q1177 q93 q1178) (by decide +kernel) rfl (Nat.le_of_ble_eq_true rfl) (Nat.le_of_ble_eq_true rfl) (Nat.le_of_ble_eq_true rfl) dX21_acts_5) (fun z => (os_av (As := []) z).2.1) ?_
  obtain ⟨v12, m10, e11, h⟩ := bm_some h
  have he11 := e_X24_tells (G := G) hl f3 e11
  refine c_V he11.1 (rn_V (n := 1) (As := [vI_ v9]) kc_24 f3 he11 (lw_V q1180 q1136 q1137 q122 q1138) (by decide +kernel) rfl (Nat.le_of_ble_eq_true rfl) (Nat.le_of_ble_eq_true rfl) (Nat.le_of_ble_eq_true rfl) dX21_acts_8) (fun z => (os_av (As := [vI_ v9]) z).2.1) ?_
  cases h
  exact a_return rfl rfl rfl rfl dX21_acts_11
def f_X6_kinOf_L4 (F : Nat)  (p1 : pm_A) (p3 : Int32) : Nat → Int32 → Int32 → pm_M → Option (Int32 × pm_M)
  | 0, _, _, _ => none
  | n4 + 1, x6, x7, m5 =>
    if (gI_ m5 p1 7) ≤ x7 then
      some (x6, m5)
    else
      if x7 = p3 then
        (f_X6_kinOf_L4 F p1 p3 n4) x6 (x7 + 1) m5
      else
        gd_ 100 (gR_ m5 p1 2) fun a10 =>
        iz_ (!(ib_ p3 a10.2.1)) <|
        if (gI_ m5 a10 p3.toNatClampNeg) ≤ 0 then
          (f_X6_kinOf_L4 F p1 p3 n4) x6 (x7 + 1) m5
        else
          gd_ 100 (gR_ m5 p1 2) fun a15 =>
          iz_ (!(ib_ x7 a15.2.1)) <|
          gd_ 100 (gR_ m5 p1 2) fun a19 =>
          iz_ (!(ib_ p3 a19.2.1)) <|
          if (gI_ m5 a15 x7.toNatClampNeg) = (gI_ m5 a19 p3.toNatClampNeg) then
            (f_X6_kinOf_L4 F p1 p3 n4) (x6 ||| ((1 : Int32) <<< (x7 &&& 31))) (x7 + 1) m5
          else
            (f_X6_kinOf_L4 F p1 p3 n4) x6 (x7 + 1) m5
set_option maxHeartbeats 4000000 in
theorem w_X6_kinOf_L4 {G : xg_T} {l : Launch} (hl : l.stackTraces = false) {F : Nat}    (p1 : pm_A) (p3 : Int32) {m0 m' : pm_M} {r : Int32} (hf2 : p1.1 = 6)  : ∀ (n : Nat) (x6 : Int32) (x7 : Int32) (m5 : pm_M), f_X6_kinOf_L4 F p1 p3 n x6 x7 m5 = some (r, m') → AW_ cX6_kinOf RX6 (some (.int), "kinOf", 2, 4, m0, m', (.inl (some (vI_ r))), G, l, [], true) m5 4 [(0, vR_ (some p1)), (1, vI_ p3), (2, vI_ x6), (3, vI_ x7)] [] := by
  intro n
  induction n with
  | zero => intro x6 x7 m5 h; cases h
  | succ n4 ih =>
    intro x6 x7 m5 h
    rw [f_X6_kinOf_L4] at h
    refine a_iload_n 3 dX6_kinOf_4 rfl rfl ?_
    refine a_aload_n 0 dX6_kinOf_5 rfl rfl ?_
    refine a_getI kc_6 7 (by decide) rfl hf2 q243 dX6_kinOf_6 ?_
    refine a_icmp_ge (tgt := 53) dX6_kinOf_9 (by decide) (fun c8 => ?_) (fun c8 => ?_)
    · replace h := ifp_ c8 h
      refine a_iload_n 2 dX6_kinOf_53 rfl rfl ?_
      cases h
      exact a_ireturn rfl rfl rfl rfl rfl dX6_kinOf_54
    · replace h := ifn_ c8 h
      refine a_iload_n 3 dX6_kinOf_12 rfl rfl ?_
      refine a_iload_n 1 dX6_kinOf_13 rfl rfl ?_
      refine a_icmp_eq (tgt := 47) dX6_kinOf_14 (by decide) (fun c9 => ?_) (fun c9 => ?_)
      · replace h := ifp_ c9 h
        refine a_iinc (v := x7 + 1) (ls' := [(3, vI_ (x7 + 1)), (0, vR_ (some p1)), (1, vI_ p3), (2, vI_ x6)]) 3 dX6_kinOf_47 rfl rfl (Nat.le_of_ble_eq_true rfl) rfl ?_
        refine a_goto (tgt := 4) dX6_kinOf_50 (by decide) ?_
        refine aw_pick [1, 2, 3, 0] rfl ?_
        exact ih _ _ _ h
      · replace h := ifn_ c9 h
        refine a_aload_n 0 dX6_kinOf_17 rfl rfl ?_
        refine a_getR kc_6 2 (by decide) rfl hf2 q224 dX6_kinOf_18 ?_
        refine a_iload_n 1 dX6_kinOf_21 rfl rfl ?_
        obtain ⟨a10, e11, f12, h⟩ := gd_some h
        rw [e11]
        obtain ⟨c13, h⟩ := iz_some h
        refine a_iald f12 (bn_ c13) dX6_kinOf_22 ?_
        refine a_if_le (tgt := 47) dX6_kinOf_23 (by decide) (fun c14 => ?_) (fun c14 => ?_)
        · replace h := ifp_ c14 h
          refine a_iinc (v := x7 + 1) (ls' := [(3, vI_ (x7 + 1)), (0, vR_ (some p1)), (1, vI_ p3), (2, vI_ x6)]) 3 dX6_kinOf_47 rfl rfl (Nat.le_of_ble_eq_true rfl) rfl ?_
          refine a_goto (tgt := 4) dX6_kinOf_50 (by decide) ?_
          refine aw_pick [1, 2, 3, 0] rfl ?_
          exact ih _ _ _ h
        · replace h := ifn_ c14 h
          refine a_aload_n 0 dX6_kinOf_26 rfl rfl ?_
          refine a_getR kc_6 2 (by decide) rfl hf2 q224 dX6_kinOf_27 ?_
          refine a_iload_n 3 dX6_kinOf_30 rfl rfl ?_
          obtain ⟨a15, e16, f17, h⟩ := gd_some h
          rw [e16]
          obtain ⟨c18, h⟩ := iz_some h
          refine a_iald f17 (bn_ c18) dX6_kinOf_31 ?_
          refine a_aload_n 0 dX6_kinOf_32 rfl rfl ?_
          refine a_getR kc_6 2 (by decide) rfl hf2 q224 dX6_kinOf_33 ?_
          refine a_iload_n 1 dX6_kinOf_36 rfl rfl ?_
          obtain ⟨a19, e20, f21, h⟩ := gd_some h
          rw [e20]
          obtain ⟨c22, h⟩ := iz_some h
          refine a_iald f21 (bn_ c22) dX6_kinOf_37 ?_
          refine a_icmp_ne (tgt := 47) dX6_kinOf_38 (by decide) (fun c23 => ?_) (fun c23 => ?_)
          · replace h := ifn_ c23 h
            refine a_iinc (v := x7 + 1) (ls' := [(3, vI_ (x7 + 1)), (0, vR_ (some p1)), (1, vI_ p3), (2, vI_ x6)]) 3 dX6_kinOf_47 rfl rfl (Nat.le_of_ble_eq_true rfl) rfl ?_
            refine a_goto (tgt := 4) dX6_kinOf_50 (by decide) ?_
            refine aw_pick [1, 2, 3, 0] rfl ?_
            exact ih _ _ _ h
          · replace h := ifp_ c23 h
            refine a_iload_n 2 dX6_kinOf_41 rfl rfl ?_
            refine a_iconst (v := 1) dX6_kinOf_42 (by decide) ?_
            refine a_iload_n 3 dX6_kinOf_43 rfl rfl ?_
            refine a_ishl dX6_kinOf_44 ?_
            refine a_ior dX6_kinOf_45 ?_
            refine a_istore_n (ls' := [(2, vI_ (x6 ||| ((1 : Int32) <<< (x7 &&& 31)))), (0, vR_ (some p1)), (1, vI_ p3), (3, vI_ x7)]) dX6_kinOf_46 rfl (Nat.le_of_ble_eq_true rfl) rfl ?_
            refine a_iinc (v := x7 + 1) (ls' := [(3, vI_ (x7 + 1)), (2, vI_ (x6 ||| ((1 : Int32) <<< (x7 &&& 31)))), (0, vR_ (some p1)), (1, vI_ p3)]) 3 dX6_kinOf_47 rfl rfl (Nat.le_of_ble_eq_true rfl) rfl ?_
            refine a_goto (tgt := 4) dX6_kinOf_50 (by decide) ?_
            refine aw_pick [2, 3, 1, 0] rfl ?_
            exact ih _ _ _ h
def f_X6_kinOf (F : Nat)  (t : pm_A) (i0 : Int32) (m : pm_M) : Option (Int32 × pm_M) :=
  f_X6_kinOf_L4 F t i0 F 0 0 m
set_option maxHeartbeats 4000000 in
theorem e_X6_kinOf {G : xg_T} {l : Launch} (hl : l.stackTraces = false) {F : Nat}    {t : pm_A} {i0 : Int32} {m0 m' : pm_M} {r : Int32} (ht : t.1 = 6) (h : f_X6_kinOf F t i0 m0 = some (r, m')) : Cal_ G l yX6_kinOf (ws_ yX6_kinOf cX6_kinOf 4 (some .int)) 2 [vR_ (some t), vI_ i0] m0 (.inl (some (vI_ r))) m' := by
  refine cal_of (by decide +kernel) (Nat.le_of_ble_eq_true rfl) ?_
  unfold f_X6_kinOf at h
  show AW_ cX6_kinOf RX6 (some (.int), "kinOf", 2, 4, m0, m', (.inl (some (vI_ r))), G, l, [], true) m0 0 [(0, vR_ (some t)), (1, vI_ i0)] []
  refine a_iconst (v := 0) dX6_kinOf_0 (by decide) ?_
  refine a_istore_n (ls' := [(2, vI_ 0), (0, vR_ (some t)), (1, vI_ i0)]) dX6_kinOf_1 rfl (Nat.le_of_ble_eq_true rfl) rfl ?_
  refine a_iconst (v := 0) dX6_kinOf_2 (by decide) ?_
  refine a_istore_n (ls' := [(3, vI_ 0), (2, vI_ 0), (0, vR_ (some t)), (1, vI_ i0)]) dX6_kinOf_3 rfl (Nat.le_of_ble_eq_true rfl) rfl ?_
  refine aw_pick [2, 3, 1, 0] rfl ?_
  exact w_X6_kinOf_L4 hl _ _ ht _ _ _ _ h
def f_X14_on (F : Nat)  (t : pm_A) (i0 : Option pm_A) (m : pm_M) : Option (Int32 × pm_M) :=
  some ((gI_ m t 0), m)
set_option maxHeartbeats 4000000 in
theorem e_X14_on {G : xg_T} {l : Launch} (hl : l.stackTraces = false) {F : Nat}    {t : pm_A} {i0 : Option pm_A} {m0 m' : pm_M} {r : Int32} (ht : t.1 = 14) (h : f_X14_on F t i0 m0 = some (r, m')) : Cal_ G l yX14_on (ws_ yX14_on cX14_on 2 (some .int)) 2 [vR_ (some t), vR_ i0] m0 (.inl (some (vI_ r))) m' := by
  refine cal_of (by decide +kernel) (Nat.le_of_ble_eq_true rfl) ?_
  unfold f_X14_on at h
  show AW_ cX14_on RX14 (some (.int), "on", 2, 2, m0, m', (.inl (some (vI_ r))), G, l, [], true) m0 0 [(0, vR_ (some t)), (1, vR_ i0)] []
  refine a_aload_n 0 dX14_on_0 rfl rfl ?_
  refine a_getI kc_14 0 (by decide) rfl ht q924 dX14_on_1 ?_
  cases h
  exact a_ireturn rfl rfl rfl rfl rfl dX14_on_4
def f_X5_known (F : Nat)  (t : pm_A) (i0 : Int32) (m : pm_M) : Option (Int32 × pm_M) :=
  if i0.toInt = 0 then
    some ((gI_ m t 0), m)
  else
  if i0.toInt = 1 then
    some ((gI_ m t 1), m)
  else
  if i0.toInt = 2 then
    some ((gI_ m t 2), m)
  else
  if i0.toInt = 3 then
    some ((gI_ m t 3), m)
  else
  if i0.toInt = 4 then
    some ((gI_ m t 4), m)
  else
  if i0.toInt = 5 then
    some ((gI_ m t 5), m)
  else
  if i0.toInt = 6 then
    some ((gI_ m t 6), m)
  else
    some ((gI_ m t 7), m)
set_option maxHeartbeats 4000000 in
theorem e_X5_known {G : xg_T} {l : Launch} (hl : l.stackTraces = false) {F : Nat}    {t : pm_A} {i0 : Int32} {m0 m' : pm_M} {r : Int32} (ht : t.1 = 5) (h : f_X5_known F t i0 m0 = some (r, m')) : Cal_ G l yX5_known (ws_ yX5_known cX5_known 2 (some .int)) 2 [vR_ (some t), vI_ i0] m0 (.inl (some (vI_ r))) m' := by
  refine cal_of (by decide +kernel) (Nat.le_of_ble_eq_true rfl) ?_
  unfold f_X5_known at h
  show AW_ cX5_known RX5 (some (.int), "known", 2, 2, m0, m', (.inl (some (vI_ r))), G, l, [], true) m0 0 [(0, vR_ (some t)), (1, vI_ i0)] []
  refine a_iload_n 1 dX5_known_0 rfl rfl ?_
  by_cases c1 : i0.toInt = 0
  · replace h := ifp_ c1 h
    refine a_tabIn (tgt := 44) dX5_known_1 (by rw [c1]; decide) (by rw [c1]; decide) (by rw [c1]; rfl) (by decide) ?_
    refine a_aload_n 0 dX5_known_44 rfl rfl ?_
    refine a_getI kc_5 0 (by decide) rfl ht q168 dX5_known_45 ?_
    cases h
    exact a_ireturn rfl rfl rfl rfl rfl dX5_known_48
  replace h := ifn_ c1 h
  by_cases c2 : i0.toInt = 1
  · replace h := ifp_ c2 h
    refine a_tabIn (tgt := 49) dX5_known_1 (by rw [c2]; decide) (by rw [c2]; decide) (by rw [c2]; rfl) (by decide) ?_
    refine a_aload_n 0 dX5_known_49 rfl rfl ?_
    refine a_getI kc_5 1 (by decide) rfl ht q172 dX5_known_50 ?_
    cases h
    exact a_ireturn rfl rfl rfl rfl rfl dX5_known_53
  replace h := ifn_ c2 h
  by_cases c3 : i0.toInt = 2
  · replace h := ifp_ c3 h
    refine a_tabIn (tgt := 54) dX5_known_1 (by rw [c3]; decide) (by rw [c3]; decide) (by rw [c3]; rfl) (by decide) ?_
    refine a_aload_n 0 dX5_known_54 rfl rfl ?_
    refine a_getI kc_5 2 (by decide) rfl ht q175 dX5_known_55 ?_
    cases h
    exact a_ireturn rfl rfl rfl rfl rfl dX5_known_58
  replace h := ifn_ c3 h
  by_cases c4 : i0.toInt = 3
  · replace h := ifp_ c4 h
    refine a_tabIn (tgt := 59) dX5_known_1 (by rw [c4]; decide) (by rw [c4]; decide) (by rw [c4]; rfl) (by decide) ?_
    refine a_aload_n 0 dX5_known_59 rfl rfl ?_
    refine a_getI kc_5 3 (by decide) rfl ht q178 dX5_known_60 ?_
    cases h
    exact a_ireturn rfl rfl rfl rfl rfl dX5_known_63
  replace h := ifn_ c4 h
  by_cases c5 : i0.toInt = 4
  · replace h := ifp_ c5 h
    refine a_tabIn (tgt := 64) dX5_known_1 (by rw [c5]; decide) (by rw [c5]; decide) (by rw [c5]; rfl) (by decide) ?_
    refine a_aload_n 0 dX5_known_64 rfl rfl ?_
    refine a_getI kc_5 4 (by decide) rfl ht q181 dX5_known_65 ?_
    cases h
    exact a_ireturn rfl rfl rfl rfl rfl dX5_known_68
  replace h := ifn_ c5 h
  by_cases c6 : i0.toInt = 5
  · replace h := ifp_ c6 h
    refine a_tabIn (tgt := 69) dX5_known_1 (by rw [c6]; decide) (by rw [c6]; decide) (by rw [c6]; rfl) (by decide) ?_
    refine a_aload_n 0 dX5_known_69 rfl rfl ?_
    refine a_getI kc_5 5 (by decide) rfl ht q183 dX5_known_70 ?_
    cases h
    exact a_ireturn rfl rfl rfl rfl rfl dX5_known_73
  replace h := ifn_ c6 h
  by_cases c7 : i0.toInt = 6
  · replace h := ifp_ c7 h
    refine a_tabIn (tgt := 74) dX5_known_1 (by rw [c7]; decide) (by rw [c7]; decide) (by rw [c7]; rfl) (by decide) ?_
    refine a_aload_n 0 dX5_known_74 rfl rfl ?_
    refine a_getI kc_5 6 (by decide) rfl ht q186 dX5_known_75 ?_
    cases h
    exact a_ireturn rfl rfl rfl rfl rfl dX5_known_78
  replace h := ifn_ c7 h
  refine a_tabOut (tgt := 79) dX5_known_1 (by omega) (by decide) ?_
  refine a_aload_n 0 dX5_known_79 rfl rfl ?_
  refine a_getI kc_5 7 (by decide) rfl ht q188 dX5_known_80 ?_
  cases h
  exact a_ireturn rfl rfl rfl rfl rfl dX5_known_83
def f_X15_on (F : Nat)  (t : pm_A) (i0 : Option pm_A) (m : pm_M) : Option (Int32 × pm_M) :=
  gd_ 5 i0 fun a1 =>
  bm_ (f_X5_known F a1 (gI_ m t 0) m) fun v6 m4 =>
  some (v6, m4)
set_option maxHeartbeats 4000000 in
theorem e_X15_on {G : xg_T} {l : Launch} (hl : l.stackTraces = false) {F : Nat}    {t : pm_A} {i0 : Option pm_A} {m0 m' : pm_M} {r : Int32} (ht : t.1 = 15) (h : f_X15_on F t i0 m0 = some (r, m')) : Cal_ G l yX15_on (ws_ yX15_on cX15_on 2 (some .int)) 3 [vR_ (some t), vR_ i0] m0 (.inl (some (vI_ r))) m' := by
  refine cal_of (by decide +kernel) (Nat.le_of_ble_eq_true rfl) ?_
  unfold f_X15_on at h
  show AW_ cX15_on RX15 (some (.int), "on", 3, 2, m0, m', (.inl (some (vI_ r))), G, l, [], true) m0 0 [(0, vR_ (some t)), (1, vR_ i0)] []
  refine a_aload_n 1 dX15_on_0 rfl rfl ?_
  refine a_aload_n 0 dX15_on_1 rfl rfl ?_
  refine a_getI kc_15 0 (by decide) rfl ht q934 dX15_on_2 ?_
  obtain ⟨a1, e2, f3, h⟩ := gd_some h
  rw [e2]
  obtain ⟨v6, m4, e5, h⟩ := bm_some h
  have he5 := e_X5_known (G := G) hl f3 e5
  refine c_I he5.1 (rn_V (n := 1) (As := [vI_ (gI_ m0 t 0)]) kc_5 f3 he5 (lw_V q508 q509 q510 q94 q511) (by decide +kernel) rfl (Nat.le_of_ble_eq_true rfl) (Nat.le_of_ble_eq_true rfl) (Nat.le_of_ble_eq_true rfl) dX15_on_5) (fun z => (os_av (As := [vI_ (gI_ m0 t 0)]) z).2.1) ?_
  cases h
  exact a_ireturn rfl rfl rfl rfl rfl dX15_on_8
theorem uw_PassagePapers_Two_20_14 : ∀ w ∈ va_wsF "PassagePapers$Two" 20 "PassagePapers$Amount" yTon_ yX14_on (ws_ yX14_on cX14_on 2 (some .int)), w ∈ lw_all := by
  intro w hw
  unfold va_wsF at hw
  rcases List.mem_append.mp hw with h | h
  · simp only [List.mem_cons, List.not_mem_nil, or_false] at h
    rcases h with h | h | h | h
    · rw [h]; exact q519
    · rw [h]; exact q497
    · rw [h]; exact q499
    · rw [h]; exact q112
  · exact (lw_meth q501 w h).1
theorem uw_PassagePapers_Two_20_15 : ∀ w ∈ va_wsF "PassagePapers$Two" 20 "PassagePapers$Known" yTon_ yX15_on (ws_ yX15_on cX15_on 2 (some .int)), w ∈ lw_all := by
  intro w hw
  unfold va_wsF at hw
  rcases List.mem_append.mp hw with h | h
  · simp only [List.mem_cons, List.not_mem_nil, or_false] at h
    rcases h with h | h | h | h
    · rw [h]; exact q519
    · rw [h]; exact q503
    · rw [h]; exact q505
    · rw [h]; exact q113
  · exact (lw_meth q507 w h).1
theorem uw_PassagePapers_Two_20_13 : ∀ w ∈ va_wsF "PassagePapers$Two" 20 "PassagePapers$Two" yTon_ yX13_on (ws_ yX13_on cX13_on 4 (some .int)), w ∈ lw_all := by
  intro w hw
  unfold va_wsF at hw
  rcases List.mem_append.mp hw with h | h
  · simp only [List.mem_cons, List.not_mem_nil, or_false] at h
    rcases h with h | h | h | h
    · rw [h]; exact q519
    · rw [h]; exact q513
    · rw [h]; exact q515
    · rw [h]; exact q111
  · exact (lw_meth q517 w h).1
def b_X13_on (F : Nat) (z_ : pm_A → Option pm_A → pm_M → Option (Int32 × pm_M)) (t : pm_A) (i0 : Option pm_A) (m : pm_M) : Option (Int32 × pm_M) :=
  nn_ (gR_ m t 1) fun a1 =>
  jn_ (fun (v5 : Int32) (m4 : pm_M) =>
    nn_ (gR_ m4 t 2) fun a6 =>
    jn_ (fun (v10 : Int32) (m9 : pm_M) =>
      if (gI_ m9 t 0).toInt = 42 then
        some ((v5 * v10), m9)
      else
      if (gI_ m9 t 0).toInt = 43 then
        some ((v5 + v10), m9)
      else
      if (gI_ m9 t 0).toInt = 45 then
        some ((v5 - v10), m9)
      else
      if (gI_ m9 t 0).toInt = 47 then
        if v10 = 0 then
          some (0, m9)
        else
          iz_ (decide (v10 = 0)) <|
          some ((v5 / v10), m9)
      else
      if (gI_ m9 t 0).toInt = 91 then
        bm_ (f_J8_min F v5 v10 m9) fun v20 m18 =>
        some (v20, m18)
      else
        bm_ (f_J8_max F v5 v10 m9) fun v23 m21 =>
        some (v23, m21)
    ) fun k8 =>
    if a6.1 = 14 then
      bm_ (f_X14_on F a6 i0 m4) fun v28 m26 =>
      k8 v28 m26
    else
    if a6.1 = 15 then
      bm_ (f_X15_on F a6 i0 m4) fun v32 m30 =>
      k8 v32 m30
    else
    if a6.1 = 13 then
      bm_ (z_ a6 i0 m4) fun v36 m34 =>
      k8 v36 m34
    else
    none
  ) fun k3 =>
  if a1.1 = 14 then
    bm_ (f_X14_on F a1 i0 m) fun v41 m39 =>
    k3 v41 m39
  else
  if a1.1 = 15 then
    bm_ (f_X15_on F a1 i0 m) fun v45 m43 =>
    k3 v45 m43
  else
  if a1.1 = 13 then
    bm_ (z_ a1 i0 m) fun v49 m47 =>
    k3 v49 m47
  else
  none
set_option maxHeartbeats 4000000 in
theorem eb_X13_on {G : xg_T} {l : Launch} (hl : l.stackTraces = false) {F : Nat} {dz : Nat} {z_ : pm_A → Option pm_A → pm_M → Option (Int32 × pm_M)} (hz : ∀ (w0 : pm_A) (w1 : Option pm_A) (m m' : pm_M) (r : Int32), w0.1 = 13 → z_ w0 w1 m = some (r, m') → Cal_ G l yX13_on (ws_ yX13_on cX13_on 4 (some .int)) dz [vR_ (some w0), vR_ w1] m (.inl (some (vI_ r))) m') (hdz : 4 ≤ dz) {t : pm_A} {i0 : Option pm_A} {m0 m' : pm_M} {r : Int32} (ht : t.1 = 13) (h : b_X13_on F z_ t i0 m0 = some (r, m')) : Cal_ G l yX13_on (ws_ yX13_on cX13_on 4 (some .int)) (dz + 1) [vR_ (some t), vR_ i0] m0 (.inl (some (vI_ r))) m' := by
  refine cal_of (by decide +kernel) (Nat.le_of_ble_eq_true rfl) ?_
  unfold b_X13_on at h
  show AW_ cX13_on RX13 (some (.int), "on", (dz + 1), 4, m0, m', (.inl (some (vI_ r))), G, l, [], true) m0 0 [(0, vR_ (some t)), (1, vR_ i0)] []
  refine a_aload_n 0 dX13_on_0 rfl rfl ?_
  refine a_getR kc_13 1 (by decide) rfl ht q906 dX13_on_1 ?_
  refine a_aload_n 1 dX13_on_4 rfl rfl ?_
  obtain ⟨a1, e2, h⟩ := nn_some h
  rw [e2]
  obtain ⟨k3, e37, h⟩ := jn2_some h
  have hk3 : ∀ (v5 : Int32) (m4 : pm_M), k3 v5 m4 = some (r, m') → AW_ cX13_on RX13 (some (.int), "on", (dz + 1), 4, m0, m', (.inl (some (vI_ r))), G, l, [], true) m4 10 [(0, vR_ (some t)), (1, vR_ i0)] [vI_ v5] := by
    intro v5 m4 h
    have h := (e37 v5 m4).symm.trans h
    refine a_istore_n (ls' := [(2, vI_ v5), (0, vR_ (some t)), (1, vR_ i0)]) dX13_on_10 rfl (Nat.le_of_ble_eq_true rfl) rfl ?_
    refine a_aload_n 1 dX13_on_11 rfl rfl ?_
    refine a_getR kc_13 2 (by decide) rfl ht q907 dX13_on_12 ?_
    refine a_aload_n 2 dX13_on_15 rfl rfl ?_
    obtain ⟨a6, e7, h⟩ := nn_some h
    rw [e7]
    obtain ⟨k8, e24, h⟩ := jn2_some h
    have hk8 : ∀ (v10 : Int32) (m9 : pm_M), k8 v10 m9 = some (r, m') → AW_ cX13_on RX13 (some (.int), "on", (dz + 1), 4, m0, m', (.inl (some (vI_ r))), G, l, [], true) m9 21 [(2, vI_ v5), (0, vR_ (some t)), (1, vR_ i0)] [vI_ v10] := by
      intro v10 m9 h
      have h := (e24 v10 m9).symm.trans h
      refine a_istore_n (ls' := [(3, vI_ v10), (2, vI_ v5), (0, vR_ (some t)), (1, vR_ i0)]) dX13_on_21 rfl (Nat.le_of_ble_eq_true rfl) rfl ?_
      refine a_aload_n 2 dX13_on_22 rfl rfl ?_
      refine a_getI kc_13 0 (by decide) rfl ht q905 dX13_on_23 ?_
      by_cases c11 : (gI_ m9 t 0).toInt = 42
      · replace h := ifp_ c11 h
        refine a_lookup (tgt := 84) dX13_on_26 (by decide) (by first | (rw [c11]; done) | (rw [c11]; rfl)) (by decide) ?_
        refine a_iload_n 1 dX13_on_84 rfl rfl ?_
        refine a_iload_n 0 dX13_on_85 rfl rfl ?_
        refine a_imul dX13_on_86 ?_
        cases h
        exact a_ireturn rfl rfl rfl rfl rfl dX13_on_87
      replace h := ifn_ c11 h
      by_cases c12 : (gI_ m9 t 0).toInt = 43
      · replace h := ifp_ c12 h
        refine a_lookup (tgt := 76) dX13_on_26 (by decide) (by first | (rw [c12]; done) | (rw [c12]; rfl)) (by decide) ?_
        refine a_iload_n 1 dX13_on_76 rfl rfl ?_
        refine a_iload_n 0 dX13_on_77 rfl rfl ?_
        refine a_iadd dX13_on_78 ?_
        cases h
        exact a_ireturn rfl rfl rfl rfl rfl dX13_on_79
      replace h := ifn_ c12 h
      by_cases c13 : (gI_ m9 t 0).toInt = 45
      · replace h := ifp_ c13 h
        refine a_lookup (tgt := 80) dX13_on_26 (by decide) (by first | (rw [c13]; done) | (rw [c13]; rfl)) (by decide) ?_
        refine a_iload_n 1 dX13_on_80 rfl rfl ?_
        refine a_iload_n 0 dX13_on_81 rfl rfl ?_
        refine a_isub dX13_on_82 ?_
        cases h
        exact a_ireturn rfl rfl rfl rfl rfl dX13_on_83
      replace h := ifn_ c13 h
      by_cases c14 : (gI_ m9 t 0).toInt = 47
      · replace h := ifp_ c14 h
        refine a_lookup (tgt := 88) dX13_on_26 (by decide) (by first | (rw [c14]; done) | (rw [c14]; rfl)) (by decide) ?_
        refine a_iload_n 0 dX13_on_88 rfl rfl ?_
        refine a_if_ne (tgt := 96) dX13_on_89 (by decide) (fun c15 => ?_) (fun c15 => ?_)
        · replace h := ifn_ c15 h
          refine a_iload_n 1 dX13_on_96 rfl rfl ?_
          refine a_iload_n 0 dX13_on_97 rfl rfl ?_
          obtain ⟨c16, h⟩ := iz_some h
          refine a_idiv dX13_on_98 (of_decide_eq_false c16) ?_
          cases h
          exact a_ireturn rfl rfl rfl rfl rfl dX13_on_99
        · replace h := ifp_ c15 h
          refine a_iconst (v := 0) dX13_on_92 (by decide) ?_
          refine a_goto (tgt := 99) dX13_on_93 (by decide) ?_
          cases h
          exact a_ireturn rfl rfl rfl rfl rfl dX13_on_99
      replace h := ifn_ c14 h
      by_cases c17 : (gI_ m9 t 0).toInt = 91
      · replace h := ifp_ c17 h
        refine a_lookup (tgt := 100) dX13_on_26 (by decide) (by first | (rw [c17]; done) | (rw [c17]; rfl)) (by decide) ?_
        refine a_iload_n 1 dX13_on_100 rfl rfl ?_
        refine a_iload_n 0 dX13_on_101 rfl rfl ?_
        obtain ⟨v20, m18, e19, h⟩ := bm_some h
        have he19 := e_J8_min (G := G) hl e19
        refine c_I he19.1 (rn_S (n := 2) (As := [vI_ v5, vI_ v10]) he19 (lw_S q520 q521 q109 q522) (by decide +kernel) rfl (by show 2 + 1 ≤ (dz + 1); omega) (Nat.le_of_ble_eq_true rfl) (Nat.le_of_ble_eq_true rfl) dX13_on_102) (fun z => (os_aS (As := [vI_ v5, vI_ v10]) z).2) ?_
        cases h
        exact a_ireturn rfl rfl rfl rfl rfl dX13_on_105
      replace h := ifn_ c17 h
      refine a_lookup (off := 80) (tgt := 106) dX13_on_26 (by decide) (by simp [Op.lookupswitch.offset, c11, c12, c13, c14, c17, Ne.symm c11, Ne.symm c12, Ne.symm c13, Ne.symm c14, Ne.symm c17]) (by decide) ?_
      refine a_iload_n 1 dX13_on_106 rfl rfl ?_
      refine a_iload_n 0 dX13_on_107 rfl rfl ?_
      obtain ⟨v23, m21, e22, h⟩ := bm_some h
      have he22 := e_J8_max (G := G) hl e22
      refine c_I he22.1 (rn_S (n := 2) (As := [vI_ v5, vI_ v10]) he22 (lw_S q523 q524 q109 q525) (by decide +kernel) rfl (by show 2 + 1 ≤ (dz + 1); omega) (Nat.le_of_ble_eq_true rfl) (Nat.le_of_ble_eq_true rfl) dX13_on_108) (fun z => (os_aS (As := [vI_ v5, vI_ v10]) z).2) ?_
      cases h
      exact a_ireturn rfl rfl rfl rfl rfl dX13_on_111
    by_cases c25 : a6.1 = 14
    · replace h := ifp_ c25 h
      obtain ⟨v28, m26, e27, h⟩ := bm_some h
      have he27 := e_X14_on (G := G) hl c25 e27
      refine c_I he27.1 (rn_F (n := 1) (As := [vR_ i0]) kc_14 c25 he27 uw_PassagePapers_Two_20_14 (by decide +kernel) (by decide +kernel) rfl (by show 2 + 1 ≤ (dz + 1); omega) (Nat.le_of_ble_eq_true rfl) (Nat.le_of_ble_eq_true rfl) dX13_on_16) (fun z => (os_av (As := [vR_ i0]) z).2.1) ?_
      exact hk8 _ _ h
    replace h := ifn_ c25 h
    by_cases c29 : a6.1 = 15
    · replace h := ifp_ c29 h
      obtain ⟨v32, m30, e31, h⟩ := bm_some h
      have he31 := e_X15_on (G := G) hl c29 e31
      refine c_I he31.1 (rn_F (n := 1) (As := [vR_ i0]) kc_15 c29 he31 uw_PassagePapers_Two_20_15 (by decide +kernel) (by decide +kernel) rfl (by show 3 + 1 ≤ (dz + 1); omega) (Nat.le_of_ble_eq_true rfl) (Nat.le_of_ble_eq_true rfl) dX13_on_16) (fun z => (os_av (As := [vR_ i0]) z).2.1) ?_
      exact hk8 _ _ h
    replace h := ifn_ c29 h
    by_cases c33 : a6.1 = 13
    · replace h := ifp_ c33 h
      obtain ⟨v36, m34, e35, h⟩ := bm_some h
      have he35 := hz _ _ _ _ _ c33 e35
      refine c_I he35.1 (rn_F (n := 1) (As := [vR_ i0]) kc_13 c33 he35 uw_PassagePapers_Two_20_13 (by decide +kernel) (by decide +kernel) rfl (by show dz + 1 ≤ (dz + 1); omega) (Nat.le_of_ble_eq_true rfl) (Nat.le_of_ble_eq_true rfl) dX13_on_16) (fun z => (os_av (As := [vR_ i0]) z).2.1) ?_
      exact hk8 _ _ h
    replace h := ifn_ c33 h
    cases h
  by_cases c38 : a1.1 = 14
  · replace h := ifp_ c38 h
    obtain ⟨v41, m39, e40, h⟩ := bm_some h
    have he40 := e_X14_on (G := G) hl c38 e40
    refine c_I he40.1 (rn_F (n := 1) (As := [vR_ i0]) kc_14 c38 he40 uw_PassagePapers_Two_20_14 (by decide +kernel) (by decide +kernel) rfl (by show 2 + 1 ≤ (dz + 1); omega) (Nat.le_of_ble_eq_true rfl) (Nat.le_of_ble_eq_true rfl) dX13_on_5) (fun z => (os_av (As := [vR_ i0]) z).2.1) ?_
    exact hk3 _ _ h
  replace h := ifn_ c38 h
  by_cases c42 : a1.1 = 15
  · replace h := ifp_ c42 h
    obtain ⟨v45, m43, e44, h⟩ := bm_some h
    have he44 := e_X15_on (G := G) hl c42 e44
    refine c_I he44.1 (rn_F (n := 1) (As := [vR_ i0]) kc_15 c42 he44 uw_PassagePapers_Two_20_15 (by decide +kernel) (by decide +kernel) rfl (by show 3 + 1 ≤ (dz + 1); omega) (Nat.le_of_ble_eq_true rfl) (Nat.le_of_ble_eq_true rfl) dX13_on_5) (fun z => (os_av (As := [vR_ i0]) z).2.1) ?_
    exact hk3 _ _ h
  replace h := ifn_ c42 h
  by_cases c46 : a1.1 = 13
  · replace h := ifp_ c46 h
    obtain ⟨v49, m47, e48, h⟩ := bm_some h
    have he48 := hz _ _ _ _ _ c46 e48
    refine c_I he48.1 (rn_F (n := 1) (As := [vR_ i0]) kc_13 c46 he48 uw_PassagePapers_Two_20_13 (by decide +kernel) (by decide +kernel) rfl (by show dz + 1 ≤ (dz + 1); omega) (Nat.le_of_ble_eq_true rfl) (Nat.le_of_ble_eq_true rfl) dX13_on_5) (fun z => (os_av (As := [vR_ i0]) z).2.1) ?_
    exact hk3 _ _ h
  replace h := ifn_ c46 h
  cases h
def f_X13_on (F : Nat) : Nat → pm_A → Option pm_A → pm_M → Option (Int32 × pm_M)
  | 0, _, _, _ => none
  | D + 1, t, i0, m => b_X13_on F (f_X13_on F D) t i0 m
theorem er_X13_on {G : xg_T} {l : Launch} (hl : l.stackTraces = false) {F : Nat} : ∀ (D : Nat) (t : pm_A) (i0 : Option pm_A) (m m' : pm_M) (r : Int32), t.1 = 13 → f_X13_on F D t i0 m = some (r, m') → Cal_ G l yX13_on (ws_ yX13_on cX13_on 4 (some .int)) (1 * D + 4) [vR_ (some t), vR_ i0] m (.inl (some (vI_ r))) m' := by
  intro D
  induction D with
  | zero => intro t i0 m m' r ht h; cases h
  | succ D ih =>
    intro t i0 m m' r ht h
    have h : b_X13_on F (f_X13_on F D) t i0 m = some (r, m') := h
    have q := eb_X13_on (dz := 1 * D + 4) hl ih (by omega) ht h
    rw [show 1 * (D + 1) + 4 = 1 * D + 4 + 1 by omega]
    exact q
theorem e_X13_on {G : xg_T} {l : Launch} (hl : l.stackTraces = false) {F : Nat} {t : pm_A} {i0 : Option pm_A} {m m' : pm_M} {r : Int32} (ht : t.1 = 13) (h : f_X13_on F 160 t i0 m = some (r, m')) : Cal_ G l yX13_on (ws_ yX13_on cX13_on 4 (some .int)) 164 [vR_ (some t), vR_ i0] m (.inl (some (vI_ r))) m' := er_X13_on hl 160 _ _ _ _ _ ht h
theorem uw_PassagePapers_Laws_26_14 : ∀ w ∈ va_wsF "PassagePapers$Laws" 26 "PassagePapers$Amount" yTon_ yX14_on (ws_ yX14_on cX14_on 2 (some .int)), w ∈ lw_all := by
  intro w hw
  unfold va_wsF at hw
  rcases List.mem_append.mp hw with h | h
  · simp only [List.mem_cons, List.not_mem_nil, or_false] at h
    rcases h with h | h | h | h
    · rw [h]; exact q493
    · rw [h]; exact q497
    · rw [h]; exact q499
    · rw [h]; exact q112
  · exact (lw_meth q501 w h).1
theorem uw_PassagePapers_Laws_26_15 : ∀ w ∈ va_wsF "PassagePapers$Laws" 26 "PassagePapers$Known" yTon_ yX15_on (ws_ yX15_on cX15_on 2 (some .int)), w ∈ lw_all := by
  intro w hw
  unfold va_wsF at hw
  rcases List.mem_append.mp hw with h | h
  · simp only [List.mem_cons, List.not_mem_nil, or_false] at h
    rcases h with h | h | h | h
    · rw [h]; exact q493
    · rw [h]; exact q503
    · rw [h]; exact q505
    · rw [h]; exact q113
  · exact (lw_meth q507 w h).1
theorem uw_PassagePapers_Laws_26_13 : ∀ w ∈ va_wsF "PassagePapers$Laws" 26 "PassagePapers$Two" yTon_ yX13_on (ws_ yX13_on cX13_on 4 (some .int)), w ∈ lw_all := by
  intro w hw
  unfold va_wsF at hw
  rcases List.mem_append.mp hw with h | h
  · simp only [List.mem_cons, List.not_mem_nil, or_false] at h
    rcases h with h | h | h | h
    · rw [h]; exact q493
    · rw [h]; exact q513
    · rw [h]; exact q515
    · rw [h]; exact q111
  · exact (lw_meth q517 w h).1
def f_X2_asks (F : Nat)  (t : pm_A) (i0 : Option pm_A) (i1 : Int32) (m : pm_M) : Option (Int32 × pm_M) :=
  gd_ 106 (gR_ m t 0) fun a1 =>
  iz_ (!(ib_ i1 a1.2.1)) <|
  jn_ (fun (y7 : Int32) (y8 : Int32) (y9 : Int32) (m6 : pm_M) =>
    bm_ (f_J8_min F y8 y9 m6) fun v12 m10 =>
    bm_ (f_J8_max F y7 v12 m10) fun v15 m13 =>
    some (v15, m13)
  ) fun k5 =>
  if (gR_ m a1 i1.toNatClampNeg) = none then
    gd_ 5 i0 fun a39 =>
    k5 0 999 ((52 * (gI_ m a39 0)) + (4 * (gI_ m a39 1))) m
  else
    gd_ 106 (gR_ m t 0) fun a17 =>
    iz_ (!(ib_ i1 a17.2.1)) <|
    nn_ (gR_ m a17 i1.toNatClampNeg) fun a21 =>
    jn_ (fun (v25 : Int32) (m24 : pm_M) =>
      k5 0 999 v25 m24
    ) fun k23 =>
    if a21.1 = 14 then
      bm_ (f_X14_on F a21 i0 m) fun v30 m28 =>
      k23 v30 m28
    else
    if a21.1 = 15 then
      bm_ (f_X15_on F a21 i0 m) fun v34 m32 =>
      k23 v34 m32
    else
    if a21.1 = 13 then
      bm_ (f_X13_on F 160 a21 i0 m) fun v38 m36 =>
      k23 v38 m36
    else
    none
set_option maxHeartbeats 4000000 in
theorem e_X2_asks {G : xg_T} {l : Launch} (hl : l.stackTraces = false) {F : Nat}    {t : pm_A} {i0 : Option pm_A} {i1 : Int32} {m0 m' : pm_M} {r : Int32} (ht : t.1 = 2) (h : f_X2_asks F t i0 i1 m0 = some (r, m')) : Cal_ G l yX2_asks (ws_ yX2_asks cX2_asks 3 (some .int)) 165 [vR_ (some t), vR_ i0, vI_ i1] m0 (.inl (some (vI_ r))) m' := by
  refine cal_of (by decide +kernel) (Nat.le_of_ble_eq_true rfl) ?_
  unfold f_X2_asks at h
  show AW_ cX2_asks RX2 (some (.int), "asks", 165, 3, m0, m', (.inl (some (vI_ r))), G, l, [], true) m0 0 [(0, vR_ (some t)), (1, vR_ i0), (2, vI_ i1)] []
  refine a_iconst (v := 0) dX2_asks_0 (by decide) ?_
  refine a_sipush (v := 999) dX2_asks_1 (by decide) ?_
  refine a_aload_n 0 dX2_asks_4 rfl rfl ?_
  refine a_getR kc_2 0 (by decide) rfl ht q142 dX2_asks_5 ?_
  refine a_iload_n 2 dX2_asks_8 rfl rfl ?_
  obtain ⟨a1, e2, f3, h⟩ := gd_some h
  rw [e2]
  obtain ⟨c4, h⟩ := iz_some h
  refine a_aald (t0 := 6) f3 (by decide) (by decide) rfl (bn_ c4) dX2_asks_9 ?_
  obtain ⟨k5, e42, h⟩ := jn4_some h
  have hk5 : ∀ (y7 : Int32) (y8 : Int32) (y9 : Int32) (m6 : pm_M), k5 y7 y8 y9 m6 = some (r, m') → AW_ cX2_asks RX2 (some (.int), "asks", 165, 3, m0, m', (.inl (some (vI_ r))), G, l, [], true) m6 42 [] [vI_ y9, vI_ y8, vI_ y7] := by
    intro y7 y8 y9 m6 h
    have h := (e42 y7 y8 y9 m6).symm.trans h
    obtain ⟨v12, m10, e11, h⟩ := bm_some h
    have he11 := e_J8_min (G := G) hl e11
    refine c_I he11.1 (rn_S (n := 2) (As := [vI_ y8, vI_ y9]) he11 (lw_S q526 q521 q109 q522) (by decide +kernel) rfl (Nat.le_of_ble_eq_true rfl) (Nat.le_of_ble_eq_true rfl) (Nat.le_of_ble_eq_true rfl) dX2_asks_42) (fun z => (os_aS (As := [vI_ y8, vI_ y9]) z).2) ?_
    obtain ⟨v15, m13, e14, h⟩ := bm_some h
    have he14 := e_J8_max (G := G) hl e14
    refine c_I he14.1 (rn_S (n := 2) (As := [vI_ y7, vI_ v12]) he14 (lw_S q527 q524 q109 q525) (by decide +kernel) rfl (Nat.le_of_ble_eq_true rfl) (Nat.le_of_ble_eq_true rfl) (Nat.le_of_ble_eq_true rfl) dX2_asks_45) (fun z => (os_aS (As := [vI_ y7, vI_ v12]) z).2) ?_
    cases h
    exact a_ireturn rfl rfl rfl rfl rfl dX2_asks_48
  refine a_ifnonnull (tgt := 30) dX2_asks_10 (by decide) (fun c16 => ?_) (fun c16 => ?_)
  · replace h := ifn_ c16 h
    refine a_aload_n 0 dX2_asks_30 rfl rfl ?_
    refine a_getR kc_2 0 (by decide) rfl ht q142 dX2_asks_31 ?_
    refine a_iload_n 2 dX2_asks_34 rfl rfl ?_
    obtain ⟨a17, e18, f19, h⟩ := gd_some h
    rw [e18]
    obtain ⟨c20, h⟩ := iz_some h
    refine a_aald (t0 := 6) f19 (by decide) (by decide) rfl (bn_ c20) dX2_asks_35 ?_
    refine a_aload_n 1 dX2_asks_36 rfl rfl ?_
    obtain ⟨a21, e22, h⟩ := nn_some h
    rw [e22]
    obtain ⟨k23, e26, h⟩ := jn2_some h
    have hk23 : ∀ (v25 : Int32) (m24 : pm_M), k23 v25 m24 = some (r, m') → AW_ cX2_asks RX2 (some (.int), "asks", 165, 3, m0, m', (.inl (some (vI_ r))), G, l, [], true) m24 42 [(0, vR_ (some t)), (1, vR_ i0), (2, vI_ i1)] [vI_ v25, vI_ 999, vI_ 0] := by
      intro v25 m24 h
      have h := (e26 v25 m24).symm.trans h
      refine aw_pick [] rfl ?_
      exact hk5 _ _ _ _ h
    by_cases c27 : a21.1 = 14
    · replace h := ifp_ c27 h
      obtain ⟨v30, m28, e29, h⟩ := bm_some h
      have he29 := e_X14_on (G := G) hl c27 e29
      refine c_I he29.1 (rn_F (n := 1) (As := [vR_ i0]) kc_14 c27 he29 uw_PassagePapers_Laws_26_14 (by decide +kernel) (by decide +kernel) rfl (Nat.le_of_ble_eq_true rfl) (Nat.le_of_ble_eq_true rfl) (Nat.le_of_ble_eq_true rfl) dX2_asks_37) (fun z => (os_av (As := [vR_ i0]) z).2.1) ?_
      exact hk23 _ _ h
    replace h := ifn_ c27 h
    by_cases c31 : a21.1 = 15
    · replace h := ifp_ c31 h
      obtain ⟨v34, m32, e33, h⟩ := bm_some h
      have he33 := e_X15_on (G := G) hl c31 e33
      refine c_I he33.1 (rn_F (n := 1) (As := [vR_ i0]) kc_15 c31 he33 uw_PassagePapers_Laws_26_15 (by decide +kernel) (by decide +kernel) rfl (Nat.le_of_ble_eq_true rfl) (Nat.le_of_ble_eq_true rfl) (Nat.le_of_ble_eq_true rfl) dX2_asks_37) (fun z => (os_av (As := [vR_ i0]) z).2.1) ?_
      exact hk23 _ _ h
    replace h := ifn_ c31 h
    by_cases c35 : a21.1 = 13
    · replace h := ifp_ c35 h
      obtain ⟨v38, m36, e37, h⟩ := bm_some h
      have he37 := e_X13_on (G := G) hl c35 e37
      refine c_I he37.1 (rn_F (n := 1) (As := [vR_ i0]) kc_13 c35 he37 uw_PassagePapers_Laws_26_13 (by decide +kernel) (by decide +kernel) rfl (Nat.le_of_ble_eq_true rfl) (Nat.le_of_ble_eq_true rfl) (Nat.le_of_ble_eq_true rfl) dX2_asks_37) (fun z => (os_av (As := [vR_ i0]) z).2.1) ?_
      exact hk23 _ _ h
    replace h := ifn_ c35 h
    cases h
  · replace h := ifp_ c16 h
    refine a_bipush (v := 52) dX2_asks_13 (by decide) ?_
    refine a_aload_n 1 dX2_asks_15 rfl rfl ?_
    obtain ⟨a39, e40, f41, h⟩ := gd_some h
    rw [e40]
    refine a_getIN kc_5 0 (by decide) rfl f41 q167 dX2_asks_16 ?_
    refine a_imul dX2_asks_19 ?_
    refine a_iconst (v := 4) dX2_asks_20 (by decide) ?_
    refine a_aload_n 1 dX2_asks_21 rfl rfl ?_
    refine a_getIN kc_5 1 (by decide) rfl f41 q171 dX2_asks_22 ?_
    refine a_imul dX2_asks_25 ?_
    refine a_iadd dX2_asks_26 ?_
    refine a_goto (tgt := 42) dX2_asks_27 (by decide) ?_
    refine aw_pick [] rfl ?_
    exact hk5 _ _ _ _ h
