/-! PRINTED BY dec.py: X0_owes X1_would X0_would X1_tried X1_freeBy X1_freeIn X0_freeIn X1_otherwise X0_otherwise X4_goesOn X4_sum X1_ahead X0_ahead X4_gives X1_gives X0_gives X7_mostOf X7_kinAt -/
set_option maxRecDepth 100000
def f_X0_owes (F : Nat)  (i0 : Option pm_A) (i1 : Int32) (i2 : Option pm_A) (m : pm_M) : Option (Int32 × pm_M) :=
  gd_ 1 i0 fun a1 =>
  bt_ (f_X1_owes F a1 i1 m) (fun v6 m4 =>
    gd_ 103 i2 fun a9 =>
    iz_ (!(ib_ 0 a9.2.1)) <|
    lt_ (pL_ m4 a9 ((0 : Int32).toNatClampNeg) v6.toInt64) fun m13 =>
    some (0, m13)
  ) fun b8 m7 =>
    if b8.1 = 26 then
      some (1, m7)
    else
    none
set_option maxHeartbeats 4000000 in
theorem e_X0_owes {G : xg_T} {l : Launch} (hl : l.stackTraces = false) {F : Nat}    {i0 : Option pm_A} {i1 : Int32} {i2 : Option pm_A} {m0 m' : pm_M} {r : Int32} (h : f_X0_owes F i0 i1 i2 m0 = some (r, m')) : Cal_ G l yX0_owes (wsW_ yX0_owes cX0_owes 4 (some .int) [(0, 9, 12, 31)]) 171 [vR_ i0, vI_ i1, vR_ i2] m0 (.inl (some (vI_ r))) m' := by
  refine cal_ofH (by decide +kernel) (Nat.le_of_ble_eq_true rfl) ?_
  unfold f_X0_owes at h
  show AW_ cX0_owes RX0 (some (.int), "owes", 171, 4, m0, m', (.inl (some (vI_ r))), G, l, [(0, 9, 12, 31)], true) m0 0 [(0, vR_ i0), (1, vI_ i1), (2, vR_ i2)] []
  refine a_aload_n 2 dX0_owes_0 rfl rfl ?_
  refine a_iconst (v := 0) dX0_owes_1 (by decide) ?_
  refine a_aload_n 0 dX0_owes_2 rfl rfl ?_
  refine a_iload_n 1 dX0_owes_3 rfl rfl ?_
  obtain ⟨a1, e2, f3, h⟩ := gd_some h
  rw [e2]
  rcases bt_some h with ⟨v6, m4, e5, h⟩ | ⟨b8, m7, e5, h⟩
  · have he5 := e_X1_owes (G := G) hl f3 e5
    refine c_I (v := v6) he5.1 (rn_V (n := 1) (As := [vI_ i1]) kc_1 f3 he5 (lw_V q1276 q1277 q1278 q90 q1279) (by decide +kernel) rfl (Nat.le_of_ble_eq_true rfl) (Nat.le_of_ble_eq_true rfl) (Nat.le_of_ble_eq_true rfl) dX0_owes_4) (fun z => (os_av (As := [vI_ i1]) z).2.1) ?_
    refine a_i2l dX0_owes_7 ?_
    obtain ⟨a9, e10, f11, h⟩ := gd_some h
    rw [e10]
    obtain ⟨c12, h⟩ := iz_some h
    obtain ⟨m13, e14, h⟩ := lt_some h
    refine a_last f11 (bn_ c12) dX0_owes_8 ?_
    rw [← e14]
    refine a_goto (tgt := 15) dX0_owes_9 (by decide) ?_
    refine a_iconst (v := 0) dX0_owes_15 (by decide) ?_
    cases h
    exact a_ireturn rfl rfl rfl rfl rfl dX0_owes_16
  · have he5 := e_X1_owes (G := G) hl f3 e5
    refine c_X (b := b8) he5.1 (rn_V (n := 1) (As := [vI_ i1]) kc_1 f3 he5 (lw_V q1276 q1277 q1278 q90 q1279) (by decide +kernel) rfl (Nat.le_of_ble_eq_true rfl) (Nat.le_of_ble_eq_true rfl) (Nat.le_of_ble_eq_true rfl) dX0_owes_4) ?_
    by_cases c15 : b8.1 = 26
    · replace h := ifp_ c15 h
      refine a_catch [] ⟨0, 9, 12, 31⟩ [] rfl (fun z hz => nomatch hz) rfl (by decide) q1229 (by rw [c15]; exact q1240) ?_
      refine a_astore_n (ls' := [(3, vR_ (some b8)), (0, vR_ (some a1)), (1, vI_ i1), (2, vR_ i2)]) dX0_owes_12 rfl (Nat.le_of_ble_eq_true rfl) rfl ?_
      refine a_iconst (v := 1) dX0_owes_13 (by decide) ?_
      cases h
      exact a_ireturn rfl rfl rfl rfl rfl dX0_owes_14
    replace h := ifn_ c15 h
    cases h
def f_X1_would (F : Nat)  (t : pm_A) (i0 : Int32) (i1 : Int32) (i2 : Int32) (i3 : Int32) (i4 : Int32) (i5 : Int32) (m : pm_M) : Option ((Int32 ⊕ pm_A) × pm_M) :=
  bt_ (f_X1_within F t i0 1 9 m) (fun v3 m1 =>
    bt_ (f_X1_within F t i1 0 99 m1) (fun v8 m6 =>
      bt_ (f_X1_within F t i2 0 5 m6) (fun v13 m11 =>
        bt_ (f_X1_within F t i3 0 99 m11) (fun v18 m16 =>
          bt_ (f_X1_within F t i4 0 1 m16) (fun v23 m21 =>
            bt_ (f_X1_within F t i5 0 900 m21) (fun v28 m26 =>
              gd_ 5 (gR_ m26 t 6) fun a31 =>
              lt_ (pI_ m26 a31 0 i0) fun m34 =>
              gd_ 5 (gR_ m34 t 6) fun a36 =>
              lt_ (pI_ m34 a36 1 i1) fun m39 =>
              gd_ 5 (gR_ m39 t 6) fun a41 =>
              lt_ (pI_ m39 a41 2 i2) fun m44 =>
              gd_ 5 (gR_ m44 t 6) fun a46 =>
              lt_ (pI_ m44 a46 3 i3) fun m49 =>
              gd_ 5 (gR_ m49 t 6) fun a51 =>
              lt_ (pI_ m49 a51 5 i4) fun m54 =>
              gd_ 5 (gR_ m54 t 6) fun a56 =>
              lt_ (pI_ m54 a56 7 i5) fun m59 =>
              gd_ 2 (gR_ m59 t 1) fun a61 =>
              bm_ (f_X2_asks F a61 (gR_ m59 t 6) 0 m59) fun v66 m64 =>
              some (.inl v66, m64)
            ) fun b30 m29 =>
              some (.inr b30, m29)
          ) fun b25 m24 =>
            some (.inr b25, m24)
        ) fun b20 m19 =>
          some (.inr b20, m19)
      ) fun b15 m14 =>
        some (.inr b15, m14)
    ) fun b10 m9 =>
      some (.inr b10, m9)
  ) fun b5 m4 =>
    some (.inr b5, m4)
set_option maxHeartbeats 4000000 in
theorem e_X1_would {G : xg_T} {l : Launch} (hl : l.stackTraces = false) {F : Nat}    {t : pm_A} {i0 : Int32} {i1 : Int32} {i2 : Int32} {i3 : Int32} {i4 : Int32} {i5 : Int32} {m0 m' : pm_M} {r : (Int32 ⊕ pm_A)} (ht : t.1 = 1) (h : f_X1_would F t i0 i1 i2 i3 i4 i5 m0 = some (r, m')) : Cal_ G l yX1_would (ws_ yX1_would cX1_would 7 (some .int)) 166 [vR_ (some t), vI_ i0, vI_ i1, vI_ i2, vI_ i3, vI_ i4, vI_ i5] m0 (oI_ r) m' := by
  refine cal_of (by decide +kernel) (Nat.le_of_ble_eq_true rfl) ?_
  unfold f_X1_would at h
  show AW_ cX1_would RX1 (some (.int), "would", 166, 7, m0, m', (oI_ r), G, l, [], true) m0 0 [(0, vR_ (some t)), (1, vI_ i0), (2, vI_ i1), (3, vI_ i2), (4, vI_ i3), (5, vI_ i4), (6, vI_ i5)] []
  refine a_aload_n 0 dX1_would_0 rfl rfl ?_
  refine a_iload_n 1 dX1_would_1 rfl rfl ?_
  refine a_iconst (v := 1) dX1_would_2 (by decide) ?_
  refine a_bipush (v := 9) dX1_would_3 (by decide) ?_
  rcases bt_some h with ⟨v3, m1, e2, h⟩ | ⟨b5, m4, e2, h⟩
  · have he2 := e_X1_within (G := G) hl ht e2
    refine c_V he2.1 (rn_V (n := 3) (As := [vI_ i0, vI_ 1, vI_ 9]) kc_1 ht he2 (lw_V q581 q583 qs0 q90 q584) (by decide +kernel) rfl (Nat.le_of_ble_eq_true rfl) (Nat.le_of_ble_eq_true rfl) (Nat.le_of_ble_eq_true rfl) dX1_would_5) (fun z => (os_av (As := [vI_ i0, vI_ 1, vI_ 9]) z).2.1) ?_
    refine a_aload_n 0 dX1_would_8 rfl rfl ?_
    refine a_iload_n 2 dX1_would_9 rfl rfl ?_
    refine a_iconst (v := 0) dX1_would_10 (by decide) ?_
    refine a_bipush (v := 99) dX1_would_11 (by decide) ?_
    rcases bt_some h with ⟨v8, m6, e7, h⟩ | ⟨b10, m9, e7, h⟩
    · have he7 := e_X1_within (G := G) hl ht e7
      refine c_V he7.1 (rn_V (n := 3) (As := [vI_ i1, vI_ 0, vI_ 99]) kc_1 ht he7 (lw_V q581 q583 qs0 q90 q584) (by decide +kernel) rfl (Nat.le_of_ble_eq_true rfl) (Nat.le_of_ble_eq_true rfl) (Nat.le_of_ble_eq_true rfl) dX1_would_13) (fun z => (os_av (As := [vI_ i1, vI_ 0, vI_ 99]) z).2.1) ?_
      refine a_aload_n 0 dX1_would_16 rfl rfl ?_
      refine a_iload_n 3 dX1_would_17 rfl rfl ?_
      refine a_iconst (v := 0) dX1_would_18 (by decide) ?_
      refine a_iconst (v := 5) dX1_would_19 (by decide) ?_
      rcases bt_some h with ⟨v13, m11, e12, h⟩ | ⟨b15, m14, e12, h⟩
      · have he12 := e_X1_within (G := G) hl ht e12
        refine c_V he12.1 (rn_V (n := 3) (As := [vI_ i2, vI_ 0, vI_ 5]) kc_1 ht he12 (lw_V q581 q583 qs0 q90 q584) (by decide +kernel) rfl (Nat.le_of_ble_eq_true rfl) (Nat.le_of_ble_eq_true rfl) (Nat.le_of_ble_eq_true rfl) dX1_would_20) (fun z => (os_av (As := [vI_ i2, vI_ 0, vI_ 5]) z).2.1) ?_
        refine a_aload_n 0 dX1_would_23 rfl rfl ?_
        refine a_iload 4 dX1_would_24 rfl ?_
        refine a_iconst (v := 0) dX1_would_26 (by decide) ?_
        refine a_bipush (v := 99) dX1_would_27 (by decide) ?_
        rcases bt_some h with ⟨v18, m16, e17, h⟩ | ⟨b20, m19, e17, h⟩
        · have he17 := e_X1_within (G := G) hl ht e17
          refine c_V he17.1 (rn_V (n := 3) (As := [vI_ i3, vI_ 0, vI_ 99]) kc_1 ht he17 (lw_V q581 q583 qs0 q90 q584) (by decide +kernel) rfl (Nat.le_of_ble_eq_true rfl) (Nat.le_of_ble_eq_true rfl) (Nat.le_of_ble_eq_true rfl) dX1_would_29) (fun z => (os_av (As := [vI_ i3, vI_ 0, vI_ 99]) z).2.1) ?_
          refine a_aload_n 0 dX1_would_32 rfl rfl ?_
          refine a_iload 5 dX1_would_33 rfl ?_
          refine a_iconst (v := 0) dX1_would_35 (by decide) ?_
          refine a_iconst (v := 1) dX1_would_36 (by decide) ?_
          rcases bt_some h with ⟨v23, m21, e22, h⟩ | ⟨b25, m24, e22, h⟩
          · have he22 := e_X1_within (G := G) hl ht e22
            refine c_V he22.1 (rn_V (n := 3) (As := [vI_ i4, vI_ 0, vI_ 1]) kc_1 ht he22 (lw_V q581 q583 qs0 q90 q584) (by decide +kernel) rfl (Nat.le_of_ble_eq_true rfl) (Nat.le_of_ble_eq_true rfl) (Nat.le_of_ble_eq_true rfl) dX1_would_37) (fun z => (os_av (As := [vI_ i4, vI_ 0, vI_ 1]) z).2.1) ?_
            refine a_aload_n 0 dX1_would_40 rfl rfl ?_
            refine a_iload 6 dX1_would_41 rfl ?_
            refine a_iconst (v := 0) dX1_would_43 (by decide) ?_
            refine a_sipush (v := 900) dX1_would_44 (by decide) ?_
            rcases bt_some h with ⟨v28, m26, e27, h⟩ | ⟨b30, m29, e27, h⟩
            · have he27 := e_X1_within (G := G) hl ht e27
              refine c_V he27.1 (rn_V (n := 3) (As := [vI_ i5, vI_ 0, vI_ 900]) kc_1 ht he27 (lw_V q581 q583 qs0 q90 q584) (by decide +kernel) rfl (Nat.le_of_ble_eq_true rfl) (Nat.le_of_ble_eq_true rfl) (Nat.le_of_ble_eq_true rfl) dX1_would_47) (fun z => (os_av (As := [vI_ i5, vI_ 0, vI_ 900]) z).2.1) ?_
              refine a_aload_n 0 dX1_would_50 rfl rfl ?_
              refine a_getR kc_1 6 (by decide) rfl ht q394 dX1_would_51 ?_
              refine a_iload_n 1 dX1_would_54 rfl rfl ?_
              obtain ⟨a31, e32, f33, h⟩ := gd_some h
              rw [e32]
              obtain ⟨m34, e35, h⟩ := lt_some h
              refine a_putIN kc_5 0 (by decide) rfl f33 q170 rfl rfl rfl dX1_would_55 ?_
              rw [← e35]
              refine a_aload_n 0 dX1_would_58 rfl rfl ?_
              refine a_getR kc_1 6 (by decide) rfl ht q394 dX1_would_59 ?_
              refine a_iload_n 2 dX1_would_62 rfl rfl ?_
              obtain ⟨a36, e37, f38, h⟩ := gd_some h
              rw [e37]
              obtain ⟨m39, e40, h⟩ := lt_some h
              refine a_putIN kc_5 1 (by decide) rfl f38 q174 rfl rfl rfl dX1_would_63 ?_
              rw [← e40]
              refine a_aload_n 0 dX1_would_66 rfl rfl ?_
              refine a_getR kc_1 6 (by decide) rfl ht q394 dX1_would_67 ?_
              refine a_iload_n 3 dX1_would_70 rfl rfl ?_
              obtain ⟨a41, e42, f43, h⟩ := gd_some h
              rw [e42]
              obtain ⟨m44, e45, h⟩ := lt_some h
              refine a_putIN kc_5 2 (by decide) rfl f43 q177 rfl rfl rfl dX1_would_71 ?_
              rw [← e45]
              refine a_aload_n 0 dX1_would_74 rfl rfl ?_
              refine a_getR kc_1 6 (by decide) rfl ht q394 dX1_would_75 ?_
              refine a_iload 4 dX1_would_78 rfl ?_
              obtain ⟨a46, e47, f48, h⟩ := gd_some h
              rw [e47]
              obtain ⟨m49, e50, h⟩ := lt_some h
              refine a_putIN kc_5 3 (by decide) rfl f48 q180 rfl rfl rfl dX1_would_80 ?_
              rw [← e50]
              refine a_aload_n 0 dX1_would_83 rfl rfl ?_
              refine a_getR kc_1 6 (by decide) rfl ht q394 dX1_would_84 ?_
              refine a_iload 5 dX1_would_87 rfl ?_
              obtain ⟨a51, e52, f53, h⟩ := gd_some h
              rw [e52]
              obtain ⟨m54, e55, h⟩ := lt_some h
              refine a_putIN kc_5 5 (by decide) rfl f53 q185 rfl rfl rfl dX1_would_89 ?_
              rw [← e55]
              refine a_aload_n 0 dX1_would_92 rfl rfl ?_
              refine a_getR kc_1 6 (by decide) rfl ht q394 dX1_would_93 ?_
              refine a_iload 6 dX1_would_96 rfl ?_
              obtain ⟨a56, e57, f58, h⟩ := gd_some h
              rw [e57]
              obtain ⟨m59, e60, h⟩ := lt_some h
              refine a_putIN kc_5 7 (by decide) rfl f58 q190 rfl rfl rfl dX1_would_98 ?_
              rw [← e60]
              refine a_aload_n 0 dX1_would_101 rfl rfl ?_
              refine a_getR kc_1 1 (by decide) rfl ht q389 dX1_would_102 ?_
              refine a_aload_n 0 dX1_would_105 rfl rfl ?_
              refine a_getR kc_1 6 (by decide) rfl ht q394 dX1_would_106 ?_
              refine a_iconst (v := 0) dX1_would_109 (by decide) ?_
              obtain ⟨a61, e62, f63, h⟩ := gd_some h
              rw [e62]
              obtain ⟨v66, m64, e65, h⟩ := bm_some h
              have he65 := e_X2_asks (G := G) hl f63 e65
              refine c_I he65.1 (rn_V (n := 2) (As := [vR_ (gR_ m59 t 6), vI_ 0]) kc_2 f63 he65 (lw_V q1288 q489 q490 q91 q491) (by decide +kernel) rfl (Nat.le_of_ble_eq_true rfl) (Nat.le_of_ble_eq_true rfl) (Nat.le_of_ble_eq_true rfl) dX1_would_110) (fun z => (os_av (As := [vR_ (gR_ m59 t 6), vI_ 0]) z).2.1) ?_
              cases h
              exact a_ireturn rfl rfl rfl rfl rfl dX1_would_113
            · have he27 := e_X1_within (G := G) hl ht e27
              refine c_X (b := b30) he27.1 (rn_V (n := 3) (As := [vI_ i5, vI_ 0, vI_ 900]) kc_1 ht he27 (lw_V q581 q583 qs0 q90 q584) (by decide +kernel) rfl (Nat.le_of_ble_eq_true rfl) (Nat.le_of_ble_eq_true rfl) (Nat.le_of_ble_eq_true rfl) dX1_would_47) ?_
              cases h
              exact a_out rfl rfl rfl rfl
          · have he22 := e_X1_within (G := G) hl ht e22
            refine c_X (b := b25) he22.1 (rn_V (n := 3) (As := [vI_ i4, vI_ 0, vI_ 1]) kc_1 ht he22 (lw_V q581 q583 qs0 q90 q584) (by decide +kernel) rfl (Nat.le_of_ble_eq_true rfl) (Nat.le_of_ble_eq_true rfl) (Nat.le_of_ble_eq_true rfl) dX1_would_37) ?_
            cases h
            exact a_out rfl rfl rfl rfl
        · have he17 := e_X1_within (G := G) hl ht e17
          refine c_X (b := b20) he17.1 (rn_V (n := 3) (As := [vI_ i3, vI_ 0, vI_ 99]) kc_1 ht he17 (lw_V q581 q583 qs0 q90 q584) (by decide +kernel) rfl (Nat.le_of_ble_eq_true rfl) (Nat.le_of_ble_eq_true rfl) (Nat.le_of_ble_eq_true rfl) dX1_would_29) ?_
          cases h
          exact a_out rfl rfl rfl rfl
      · have he12 := e_X1_within (G := G) hl ht e12
        refine c_X (b := b15) he12.1 (rn_V (n := 3) (As := [vI_ i2, vI_ 0, vI_ 5]) kc_1 ht he12 (lw_V q581 q583 qs0 q90 q584) (by decide +kernel) rfl (Nat.le_of_ble_eq_true rfl) (Nat.le_of_ble_eq_true rfl) (Nat.le_of_ble_eq_true rfl) dX1_would_20) ?_
        cases h
        exact a_out rfl rfl rfl rfl
    · have he7 := e_X1_within (G := G) hl ht e7
      refine c_X (b := b10) he7.1 (rn_V (n := 3) (As := [vI_ i1, vI_ 0, vI_ 99]) kc_1 ht he7 (lw_V q581 q583 qs0 q90 q584) (by decide +kernel) rfl (Nat.le_of_ble_eq_true rfl) (Nat.le_of_ble_eq_true rfl) (Nat.le_of_ble_eq_true rfl) dX1_would_13) ?_
      cases h
      exact a_out rfl rfl rfl rfl
  · have he2 := e_X1_within (G := G) hl ht e2
    refine c_X (b := b5) he2.1 (rn_V (n := 3) (As := [vI_ i0, vI_ 1, vI_ 9]) kc_1 ht he2 (lw_V q581 q583 qs0 q90 q584) (by decide +kernel) rfl (Nat.le_of_ble_eq_true rfl) (Nat.le_of_ble_eq_true rfl) (Nat.le_of_ble_eq_true rfl) dX1_would_5) ?_
    cases h
    exact a_out rfl rfl rfl rfl
def f_X0_would (F : Nat)  (i0 : Option pm_A) (i1 : Int32) (i2 : Int32) (i3 : Int32) (i4 : Int32) (i5 : Int32) (i6 : Int32) (i7 : Option pm_A) (m : pm_M) : Option (Int32 × pm_M) :=
  gd_ 1 i0 fun a1 =>
  bt_ (f_X1_would F a1 i1 i2 i3 i4 i5 i6 m) (fun v6 m4 =>
    gd_ 103 i7 fun a9 =>
    iz_ (!(ib_ 0 a9.2.1)) <|
    lt_ (pL_ m4 a9 ((0 : Int32).toNatClampNeg) v6.toInt64) fun m13 =>
    some (0, m13)
  ) fun b8 m7 =>
    if b8.1 = 25 then
      some (1, m7)
    else
    none
set_option maxHeartbeats 4000000 in
theorem e_X0_would {G : xg_T} {l : Launch} (hl : l.stackTraces = false) {F : Nat}    {i0 : Option pm_A} {i1 : Int32} {i2 : Int32} {i3 : Int32} {i4 : Int32} {i5 : Int32} {i6 : Int32} {i7 : Option pm_A} {m0 m' : pm_M} {r : Int32} (h : f_X0_would F i0 i1 i2 i3 i4 i5 i6 i7 m0 = some (r, m')) : Cal_ G l yX0_would (wsW_ yX0_would cX0_would 9 (some .int) [(0, 18, 21, 13)]) 167 [vR_ i0, vI_ i1, vI_ i2, vI_ i3, vI_ i4, vI_ i5, vI_ i6, vR_ i7] m0 (.inl (some (vI_ r))) m' := by
  refine cal_ofH (by decide +kernel) (Nat.le_of_ble_eq_true rfl) ?_
  unfold f_X0_would at h
  show AW_ cX0_would RX0 (some (.int), "would", 167, 9, m0, m', (.inl (some (vI_ r))), G, l, [(0, 18, 21, 13)], true) m0 0 [(0, vR_ i0), (1, vI_ i1), (2, vI_ i2), (3, vI_ i3), (4, vI_ i4), (5, vI_ i5), (6, vI_ i6), (7, vR_ i7)] []
  refine a_aload 7 dX0_would_0 rfl ?_
  refine a_iconst (v := 0) dX0_would_2 (by decide) ?_
  refine a_aload_n 0 dX0_would_3 rfl rfl ?_
  refine a_iload_n 1 dX0_would_4 rfl rfl ?_
  refine a_iload_n 2 dX0_would_5 rfl rfl ?_
  refine a_iload_n 3 dX0_would_6 rfl rfl ?_
  refine a_iload 4 dX0_would_7 rfl ?_
  refine a_iload 5 dX0_would_9 rfl ?_
  refine a_iload 6 dX0_would_11 rfl ?_
  obtain ⟨a1, e2, f3, h⟩ := gd_some h
  rw [e2]
  rcases bt_some h with ⟨v6, m4, e5, h⟩ | ⟨b8, m7, e5, h⟩
  · have he5 := e_X1_would (G := G) hl f3 e5
    refine c_I (v := v6) he5.1 (rn_V (n := 6) (As := [vI_ i1, vI_ i2, vI_ i3, vI_ i4, vI_ i5, vI_ i6]) kc_1 f3 he5 (lw_V q1284 q1285 q1286 q90 q1287) (by decide +kernel) rfl (Nat.le_of_ble_eq_true rfl) (Nat.le_of_ble_eq_true rfl) (Nat.le_of_ble_eq_true rfl) dX0_would_13) (fun z => (os_av (As := [vI_ i1, vI_ i2, vI_ i3, vI_ i4, vI_ i5, vI_ i6]) z).2.1) ?_
    refine a_i2l dX0_would_16 ?_
    obtain ⟨a9, e10, f11, h⟩ := gd_some h
    rw [e10]
    obtain ⟨c12, h⟩ := iz_some h
    obtain ⟨m13, e14, h⟩ := lt_some h
    refine a_last f11 (bn_ c12) dX0_would_17 ?_
    rw [← e14]
    refine a_goto (tgt := 25) dX0_would_18 (by decide) ?_
    refine a_iconst (v := 0) dX0_would_25 (by decide) ?_
    cases h
    exact a_ireturn rfl rfl rfl rfl rfl dX0_would_26
  · have he5 := e_X1_would (G := G) hl f3 e5
    refine c_X (b := b8) he5.1 (rn_V (n := 6) (As := [vI_ i1, vI_ i2, vI_ i3, vI_ i4, vI_ i5, vI_ i6]) kc_1 f3 he5 (lw_V q1284 q1285 q1286 q90 q1287) (by decide +kernel) rfl (Nat.le_of_ble_eq_true rfl) (Nat.le_of_ble_eq_true rfl) (Nat.le_of_ble_eq_true rfl) dX0_would_13) ?_
    by_cases c15 : b8.1 = 25
    · replace h := ifp_ c15 h
      refine a_catch [] ⟨0, 18, 21, 13⟩ [] rfl (fun z hz => nomatch hz) rfl (by decide) q575 (by rw [c15]; exact q587) ?_
      refine a_astore (ls' := [(8, vR_ (some b8)), (0, vR_ (some a1)), (1, vI_ i1), (2, vI_ i2), (3, vI_ i3), (4, vI_ i4), (5, vI_ i5), (6, vI_ i6), (7, vR_ i7)]) dX0_would_21 (Nat.le_of_ble_eq_true rfl) rfl ?_
      refine a_iconst (v := 1) dX0_would_23 (by decide) ?_
      cases h
      exact a_ireturn rfl rfl rfl rfl rfl dX0_would_24
    replace h := ifn_ c15 h
    cases h
def f_X1_tried (F : Nat)  (t : pm_A) (m : pm_M) : Option (Option pm_A × pm_M) :=
  gd_ 3 (gR_ m t 2) fun a1 =>
  bm_ (f_X3_now F a1 m) fun v6 m4 =>
  gd_ 4 (gR_ m t 4) fun a7 =>
  bm_ (f_X4_as F a7 v6 m4) fun v12 m10 =>
  some (v12, m10)
set_option maxHeartbeats 4000000 in
theorem e_X1_tried {G : xg_T} {l : Launch} (hl : l.stackTraces = false) {F : Nat}    {t : pm_A} {m0 m' : pm_M} {r : Option pm_A} (ht : t.1 = 1) (h : f_X1_tried F t m0 = some (r, m')) : Cal_ G l yX1_tried (ws_ yX1_tried cX1_tried 1 (some (.object "PassagePapers$State"))) 4 [vR_ (some t)] m0 (.inl (some (vR_ r))) m' := by
  refine cal_of (by decide +kernel) (Nat.le_of_ble_eq_true rfl) ?_
  unfold f_X1_tried at h
  show AW_ cX1_tried RX1 (some (.object "PassagePapers$State"), "tried", 4, 1, m0, m', (.inl (some (vR_ r))), G, l, [], true) m0 0 [(0, vR_ (some t))] []
  refine a_aload_n 0 dX1_tried_0 rfl rfl ?_
  refine a_getR kc_1 4 (by decide) rfl ht q392 dX1_tried_1 ?_
  refine a_aload_n 0 dX1_tried_4 rfl rfl ?_
  refine a_getR kc_1 2 (by decide) rfl ht q390 dX1_tried_5 ?_
  obtain ⟨a1, e2, f3, h⟩ := gd_some h
  rw [e2]
  obtain ⟨v6, m4, e5, h⟩ := bm_some h
  have he5 := e_X3_now (G := G) hl f3 e5
  refine c_R he5.1 (rn_V (n := 0) (As := []) kc_3 f3 he5 (lw_V q380 q381 q382 q92 q383) (by decide +kernel) rfl (Nat.le_of_ble_eq_true rfl) (Nat.le_of_ble_eq_true rfl) (Nat.le_of_ble_eq_true rfl) dX1_tried_8) (fun z => (os_av (As := []) z).2.1) ?_
  obtain ⟨a7, e8, f9, h⟩ := gd_some h
  rw [e8]
  obtain ⟨v12, m10, e11, h⟩ := bm_some h
  have he11 := e_X4_as (G := G) hl f9 e11
  refine c_R he11.1 (rn_V (n := 1) (As := [vR_ v6]) kc_4 f9 he11 (lw_V q1086 q551 q552 q93 q553) (by decide +kernel) rfl (Nat.le_of_ble_eq_true rfl) (Nat.le_of_ble_eq_true rfl) (Nat.le_of_ble_eq_true rfl) dX1_tried_11) (fun z => (os_av (As := [vR_ v6]) z).2.1) ?_
  cases h
  exact a_areturn rfl (Or.inl ⟨_, rfl⟩) rfl rfl rfl dX1_tried_14
def f_X1_freeBy_L28 (F : Nat)  (p21 : pm_A) (p23 : Int32) : Nat → Int32 → pm_M → Option ((Int32 ⊕ pm_A) × pm_M)
  | 0, _, _ => none
  | n24 + 1, x26, m25 =>
    if 600 < x26 then
      some (.inl ((-1)), m25)
    else
      gd_ 4 (gR_ m25 p21 4) fun a28 =>
      bm_ (f_X4_passes F a28 m25) fun v33 m31 =>
      gd_ 4 (gR_ m31 p21 4) fun a34 =>
      bm_ (f_X4_isBound F a34 p23 m31) fun v39 m37 =>
      if v39 = 0 then
        some (.inl x26, m37)
      else
        (f_X1_freeBy_L28 F p21 p23 n24) (x26 + 1) m37
set_option maxHeartbeats 4000000 in
theorem w_X1_freeBy_L28 {G : xg_T} {l : Launch} (hl : l.stackTraces = false) {F : Nat}    (p21 : pm_A) (p23 : Int32) {m0 m' : pm_M} {r : (Int32 ⊕ pm_A)} (hf22 : p21.1 = 1)  : ∀ (n : Nat) (x26 : Int32) (m25 : pm_M), f_X1_freeBy_L28 F p21 p23 n x26 m25 = some (r, m') → AW_ cX1_freeBy RX1 (some (.int), "freeBy", 170, 4, m0, m', (oI_ r), G, l, [], true) m25 28 [(0, vR_ (some p21)), (1, vI_ p23), (3, vI_ x26)] [] := by
  intro n
  induction n with
  | zero => intro x26 m25 h; cases h
  | succ n24 ih =>
    intro x26 m25 h
    rw [f_X1_freeBy_L28] at h
    refine a_iload_n 2 dX1_freeBy_28 rfl rfl ?_
    refine a_sipush (v := 600) dX1_freeBy_29 (by decide) ?_
    refine a_icmp_gt (tgt := 61) dX1_freeBy_32 (by decide) (fun c27 => ?_) (fun c27 => ?_)
    · replace h := ifp_ c27 h
      refine a_iconst (v := (-1)) dX1_freeBy_61 (by decide) ?_
      cases h
      exact a_ireturn rfl rfl rfl rfl rfl dX1_freeBy_62
    · replace h := ifn_ c27 h
      refine a_aload_n 0 dX1_freeBy_35 rfl rfl ?_
      refine a_getR kc_1 4 (by decide) rfl hf22 q392 dX1_freeBy_36 ?_
      obtain ⟨a28, e29, f30, h⟩ := gd_some h
      rw [e29]
      obtain ⟨v33, m31, e32, h⟩ := bm_some h
      have he32 := e_X4_passes (G := G) hl f30 e32
      refine c_V he32.1 (rn_V (n := 0) (As := []) kc_4 f30 he32 (lw_V q1304 q1202 q1203 q93 q1204) (by decide +kernel) rfl (Nat.le_of_ble_eq_true rfl) (Nat.le_of_ble_eq_true rfl) (Nat.le_of_ble_eq_true rfl) dX1_freeBy_39) (fun z => (os_av (As := []) z).2.1) ?_
      refine a_aload_n 0 dX1_freeBy_42 rfl rfl ?_
      refine a_getR kc_1 4 (by decide) rfl hf22 q392 dX1_freeBy_43 ?_
      refine a_iload_n 1 dX1_freeBy_46 rfl rfl ?_
      obtain ⟨a34, e35, f36, h⟩ := gd_some h
      rw [e35]
      obtain ⟨v39, m37, e38, h⟩ := bm_some h
      have he38 := e_X4_isBound (G := G) hl f36 e38
      refine c_I he38.1 (rn_V (n := 1) (As := [vI_ p23]) kc_4 f36 he38 (lw_V q462 q463 q464 q93 q465) (by decide +kernel) rfl (Nat.le_of_ble_eq_true rfl) (Nat.le_of_ble_eq_true rfl) (Nat.le_of_ble_eq_true rfl) dX1_freeBy_47) (fun z => (os_av (As := [vI_ p23]) z).2.1) ?_
      refine a_if_ne (tgt := 55) dX1_freeBy_50 (by decide) (fun c40 => ?_) (fun c40 => ?_)
      · replace h := ifn_ c40 h
        refine a_iinc (v := x26 + 1) (ls' := [(3, vI_ (x26 + 1)), (0, vR_ (some p21)), (1, vI_ p23)]) 2 dX1_freeBy_55 rfl rfl (Nat.le_of_ble_eq_true rfl) rfl ?_
        refine a_goto (tgt := 28) dX1_freeBy_58 (by decide) ?_
        refine aw_pick [1, 2, 0] rfl ?_
        exact ih _ _ h
      · replace h := ifp_ c40 h
        refine a_iload_n 2 dX1_freeBy_53 rfl rfl ?_
        cases h
        exact a_ireturn rfl rfl rfl rfl rfl dX1_freeBy_54
def f_X1_freeBy (F : Nat)  (t : pm_A) (i0 : Int32) (i1 : Int32) (m : pm_M) : Option ((Int32 ⊕ pm_A) × pm_M) :=
  bt_ (f_X1_signerOf F t i0 m) (fun v3 m1 =>
    bm_ (f_X1_tried F t m1) fun v8 m6 =>
    gd_ 4 v8 fun a9 =>
    lt_ (pI_ m6 a9 13 i1) fun m12 =>
    gd_ 4 (gR_ m12 t 4) fun a14 =>
    bm_ (f_X4_isBound F a14 i0 m12) fun v19 m17 =>
    if v19 = 0 then
      some (.inl ((-1)), m17)
    else
      f_X1_freeBy_L28 F t i0 F 1 m17
  ) fun b5 m4 =>
    some (.inr b5, m4)
set_option maxHeartbeats 4000000 in
theorem e_X1_freeBy {G : xg_T} {l : Launch} (hl : l.stackTraces = false) {F : Nat}    {t : pm_A} {i0 : Int32} {i1 : Int32} {m0 m' : pm_M} {r : (Int32 ⊕ pm_A)} (ht : t.1 = 1) (h : f_X1_freeBy F t i0 i1 m0 = some (r, m')) : Cal_ G l yX1_freeBy (ws_ yX1_freeBy cX1_freeBy 4 (some .int)) 170 [vR_ (some t), vI_ i0, vI_ i1] m0 (oI_ r) m' := by
  refine cal_of (by decide +kernel) (Nat.le_of_ble_eq_true rfl) ?_
  unfold f_X1_freeBy at h
  show AW_ cX1_freeBy RX1 (some (.int), "freeBy", 170, 4, m0, m', (oI_ r), G, l, [], true) m0 0 [(0, vR_ (some t)), (1, vI_ i0), (2, vI_ i1)] []
  refine a_aload_n 0 dX1_freeBy_0 rfl rfl ?_
  refine a_iload_n 1 dX1_freeBy_1 rfl rfl ?_
  rcases bt_some h with ⟨v3, m1, e2, h⟩ | ⟨b5, m4, e2, h⟩
  · have he2 := e_X1_signerOf (G := G) hl ht e2
    refine c_V he2.1 (rn_V (n := 1) (As := [vI_ i0]) kc_1 ht he2 (lw_V q1234 q1236 qs15 q90 q1237) (by decide +kernel) rfl (Nat.le_of_ble_eq_true rfl) (Nat.le_of_ble_eq_true rfl) (Nat.le_of_ble_eq_true rfl) dX1_freeBy_2) (fun z => (os_av (As := [vI_ i0]) z).2.1) ?_
    refine a_aload_n 0 dX1_freeBy_5 rfl rfl ?_
    obtain ⟨v8, m6, e7, h⟩ := bm_some h
    have he7 := e_X1_tried (G := G) hl ht e7
    refine c_R he7.1 (rn_V (n := 0) (As := []) kc_1 ht he7 (lw_V q1300 q1302 qs18 q90 q1303) (by decide +kernel) rfl (Nat.le_of_ble_eq_true rfl) (Nat.le_of_ble_eq_true rfl) (Nat.le_of_ble_eq_true rfl) dX1_freeBy_6) (fun z => (os_av (As := []) z).2.1) ?_
    refine a_iload_n 2 dX1_freeBy_9 rfl rfl ?_
    obtain ⟨a9, e10, f11, h⟩ := gd_some h
    rw [e10]
    obtain ⟨m12, e13, h⟩ := lt_some h
    refine a_putIN kc_4 13 (by decide) rfl f11 q308 rfl rfl rfl dX1_freeBy_10 ?_
    rw [← e13]
    refine a_aload_n 0 dX1_freeBy_13 rfl rfl ?_
    refine a_getR kc_1 4 (by decide) rfl ht q392 dX1_freeBy_14 ?_
    refine a_iload_n 1 dX1_freeBy_17 rfl rfl ?_
    obtain ⟨a14, e15, f16, h⟩ := gd_some h
    rw [e15]
    obtain ⟨v19, m17, e18, h⟩ := bm_some h
    have he18 := e_X4_isBound (G := G) hl f16 e18
    refine c_I he18.1 (rn_V (n := 1) (As := [vI_ i0]) kc_4 f16 he18 (lw_V q462 q463 q464 q93 q465) (by decide +kernel) rfl (Nat.le_of_ble_eq_true rfl) (Nat.le_of_ble_eq_true rfl) (Nat.le_of_ble_eq_true rfl) dX1_freeBy_18) (fun z => (os_av (As := [vI_ i0]) z).2.1) ?_
    refine a_if_ne (tgt := 26) dX1_freeBy_21 (by decide) (fun c20 => ?_) (fun c20 => ?_)
    · replace h := ifn_ c20 h
      refine a_iconst (v := 1) dX1_freeBy_26 (by decide) ?_
      refine a_istore_n (ls' := [(3, vI_ 1), (0, vR_ (some t)), (1, vI_ i0), (2, vI_ i1)]) dX1_freeBy_27 rfl (Nat.le_of_ble_eq_true rfl) rfl ?_
      refine aw_pick [1, 2, 0] rfl ?_
      exact w_X1_freeBy_L28 hl _ _ ht _ _ _ h
    · replace h := ifp_ c20 h
      refine a_iconst (v := (-1)) dX1_freeBy_24 (by decide) ?_
      cases h
      exact a_ireturn rfl rfl rfl rfl rfl dX1_freeBy_25
  · have he2 := e_X1_signerOf (G := G) hl ht e2
    refine c_X (b := b5) he2.1 (rn_V (n := 1) (As := [vI_ i0]) kc_1 ht he2 (lw_V q1234 q1236 qs15 q90 q1237) (by decide +kernel) rfl (Nat.le_of_ble_eq_true rfl) (Nat.le_of_ble_eq_true rfl) (Nat.le_of_ble_eq_true rfl) dX1_freeBy_2) ?_
    cases h
    exact a_out rfl rfl rfl rfl
def f_X1_freeIn (F : Nat)  (t : pm_A) (i0 : Int32) (m : pm_M) : Option ((Int32 ⊕ pm_A) × pm_M) :=
  bt_ (f_X1_freeBy F t i0 0 m) (fun v3 m1 =>
    some (.inl v3, m1)
  ) fun b5 m4 =>
    some (.inr b5, m4)
set_option maxHeartbeats 4000000 in
theorem e_X1_freeIn {G : xg_T} {l : Launch} (hl : l.stackTraces = false) {F : Nat}    {t : pm_A} {i0 : Int32} {m0 m' : pm_M} {r : (Int32 ⊕ pm_A)} (ht : t.1 = 1) (h : f_X1_freeIn F t i0 m0 = some (r, m')) : Cal_ G l yX1_freeIn (ws_ yX1_freeIn cX1_freeIn 2 (some .int)) 171 [vR_ (some t), vI_ i0] m0 (oI_ r) m' := by
  refine cal_of (by decide +kernel) (Nat.le_of_ble_eq_true rfl) ?_
  unfold f_X1_freeIn at h
  show AW_ cX1_freeIn RX1 (some (.int), "freeIn", 171, 2, m0, m', (oI_ r), G, l, [], true) m0 0 [(0, vR_ (some t)), (1, vI_ i0)] []
  refine a_aload_n 0 dX1_freeIn_0 rfl rfl ?_
  refine a_iload_n 1 dX1_freeIn_1 rfl rfl ?_
  refine a_iconst (v := 0) dX1_freeIn_2 (by decide) ?_
  rcases bt_some h with ⟨v3, m1, e2, h⟩ | ⟨b5, m4, e2, h⟩
  · have he2 := e_X1_freeBy (G := G) hl ht e2
    refine c_I (v := v3) he2.1 (rn_V (n := 2) (As := [vI_ i0, vI_ 0]) kc_1 ht he2 (lw_V q1296 q1298 qs17 q90 q1299) (by decide +kernel) rfl (Nat.le_of_ble_eq_true rfl) (Nat.le_of_ble_eq_true rfl) (Nat.le_of_ble_eq_true rfl) dX1_freeIn_3) (fun z => (os_av (As := [vI_ i0, vI_ 0]) z).2.1) ?_
    cases h
    exact a_ireturn rfl rfl rfl rfl rfl dX1_freeIn_6
  · have he2 := e_X1_freeBy (G := G) hl ht e2
    refine c_X (b := b5) he2.1 (rn_V (n := 2) (As := [vI_ i0, vI_ 0]) kc_1 ht he2 (lw_V q1296 q1298 qs17 q90 q1299) (by decide +kernel) rfl (Nat.le_of_ble_eq_true rfl) (Nat.le_of_ble_eq_true rfl) (Nat.le_of_ble_eq_true rfl) dX1_freeIn_3) ?_
    cases h
    exact a_out rfl rfl rfl rfl
def f_X0_freeIn (F : Nat)  (i0 : Option pm_A) (i1 : Int32) (i2 : Option pm_A) (m : pm_M) : Option (Int32 × pm_M) :=
  gd_ 1 i0 fun a1 =>
  bt_ (f_X1_freeIn F a1 i1 m) (fun v6 m4 =>
    gd_ 103 i2 fun a9 =>
    iz_ (!(ib_ 0 a9.2.1)) <|
    lt_ (pL_ m4 a9 ((0 : Int32).toNatClampNeg) v6.toInt64) fun m13 =>
    some (0, m13)
  ) fun b8 m7 =>
    if b8.1 = 26 then
      some (1, m7)
    else
    none
set_option maxHeartbeats 4000000 in
theorem e_X0_freeIn {G : xg_T} {l : Launch} (hl : l.stackTraces = false) {F : Nat}    {i0 : Option pm_A} {i1 : Int32} {i2 : Option pm_A} {m0 m' : pm_M} {r : Int32} (h : f_X0_freeIn F i0 i1 i2 m0 = some (r, m')) : Cal_ G l yX0_freeIn (wsW_ yX0_freeIn cX0_freeIn 4 (some .int) [(0, 9, 12, 31)]) 172 [vR_ i0, vI_ i1, vR_ i2] m0 (.inl (some (vI_ r))) m' := by
  refine cal_ofH (by decide +kernel) (Nat.le_of_ble_eq_true rfl) ?_
  unfold f_X0_freeIn at h
  show AW_ cX0_freeIn RX0 (some (.int), "freeIn", 172, 4, m0, m', (.inl (some (vI_ r))), G, l, [(0, 9, 12, 31)], true) m0 0 [(0, vR_ i0), (1, vI_ i1), (2, vR_ i2)] []
  refine a_aload_n 2 dX0_freeIn_0 rfl rfl ?_
  refine a_iconst (v := 0) dX0_freeIn_1 (by decide) ?_
  refine a_aload_n 0 dX0_freeIn_2 rfl rfl ?_
  refine a_iload_n 1 dX0_freeIn_3 rfl rfl ?_
  obtain ⟨a1, e2, f3, h⟩ := gd_some h
  rw [e2]
  rcases bt_some h with ⟨v6, m4, e5, h⟩ | ⟨b8, m7, e5, h⟩
  · have he5 := e_X1_freeIn (G := G) hl f3 e5
    refine c_I (v := v6) he5.1 (rn_V (n := 1) (As := [vI_ i1]) kc_1 f3 he5 (lw_V q1292 q1293 q1294 q90 q1295) (by decide +kernel) rfl (Nat.le_of_ble_eq_true rfl) (Nat.le_of_ble_eq_true rfl) (Nat.le_of_ble_eq_true rfl) dX0_freeIn_4) (fun z => (os_av (As := [vI_ i1]) z).2.1) ?_
    refine a_i2l dX0_freeIn_7 ?_
    obtain ⟨a9, e10, f11, h⟩ := gd_some h
    rw [e10]
    obtain ⟨c12, h⟩ := iz_some h
    obtain ⟨m13, e14, h⟩ := lt_some h
    refine a_last f11 (bn_ c12) dX0_freeIn_8 ?_
    rw [← e14]
    refine a_goto (tgt := 15) dX0_freeIn_9 (by decide) ?_
    refine a_iconst (v := 0) dX0_freeIn_15 (by decide) ?_
    cases h
    exact a_ireturn rfl rfl rfl rfl rfl dX0_freeIn_16
  · have he5 := e_X1_freeIn (G := G) hl f3 e5
    refine c_X (b := b8) he5.1 (rn_V (n := 1) (As := [vI_ i1]) kc_1 f3 he5 (lw_V q1292 q1293 q1294 q90 q1295) (by decide +kernel) rfl (Nat.le_of_ble_eq_true rfl) (Nat.le_of_ble_eq_true rfl) (Nat.le_of_ble_eq_true rfl) dX0_freeIn_4) ?_
    by_cases c15 : b8.1 = 26
    · replace h := ifp_ c15 h
      refine a_catch [] ⟨0, 9, 12, 31⟩ [] rfl (fun z hz => nomatch hz) rfl (by decide) q1229 (by rw [c15]; exact q1240) ?_
      refine a_astore_n (ls' := [(3, vR_ (some b8)), (0, vR_ (some a1)), (1, vI_ i1), (2, vR_ i2)]) dX0_freeIn_12 rfl (Nat.le_of_ble_eq_true rfl) rfl ?_
      refine a_iconst (v := 1) dX0_freeIn_13 (by decide) ?_
      cases h
      exact a_ireturn rfl rfl rfl rfl rfl dX0_freeIn_14
    replace h := ifn_ c15 h
    cases h
def f_X1_otherwise (F : Nat)  (t : pm_A) (i0 : Int32) (m : pm_M) : Option ((Int32 ⊕ pm_A) × pm_M) :=
  bt_ (f_X1_freeBy F t i0 1 m) (fun v3 m1 =>
    some (.inl v3, m1)
  ) fun b5 m4 =>
    some (.inr b5, m4)
set_option maxHeartbeats 4000000 in
theorem e_X1_otherwise {G : xg_T} {l : Launch} (hl : l.stackTraces = false) {F : Nat}    {t : pm_A} {i0 : Int32} {m0 m' : pm_M} {r : (Int32 ⊕ pm_A)} (ht : t.1 = 1) (h : f_X1_otherwise F t i0 m0 = some (r, m')) : Cal_ G l yX1_otherwise (ws_ yX1_otherwise cX1_otherwise 2 (some .int)) 171 [vR_ (some t), vI_ i0] m0 (oI_ r) m' := by
  refine cal_of (by decide +kernel) (Nat.le_of_ble_eq_true rfl) ?_
  unfold f_X1_otherwise at h
  show AW_ cX1_otherwise RX1 (some (.int), "otherwise", 171, 2, m0, m', (oI_ r), G, l, [], true) m0 0 [(0, vR_ (some t)), (1, vI_ i0)] []
  refine a_aload_n 0 dX1_otherwise_0 rfl rfl ?_
  refine a_iload_n 1 dX1_otherwise_1 rfl rfl ?_
  refine a_iconst (v := 1) dX1_otherwise_2 (by decide) ?_
  rcases bt_some h with ⟨v3, m1, e2, h⟩ | ⟨b5, m4, e2, h⟩
  · have he2 := e_X1_freeBy (G := G) hl ht e2
    refine c_I (v := v3) he2.1 (rn_V (n := 2) (As := [vI_ i0, vI_ 1]) kc_1 ht he2 (lw_V q1296 q1298 qs17 q90 q1299) (by decide +kernel) rfl (Nat.le_of_ble_eq_true rfl) (Nat.le_of_ble_eq_true rfl) (Nat.le_of_ble_eq_true rfl) dX1_otherwise_3) (fun z => (os_av (As := [vI_ i0, vI_ 1]) z).2.1) ?_
    cases h
    exact a_ireturn rfl rfl rfl rfl rfl dX1_otherwise_6
  · have he2 := e_X1_freeBy (G := G) hl ht e2
    refine c_X (b := b5) he2.1 (rn_V (n := 2) (As := [vI_ i0, vI_ 1]) kc_1 ht he2 (lw_V q1296 q1298 qs17 q90 q1299) (by decide +kernel) rfl (Nat.le_of_ble_eq_true rfl) (Nat.le_of_ble_eq_true rfl) (Nat.le_of_ble_eq_true rfl) dX1_otherwise_3) ?_
    cases h
    exact a_out rfl rfl rfl rfl
def f_X0_otherwise (F : Nat)  (i0 : Option pm_A) (i1 : Int32) (i2 : Option pm_A) (m : pm_M) : Option (Int32 × pm_M) :=
  gd_ 1 i0 fun a1 =>
  bt_ (f_X1_otherwise F a1 i1 m) (fun v6 m4 =>
    gd_ 103 i2 fun a9 =>
    iz_ (!(ib_ 0 a9.2.1)) <|
    lt_ (pL_ m4 a9 ((0 : Int32).toNatClampNeg) v6.toInt64) fun m13 =>
    some (0, m13)
  ) fun b8 m7 =>
    if b8.1 = 26 then
      some (1, m7)
    else
    none
set_option maxHeartbeats 4000000 in
theorem e_X0_otherwise {G : xg_T} {l : Launch} (hl : l.stackTraces = false) {F : Nat}    {i0 : Option pm_A} {i1 : Int32} {i2 : Option pm_A} {m0 m' : pm_M} {r : Int32} (h : f_X0_otherwise F i0 i1 i2 m0 = some (r, m')) : Cal_ G l yX0_otherwise (wsW_ yX0_otherwise cX0_otherwise 4 (some .int) [(0, 9, 12, 31)]) 172 [vR_ i0, vI_ i1, vR_ i2] m0 (.inl (some (vI_ r))) m' := by
  refine cal_ofH (by decide +kernel) (Nat.le_of_ble_eq_true rfl) ?_
  unfold f_X0_otherwise at h
  show AW_ cX0_otherwise RX0 (some (.int), "otherwise", 172, 4, m0, m', (.inl (some (vI_ r))), G, l, [(0, 9, 12, 31)], true) m0 0 [(0, vR_ i0), (1, vI_ i1), (2, vR_ i2)] []
  refine a_aload_n 2 dX0_otherwise_0 rfl rfl ?_
  refine a_iconst (v := 0) dX0_otherwise_1 (by decide) ?_
  refine a_aload_n 0 dX0_otherwise_2 rfl rfl ?_
  refine a_iload_n 1 dX0_otherwise_3 rfl rfl ?_
  obtain ⟨a1, e2, f3, h⟩ := gd_some h
  rw [e2]
  rcases bt_some h with ⟨v6, m4, e5, h⟩ | ⟨b8, m7, e5, h⟩
  · have he5 := e_X1_otherwise (G := G) hl f3 e5
    refine c_I (v := v6) he5.1 (rn_V (n := 1) (As := [vI_ i1]) kc_1 f3 he5 (lw_V q1308 q1309 q1310 q90 q1311) (by decide +kernel) rfl (Nat.le_of_ble_eq_true rfl) (Nat.le_of_ble_eq_true rfl) (Nat.le_of_ble_eq_true rfl) dX0_otherwise_4) (fun z => (os_av (As := [vI_ i1]) z).2.1) ?_
    refine a_i2l dX0_otherwise_7 ?_
    obtain ⟨a9, e10, f11, h⟩ := gd_some h
    rw [e10]
    obtain ⟨c12, h⟩ := iz_some h
    obtain ⟨m13, e14, h⟩ := lt_some h
    refine a_last f11 (bn_ c12) dX0_otherwise_8 ?_
    rw [← e14]
    refine a_goto (tgt := 15) dX0_otherwise_9 (by decide) ?_
    refine a_iconst (v := 0) dX0_otherwise_15 (by decide) ?_
    cases h
    exact a_ireturn rfl rfl rfl rfl rfl dX0_otherwise_16
  · have he5 := e_X1_otherwise (G := G) hl f3 e5
    refine c_X (b := b8) he5.1 (rn_V (n := 1) (As := [vI_ i1]) kc_1 f3 he5 (lw_V q1308 q1309 q1310 q90 q1311) (by decide +kernel) rfl (Nat.le_of_ble_eq_true rfl) (Nat.le_of_ble_eq_true rfl) (Nat.le_of_ble_eq_true rfl) dX0_otherwise_4) ?_
    by_cases c15 : b8.1 = 26
    · replace h := ifp_ c15 h
      refine a_catch [] ⟨0, 9, 12, 31⟩ [] rfl (fun z hz => nomatch hz) rfl (by decide) q1229 (by rw [c15]; exact q1240) ?_
      refine a_astore_n (ls' := [(3, vR_ (some b8)), (0, vR_ (some a1)), (1, vI_ i1), (2, vR_ i2)]) dX0_otherwise_12 rfl (Nat.le_of_ble_eq_true rfl) rfl ?_
      refine a_iconst (v := 1) dX0_otherwise_13 (by decide) ?_
      cases h
      exact a_ireturn rfl rfl rfl rfl rfl dX0_otherwise_14
    replace h := ifn_ c15 h
    cases h
def f_X4_goesOn_L2 (F : Nat)  (p1 : pm_A) (p3 : Int32) : Nat → Int32 → pm_M → Option (Option pm_A × pm_M)
  | 0, _, _ => none
  | n4 + 1, x6, m5 =>
    if p3 ≤ x6 then
      some ((some p1), m5)
    else
      bm_ (f_X4_passes F p1 m5) fun v10 m8 =>
      (f_X4_goesOn_L2 F p1 p3 n4) (x6 + 1) m8
set_option maxHeartbeats 4000000 in
theorem w_X4_goesOn_L2 {G : xg_T} {l : Launch} (hl : l.stackTraces = false) {F : Nat}    (p1 : pm_A) (p3 : Int32) {m0 m' : pm_M} {r : Option pm_A} (hf2 : p1.1 = 4)  : ∀ (n : Nat) (x6 : Int32) (m5 : pm_M), f_X4_goesOn_L2 F p1 p3 n x6 m5 = some (r, m') → AW_ cX4_goesOn RX4 (some (.object "PassagePapers$State"), "goesOn", 170, 3, m0, m', (.inl (some (vR_ r))), G, l, [], true) m5 2 [(0, vR_ (some p1)), (1, vI_ p3), (2, vI_ x6)] [] := by
  intro n
  induction n with
  | zero => intro x6 m5 h; cases h
  | succ n4 ih =>
    intro x6 m5 h
    rw [f_X4_goesOn_L2] at h
    refine a_iload_n 2 dX4_goesOn_2 rfl rfl ?_
    refine a_iload_n 1 dX4_goesOn_3 rfl rfl ?_
    refine a_icmp_ge (tgt := 17) dX4_goesOn_4 (by decide) (fun c7 => ?_) (fun c7 => ?_)
    · replace h := ifp_ c7 h
      refine a_aload_n 0 dX4_goesOn_17 rfl rfl ?_
      cases h
      exact a_areturn rfl (Or.inl ⟨_, rfl⟩) rfl rfl rfl dX4_goesOn_18
    · replace h := ifn_ c7 h
      refine a_aload_n 0 dX4_goesOn_7 rfl rfl ?_
      obtain ⟨v10, m8, e9, h⟩ := bm_some h
      have he9 := e_X4_passes (G := G) hl hf2 e9
      refine c_V he9.1 (rn_V (n := 0) (As := []) kc_4 hf2 he9 (lw_V q1201 q1202 q1203 q93 q1204) (by decide +kernel) rfl (Nat.le_of_ble_eq_true rfl) (Nat.le_of_ble_eq_true rfl) (Nat.le_of_ble_eq_true rfl) dX4_goesOn_8) (fun z => (os_av (As := []) z).2.1) ?_
      refine a_iinc (v := x6 + 1) (ls' := [(2, vI_ (x6 + 1)), (0, vR_ (some p1)), (1, vI_ p3)]) 2 dX4_goesOn_11 rfl rfl (Nat.le_of_ble_eq_true rfl) rfl ?_
      refine a_goto (tgt := 2) dX4_goesOn_14 (by decide) ?_
      refine aw_pick [1, 2, 0] rfl ?_
      exact ih _ _ h
def f_X4_goesOn (F : Nat)  (t : pm_A) (i0 : Int32) (m : pm_M) : Option (Option pm_A × pm_M) :=
  f_X4_goesOn_L2 F t i0 F 0 m
set_option maxHeartbeats 4000000 in
theorem e_X4_goesOn {G : xg_T} {l : Launch} (hl : l.stackTraces = false) {F : Nat}    {t : pm_A} {i0 : Int32} {m0 m' : pm_M} {r : Option pm_A} (ht : t.1 = 4) (h : f_X4_goesOn F t i0 m0 = some (r, m')) : Cal_ G l yX4_goesOn (ws_ yX4_goesOn cX4_goesOn 3 (some (.object "PassagePapers$State"))) 170 [vR_ (some t), vI_ i0] m0 (.inl (some (vR_ r))) m' := by
  refine cal_of (by decide +kernel) (Nat.le_of_ble_eq_true rfl) ?_
  unfold f_X4_goesOn at h
  show AW_ cX4_goesOn RX4 (some (.object "PassagePapers$State"), "goesOn", 170, 3, m0, m', (.inl (some (vR_ r))), G, l, [], true) m0 0 [(0, vR_ (some t)), (1, vI_ i0)] []
  refine a_iconst (v := 0) dX4_goesOn_0 (by decide) ?_
  refine a_istore_n (ls' := [(2, vI_ 0), (0, vR_ (some t)), (1, vI_ i0)]) dX4_goesOn_1 rfl (Nat.le_of_ble_eq_true rfl) rfl ?_
  refine aw_pick [1, 2, 0] rfl ?_
  exact w_X4_goesOn_L2 hl _ _ ht _ _ _ h
def f_X4_sum_L4 (F : Nat)  (p1 : Option pm_A) : Nat → Int32 → Int32 → pm_M → Option (Int32 × pm_M)
  | 0, _, _, _ => none
  | n2 + 1, x4, x5, m3 =>
    if 8 ≤ x5 then
      some (x4, m3)
    else
      gd_ 100 p1 fun a7 =>
      iz_ (!(ib_ x5 a7.2.1)) <|
      (f_X4_sum_L4 F p1 n2) (x4 + (gI_ m3 a7 x5.toNatClampNeg)) (x5 + 1) m3
set_option maxHeartbeats 4000000 in
theorem w_X4_sum_L4 {G : xg_T} {l : Launch} (hl : l.stackTraces = false) {F : Nat}    (p1 : Option pm_A) {m0 m' : pm_M} {r : Int32}   : ∀ (n : Nat) (x4 : Int32) (x5 : Int32) (m3 : pm_M), f_X4_sum_L4 F p1 n x4 x5 m3 = some (r, m') → AW_ cX4_sum RX4 (some (.int), "sum", 2, 3, m0, m', (.inl (some (vI_ r))), G, l, [], true) m3 4 [(0, vR_ p1), (1, vI_ x4), (2, vI_ x5)] [] := by
  intro n
  induction n with
  | zero => intro x4 x5 m3 h; cases h
  | succ n2 ih =>
    intro x4 x5 m3 h
    rw [f_X4_sum_L4] at h
    refine a_iload_n 2 dX4_sum_4 rfl rfl ?_
    refine a_bipush (v := 8) dX4_sum_5 (by decide) ?_
    refine a_icmp_ge (tgt := 22) dX4_sum_7 (by decide) (fun c6 => ?_) (fun c6 => ?_)
    · replace h := ifp_ c6 h
      refine a_iload_n 1 dX4_sum_22 rfl rfl ?_
      cases h
      exact a_ireturn rfl rfl rfl rfl rfl dX4_sum_23
    · replace h := ifn_ c6 h
      refine a_iload_n 1 dX4_sum_10 rfl rfl ?_
      refine a_aload_n 0 dX4_sum_11 rfl rfl ?_
      refine a_iload_n 2 dX4_sum_12 rfl rfl ?_
      obtain ⟨a7, e8, f9, h⟩ := gd_some h
      rw [e8]
      obtain ⟨c10, h⟩ := iz_some h
      refine a_iald f9 (bn_ c10) dX4_sum_13 ?_
      refine a_iadd dX4_sum_14 ?_
      refine a_istore_n (ls' := [(1, vI_ (x4 + (gI_ m3 a7 x5.toNatClampNeg))), (0, vR_ (some a7)), (2, vI_ x5)]) dX4_sum_15 rfl (Nat.le_of_ble_eq_true rfl) rfl ?_
      refine a_iinc (v := x5 + 1) (ls' := [(2, vI_ (x5 + 1)), (1, vI_ (x4 + (gI_ m3 a7 x5.toNatClampNeg))), (0, vR_ (some a7))]) 2 dX4_sum_16 rfl rfl (Nat.le_of_ble_eq_true rfl) rfl ?_
      refine a_goto (tgt := 4) dX4_sum_19 (by decide) ?_
      refine aw_pick [2, 1, 0] rfl ?_
      have q11 := ih _ _ _ h
      rw [e8] at q11
      exact q11
def f_X4_sum (F : Nat)  (i0 : Option pm_A) (m : pm_M) : Option (Int32 × pm_M) :=
  f_X4_sum_L4 F i0 F 0 0 m
set_option maxHeartbeats 4000000 in
theorem e_X4_sum {G : xg_T} {l : Launch} (hl : l.stackTraces = false) {F : Nat}    {i0 : Option pm_A} {m0 m' : pm_M} {r : Int32} (h : f_X4_sum F i0 m0 = some (r, m')) : Cal_ G l yX4_sum (ws_ yX4_sum cX4_sum 3 (some .int)) 2 [vR_ i0] m0 (.inl (some (vI_ r))) m' := by
  refine cal_of (by decide +kernel) (Nat.le_of_ble_eq_true rfl) ?_
  unfold f_X4_sum at h
  show AW_ cX4_sum RX4 (some (.int), "sum", 2, 3, m0, m', (.inl (some (vI_ r))), G, l, [], true) m0 0 [(0, vR_ i0)] []
  refine a_iconst (v := 0) dX4_sum_0 (by decide) ?_
  refine a_istore_n (ls' := [(1, vI_ 0), (0, vR_ i0)]) dX4_sum_1 rfl (Nat.le_of_ble_eq_true rfl) rfl ?_
  refine a_iconst (v := 0) dX4_sum_2 (by decide) ?_
  refine a_istore_n (ls' := [(2, vI_ 0), (1, vI_ 0), (0, vR_ i0)]) dX4_sum_3 rfl (Nat.le_of_ble_eq_true rfl) rfl ?_
  refine aw_pick [2, 1, 0] rfl ?_
  exact w_X4_sum_L4 hl _ _ _ _ _ h
def f_X1_ahead (F : Nat)  (t : pm_A) (i0 : Int32) (i1 : Int32) (m : pm_M) : Option ((Int32 ⊕ pm_A) × pm_M) :=
  bt_ (f_X1_within F t i0 0 600 m) (fun v3 m1 =>
    bt_ (f_X1_within F t i1 0 2 m1) (fun v8 m6 =>
      bm_ (f_X1_tried F t m6) fun v13 m11 =>
      gd_ 4 v13 fun a14 =>
      bm_ (f_X4_goesOn F a14 i0 m11) fun v19 m17 =>
      gd_ 3 (gR_ m17 t 2) fun a20 =>
      bm_ (f_X3_now F a20 m17) fun v25 m23 =>
      if i1 = 0 then
        gd_ 4 v19 fun a52 =>
        bm_ (f_X4_many F a52 3 m23) fun v57 m55 =>
        some (.inl v57, m55)
      else
        if i1 = 1 then
          gd_ 4 v19 fun a40 =>
          bm_ (f_X4_sum F (gR_ m23 a40 2) m23) fun v45 m43 =>
          gd_ 4 v25 fun a46 =>
          bm_ (f_X4_sum F (gR_ m43 a46 2) m43) fun v51 m49 =>
          some (.inl (v45 - v51), m49)
        else
          gd_ 4 v19 fun a28 =>
          bm_ (f_X4_sum F (gR_ m23 a28 4) m23) fun v33 m31 =>
          gd_ 4 v25 fun a34 =>
          bm_ (f_X4_sum F (gR_ m31 a34 4) m31) fun v39 m37 =>
          some (.inl (v33 - v39), m37)
    ) fun b10 m9 =>
      some (.inr b10, m9)
  ) fun b5 m4 =>
    some (.inr b5, m4)
set_option maxHeartbeats 4000000 in
theorem e_X1_ahead {G : xg_T} {l : Launch} (hl : l.stackTraces = false) {F : Nat}    {t : pm_A} {i0 : Int32} {i1 : Int32} {m0 m' : pm_M} {r : (Int32 ⊕ pm_A)} (ht : t.1 = 1) (h : f_X1_ahead F t i0 i1 m0 = some (r, m')) : Cal_ G l yX1_ahead (ws_ yX1_ahead cX1_ahead 5 (some .int)) 171 [vR_ (some t), vI_ i0, vI_ i1] m0 (oI_ r) m' := by
  refine cal_of (by decide +kernel) (Nat.le_of_ble_eq_true rfl) ?_
  unfold f_X1_ahead at h
  show AW_ cX1_ahead RX1 (some (.int), "ahead", 171, 5, m0, m', (oI_ r), G, l, [], true) m0 0 [(0, vR_ (some t)), (1, vI_ i0), (2, vI_ i1)] []
  refine a_aload_n 0 dX1_ahead_0 rfl rfl ?_
  refine a_iload_n 1 dX1_ahead_1 rfl rfl ?_
  refine a_iconst (v := 0) dX1_ahead_2 (by decide) ?_
  refine a_sipush (v := 600) dX1_ahead_3 (by decide) ?_
  rcases bt_some h with ⟨v3, m1, e2, h⟩ | ⟨b5, m4, e2, h⟩
  · have he2 := e_X1_within (G := G) hl ht e2
    refine c_V he2.1 (rn_V (n := 3) (As := [vI_ i0, vI_ 0, vI_ 600]) kc_1 ht he2 (lw_V q581 q583 qs0 q90 q584) (by decide +kernel) rfl (Nat.le_of_ble_eq_true rfl) (Nat.le_of_ble_eq_true rfl) (Nat.le_of_ble_eq_true rfl) dX1_ahead_6) (fun z => (os_av (As := [vI_ i0, vI_ 0, vI_ 600]) z).2.1) ?_
    refine a_aload_n 0 dX1_ahead_9 rfl rfl ?_
    refine a_iload_n 2 dX1_ahead_10 rfl rfl ?_
    refine a_iconst (v := 0) dX1_ahead_11 (by decide) ?_
    refine a_iconst (v := 2) dX1_ahead_12 (by decide) ?_
    rcases bt_some h with ⟨v8, m6, e7, h⟩ | ⟨b10, m9, e7, h⟩
    · have he7 := e_X1_within (G := G) hl ht e7
      refine c_V he7.1 (rn_V (n := 3) (As := [vI_ i1, vI_ 0, vI_ 2]) kc_1 ht he7 (lw_V q581 q583 qs0 q90 q584) (by decide +kernel) rfl (Nat.le_of_ble_eq_true rfl) (Nat.le_of_ble_eq_true rfl) (Nat.le_of_ble_eq_true rfl) dX1_ahead_13) (fun z => (os_av (As := [vI_ i1, vI_ 0, vI_ 2]) z).2.1) ?_
      refine a_aload_n 0 dX1_ahead_16 rfl rfl ?_
      obtain ⟨v13, m11, e12, h⟩ := bm_some h
      have he12 := e_X1_tried (G := G) hl ht e12
      refine c_R he12.1 (rn_V (n := 0) (As := []) kc_1 ht he12 (lw_V q1300 q1302 qs18 q90 q1303) (by decide +kernel) rfl (Nat.le_of_ble_eq_true rfl) (Nat.le_of_ble_eq_true rfl) (Nat.le_of_ble_eq_true rfl) dX1_ahead_17) (fun z => (os_av (As := []) z).2.1) ?_
      refine a_iload_n 1 dX1_ahead_20 rfl rfl ?_
      obtain ⟨a14, e15, f16, h⟩ := gd_some h
      rw [e15]
      obtain ⟨v19, m17, e18, h⟩ := bm_some h
      have he18 := e_X4_goesOn (G := G) hl f16 e18
      refine c_R he18.1 (rn_V (n := 1) (As := [vI_ i0]) kc_4 f16 he18 (lw_V q1319 q1320 q1321 q93 q1322) (by decide +kernel) rfl (Nat.le_of_ble_eq_true rfl) (Nat.le_of_ble_eq_true rfl) (Nat.le_of_ble_eq_true rfl) dX1_ahead_21) (fun z => (os_av (As := [vI_ i0]) z).2.1) ?_
      refine a_astore_n (ls' := [(3, vR_ v19), (0, vR_ (some t)), (1, vI_ i0), (2, vI_ i1)]) dX1_ahead_24 rfl (Nat.le_of_ble_eq_true rfl) rfl ?_
      refine a_aload_n 1 dX1_ahead_25 rfl rfl ?_
      refine a_getR kc_1 2 (by decide) rfl ht q390 dX1_ahead_26 ?_
      obtain ⟨a20, e21, f22, h⟩ := gd_some h
      rw [e21]
      obtain ⟨v25, m23, e24, h⟩ := bm_some h
      have he24 := e_X3_now (G := G) hl f22 e24
      refine c_R he24.1 (rn_V (n := 0) (As := []) kc_3 f22 he24 (lw_V q380 q381 q382 q92 q383) (by decide +kernel) rfl (Nat.le_of_ble_eq_true rfl) (Nat.le_of_ble_eq_true rfl) (Nat.le_of_ble_eq_true rfl) dX1_ahead_29) (fun z => (os_av (As := []) z).2.1) ?_
      refine a_astore (ls' := [(4, vR_ v25), (3, vR_ v19), (0, vR_ (some t)), (1, vI_ i0), (2, vI_ i1)]) dX1_ahead_32 (Nat.le_of_ble_eq_true rfl) rfl ?_
      refine a_iload_n 4 dX1_ahead_34 rfl rfl ?_
      refine a_if_ne (tgt := 46) dX1_ahead_35 (by decide) (fun c26 => ?_) (fun c26 => ?_)
      · replace h := ifn_ c26 h
        refine a_iload_n 4 dX1_ahead_46 rfl rfl ?_
        refine a_iconst (v := 1) dX1_ahead_47 (by decide) ?_
        refine a_icmp_ne (tgt := 70) dX1_ahead_48 (by decide) (fun c27 => ?_) (fun c27 => ?_)
        · replace h := ifn_ c27 h
          refine a_aload_n 1 dX1_ahead_70 rfl rfl ?_
          obtain ⟨a28, e29, f30, h⟩ := gd_some h
          rw [e29]
          refine a_getRN kc_4 4 (by decide) rfl f30 q293 dX1_ahead_71 ?_
          obtain ⟨v33, m31, e32, h⟩ := bm_some h
          have he32 := e_X4_sum (G := G) hl e32
          refine c_I he32.1 (rn_S (n := 1) (As := [vR_ (gR_ m23 a28 4)]) he32 (lw_S q1323 q1324 q93 q1325) (by decide +kernel) rfl (Nat.le_of_ble_eq_true rfl) (Nat.le_of_ble_eq_true rfl) (Nat.le_of_ble_eq_true rfl) dX1_ahead_74) (fun z => (os_aS (As := [vR_ (gR_ m23 a28 4)]) z).2) ?_
          refine a_aload 0 dX1_ahead_77 rfl ?_
          obtain ⟨a34, e35, f36, h⟩ := gd_some h
          rw [e35]
          refine a_getRN kc_4 4 (by decide) rfl f36 q293 dX1_ahead_79 ?_
          obtain ⟨v39, m37, e38, h⟩ := bm_some h
          have he38 := e_X4_sum (G := G) hl e38
          refine c_I he38.1 (rn_S (n := 1) (As := [vR_ (gR_ m31 a34 4)]) he38 (lw_S q1323 q1324 q93 q1325) (by decide +kernel) rfl (Nat.le_of_ble_eq_true rfl) (Nat.le_of_ble_eq_true rfl) (Nat.le_of_ble_eq_true rfl) dX1_ahead_82) (fun z => (os_aS (As := [vR_ (gR_ m31 a34 4)]) z).2) ?_
          refine a_isub dX1_ahead_85 ?_
          cases h
          exact a_ireturn rfl rfl rfl rfl rfl dX1_ahead_86
        · replace h := ifp_ c27 h
          refine a_aload_n 1 dX1_ahead_51 rfl rfl ?_
          obtain ⟨a40, e41, f42, h⟩ := gd_some h
          rw [e41]
          refine a_getRN kc_4 2 (by decide) rfl f42 q289 dX1_ahead_52 ?_
          obtain ⟨v45, m43, e44, h⟩ := bm_some h
          have he44 := e_X4_sum (G := G) hl e44
          refine c_I he44.1 (rn_S (n := 1) (As := [vR_ (gR_ m23 a40 2)]) he44 (lw_S q1323 q1324 q93 q1325) (by decide +kernel) rfl (Nat.le_of_ble_eq_true rfl) (Nat.le_of_ble_eq_true rfl) (Nat.le_of_ble_eq_true rfl) dX1_ahead_55) (fun z => (os_aS (As := [vR_ (gR_ m23 a40 2)]) z).2) ?_
          refine a_aload 0 dX1_ahead_58 rfl ?_
          obtain ⟨a46, e47, f48, h⟩ := gd_some h
          rw [e47]
          refine a_getRN kc_4 2 (by decide) rfl f48 q289 dX1_ahead_60 ?_
          obtain ⟨v51, m49, e50, h⟩ := bm_some h
          have he50 := e_X4_sum (G := G) hl e50
          refine c_I he50.1 (rn_S (n := 1) (As := [vR_ (gR_ m43 a46 2)]) he50 (lw_S q1323 q1324 q93 q1325) (by decide +kernel) rfl (Nat.le_of_ble_eq_true rfl) (Nat.le_of_ble_eq_true rfl) (Nat.le_of_ble_eq_true rfl) dX1_ahead_63) (fun z => (os_aS (As := [vR_ (gR_ m43 a46 2)]) z).2) ?_
          refine a_isub dX1_ahead_66 ?_
          refine a_goto (tgt := 86) dX1_ahead_67 (by decide) ?_
          cases h
          exact a_ireturn rfl rfl rfl rfl rfl dX1_ahead_86
      · replace h := ifp_ c26 h
        refine a_aload_n 1 dX1_ahead_38 rfl rfl ?_
        refine a_iconst (v := 3) dX1_ahead_39 (by decide) ?_
        obtain ⟨a52, e53, f54, h⟩ := gd_some h
        rw [e53]
        obtain ⟨v57, m55, e56, h⟩ := bm_some h
        have he56 := e_X4_many (G := G) hl f54 e56
        refine c_I he56.1 (rn_V (n := 1) (As := [vI_ 3]) kc_4 f54 he56 (lw_V q538 q539 q540 q93 q541) (by decide +kernel) rfl (Nat.le_of_ble_eq_true rfl) (Nat.le_of_ble_eq_true rfl) (Nat.le_of_ble_eq_true rfl) dX1_ahead_40) (fun z => (os_av (As := [vI_ 3]) z).2.1) ?_
        refine a_goto (tgt := 86) dX1_ahead_43 (by decide) ?_
        cases h
        exact a_ireturn rfl rfl rfl rfl rfl dX1_ahead_86
    · have he7 := e_X1_within (G := G) hl ht e7
      refine c_X (b := b10) he7.1 (rn_V (n := 3) (As := [vI_ i1, vI_ 0, vI_ 2]) kc_1 ht he7 (lw_V q581 q583 qs0 q90 q584) (by decide +kernel) rfl (Nat.le_of_ble_eq_true rfl) (Nat.le_of_ble_eq_true rfl) (Nat.le_of_ble_eq_true rfl) dX1_ahead_13) ?_
      cases h
      exact a_out rfl rfl rfl rfl
  · have he2 := e_X1_within (G := G) hl ht e2
    refine c_X (b := b5) he2.1 (rn_V (n := 3) (As := [vI_ i0, vI_ 0, vI_ 600]) kc_1 ht he2 (lw_V q581 q583 qs0 q90 q584) (by decide +kernel) rfl (Nat.le_of_ble_eq_true rfl) (Nat.le_of_ble_eq_true rfl) (Nat.le_of_ble_eq_true rfl) dX1_ahead_6) ?_
    cases h
    exact a_out rfl rfl rfl rfl
def f_X0_ahead (F : Nat)  (i0 : Option pm_A) (i1 : Int32) (i2 : Int32) (i3 : Option pm_A) (m : pm_M) : Option (Int32 × pm_M) :=
  gd_ 1 i0 fun a1 =>
  bt_ (f_X1_ahead F a1 i1 i2 m) (fun v6 m4 =>
    gd_ 103 i3 fun a9 =>
    iz_ (!(ib_ 0 a9.2.1)) <|
    lt_ (pL_ m4 a9 ((0 : Int32).toNatClampNeg) v6.toInt64) fun m13 =>
    some (0, m13)
  ) fun b8 m7 =>
    if b8.1 = 25 then
      some (1, m7)
    else
    none
set_option maxHeartbeats 4000000 in
theorem e_X0_ahead {G : xg_T} {l : Launch} (hl : l.stackTraces = false) {F : Nat}    {i0 : Option pm_A} {i1 : Int32} {i2 : Int32} {i3 : Option pm_A} {m0 m' : pm_M} {r : Int32} (h : f_X0_ahead F i0 i1 i2 i3 m0 = some (r, m')) : Cal_ G l yX0_ahead (wsW_ yX0_ahead cX0_ahead 5 (some .int) [(0, 10, 13, 13)]) 172 [vR_ i0, vI_ i1, vI_ i2, vR_ i3] m0 (.inl (some (vI_ r))) m' := by
  refine cal_ofH (by decide +kernel) (Nat.le_of_ble_eq_true rfl) ?_
  unfold f_X0_ahead at h
  show AW_ cX0_ahead RX0 (some (.int), "ahead", 172, 5, m0, m', (.inl (some (vI_ r))), G, l, [(0, 10, 13, 13)], true) m0 0 [(0, vR_ i0), (1, vI_ i1), (2, vI_ i2), (3, vR_ i3)] []
  refine a_aload_n 3 dX0_ahead_0 rfl rfl ?_
  refine a_iconst (v := 0) dX0_ahead_1 (by decide) ?_
  refine a_aload_n 0 dX0_ahead_2 rfl rfl ?_
  refine a_iload_n 1 dX0_ahead_3 rfl rfl ?_
  refine a_iload_n 2 dX0_ahead_4 rfl rfl ?_
  obtain ⟨a1, e2, f3, h⟩ := gd_some h
  rw [e2]
  rcases bt_some h with ⟨v6, m4, e5, h⟩ | ⟨b8, m7, e5, h⟩
  · have he5 := e_X1_ahead (G := G) hl f3 e5
    refine c_I (v := v6) he5.1 (rn_V (n := 2) (As := [vI_ i1, vI_ i2]) kc_1 f3 he5 (lw_V q1315 q1316 q1317 q90 q1318) (by decide +kernel) rfl (Nat.le_of_ble_eq_true rfl) (Nat.le_of_ble_eq_true rfl) (Nat.le_of_ble_eq_true rfl) dX0_ahead_5) (fun z => (os_av (As := [vI_ i1, vI_ i2]) z).2.1) ?_
    refine a_i2l dX0_ahead_8 ?_
    obtain ⟨a9, e10, f11, h⟩ := gd_some h
    rw [e10]
    obtain ⟨c12, h⟩ := iz_some h
    obtain ⟨m13, e14, h⟩ := lt_some h
    refine a_last f11 (bn_ c12) dX0_ahead_9 ?_
    rw [← e14]
    refine a_goto (tgt := 17) dX0_ahead_10 (by decide) ?_
    refine a_iconst (v := 0) dX0_ahead_17 (by decide) ?_
    cases h
    exact a_ireturn rfl rfl rfl rfl rfl dX0_ahead_18
  · have he5 := e_X1_ahead (G := G) hl f3 e5
    refine c_X (b := b8) he5.1 (rn_V (n := 2) (As := [vI_ i1, vI_ i2]) kc_1 f3 he5 (lw_V q1315 q1316 q1317 q90 q1318) (by decide +kernel) rfl (Nat.le_of_ble_eq_true rfl) (Nat.le_of_ble_eq_true rfl) (Nat.le_of_ble_eq_true rfl) dX0_ahead_5) ?_
    by_cases c15 : b8.1 = 25
    · replace h := ifp_ c15 h
      refine a_catch [] ⟨0, 10, 13, 13⟩ [] rfl (fun z hz => nomatch hz) rfl (by decide) q575 (by rw [c15]; exact q587) ?_
      refine a_astore (ls' := [(4, vR_ (some b8)), (0, vR_ (some a1)), (1, vI_ i1), (2, vI_ i2), (3, vR_ i3)]) dX0_ahead_13 (Nat.le_of_ble_eq_true rfl) rfl ?_
      refine a_iconst (v := 1) dX0_ahead_15 (by decide) ?_
      cases h
      exact a_ireturn rfl rfl rfl rfl rfl dX0_ahead_16
    replace h := ifn_ c15 h
    cases h
def f_X4_gives (F : Nat)  (t : pm_A) (i0 : Int32) (i1 : Int32) (m : pm_M) : Option (Int32 × pm_M) :=
  gd_ 6 (gR_ m t 10) fun a1 =>
  gd_ 100 (gR_ m a1 5) fun a4 =>
  iz_ (!(ib_ i0 a4.2.1)) <|
  bm_ (f_X4_owes F t i1 m) fun v10 m8 =>
  gd_ 6 (gR_ m8 t 10) fun a11 =>
  gd_ 100 (gR_ m8 a11 4) fun a14 =>
  iz_ (!(ib_ i0 a14.2.1)) <|
  gd_ 6 (gR_ m8 t 10) fun a18 =>
  gd_ 100 (gR_ m8 a18 1) fun a21 =>
  iz_ (!(ib_ i1 a21.2.1)) <|
  if (gI_ m8 a14 i0.toNatClampNeg) = (gI_ m8 a21 i1.toNatClampNeg) then
    some ((((gI_ m a4 i0.toNatClampNeg) * v10) / 52), m8)
  else
    some (((((gI_ m a4 i0.toNatClampNeg) * v10) / 52) / 2), m8)
set_option maxHeartbeats 4000000 in
theorem e_X4_gives {G : xg_T} {l : Launch} (hl : l.stackTraces = false) {F : Nat}    {t : pm_A} {i0 : Int32} {i1 : Int32} {m0 m' : pm_M} {r : Int32} (ht : t.1 = 4) (h : f_X4_gives F t i0 i1 m0 = some (r, m')) : Cal_ G l yX4_gives (ws_ yX4_gives cX4_gives 4 (some .int)) 170 [vR_ (some t), vI_ i0, vI_ i1] m0 (.inl (some (vI_ r))) m' := by
  refine cal_of (by decide +kernel) (Nat.le_of_ble_eq_true rfl) ?_
  unfold f_X4_gives at h
  show AW_ cX4_gives RX4 (some (.int), "gives", 170, 4, m0, m', (.inl (some (vI_ r))), G, l, [], true) m0 0 [(0, vR_ (some t)), (1, vI_ i0), (2, vI_ i1)] []
  refine a_aload_n 0 dX4_gives_0 rfl rfl ?_
  refine a_getR kc_4 10 (by decide) rfl ht q301 dX4_gives_1 ?_
  obtain ⟨a1, e2, f3, h⟩ := gd_some h
  rw [e2]
  refine a_getRN kc_6 5 (by decide) rfl f3 q237 dX4_gives_4 ?_
  refine a_iload_n 1 dX4_gives_7 rfl rfl ?_
  obtain ⟨a4, e5, f6, h⟩ := gd_some h
  rw [e5]
  obtain ⟨c7, h⟩ := iz_some h
  refine a_iald f6 (bn_ c7) dX4_gives_8 ?_
  refine a_aload_n 0 dX4_gives_9 rfl rfl ?_
  refine a_iload_n 2 dX4_gives_10 rfl rfl ?_
  obtain ⟨v10, m8, e9, h⟩ := bm_some h
  have he9 := e_X4_owes (G := G) hl ht e9
  refine c_I he9.1 (rn_V (n := 1) (As := [vI_ i1]) kc_4 ht he9 (lw_V q1158 q1159 q1160 q93 q1161) (by decide +kernel) rfl (Nat.le_of_ble_eq_true rfl) (Nat.le_of_ble_eq_true rfl) (Nat.le_of_ble_eq_true rfl) dX4_gives_11) (fun z => (os_av (As := [vI_ i1]) z).2.1) ?_
  refine a_imul dX4_gives_14 ?_
  refine a_bipush (v := 52) dX4_gives_15 (by decide) ?_
  refine a_idiv dX4_gives_17 (by decide) ?_
  refine a_istore_n (ls' := [(3, vI_ (((gI_ m0 a4 i0.toNatClampNeg) * v10) / 52)), (0, vR_ (some t)), (1, vI_ i0), (2, vI_ i1)]) dX4_gives_18 rfl (Nat.le_of_ble_eq_true rfl) rfl ?_
  refine a_aload_n 1 dX4_gives_19 rfl rfl ?_
  refine a_getR kc_4 10 (by decide) rfl ht q301 dX4_gives_20 ?_
  obtain ⟨a11, e12, f13, h⟩ := gd_some h
  rw [e12]
  refine a_getRN kc_6 4 (by decide) rfl f13 q233 dX4_gives_23 ?_
  refine a_iload_n 2 dX4_gives_26 rfl rfl ?_
  obtain ⟨a14, e15, f16, h⟩ := gd_some h
  rw [e15]
  obtain ⟨c17, h⟩ := iz_some h
  refine a_iald f16 (bn_ c17) dX4_gives_27 ?_
  refine a_aload_n 1 dX4_gives_28 rfl rfl ?_
  refine a_getR kc_4 10 (by decide) rfl ht q301 dX4_gives_29 ?_
  obtain ⟨a18, e19, f20, h⟩ := gd_some h
  rw [e19]
  refine a_getRN kc_6 1 (by decide) rfl f20 q222 dX4_gives_32 ?_
  refine a_iload_n 3 dX4_gives_35 rfl rfl ?_
  obtain ⟨a21, e22, f23, h⟩ := gd_some h
  rw [e22]
  obtain ⟨c24, h⟩ := iz_some h
  refine a_iald f23 (bn_ c24) dX4_gives_36 ?_
  refine a_icmp_ne (tgt := 44) dX4_gives_37 (by decide) (fun c25 => ?_) (fun c25 => ?_)
  · replace h := ifn_ c25 h
    refine a_iload_n 0 dX4_gives_44 rfl rfl ?_
    refine a_iconst (v := 2) dX4_gives_45 (by decide) ?_
    refine a_idiv dX4_gives_46 (by decide) ?_
    cases h
    exact a_ireturn rfl rfl rfl rfl rfl dX4_gives_47
  · replace h := ifp_ c25 h
    refine a_iload_n 0 dX4_gives_40 rfl rfl ?_
    refine a_goto (tgt := 47) dX4_gives_41 (by decide) ?_
    cases h
    exact a_ireturn rfl rfl rfl rfl rfl dX4_gives_47
def f_X1_gives (F : Nat)  (t : pm_A) (i0 : Int32) (i1 : Int32) (m : pm_M) : Option ((Int32 ⊕ pm_A) × pm_M) :=
  bt_ (f_X1_takerOf F t i0 m) (fun v3 m1 =>
    bt_ (f_X1_signerOf F t i1 m1) (fun v8 m6 =>
      gd_ 3 (gR_ m6 t 2) fun a11 =>
      bm_ (f_X3_now F a11 m6) fun v16 m14 =>
      gd_ 4 v16 fun a17 =>
      bm_ (f_X4_gives F a17 i0 i1 m14) fun v22 m20 =>
      some (.inl v22, m20)
    ) fun b10 m9 =>
      some (.inr b10, m9)
  ) fun b5 m4 =>
    some (.inr b5, m4)
set_option maxHeartbeats 4000000 in
theorem e_X1_gives {G : xg_T} {l : Launch} (hl : l.stackTraces = false) {F : Nat}    {t : pm_A} {i0 : Int32} {i1 : Int32} {m0 m' : pm_M} {r : (Int32 ⊕ pm_A)} (ht : t.1 = 1) (h : f_X1_gives F t i0 i1 m0 = some (r, m')) : Cal_ G l yX1_gives (ws_ yX1_gives cX1_gives 3 (some .int)) 171 [vR_ (some t), vI_ i0, vI_ i1] m0 (oI_ r) m' := by
  refine cal_of (by decide +kernel) (Nat.le_of_ble_eq_true rfl) ?_
  unfold f_X1_gives at h
  show AW_ cX1_gives RX1 (some (.int), "gives", 171, 3, m0, m', (oI_ r), G, l, [], true) m0 0 [(0, vR_ (some t)), (1, vI_ i0), (2, vI_ i1)] []
  refine a_aload_n 0 dX1_gives_0 rfl rfl ?_
  refine a_iload_n 1 dX1_gives_1 rfl rfl ?_
  rcases bt_some h with ⟨v3, m1, e2, h⟩ | ⟨b5, m4, e2, h⟩
  · have he2 := e_X1_takerOf (G := G) hl ht e2
    refine c_V he2.1 (rn_V (n := 1) (As := [vI_ i0]) kc_1 ht he2 (lw_V q1260 q1262 qs16 q90 q1263) (by decide +kernel) rfl (Nat.le_of_ble_eq_true rfl) (Nat.le_of_ble_eq_true rfl) (Nat.le_of_ble_eq_true rfl) dX1_gives_2) (fun z => (os_av (As := [vI_ i0]) z).2.1) ?_
    refine a_aload_n 0 dX1_gives_5 rfl rfl ?_
    refine a_iload_n 2 dX1_gives_6 rfl rfl ?_
    rcases bt_some h with ⟨v8, m6, e7, h⟩ | ⟨b10, m9, e7, h⟩
    · have he7 := e_X1_signerOf (G := G) hl ht e7
      refine c_V he7.1 (rn_V (n := 1) (As := [vI_ i1]) kc_1 ht he7 (lw_V q1234 q1236 qs15 q90 q1237) (by decide +kernel) rfl (Nat.le_of_ble_eq_true rfl) (Nat.le_of_ble_eq_true rfl) (Nat.le_of_ble_eq_true rfl) dX1_gives_7) (fun z => (os_av (As := [vI_ i1]) z).2.1) ?_
      refine a_aload_n 0 dX1_gives_10 rfl rfl ?_
      refine a_getR kc_1 2 (by decide) rfl ht q390 dX1_gives_11 ?_
      obtain ⟨a11, e12, f13, h⟩ := gd_some h
      rw [e12]
      obtain ⟨v16, m14, e15, h⟩ := bm_some h
      have he15 := e_X3_now (G := G) hl f13 e15
      refine c_R he15.1 (rn_V (n := 0) (As := []) kc_3 f13 he15 (lw_V q380 q381 q382 q92 q383) (by decide +kernel) rfl (Nat.le_of_ble_eq_true rfl) (Nat.le_of_ble_eq_true rfl) (Nat.le_of_ble_eq_true rfl) dX1_gives_14) (fun z => (os_av (As := []) z).2.1) ?_
      refine a_iload_n 1 dX1_gives_17 rfl rfl ?_
      refine a_iload_n 2 dX1_gives_18 rfl rfl ?_
      obtain ⟨a17, e18, f19, h⟩ := gd_some h
      rw [e18]
      obtain ⟨v22, m20, e21, h⟩ := bm_some h
      have he21 := e_X4_gives (G := G) hl f19 e21
      refine c_I he21.1 (rn_V (n := 2) (As := [vI_ i0, vI_ i1]) kc_4 f19 he21 (lw_V q1333 q1334 q1335 q93 q1336) (by decide +kernel) rfl (Nat.le_of_ble_eq_true rfl) (Nat.le_of_ble_eq_true rfl) (Nat.le_of_ble_eq_true rfl) dX1_gives_19) (fun z => (os_av (As := [vI_ i0, vI_ i1]) z).2.1) ?_
      cases h
      exact a_ireturn rfl rfl rfl rfl rfl dX1_gives_22
    · have he7 := e_X1_signerOf (G := G) hl ht e7
      refine c_X (b := b10) he7.1 (rn_V (n := 1) (As := [vI_ i1]) kc_1 ht he7 (lw_V q1234 q1236 qs15 q90 q1237) (by decide +kernel) rfl (Nat.le_of_ble_eq_true rfl) (Nat.le_of_ble_eq_true rfl) (Nat.le_of_ble_eq_true rfl) dX1_gives_7) ?_
      cases h
      exact a_out rfl rfl rfl rfl
  · have he2 := e_X1_takerOf (G := G) hl ht e2
    refine c_X (b := b5) he2.1 (rn_V (n := 1) (As := [vI_ i0]) kc_1 ht he2 (lw_V q1260 q1262 qs16 q90 q1263) (by decide +kernel) rfl (Nat.le_of_ble_eq_true rfl) (Nat.le_of_ble_eq_true rfl) (Nat.le_of_ble_eq_true rfl) dX1_gives_2) ?_
    cases h
    exact a_out rfl rfl rfl rfl
def f_X0_gives (F : Nat)  (i0 : Option pm_A) (i1 : Int32) (i2 : Int32) (i3 : Option pm_A) (m : pm_M) : Option (Int32 × pm_M) :=
  gd_ 1 i0 fun a1 =>
  bt_ (f_X1_gives F a1 i1 i2 m) (fun v6 m4 =>
    gd_ 103 i3 fun a9 =>
    iz_ (!(ib_ 0 a9.2.1)) <|
    lt_ (pL_ m4 a9 ((0 : Int32).toNatClampNeg) v6.toInt64) fun m13 =>
    some (0, m13)
  ) fun b8 m7 =>
    if b8.1 = 26 then
      some (1, m7)
    else
    none
set_option maxHeartbeats 4000000 in
theorem e_X0_gives {G : xg_T} {l : Launch} (hl : l.stackTraces = false) {F : Nat}    {i0 : Option pm_A} {i1 : Int32} {i2 : Int32} {i3 : Option pm_A} {m0 m' : pm_M} {r : Int32} (h : f_X0_gives F i0 i1 i2 i3 m0 = some (r, m')) : Cal_ G l yX0_gives (wsW_ yX0_gives cX0_gives 5 (some .int) [(0, 10, 13, 31)]) 172 [vR_ i0, vI_ i1, vI_ i2, vR_ i3] m0 (.inl (some (vI_ r))) m' := by
  refine cal_ofH (by decide +kernel) (Nat.le_of_ble_eq_true rfl) ?_
  unfold f_X0_gives at h
  show AW_ cX0_gives RX0 (some (.int), "gives", 172, 5, m0, m', (.inl (some (vI_ r))), G, l, [(0, 10, 13, 31)], true) m0 0 [(0, vR_ i0), (1, vI_ i1), (2, vI_ i2), (3, vR_ i3)] []
  refine a_aload_n 3 dX0_gives_0 rfl rfl ?_
  refine a_iconst (v := 0) dX0_gives_1 (by decide) ?_
  refine a_aload_n 0 dX0_gives_2 rfl rfl ?_
  refine a_iload_n 1 dX0_gives_3 rfl rfl ?_
  refine a_iload_n 2 dX0_gives_4 rfl rfl ?_
  obtain ⟨a1, e2, f3, h⟩ := gd_some h
  rw [e2]
  rcases bt_some h with ⟨v6, m4, e5, h⟩ | ⟨b8, m7, e5, h⟩
  · have he5 := e_X1_gives (G := G) hl f3 e5
    refine c_I (v := v6) he5.1 (rn_V (n := 2) (As := [vI_ i1, vI_ i2]) kc_1 f3 he5 (lw_V q1329 q1330 q1331 q90 q1332) (by decide +kernel) rfl (Nat.le_of_ble_eq_true rfl) (Nat.le_of_ble_eq_true rfl) (Nat.le_of_ble_eq_true rfl) dX0_gives_5) (fun z => (os_av (As := [vI_ i1, vI_ i2]) z).2.1) ?_
    refine a_i2l dX0_gives_8 ?_
    obtain ⟨a9, e10, f11, h⟩ := gd_some h
    rw [e10]
    obtain ⟨c12, h⟩ := iz_some h
    obtain ⟨m13, e14, h⟩ := lt_some h
    refine a_last f11 (bn_ c12) dX0_gives_9 ?_
    rw [← e14]
    refine a_goto (tgt := 17) dX0_gives_10 (by decide) ?_
    refine a_iconst (v := 0) dX0_gives_17 (by decide) ?_
    cases h
    exact a_ireturn rfl rfl rfl rfl rfl dX0_gives_18
  · have he5 := e_X1_gives (G := G) hl f3 e5
    refine c_X (b := b8) he5.1 (rn_V (n := 2) (As := [vI_ i1, vI_ i2]) kc_1 f3 he5 (lw_V q1329 q1330 q1331 q90 q1332) (by decide +kernel) rfl (Nat.le_of_ble_eq_true rfl) (Nat.le_of_ble_eq_true rfl) (Nat.le_of_ble_eq_true rfl) dX0_gives_5) ?_
    by_cases c15 : b8.1 = 26
    · replace h := ifp_ c15 h
      refine a_catch [] ⟨0, 10, 13, 31⟩ [] rfl (fun z hz => nomatch hz) rfl (by decide) q1229 (by rw [c15]; exact q1240) ?_
      refine a_astore (ls' := [(4, vR_ (some b8)), (0, vR_ (some a1)), (1, vI_ i1), (2, vI_ i2), (3, vR_ i3)]) dX0_gives_13 (Nat.le_of_ble_eq_true rfl) rfl ?_
      refine a_iconst (v := 1) dX0_gives_15 (by decide) ?_
      cases h
      exact a_ireturn rfl rfl rfl rfl rfl dX0_gives_16
    replace h := ifn_ c15 h
    cases h
def f_X7_mostOf_L4 (F : Nat)  (p1 : pm_A) (p3 : Int32) : Nat → Int32 → Int32 → pm_M → Option (Int32 × pm_M)
  | 0, _, _, _ => none
  | n4 + 1, x6, x7, m5 =>
    gd_ 4 (gR_ m5 p1 4) fun a8 =>
    gd_ 6 (gR_ m5 a8 10) fun a11 =>
    if (gI_ m5 a11 8) ≤ x7 then
      some (x6, m5)
    else
      gd_ 4 (gR_ m5 p1 4) fun a15 =>
      gd_ 100 (gR_ m5 a15 0) fun a18 =>
      iz_ (!(ib_ p3 a18.2.1)) <|
      if (gI_ m5 a18 p3.toNatClampNeg) = 1 then
        gd_ 4 (gR_ m5 p1 4) fun a23 =>
        bm_ (f_X4_gives F a23 x7 p3 m5) fun v28 m26 =>
        bm_ (f_J8_max F x6 v28 m26) fun v31 m29 =>
        (f_X7_mostOf_L4 F p1 p3 n4) v31 (x7 + 1) m29
      else
        some (x6, m5)
set_option maxHeartbeats 4000000 in
theorem w_X7_mostOf_L4 {G : xg_T} {l : Launch} (hl : l.stackTraces = false) {F : Nat}    (p1 : pm_A) (p3 : Int32) {m0 m' : pm_M} {r : Int32} (hf2 : p1.1 = 7)  : ∀ (n : Nat) (x6 : Int32) (x7 : Int32) (m5 : pm_M), f_X7_mostOf_L4 F p1 p3 n x6 x7 m5 = some (r, m') → AW_ cX7_mostOf RX7 (some (.int), "mostOf", 171, 4, m0, m', (.inl (some (vI_ r))), G, l, [], true) m5 4 [(0, vR_ (some p1)), (1, vI_ p3), (2, vI_ x6), (3, vI_ x7)] [] := by
  intro n
  induction n with
  | zero => intro x6 x7 m5 h; cases h
  | succ n4 ih =>
    intro x6 x7 m5 h
    rw [f_X7_mostOf_L4] at h
    refine a_iload_n 3 dX7_mostOf_4 rfl rfl ?_
    refine a_aload_n 0 dX7_mostOf_5 rfl rfl ?_
    refine a_getR kc_7 4 (by decide) rfl hf2 q360 dX7_mostOf_6 ?_
    obtain ⟨a8, e9, f10, h⟩ := gd_some h
    rw [e9]
    refine a_getRN kc_4 10 (by decide) rfl f10 q302 dX7_mostOf_9 ?_
    obtain ⟨a11, e12, f13, h⟩ := gd_some h
    rw [e12]
    refine a_getIN kc_6 8 (by decide) rfl f13 q249 dX7_mostOf_12 ?_
    refine a_icmp_ge (tgt := 51) dX7_mostOf_15 (by decide) (fun c14 => ?_) (fun c14 => ?_)
    · replace h := ifp_ c14 h
      refine a_iload_n 2 dX7_mostOf_51 rfl rfl ?_
      cases h
      exact a_ireturn rfl rfl rfl rfl rfl dX7_mostOf_52
    · replace h := ifn_ c14 h
      refine a_aload_n 0 dX7_mostOf_18 rfl rfl ?_
      refine a_getR kc_7 4 (by decide) rfl hf2 q360 dX7_mostOf_19 ?_
      obtain ⟨a15, e16, f17, h⟩ := gd_some h
      rw [e16]
      refine a_getRN kc_4 0 (by decide) rfl f17 q284 dX7_mostOf_22 ?_
      refine a_iload_n 1 dX7_mostOf_25 rfl rfl ?_
      obtain ⟨a18, e19, f20, h⟩ := gd_some h
      rw [e19]
      obtain ⟨c21, h⟩ := iz_some h
      refine a_iald f20 (bn_ c21) dX7_mostOf_26 ?_
      refine a_iconst (v := 1) dX7_mostOf_27 (by decide) ?_
      refine a_icmp_ne (tgt := 51) dX7_mostOf_28 (by decide) (fun c22 => ?_) (fun c22 => ?_)
      · replace h := ifn_ c22 h
        refine a_iload_n 2 dX7_mostOf_51 rfl rfl ?_
        cases h
        exact a_ireturn rfl rfl rfl rfl rfl dX7_mostOf_52
      · replace h := ifp_ c22 h
        refine a_iload_n 2 dX7_mostOf_31 rfl rfl ?_
        refine a_aload_n 0 dX7_mostOf_32 rfl rfl ?_
        refine a_getR kc_7 4 (by decide) rfl hf2 q360 dX7_mostOf_33 ?_
        refine a_iload_n 3 dX7_mostOf_36 rfl rfl ?_
        refine a_iload_n 1 dX7_mostOf_37 rfl rfl ?_
        obtain ⟨a23, e24, f25, h⟩ := gd_some h
        rw [e24]
        obtain ⟨v28, m26, e27, h⟩ := bm_some h
        have he27 := e_X4_gives (G := G) hl f25 e27
        refine c_I he27.1 (rn_V (n := 2) (As := [vI_ x7, vI_ p3]) kc_4 f25 he27 (lw_V q1353 q1334 q1335 q93 q1336) (by decide +kernel) rfl (Nat.le_of_ble_eq_true rfl) (Nat.le_of_ble_eq_true rfl) (Nat.le_of_ble_eq_true rfl) dX7_mostOf_38) (fun z => (os_av (As := [vI_ x7, vI_ p3]) z).2.1) ?_
        obtain ⟨v31, m29, e30, h⟩ := bm_some h
        have he30 := e_J8_max (G := G) hl e30
        refine c_I he30.1 (rn_S (n := 2) (As := [vI_ x6, vI_ v28]) he30 (lw_S q1354 q524 q109 q525) (by decide +kernel) rfl (Nat.le_of_ble_eq_true rfl) (Nat.le_of_ble_eq_true rfl) (Nat.le_of_ble_eq_true rfl) dX7_mostOf_41) (fun z => (os_aS (As := [vI_ x6, vI_ v28]) z).2) ?_
        refine a_istore_n (ls' := [(2, vI_ v31), (0, vR_ (some p1)), (1, vI_ p3), (3, vI_ x7)]) dX7_mostOf_44 rfl (Nat.le_of_ble_eq_true rfl) rfl ?_
        refine a_iinc (v := x7 + 1) (ls' := [(3, vI_ (x7 + 1)), (2, vI_ v31), (0, vR_ (some p1)), (1, vI_ p3)]) 3 dX7_mostOf_45 rfl rfl (Nat.le_of_ble_eq_true rfl) rfl ?_
        refine a_goto (tgt := 4) dX7_mostOf_48 (by decide) ?_
        refine aw_pick [2, 3, 1, 0] rfl ?_
        exact ih _ _ _ h
def f_X7_mostOf (F : Nat)  (t : pm_A) (i0 : Int32) (m : pm_M) : Option (Int32 × pm_M) :=
  f_X7_mostOf_L4 F t i0 F 0 0 m
set_option maxHeartbeats 4000000 in
theorem e_X7_mostOf {G : xg_T} {l : Launch} (hl : l.stackTraces = false) {F : Nat}    {t : pm_A} {i0 : Int32} {m0 m' : pm_M} {r : Int32} (ht : t.1 = 7) (h : f_X7_mostOf F t i0 m0 = some (r, m')) : Cal_ G l yX7_mostOf (ws_ yX7_mostOf cX7_mostOf 4 (some .int)) 171 [vR_ (some t), vI_ i0] m0 (.inl (some (vI_ r))) m' := by
  refine cal_of (by decide +kernel) (Nat.le_of_ble_eq_true rfl) ?_
  unfold f_X7_mostOf at h
  show AW_ cX7_mostOf RX7 (some (.int), "mostOf", 171, 4, m0, m', (.inl (some (vI_ r))), G, l, [], true) m0 0 [(0, vR_ (some t)), (1, vI_ i0)] []
  refine a_iconst (v := 0) dX7_mostOf_0 (by decide) ?_
  refine a_istore_n (ls' := [(2, vI_ 0), (0, vR_ (some t)), (1, vI_ i0)]) dX7_mostOf_1 rfl (Nat.le_of_ble_eq_true rfl) rfl ?_
  refine a_iconst (v := 0) dX7_mostOf_2 (by decide) ?_
  refine a_istore_n (ls' := [(3, vI_ 0), (2, vI_ 0), (0, vR_ (some t)), (1, vI_ i0)]) dX7_mostOf_3 rfl (Nat.le_of_ble_eq_true rfl) rfl ?_
  refine aw_pick [2, 3, 1, 0] rfl ?_
  exact w_X7_mostOf_L4 hl _ _ ht _ _ _ _ h
def f_X7_kinAt_L14 (F : Nat)  (p10 : pm_A) (p12 : Int32) (p13 : Int32) : Nat → Int32 → pm_M → Option (Int32 × pm_M)
  | 0, _, _ => none
  | n14 + 1, x16, m15 =>
    if p12 ≤ x16 then
      some (((-2)), m15)
    else
      if ((p13 >>> (x16 &&& 31)) &&& 1) = 1 then
        gd_ 4 (gR_ m15 p10 4) fun a19 =>
        gd_ 100 (gR_ m15 a19 0) fun a22 =>
        iz_ (!(ib_ x16 a22.2.1)) <|
        if (gI_ m15 a22 x16.toNatClampNeg) = 1 then
          gd_ 100 (gR_ m15 p10 0) fun a27 =>
          iz_ (!(ib_ x16 a27.2.1)) <|
          some ((gI_ m15 a27 x16.toNatClampNeg), m15)
        else
          (f_X7_kinAt_L14 F p10 p12 p13 n14) (x16 + 1) m15
      else
        (f_X7_kinAt_L14 F p10 p12 p13 n14) (x16 + 1) m15
set_option maxHeartbeats 4000000 in
theorem w_X7_kinAt_L14 {G : xg_T} {l : Launch} (hl : l.stackTraces = false) {F : Nat}    (p10 : pm_A) (p12 : Int32) (p13 : Int32) {m0 m' : pm_M} {r : Int32} (hf11 : p10.1 = 7)  : ∀ (n : Nat) (x16 : Int32) (m15 : pm_M), f_X7_kinAt_L14 F p10 p12 p13 n x16 m15 = some (r, m') → AW_ cX7_kinAt RX7 (some (.int), "kinAt", 3, 4, m0, m', (.inl (some (vI_ r))), G, l, [], true) m15 14 [(0, vR_ (some p10)), (1, vI_ p12), (2, vI_ p13), (3, vI_ x16)] [] := by
  intro n
  induction n with
  | zero => intro x16 m15 h; cases h
  | succ n14 ih =>
    intro x16 m15 h
    rw [f_X7_kinAt_L14] at h
    refine a_iload_n 3 dX7_kinAt_14 rfl rfl ?_
    refine a_iload_n 1 dX7_kinAt_15 rfl rfl ?_
    refine a_icmp_ge (tgt := 54) dX7_kinAt_16 (by decide) (fun c17 => ?_) (fun c17 => ?_)
    · replace h := ifp_ c17 h
      refine a_bipush (v := (-2)) dX7_kinAt_54 (by decide) ?_
      cases h
      exact a_ireturn rfl rfl rfl rfl rfl dX7_kinAt_56
    · replace h := ifn_ c17 h
      refine a_iload_n 2 dX7_kinAt_19 rfl rfl ?_
      refine a_iload_n 3 dX7_kinAt_20 rfl rfl ?_
      refine a_ishr dX7_kinAt_21 ?_
      refine a_iconst (v := 1) dX7_kinAt_22 (by decide) ?_
      refine a_iand dX7_kinAt_23 ?_
      refine a_iconst (v := 1) dX7_kinAt_24 (by decide) ?_
      refine a_icmp_ne (tgt := 48) dX7_kinAt_25 (by decide) (fun c18 => ?_) (fun c18 => ?_)
      · replace h := ifn_ c18 h
        refine a_iinc (v := x16 + 1) (ls' := [(3, vI_ (x16 + 1)), (0, vR_ (some p10)), (1, vI_ p12), (2, vI_ p13)]) 3 dX7_kinAt_48 rfl rfl (Nat.le_of_ble_eq_true rfl) rfl ?_
        refine a_goto (tgt := 14) dX7_kinAt_51 (by decide) ?_
        refine aw_pick [1, 2, 3, 0] rfl ?_
        exact ih _ _ h
      · replace h := ifp_ c18 h
        refine a_aload_n 0 dX7_kinAt_28 rfl rfl ?_
        refine a_getR kc_7 4 (by decide) rfl hf11 q360 dX7_kinAt_29 ?_
        obtain ⟨a19, e20, f21, h⟩ := gd_some h
        rw [e20]
        refine a_getRN kc_4 0 (by decide) rfl f21 q284 dX7_kinAt_32 ?_
        refine a_iload_n 3 dX7_kinAt_35 rfl rfl ?_
        obtain ⟨a22, e23, f24, h⟩ := gd_some h
        rw [e23]
        obtain ⟨c25, h⟩ := iz_some h
        refine a_iald f24 (bn_ c25) dX7_kinAt_36 ?_
        refine a_iconst (v := 1) dX7_kinAt_37 (by decide) ?_
        refine a_icmp_ne (tgt := 48) dX7_kinAt_38 (by decide) (fun c26 => ?_) (fun c26 => ?_)
        · replace h := ifn_ c26 h
          refine a_iinc (v := x16 + 1) (ls' := [(3, vI_ (x16 + 1)), (0, vR_ (some p10)), (1, vI_ p12), (2, vI_ p13)]) 3 dX7_kinAt_48 rfl rfl (Nat.le_of_ble_eq_true rfl) rfl ?_
          refine a_goto (tgt := 14) dX7_kinAt_51 (by decide) ?_
          refine aw_pick [1, 2, 3, 0] rfl ?_
          exact ih _ _ h
        · replace h := ifp_ c26 h
          refine a_aload_n 0 dX7_kinAt_41 rfl rfl ?_
          refine a_getR kc_7 0 (by decide) rfl hf11 q355 dX7_kinAt_42 ?_
          refine a_iload_n 3 dX7_kinAt_45 rfl rfl ?_
          obtain ⟨a27, e28, f29, h⟩ := gd_some h
          rw [e28]
          obtain ⟨c30, h⟩ := iz_some h
          refine a_iald f29 (bn_ c30) dX7_kinAt_46 ?_
          cases h
          exact a_ireturn rfl rfl rfl rfl rfl dX7_kinAt_47
def f_X7_kinAt (F : Nat)  (t : pm_A) (i0 : Int32) (m : pm_M) : Option (Int32 × pm_M) :=
  gd_ 4 (gR_ m t 4) fun a1 =>
  gd_ 6 (gR_ m a1 10) fun a4 =>
  bm_ (f_X6_kinOf F a4 i0 m) fun v9 m7 =>
  f_X7_kinAt_L14 F t i0 v9 F 0 m7
set_option maxHeartbeats 4000000 in
theorem e_X7_kinAt {G : xg_T} {l : Launch} (hl : l.stackTraces = false) {F : Nat}    {t : pm_A} {i0 : Int32} {m0 m' : pm_M} {r : Int32} (ht : t.1 = 7) (h : f_X7_kinAt F t i0 m0 = some (r, m')) : Cal_ G l yX7_kinAt (ws_ yX7_kinAt cX7_kinAt 4 (some .int)) 3 [vR_ (some t), vI_ i0] m0 (.inl (some (vI_ r))) m' := by
  refine cal_of (by decide +kernel) (Nat.le_of_ble_eq_true rfl) ?_
  unfold f_X7_kinAt at h
  show AW_ cX7_kinAt RX7 (some (.int), "kinAt", 3, 4, m0, m', (.inl (some (vI_ r))), G, l, [], true) m0 0 [(0, vR_ (some t)), (1, vI_ i0)] []
  refine a_aload_n 0 dX7_kinAt_0 rfl rfl ?_
  refine a_getR kc_7 4 (by decide) rfl ht q360 dX7_kinAt_1 ?_
  obtain ⟨a1, e2, f3, h⟩ := gd_some h
  rw [e2]
  refine a_getRN kc_4 10 (by decide) rfl f3 q302 dX7_kinAt_4 ?_
  refine a_iload_n 1 dX7_kinAt_7 rfl rfl ?_
  obtain ⟨a4, e5, f6, h⟩ := gd_some h
  rw [e5]
  obtain ⟨v9, m7, e8, h⟩ := bm_some h
  have he8 := e_X6_kinOf (G := G) hl f6 e8
  refine c_I he8.1 (rn_V (n := 1) (As := [vI_ i0]) kc_6 f6 he8 (lw_V q1364 q479 q480 q95 q481) (by decide +kernel) rfl (Nat.le_of_ble_eq_true rfl) (Nat.le_of_ble_eq_true rfl) (Nat.le_of_ble_eq_true rfl) dX7_kinAt_8) (fun z => (os_av (As := [vI_ i0]) z).2.1) ?_
  refine a_istore_n (ls' := [(2, vI_ v9), (0, vR_ (some t)), (1, vI_ i0)]) dX7_kinAt_11 rfl (Nat.le_of_ble_eq_true rfl) rfl ?_
  refine a_iconst (v := 0) dX7_kinAt_12 (by decide) ?_
  refine a_istore_n (ls' := [(3, vI_ 0), (2, vI_ v9), (0, vR_ (some t)), (1, vI_ i0)]) dX7_kinAt_13 rfl (Nat.le_of_ble_eq_true rfl) rfl ?_
  refine aw_pick [2, 3, 1, 0] rfl ?_
  exact w_X7_kinAt_L14 hl _ _ _ ht _ _ _ h
