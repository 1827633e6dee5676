/-! PRINTED BY dec.py: X9_clause X9_reads X1_faulty X3_now X4_begins X1_register X0_register X12_init X10_opens X10_closes X13_init X14_init X15_init X10_takesSign X12_value -/
set_option maxRecDepth 100000
def f_X9_clause (F : Nat)  (t : pm_A) (m : pm_M) : Option ((Unit ⊕ pm_A) × pm_M) :=
  gd_ 10 (gR_ m t 1) fun a1 =>
  bm_ (f_X10_place F a1 m) fun v6 m4 =>
  gd_ 10 (gR_ m4 t 1) fun a7 =>
  bm_ (f_X10_which F a7 (gR_ m4 t 0) m4) fun v12 m10 =>
  if v12 = ((-1)) then
    lt_ (pN_ m10 11 0 8) fun m132 =>
    bm_ (f_X11_init F ((11, 0, gN_ m10)) 1 v6 m132) fun v136 m134 =>
    some (.inr ((11, 0, gN_ m10)), m134)
  else
    jn_ (fun  (m15 : pm_M) =>
      lt_ (pN_ m15 11 0 8) fun m16 =>
      bm_ (f_X11_init F ((11, 0, gN_ m15)) 3 v6 m16) fun v20 m18 =>
      some (.inr ((11, 0, gN_ m15)), m18)
    ) fun k14 =>
    if (gI_ m10 t 3) = 60 then
      k14 m10
    else
      jn_ (fun  (m23 : pm_M) =>
        jn_ (fun  (m25 : pm_M) =>
          gd_ 10 (gR_ m25 t 1) fun a26 =>
          bm_ (f_X10_skipsWord F a26 m25) fun v31 m29 =>
          lt_ (pI_ m29 t 3 ((gI_ m29 t 3) + 1)) fun m32 =>
          jn_ (fun  (m35 : pm_M) =>
            gd_ 10 (gR_ m35 t 1) fun a36 =>
            bt_ (f_X10_sign F a36 59 m35) (fun v41 m39 =>
              some (.inl (), m39)
            ) fun b43 m42 =>
              some (.inr b43, m42)
          ) fun k34 =>
          if v12.toInt = 0 then
            gd_ 6 (gR_ m32 t 2) fun a45 =>
            bt_ (f_X9_signer F t (gI_ m32 a45 7) m32) (fun v50 m48 =>
              k34 m48
            ) fun b52 m51 =>
              some (.inr b52, m51)
          else
          if v12.toInt = 1 then
            gd_ 6 (gR_ m32 t 2) fun a54 =>
            bt_ (f_X9_taker F t (gI_ m32 a54 8) m32) (fun v59 m57 =>
              k34 m57
            ) fun b61 m60 =>
              some (.inr b61, m60)
          else
          if v12.toInt = 2 then
            gd_ 6 (gR_ m32 t 2) fun a63 =>
            gd_ 10 (gR_ m32 t 1) fun a66 =>
            bt_ (f_X10_number F a66 0 ((gI_ m32 a63 7) - 1) m32) (fun v71 m69 =>
              gd_ 6 (gR_ m69 t 2) fun a74 =>
              gd_ 10 (gR_ m69 t 1) fun a77 =>
              bt_ (f_X10_number F a77 0 999 m69) (fun v82 m80 =>
                gd_ 100 (gR_ m69 a74 3) fun a85 =>
                iz_ (!(ib_ v71 a85.2.1)) <|
                lt_ (pI_ m80 a85 v71.toNatClampNeg v82) fun m89 =>
                k34 m89
              ) fun b84 m83 =>
                some (.inr b84, m83)
            ) fun b73 m72 =>
              some (.inr b73, m72)
          else
          if v12.toInt = 3 then
            gd_ 10 (gR_ m32 t 1) fun a92 =>
            bt_ (f_X10_number F a92 0 400 m32) (fun v97 m95 =>
              gd_ 6 (gR_ m32 t 2) fun a100 =>
              lt_ (pI_ m95 a100 9 v97) fun m103 =>
              k34 m103
            ) fun b99 m98 =>
              some (.inr b99, m98)
          else
            gd_ 10 (gR_ m32 t 1) fun a105 =>
            bt_ (f_X10_number F a105 0 20 m32) (fun v110 m108 =>
              gd_ 6 (gR_ m32 t 2) fun a113 =>
              lt_ (pI_ m108 a113 10 v110) fun m116 =>
              k34 m116
            ) fun b112 m111 =>
              some (.inr b112, m111)
        ) fun k24 =>
        if v12 = 1 then
          gd_ 6 (gR_ m23 t 2) fun a120 =>
          if (gI_ m23 a120 8) = 5 then
            k14 m23
          else
            k24 m23
        else
          k24 m23
      ) fun k22 =>
      if v12 = 0 then
        gd_ 6 (gR_ m10 t 2) fun a126 =>
        if (gI_ m10 a126 7) = 8 then
          k14 m10
        else
          k22 m10
      else
        k22 m10
set_option maxHeartbeats 4000000 in
theorem e_X9_clause {G : xg_T} {l : Launch} (hl : l.stackTraces = false) {F : Nat}    {t : pm_A} {m0 m' : pm_M} {r : (Unit ⊕ pm_A)} (ht : t.1 = 9) (h : f_X9_clause F t m0 = some (r, m')) : Cal_ G l yX9_clause (ws_ yX9_clause cX9_clause 4 none) 8 [vR_ (some t)] m0 (oV_ r) m' := by
  refine cal_of (by decide +kernel) (Nat.le_of_ble_eq_true rfl) ?_
  unfold f_X9_clause at h
  show AW_ cX9_clause RX9 (none, "clause", 8, 4, m0, m', (oV_ r), G, l, [], true) m0 0 [(0, vR_ (some t))] []
  refine a_aload_n 0 dX9_clause_0 rfl rfl ?_
  refine a_getR kc_9 1 (by decide) rfl ht q688 dX9_clause_1 ?_
  obtain ⟨a1, e2, f3, h⟩ := gd_some h
  rw [e2]
  obtain ⟨v6, m4, e5, h⟩ := bm_some h
  have he5 := e_X10_place (G := G) hl f3 e5
  refine c_I he5.1 (rn_V (n := 0) (As := []) kc_10 f3 he5 (lw_V q716 q717 q718 q103 q719) (by decide +kernel) rfl (Nat.le_of_ble_eq_true rfl) (Nat.le_of_ble_eq_true rfl) (Nat.le_of_ble_eq_true rfl) dX9_clause_4) (fun z => (os_av (As := []) z).2.1) ?_
  refine a_istore_n (ls' := [(1, vI_ v6), (0, vR_ (some t))]) dX9_clause_7 rfl (Nat.le_of_ble_eq_true rfl) rfl ?_
  refine a_aload_n 1 dX9_clause_8 rfl rfl ?_
  refine a_getR kc_9 1 (by decide) rfl ht q688 dX9_clause_9 ?_
  refine a_aload_n 1 dX9_clause_12 rfl rfl ?_
  refine a_getR kc_9 0 (by decide) rfl ht q687 dX9_clause_13 ?_
  obtain ⟨a7, e8, f9, h⟩ := gd_some h
  rw [e8]
  obtain ⟨v12, m10, e11, h⟩ := bm_some h
  have he11 := e_X10_which (G := G) hl f9 e11
  refine c_I he11.1 (rn_V (n := 1) (As := [vR_ (gR_ m4 t 0)]) kc_10 f9 he11 (lw_V q721 q722 q723 q103 q724) (by decide +kernel) rfl (Nat.le_of_ble_eq_true rfl) (Nat.le_of_ble_eq_true rfl) (Nat.le_of_ble_eq_true rfl) dX9_clause_16) (fun z => (os_av (As := [vR_ (gR_ m4 t 0)]) z).2.1) ?_
  refine a_istore_n (ls' := [(2, vI_ v12), (1, vI_ v6), (0, vR_ (some t))]) dX9_clause_19 rfl (Nat.le_of_ble_eq_true rfl) rfl ?_
  refine a_iload_n 0 dX9_clause_20 rfl rfl ?_
  refine a_iconst (v := (-1)) dX9_clause_21 (by decide) ?_
  refine a_icmp_ne (tgt := 35) dX9_clause_22 (by decide) (fun c13 => ?_) (fun c13 => ?_)
  · replace h := ifn_ c13 h
    refine a_aload_n 2 dX9_clause_35 rfl rfl ?_
    refine a_getI kc_9 3 (by decide) rfl ht q690 dX9_clause_36 ?_
    refine a_bipush (v := 60) dX9_clause_39 (by decide) ?_
    obtain ⟨k14, e131, h⟩ := jn1_some h
    have hk14 : ∀  (m15 : pm_M), k14 m15 = some (r, m') → AW_ cX9_clause RX9 (none, "clause", 8, 4, m0, m', (oV_ r), G, l, [], true) m15 76 [(1, vI_ v6)] [] := by
      intro m15 h
      have h := (e131 m15).symm.trans h
      obtain ⟨m16, e17, h⟩ := lt_some h
      refine a_new kc_11 q781 q782 q108 dX9_clause_76 ?_
      rw [← e17]
      refine a_dup dX9_clause_79 rfl ?_
      refine a_iconst (v := 3) dX9_clause_80 (by decide) ?_
      refine a_iload_n 0 dX9_clause_81 rfl rfl ?_
      obtain ⟨v20, m18, e19, h⟩ := bm_some h
      have he19 := e_X11_init (G := G) hl rfl e19
      refine c_V he19.1 (rn_I (n := 2) (As := [vI_ 3, vI_ v6]) he19 q790 q791 q108 q792 rfl (by decide +kernel) rfl (Nat.le_of_ble_eq_true rfl) (Nat.le_of_ble_eq_true rfl) (Nat.le_of_ble_eq_true rfl) dX9_clause_82) (fun z => (os_av (As := [vI_ 3, vI_ v6]) z).2.1) ?_
      refine a_athrow kc_11 rfl dX9_clause_85 ?_
      cases h
      exact a_out rfl rfl rfl rfl
    refine a_icmp_eq (tgt := 76) dX9_clause_41 (by decide) (fun c21 => ?_) (fun c21 => ?_)
    · replace h := ifp_ c21 h
      refine aw_pick [1] rfl ?_
      exact hk14 _ h
    · replace h := ifn_ c21 h
      refine a_iload_n 0 dX9_clause_44 rfl rfl ?_
      obtain ⟨k22, e130, h⟩ := jn1_some h
      have hk22 : ∀  (m23 : pm_M), k22 m23 = some (r, m') → AW_ cX9_clause RX9 (none, "clause", 8, 4, m0, m', (oV_ r), G, l, [], true) m23 60 [(0, vR_ (some t)), (1, vI_ v6), (2, vI_ v12)] [] := by
        intro m23 h
        have h := (e130 m23).symm.trans h
        refine a_iload_n 2 dX9_clause_60 rfl rfl ?_
        refine a_iconst (v := 1) dX9_clause_61 (by decide) ?_
        obtain ⟨k24, e124, h⟩ := jn1_some h
        have hk24 : ∀  (m25 : pm_M), k24 m25 = some (r, m') → AW_ cX9_clause RX9 (none, "clause", 8, 4, m0, m', (oV_ r), G, l, [], true) m25 86 [(0, vR_ (some t)), (2, vI_ v12)] [] := by
          intro m25 h
          have h := (e124 m25).symm.trans h
          refine a_aload_n 0 dX9_clause_86 rfl rfl ?_
          refine a_getR kc_9 1 (by decide) rfl ht q688 dX9_clause_87 ?_
          obtain ⟨a26, e27, f28, h⟩ := gd_some h
          rw [e27]
          obtain ⟨v31, m29, e30, h⟩ := bm_some h
          have he30 := e_X10_skipsWord (G := G) hl f28 e30
          refine c_V he30.1 (rn_V (n := 0) (As := []) kc_10 f28 he30 (lw_V q809 q810 q811 q103 q812) (by decide +kernel) rfl (Nat.le_of_ble_eq_true rfl) (Nat.le_of_ble_eq_true rfl) (Nat.le_of_ble_eq_true rfl) dX9_clause_90) (fun z => (os_av (As := []) z).2.1) ?_
          refine a_aload_n 0 dX9_clause_93 rfl rfl ?_
          refine a_dup dX9_clause_94 rfl ?_
          refine a_getI kc_9 3 (by decide) rfl ht q690 dX9_clause_95 ?_
          refine a_iconst (v := 1) dX9_clause_98 (by decide) ?_
          refine a_iadd dX9_clause_99 ?_
          obtain ⟨m32, e33, h⟩ := lt_some h
          refine a_putI kc_9 3 (by decide) rfl ht q690 rfl rfl rfl dX9_clause_100 ?_
          rw [← e33]
          refine a_iload_n 1 dX9_clause_103 rfl rfl ?_
          obtain ⟨k34, e118, h⟩ := jn1_some h
          have hk34 : ∀  (m35 : pm_M), k34 m35 = some (r, m') → AW_ cX9_clause RX9 (none, "clause", 8, 4, m0, m', (oV_ r), G, l, [], true) m35 243 [(0, vR_ (some t))] [] := by
            intro m35 h
            have h := (e118 m35).symm.trans h
            refine a_aload_n 0 dX9_clause_243 rfl rfl ?_
            refine a_getR kc_9 1 (by decide) rfl ht q688 dX9_clause_244 ?_
            refine a_bipush (v := 59) dX9_clause_247 (by decide) ?_
            obtain ⟨a36, e37, f38, h⟩ := gd_some h
            rw [e37]
            rcases bt_some h with ⟨v41, m39, e40, h⟩ | ⟨b43, m42, e40, h⟩
            · have he40 := e_X10_sign (G := G) hl f38 e40
              refine c_V he40.1 (rn_V (n := 1) (As := [vI_ 59]) kc_10 f38 he40 (lw_V q832 q833 q834 q103 q835) (by decide +kernel) rfl (Nat.le_of_ble_eq_true rfl) (Nat.le_of_ble_eq_true rfl) (Nat.le_of_ble_eq_true rfl) dX9_clause_249) (fun z => (os_av (As := [vI_ 59]) z).2.1) ?_
              cases h
              exact a_return rfl rfl rfl rfl dX9_clause_252
            · have he40 := e_X10_sign (G := G) hl f38 e40
              refine c_X (b := b43) he40.1 (rn_V (n := 1) (As := [vI_ 59]) kc_10 f38 he40 (lw_V q832 q833 q834 q103 q835) (by decide +kernel) rfl (Nat.le_of_ble_eq_true rfl) (Nat.le_of_ble_eq_true rfl) (Nat.le_of_ble_eq_true rfl) dX9_clause_249) ?_
              cases h
              exact a_out rfl rfl rfl rfl
          by_cases c44 : v12.toInt = 0
          · replace h := ifp_ c44 h
            refine a_tabIn (tgt := 136) dX9_clause_104 (by rw [c44]; decide) (by rw [c44]; decide) (by rw [c44]; rfl) (by decide) ?_
            refine a_aload_n 0 dX9_clause_136 rfl rfl ?_
            refine a_aload_n 0 dX9_clause_137 rfl rfl ?_
            refine a_getR kc_9 2 (by decide) rfl ht q689 dX9_clause_138 ?_
            obtain ⟨a45, e46, f47, h⟩ := gd_some h
            rw [e46]
            refine a_getIN kc_6 7 (by decide) rfl f47 q247 dX9_clause_141 ?_
            rcases bt_some h with ⟨v50, m48, e49, h⟩ | ⟨b52, m51, e49, h⟩
            · have he49 := e_X9_signer (G := G) hl ht e49
              refine c_V he49.1 (rn_V (n := 1) (As := [vI_ (gI_ m32 a45 7)]) kc_9 ht he49 (lw_V q813 q815 qs5 q102 q816) (by decide +kernel) rfl (Nat.le_of_ble_eq_true rfl) (Nat.le_of_ble_eq_true rfl) (Nat.le_of_ble_eq_true rfl) dX9_clause_144) (fun z => (os_av (As := [vI_ (gI_ m32 a45 7)]) z).2.1) ?_
              refine a_goto (tgt := 243) dX9_clause_147 (by decide) ?_
              refine aw_pick [0] rfl ?_
              exact hk34 _ h
            · have he49 := e_X9_signer (G := G) hl ht e49
              refine c_X (b := b52) he49.1 (rn_V (n := 1) (As := [vI_ (gI_ m32 a45 7)]) kc_9 ht he49 (lw_V q813 q815 qs5 q102 q816) (by decide +kernel) rfl (Nat.le_of_ble_eq_true rfl) (Nat.le_of_ble_eq_true rfl) (Nat.le_of_ble_eq_true rfl) dX9_clause_144) ?_
              cases h
              exact a_out rfl rfl rfl rfl
          replace h := ifn_ c44 h
          by_cases c53 : v12.toInt = 1
          · replace h := ifp_ c53 h
            refine a_tabIn (tgt := 150) dX9_clause_104 (by rw [c53]; decide) (by rw [c53]; decide) (by rw [c53]; rfl) (by decide) ?_
            refine a_aload_n 0 dX9_clause_150 rfl rfl ?_
            refine a_aload_n 0 dX9_clause_151 rfl rfl ?_
            refine a_getR kc_9 2 (by decide) rfl ht q689 dX9_clause_152 ?_
            obtain ⟨a54, e55, f56, h⟩ := gd_some h
            rw [e55]
            refine a_getIN kc_6 8 (by decide) rfl f56 q251 dX9_clause_155 ?_
            rcases bt_some h with ⟨v59, m57, e58, h⟩ | ⟨b61, m60, e58, h⟩
            · have he58 := e_X9_taker (G := G) hl ht e58
              refine c_V he58.1 (rn_V (n := 1) (As := [vI_ (gI_ m32 a54 8)]) kc_9 ht he58 (lw_V q828 q830 qs6 q102 q831) (by decide +kernel) rfl (Nat.le_of_ble_eq_true rfl) (Nat.le_of_ble_eq_true rfl) (Nat.le_of_ble_eq_true rfl) dX9_clause_158) (fun z => (os_av (As := [vI_ (gI_ m32 a54 8)]) z).2.1) ?_
              refine a_goto (tgt := 243) dX9_clause_161 (by decide) ?_
              refine aw_pick [0] rfl ?_
              exact hk34 _ h
            · have he58 := e_X9_taker (G := G) hl ht e58
              refine c_X (b := b61) he58.1 (rn_V (n := 1) (As := [vI_ (gI_ m32 a54 8)]) kc_9 ht he58 (lw_V q828 q830 qs6 q102 q831) (by decide +kernel) rfl (Nat.le_of_ble_eq_true rfl) (Nat.le_of_ble_eq_true rfl) (Nat.le_of_ble_eq_true rfl) dX9_clause_158) ?_
              cases h
              exact a_out rfl rfl rfl rfl
          replace h := ifn_ c53 h
          by_cases c62 : v12.toInt = 2
          · replace h := ifp_ c62 h
            refine a_tabIn (tgt := 164) dX9_clause_104 (by rw [c62]; decide) (by rw [c62]; decide) (by rw [c62]; rfl) (by decide) ?_
            refine a_aload_n 0 dX9_clause_164 rfl rfl ?_
            refine a_getR kc_9 1 (by decide) rfl ht q688 dX9_clause_165 ?_
            refine a_iconst (v := 0) dX9_clause_168 (by decide) ?_
            refine a_aload_n 0 dX9_clause_169 rfl rfl ?_
            refine a_getR kc_9 2 (by decide) rfl ht q689 dX9_clause_170 ?_
            obtain ⟨a63, e64, f65, h⟩ := gd_some h
            rw [e64]
            refine a_getIN kc_6 7 (by decide) rfl f65 q247 dX9_clause_173 ?_
            refine a_iconst (v := 1) dX9_clause_176 (by decide) ?_
            refine a_isub dX9_clause_177 ?_
            obtain ⟨a66, e67, f68, h⟩ := gd_some h
            rw [e67]
            rcases bt_some h with ⟨v71, m69, e70, h⟩ | ⟨b73, m72, e70, h⟩
            · have he70 := e_X10_number (G := G) hl f68 e70
              refine c_I (v := v71) he70.1 (rn_V (n := 2) (As := [vI_ 0, vI_ ((gI_ m32 a63 7) - 1)]) kc_10 f68 he70 (lw_V q817 q818 q819 q103 q820) (by decide +kernel) rfl (Nat.le_of_ble_eq_true rfl) (Nat.le_of_ble_eq_true rfl) (Nat.le_of_ble_eq_true rfl) dX9_clause_178) (fun z => (os_av (As := [vI_ 0, vI_ ((gI_ m32 a63 7) - 1)]) z).2.1) ?_
              refine a_istore_n (ls' := [(3, vI_ v71), (0, vR_ (some t)), (2, vI_ v12)]) dX9_clause_181 rfl (Nat.le_of_ble_eq_true rfl) rfl ?_
              refine a_aload_n 1 dX9_clause_182 rfl rfl ?_
              refine a_getR kc_9 2 (by decide) rfl ht q689 dX9_clause_183 ?_
              obtain ⟨a74, e75, f76, h⟩ := gd_some h
              rw [e75]
              refine a_getRN kc_6 3 (by decide) rfl f76 q229 dX9_clause_186 ?_
              refine a_iload_n 0 dX9_clause_189 rfl rfl ?_
              refine a_aload_n 1 dX9_clause_190 rfl rfl ?_
              refine a_getR kc_9 1 (by decide) rfl ht q688 dX9_clause_191 ?_
              refine a_iconst (v := 0) dX9_clause_194 (by decide) ?_
              refine a_sipush (v := 999) dX9_clause_195 (by decide) ?_
              obtain ⟨a77, e78, f79, h⟩ := gd_some h
              rw [e78]
              rcases bt_some h with ⟨v82, m80, e81, h⟩ | ⟨b84, m83, e81, h⟩
              · have he81 := e_X10_number (G := G) hl f79 e81
                refine c_I (v := v82) he81.1 (rn_V (n := 2) (As := [vI_ 0, vI_ 999]) kc_10 f79 he81 (lw_V q817 q818 q819 q103 q820) (by decide +kernel) rfl (Nat.le_of_ble_eq_true rfl) (Nat.le_of_ble_eq_true rfl) (Nat.le_of_ble_eq_true rfl) dX9_clause_198) (fun z => (os_av (As := [vI_ 0, vI_ 999]) z).2.1) ?_
                obtain ⟨a85, e86, f87, h⟩ := gd_some h
                rw [e86]
                obtain ⟨c88, h⟩ := iz_some h
                obtain ⟨m89, e90, h⟩ := lt_some h
                refine a_iast f87 (bn_ c88) dX9_clause_201 ?_
                rw [← e90]
                refine a_goto (tgt := 243) dX9_clause_202 (by decide) ?_
                refine aw_pick [1] rfl ?_
                exact hk34 _ h
              · have he81 := e_X10_number (G := G) hl f79 e81
                refine c_X (b := b84) he81.1 (rn_V (n := 2) (As := [vI_ 0, vI_ 999]) kc_10 f79 he81 (lw_V q817 q818 q819 q103 q820) (by decide +kernel) rfl (Nat.le_of_ble_eq_true rfl) (Nat.le_of_ble_eq_true rfl) (Nat.le_of_ble_eq_true rfl) dX9_clause_198) ?_
                cases h
                exact a_out rfl rfl rfl rfl
            · have he70 := e_X10_number (G := G) hl f68 e70
              refine c_X (b := b73) he70.1 (rn_V (n := 2) (As := [vI_ 0, vI_ ((gI_ m32 a63 7) - 1)]) kc_10 f68 he70 (lw_V q817 q818 q819 q103 q820) (by decide +kernel) rfl (Nat.le_of_ble_eq_true rfl) (Nat.le_of_ble_eq_true rfl) (Nat.le_of_ble_eq_true rfl) dX9_clause_178) ?_
              cases h
              exact a_out rfl rfl rfl rfl
          replace h := ifn_ c62 h
          by_cases c91 : v12.toInt = 3
          · replace h := ifp_ c91 h
            refine a_tabIn (tgt := 205) dX9_clause_104 (by rw [c91]; decide) (by rw [c91]; decide) (by rw [c91]; rfl) (by decide) ?_
            refine a_aload_n 0 dX9_clause_205 rfl rfl ?_
            refine a_getR kc_9 2 (by decide) rfl ht q689 dX9_clause_206 ?_
            refine a_aload_n 0 dX9_clause_209 rfl rfl ?_
            refine a_getR kc_9 1 (by decide) rfl ht q688 dX9_clause_210 ?_
            refine a_iconst (v := 0) dX9_clause_213 (by decide) ?_
            refine a_sipush (v := 400) dX9_clause_214 (by decide) ?_
            obtain ⟨a92, e93, f94, h⟩ := gd_some h
            rw [e93]
            rcases bt_some h with ⟨v97, m95, e96, h⟩ | ⟨b99, m98, e96, h⟩
            · have he96 := e_X10_number (G := G) hl f94 e96
              refine c_I (v := v97) he96.1 (rn_V (n := 2) (As := [vI_ 0, vI_ 400]) kc_10 f94 he96 (lw_V q817 q818 q819 q103 q820) (by decide +kernel) rfl (Nat.le_of_ble_eq_true rfl) (Nat.le_of_ble_eq_true rfl) (Nat.le_of_ble_eq_true rfl) dX9_clause_217) (fun z => (os_av (As := [vI_ 0, vI_ 400]) z).2.1) ?_
              obtain ⟨a100, e101, f102, h⟩ := gd_some h
              rw [e101]
              obtain ⟨m103, e104, h⟩ := lt_some h
              refine a_putIN kc_6 9 (by decide) rfl f102 q255 rfl rfl rfl dX9_clause_220 ?_
              rw [← e104]
              refine a_goto (tgt := 243) dX9_clause_223 (by decide) ?_
              refine aw_pick [0] rfl ?_
              exact hk34 _ h
            · have he96 := e_X10_number (G := G) hl f94 e96
              refine c_X (b := b99) he96.1 (rn_V (n := 2) (As := [vI_ 0, vI_ 400]) kc_10 f94 he96 (lw_V q817 q818 q819 q103 q820) (by decide +kernel) rfl (Nat.le_of_ble_eq_true rfl) (Nat.le_of_ble_eq_true rfl) (Nat.le_of_ble_eq_true rfl) dX9_clause_217) ?_
              cases h
              exact a_out rfl rfl rfl rfl
          replace h := ifn_ c91 h
          refine a_tabOut (tgt := 226) dX9_clause_104 (by omega) (by decide) ?_
          refine a_aload_n 0 dX9_clause_226 rfl rfl ?_
          refine a_getR kc_9 2 (by decide) rfl ht q689 dX9_clause_227 ?_
          refine a_aload_n 0 dX9_clause_230 rfl rfl ?_
          refine a_getR kc_9 1 (by decide) rfl ht q688 dX9_clause_231 ?_
          refine a_iconst (v := 0) dX9_clause_234 (by decide) ?_
          refine a_bipush (v := 20) dX9_clause_235 (by decide) ?_
          obtain ⟨a105, e106, f107, h⟩ := gd_some h
          rw [e106]
          rcases bt_some h with ⟨v110, m108, e109, h⟩ | ⟨b112, m111, e109, h⟩
          · have he109 := e_X10_number (G := G) hl f107 e109
            refine c_I (v := v110) he109.1 (rn_V (n := 2) (As := [vI_ 0, vI_ 20]) kc_10 f107 he109 (lw_V q817 q818 q819 q103 q820) (by decide +kernel) rfl (Nat.le_of_ble_eq_true rfl) (Nat.le_of_ble_eq_true rfl) (Nat.le_of_ble_eq_true rfl) dX9_clause_237) (fun z => (os_av (As := [vI_ 0, vI_ 20]) z).2.1) ?_
            obtain ⟨a113, e114, f115, h⟩ := gd_some h
            rw [e114]
            obtain ⟨m116, e117, h⟩ := lt_some h
            refine a_putIN kc_6 10 (by decide) rfl f115 q257 rfl rfl rfl dX9_clause_240 ?_
            rw [← e117]
            refine aw_pick [0] rfl ?_
            exact hk34 _ h
          · have he109 := e_X10_number (G := G) hl f107 e109
            refine c_X (b := b112) he109.1 (rn_V (n := 2) (As := [vI_ 0, vI_ 20]) kc_10 f107 he109 (lw_V q817 q818 q819 q103 q820) (by decide +kernel) rfl (Nat.le_of_ble_eq_true rfl) (Nat.le_of_ble_eq_true rfl) (Nat.le_of_ble_eq_true rfl) dX9_clause_237) ?_
            cases h
            exact a_out rfl rfl rfl rfl
        refine a_icmp_ne (tgt := 86) dX9_clause_62 (by decide) (fun c119 => ?_) (fun c119 => ?_)
        · replace h := ifn_ c119 h
          refine aw_pick [0, 2] rfl ?_
          exact hk24 _ h
        · replace h := ifp_ c119 h
          refine a_aload_n 0 dX9_clause_65 rfl rfl ?_
          refine a_getR kc_9 2 (by decide) rfl ht q689 dX9_clause_66 ?_
          obtain ⟨a120, e121, f122, h⟩ := gd_some h
          rw [e121]
          refine a_getIN kc_6 8 (by decide) rfl f122 q251 dX9_clause_69 ?_
          refine a_iconst (v := 5) dX9_clause_72 (by decide) ?_
          refine a_icmp_ne (tgt := 86) dX9_clause_73 (by decide) (fun c123 => ?_) (fun c123 => ?_)
          · replace h := ifn_ c123 h
            refine aw_pick [0, 2] rfl ?_
            exact hk24 _ h
          · replace h := ifp_ c123 h
            refine aw_pick [1] rfl ?_
            exact hk14 _ h
      refine a_if_ne (tgt := 60) dX9_clause_45 (by decide) (fun c125 => ?_) (fun c125 => ?_)
      · replace h := ifn_ c125 h
        refine aw_pick [2, 1, 0] rfl ?_
        exact hk22 _ h
      · replace h := ifp_ c125 h
        refine a_aload_n 2 dX9_clause_48 rfl rfl ?_
        refine a_getR kc_9 2 (by decide) rfl ht q689 dX9_clause_49 ?_
        obtain ⟨a126, e127, f128, h⟩ := gd_some h
        rw [e127]
        refine a_getIN kc_6 7 (by decide) rfl f128 q247 dX9_clause_52 ?_
        refine a_bipush (v := 8) dX9_clause_55 (by decide) ?_
        refine a_icmp_eq (tgt := 76) dX9_clause_57 (by decide) (fun c129 => ?_) (fun c129 => ?_)
        · replace h := ifp_ c129 h
          refine aw_pick [1] rfl ?_
          exact hk14 _ h
        · replace h := ifn_ c129 h
          refine aw_pick [2, 1, 0] rfl ?_
          exact hk22 _ h
  · replace h := ifp_ c13 h
    obtain ⟨m132, e133, h⟩ := lt_some h
    refine a_new kc_11 q781 q782 q108 dX9_clause_25 ?_
    rw [← e133]
    refine a_dup dX9_clause_28 rfl ?_
    refine a_iconst (v := 1) dX9_clause_29 (by decide) ?_
    refine a_iload_n 1 dX9_clause_30 rfl rfl ?_
    obtain ⟨v136, m134, e135, h⟩ := bm_some h
    have he135 := e_X11_init (G := G) hl rfl e135
    refine c_V he135.1 (rn_I (n := 2) (As := [vI_ 1, vI_ v6]) he135 q790 q791 q108 q792 rfl (by decide +kernel) rfl (Nat.le_of_ble_eq_true rfl) (Nat.le_of_ble_eq_true rfl) (Nat.le_of_ble_eq_true rfl) dX9_clause_31) (fun z => (os_av (As := [vI_ 1, vI_ v6]) z).2.1) ?_
    refine a_athrow kc_11 rfl dX9_clause_34 ?_
    cases h
    exact a_out rfl rfl rfl rfl
def f_X9_reads_L0 (F : Nat)  (p1 : pm_A) : Nat → pm_M → Option ((Option pm_A ⊕ pm_A) × pm_M)
  | 0, _ => none
  | n3 + 1, m4 =>
    gd_ 10 (gR_ m4 p1 1) fun a5 =>
    bm_ (f_X10_now F a5 m4) fun v10 m8 =>
    if v10 = ((-1)) then
      some (.inl (gR_ m8 p1 2), m8)
    else
      bt_ (f_X9_clause F p1 m8) (fun v14 m12 =>
        (f_X9_reads_L0 F p1 n3) m12
      ) fun b16 m15 =>
        some (.inr b16, m15)
set_option maxHeartbeats 4000000 in
theorem w_X9_reads_L0 {G : xg_T} {l : Launch} (hl : l.stackTraces = false) {F : Nat}    (p1 : pm_A) {m0 m' : pm_M} {r : (Option pm_A ⊕ pm_A)} (hf2 : p1.1 = 9)  : ∀ (n : Nat) (m4 : pm_M), f_X9_reads_L0 F p1 n m4 = some (r, m') → AW_ cX9_reads RX9 (some (.object "PassagePapers$Register"), "reads", 9, 1, m0, m', (oR_ r), G, l, [], true) m4 0 [(0, vR_ (some p1))] [] := by
  intro n
  induction n with
  | zero => intro m4 h; cases h
  | succ n3 ih =>
    intro m4 h
    rw [f_X9_reads_L0] at h
    refine a_aload_n 0 dX9_reads_0 rfl rfl ?_
    refine a_getR kc_9 1 (by decide) rfl hf2 q688 dX9_reads_1 ?_
    obtain ⟨a5, e6, f7, h⟩ := gd_some h
    rw [e6]
    obtain ⟨v10, m8, e9, h⟩ := bm_some h
    have he9 := e_X10_now (G := G) hl f7 e9
    refine c_I he9.1 (rn_V (n := 0) (As := []) kc_10 f7 he9 (lw_V q704 q705 q706 q103 q707) (by decide +kernel) rfl (Nat.le_of_ble_eq_true rfl) (Nat.le_of_ble_eq_true rfl) (Nat.le_of_ble_eq_true rfl) dX9_reads_4) (fun z => (os_av (As := []) z).2.1) ?_
    refine a_iconst (v := (-1)) dX9_reads_7 (by decide) ?_
    refine a_icmp_eq (tgt := 18) dX9_reads_8 (by decide) (fun c11 => ?_) (fun c11 => ?_)
    · replace h := ifp_ c11 h
      refine a_aload_n 0 dX9_reads_18 rfl rfl ?_
      refine a_getR kc_9 2 (by decide) rfl hf2 q689 dX9_reads_19 ?_
      cases h
      exact a_areturn rfl (Or.inl ⟨_, rfl⟩) rfl rfl rfl dX9_reads_22
    · replace h := ifn_ c11 h
      refine a_aload_n 0 dX9_reads_11 rfl rfl ?_
      rcases bt_some h with ⟨v14, m12, e13, h⟩ | ⟨b16, m15, e13, h⟩
      · have he13 := e_X9_clause (G := G) hl hf2 e13
        refine c_V he13.1 (rn_V (n := 0) (As := []) kc_9 hf2 he13 (lw_V q712 q714 qs4 q102 q715) (by decide +kernel) rfl (Nat.le_of_ble_eq_true rfl) (Nat.le_of_ble_eq_true rfl) (Nat.le_of_ble_eq_true rfl) dX9_reads_12) (fun z => (os_av (As := []) z).2.1) ?_
        refine a_goto (tgt := 0) dX9_reads_15 (by decide) ?_
        exact ih _ h
      · have he13 := e_X9_clause (G := G) hl hf2 e13
        refine c_X (b := b16) he13.1 (rn_V (n := 0) (As := []) kc_9 hf2 he13 (lw_V q712 q714 qs4 q102 q715) (by decide +kernel) rfl (Nat.le_of_ble_eq_true rfl) (Nat.le_of_ble_eq_true rfl) (Nat.le_of_ble_eq_true rfl) dX9_reads_12) ?_
        cases h
        exact a_out rfl rfl rfl rfl
def f_X9_reads (F : Nat)  (t : pm_A) (m : pm_M) : Option ((Option pm_A ⊕ pm_A) × pm_M) :=
  f_X9_reads_L0 F t F m
set_option maxHeartbeats 4000000 in
theorem e_X9_reads {G : xg_T} {l : Launch} (hl : l.stackTraces = false) {F : Nat}    {t : pm_A} {m0 m' : pm_M} {r : (Option pm_A ⊕ pm_A)} (ht : t.1 = 9) (h : f_X9_reads F t m0 = some (r, m')) : Cal_ G l yX9_reads (ws_ yX9_reads cX9_reads 1 (some (.object "PassagePapers$Register"))) 9 [vR_ (some t)] m0 (oR_ r) m' := by
  refine cal_of (by decide +kernel) (Nat.le_of_ble_eq_true rfl) ?_
  unfold f_X9_reads at h
  show AW_ cX9_reads RX9 (some (.object "PassagePapers$Register"), "reads", 9, 1, m0, m', (oR_ r), G, l, [], true) m0 0 [(0, vR_ (some t))] []
  exact w_X9_reads_L0 hl _ ht _ _ h
def f_X1_faulty (F : Nat)  (t : pm_A) (i0 : Option pm_A) (m : pm_M) : Option (Int32 × pm_M) :=
  gd_ 11 i0 fun a1 =>
  lt_ (pI_ m t 14 (gI_ m a1 7)) fun m4 =>
  some (((gI_ m4 a1 6) - 10), m4)
set_option maxHeartbeats 4000000 in
theorem e_X1_faulty {G : xg_T} {l : Launch} (hl : l.stackTraces = false) {F : Nat}    {t : pm_A} {i0 : Option pm_A} {m0 m' : pm_M} {r : Int32} (ht : t.1 = 1) (h : f_X1_faulty F t i0 m0 = some (r, m')) : Cal_ G l yX1_faulty (ws_ yX1_faulty cX1_faulty 2 (some .int)) 2 [vR_ (some t), vR_ i0] m0 (.inl (some (vI_ r))) m' := by
  refine cal_of (by decide +kernel) (Nat.le_of_ble_eq_true rfl) ?_
  unfold f_X1_faulty at h
  show AW_ cX1_faulty RX1 (some (.int), "faulty", 2, 2, m0, m', (.inl (some (vI_ r))), G, l, [], true) m0 0 [(0, vR_ (some t)), (1, vR_ i0)] []
  refine a_aload_n 0 dX1_faulty_0 rfl rfl ?_
  refine a_aload_n 1 dX1_faulty_1 rfl rfl ?_
  obtain ⟨a1, e2, f3, h⟩ := gd_some h
  rw [e2]
  refine a_getIN kc_11 7 (by decide) rfl f3 q802 dX1_faulty_2 ?_
  obtain ⟨m4, e5, h⟩ := lt_some h
  refine a_putI kc_1 14 (by decide) rfl ht q402 rfl rfl rfl dX1_faulty_5 ?_
  rw [← e5]
  refine a_aload_n 1 dX1_faulty_8 rfl rfl ?_
  refine a_getIN kc_11 6 (by decide) rfl f3 q800 dX1_faulty_9 ?_
  refine a_bipush (v := 10) dX1_faulty_12 (by decide) ?_
  refine a_isub dX1_faulty_14 ?_
  cases h
  exact a_ireturn rfl rfl rfl rfl rfl dX1_faulty_15
def f_X3_now (F : Nat)  (t : pm_A) (m : pm_M) : Option (Option pm_A × pm_M) :=
  gd_ 105 (gR_ m t 0) fun a1 =>
  iz_ (!(ib_ (gI_ m t 1) a1.2.1)) <|
  some ((gR_ m a1 (gI_ m t 1).toNatClampNeg), m)
set_option maxHeartbeats 4000000 in
theorem e_X3_now {G : xg_T} {l : Launch} (hl : l.stackTraces = false) {F : Nat}    {t : pm_A} {m0 m' : pm_M} {r : Option pm_A} (ht : t.1 = 3) (h : f_X3_now F t m0 = some (r, m')) : Cal_ G l yX3_now (ws_ yX3_now cX3_now 1 (some (.object "PassagePapers$State"))) 2 [vR_ (some t)] m0 (.inl (some (vR_ r))) m' := by
  refine cal_of (by decide +kernel) (Nat.le_of_ble_eq_true rfl) ?_
  unfold f_X3_now at h
  show AW_ cX3_now RX3 (some (.object "PassagePapers$State"), "now", 2, 1, m0, m', (.inl (some (vR_ r))), G, l, [], true) m0 0 [(0, vR_ (some t))] []
  refine a_aload_n 0 dX3_now_0 rfl rfl ?_
  refine a_getR kc_3 0 (by decide) rfl ht q338 dX3_now_1 ?_
  refine a_aload_n 0 dX3_now_4 rfl rfl ?_
  refine a_getI kc_3 1 (by decide) rfl ht q339 dX3_now_5 ?_
  obtain ⟨a1, e2, f3, h⟩ := gd_some h
  rw [e2]
  obtain ⟨c4, h⟩ := iz_some h
  refine a_aald (t0 := 5) f3 (by decide) (by decide) rfl (bn_ c4) dX3_now_8 ?_
  cases h
  exact a_areturn rfl (Or.inl ⟨_, rfl⟩) rfl rfl rfl dX3_now_9
def f_X4_begins_L20 (F : Nat)  (p10 : pm_A) (p12 : pm_A) : Nat → Int32 → pm_M → Option (Unit × pm_M)
  | 0, _, _ => none
  | n14 + 1, x16, m15 =>
    if 8 ≤ x16 then
      some ((), m15)
    else
      gd_ 100 (gR_ m15 p10 0) fun a18 =>
      iz_ (!(ib_ x16 a18.2.1)) <|
      lt_ (pI_ m15 a18 x16.toNatClampNeg 0) fun m22 =>
      gd_ 100 (gR_ m22 p10 1) fun a24 =>
      iz_ (!(ib_ x16 a24.2.1)) <|
      lt_ (pI_ m22 a24 x16.toNatClampNeg ((-1))) fun m28 =>
      gd_ 100 (gR_ m28 p10 2) fun a30 =>
      iz_ (!(ib_ x16 a30.2.1)) <|
      lt_ (pI_ m28 a30 x16.toNatClampNeg 0) fun m34 =>
      gd_ 100 (gR_ m34 p10 3) fun a36 =>
      iz_ (!(ib_ x16 a36.2.1)) <|
      lt_ (pI_ m34 a36 x16.toNatClampNeg 0) fun m40 =>
      gd_ 100 (gR_ m40 p10 4) fun a42 =>
      iz_ (!(ib_ x16 a42.2.1)) <|
      lt_ (pI_ m40 a42 x16.toNatClampNeg 0) fun m46 =>
      gd_ 100 (gR_ m46 p10 5) fun a48 =>
      iz_ (!(ib_ x16 a48.2.1)) <|
      lt_ (pI_ m46 a48 x16.toNatClampNeg ((-1))) fun m52 =>
      gd_ 100 (gR_ m52 p12 3) fun a54 =>
      iz_ (!(ib_ x16 a54.2.1)) <|
      gd_ 100 (gR_ m52 p10 6) fun a58 =>
      iz_ (!(ib_ x16 a58.2.1)) <|
      lt_ (pI_ m52 a58 x16.toNatClampNeg (gI_ m52 a54 x16.toNatClampNeg)) fun m62 =>
      gd_ 102 (gR_ m62 p10 7) fun a64 =>
      iz_ (!(ib_ x16 a64.2.1)) <|
      lt_ (pI_ m62 a64 x16.toNatClampNeg (vp_nar .boolean 0)) fun m68 =>
      (f_X4_begins_L20 F p10 p12 n14) (x16 + 1) m68
set_option maxHeartbeats 4000000 in
theorem w_X4_begins_L20 {G : xg_T} {l : Launch} (hl : l.stackTraces = false) {F : Nat}    (p10 : pm_A) (p12 : pm_A) {m0 m' : pm_M} {r : Unit} (hf11 : p10.1 = 4) (hf13 : p12.1 = 6)  : ∀ (n : Nat) (x16 : Int32) (m15 : pm_M), f_X4_begins_L20 F p10 p12 n x16 m15 = some (r, m') → AW_ cX4_begins RX4 (none, "begins", 2, 3, m0, m', (.inl none), G, l, [], true) m15 20 [(0, vR_ (some p10)), (1, vR_ (some p12)), (2, vI_ x16)] [] := by
  intro n
  induction n with
  | zero => intro x16 m15 h; cases h
  | succ n14 ih =>
    intro x16 m15 h
    rw [f_X4_begins_L20] at h
    refine a_iload_n 2 dX4_begins_20 rfl rfl ?_
    refine a_bipush (v := 8) dX4_begins_21 (by decide) ?_
    refine a_icmp_ge (tgt := 93) dX4_begins_23 (by decide) (fun c17 => ?_) (fun c17 => ?_)
    · replace h := ifp_ c17 h
      cases h
      exact a_return rfl rfl rfl rfl dX4_begins_93
    · replace h := ifn_ c17 h
      refine a_aload_n 0 dX4_begins_26 rfl rfl ?_
      refine a_getR kc_4 0 (by decide) rfl hf11 q283 dX4_begins_27 ?_
      refine a_iload_n 2 dX4_begins_30 rfl rfl ?_
      refine a_iconst (v := 0) dX4_begins_31 (by decide) ?_
      obtain ⟨a18, e19, f20, h⟩ := gd_some h
      rw [e19]
      obtain ⟨c21, h⟩ := iz_some h
      obtain ⟨m22, e23, h⟩ := lt_some h
      refine a_iast f20 (bn_ c21) dX4_begins_32 ?_
      rw [← e23]
      refine a_aload_n 0 dX4_begins_33 rfl rfl ?_
      refine a_getR kc_4 1 (by decide) rfl hf11 q286 dX4_begins_34 ?_
      refine a_iload_n 2 dX4_begins_37 rfl rfl ?_
      refine a_iconst (v := (-1)) dX4_begins_38 (by decide) ?_
      obtain ⟨a24, e25, f26, h⟩ := gd_some h
      rw [e25]
      obtain ⟨c27, h⟩ := iz_some h
      obtain ⟨m28, e29, h⟩ := lt_some h
      refine a_iast f26 (bn_ c27) dX4_begins_39 ?_
      rw [← e29]
      refine a_aload_n 0 dX4_begins_40 rfl rfl ?_
      refine a_getR kc_4 2 (by decide) rfl hf11 q288 dX4_begins_41 ?_
      refine a_iload_n 2 dX4_begins_44 rfl rfl ?_
      refine a_iconst (v := 0) dX4_begins_45 (by decide) ?_
      obtain ⟨a30, e31, f32, h⟩ := gd_some h
      rw [e31]
      obtain ⟨c33, h⟩ := iz_some h
      obtain ⟨m34, e35, h⟩ := lt_some h
      refine a_iast f32 (bn_ c33) dX4_begins_46 ?_
      rw [← e35]
      refine a_aload_n 0 dX4_begins_47 rfl rfl ?_
      refine a_getR kc_4 3 (by decide) rfl hf11 q290 dX4_begins_48 ?_
      refine a_iload_n 2 dX4_begins_51 rfl rfl ?_
      refine a_iconst (v := 0) dX4_begins_52 (by decide) ?_
      obtain ⟨a36, e37, f38, h⟩ := gd_some h
      rw [e37]
      obtain ⟨c39, h⟩ := iz_some h
      obtain ⟨m40, e41, h⟩ := lt_some h
      refine a_iast f38 (bn_ c39) dX4_begins_53 ?_
      rw [← e41]
      refine a_aload_n 0 dX4_begins_54 rfl rfl ?_
      refine a_getR kc_4 4 (by decide) rfl hf11 q292 dX4_begins_55 ?_
      refine a_iload_n 2 dX4_begins_58 rfl rfl ?_
      refine a_iconst (v := 0) dX4_begins_59 (by decide) ?_
      obtain ⟨a42, e43, f44, h⟩ := gd_some h
      rw [e43]
      obtain ⟨c45, h⟩ := iz_some h
      obtain ⟨m46, e47, h⟩ := lt_some h
      refine a_iast f44 (bn_ c45) dX4_begins_60 ?_
      rw [← e47]
      refine a_aload_n 0 dX4_begins_61 rfl rfl ?_
      refine a_getR kc_4 5 (by decide) rfl hf11 q294 dX4_begins_62 ?_
      refine a_iload_n 2 dX4_begins_65 rfl rfl ?_
      refine a_iconst (v := (-1)) dX4_begins_66 (by decide) ?_
      obtain ⟨a48, e49, f50, h⟩ := gd_some h
      rw [e49]
      obtain ⟨c51, h⟩ := iz_some h
      obtain ⟨m52, e53, h⟩ := lt_some h
      refine a_iast f50 (bn_ c51) dX4_begins_67 ?_
      rw [← e53]
      refine a_aload_n 0 dX4_begins_68 rfl rfl ?_
      refine a_getR kc_4 6 (by decide) rfl hf11 q295 dX4_begins_69 ?_
      refine a_iload_n 2 dX4_begins_72 rfl rfl ?_
      refine a_aload_n 1 dX4_begins_73 rfl rfl ?_
      refine a_getRN kc_6 3 (by decide) rfl hf13 q228 dX4_begins_74 ?_
      refine a_iload_n 2 dX4_begins_77 rfl rfl ?_
      obtain ⟨a54, e55, f56, h⟩ := gd_some h
      rw [e55]
      obtain ⟨c57, h⟩ := iz_some h
      refine a_iald f56 (bn_ c57) dX4_begins_78 ?_
      obtain ⟨a58, e59, f60, h⟩ := gd_some h
      rw [e59]
      obtain ⟨c61, h⟩ := iz_some h
      obtain ⟨m62, e63, h⟩ := lt_some h
      refine a_iast f60 (bn_ c61) dX4_begins_79 ?_
      rw [← e63]
      refine a_aload_n 0 dX4_begins_80 rfl rfl ?_
      refine a_getR kc_4 7 (by decide) rfl hf11 q297 dX4_begins_81 ?_
      refine a_iload_n 2 dX4_begins_84 rfl rfl ?_
      refine a_iconst (v := 0) dX4_begins_85 (by decide) ?_
      obtain ⟨a64, e65, f66, h⟩ := gd_some h
      rw [e65]
      obtain ⟨c67, h⟩ := iz_some h
      obtain ⟨m68, e69, h⟩ := lt_some h
      refine a_zast f66 (bn_ c67) dX4_begins_86 ?_
      rw [← e69]
      refine a_iinc (v := x16 + 1) (ls' := [(2, vI_ (x16 + 1)), (0, vR_ (some p10)), (1, vR_ (some p12))]) 2 dX4_begins_87 rfl rfl (Nat.le_of_ble_eq_true rfl) rfl ?_
      refine a_goto (tgt := 20) dX4_begins_90 (by decide) ?_
      refine aw_pick [1, 2, 0] rfl ?_
      exact ih _ _ h
def f_X4_begins (F : Nat)  (t : pm_A) (i0 : Option pm_A) (m : pm_M) : Option (Unit × pm_M) :=
  lt_ (pR_ m t 10 i0) fun m1 =>
  lt_ (pI_ m1 t 11 0) fun m3 =>
  gd_ 6 i0 fun a5 =>
  lt_ (pI_ m3 t 12 (gI_ m3 a5 9)) fun m8 =>
  f_X4_begins_L20 F t a5 F 0 m8
set_option maxHeartbeats 4000000 in
theorem e_X4_begins {G : xg_T} {l : Launch} (hl : l.stackTraces = false) {F : Nat}    {t : pm_A} {i0 : Option pm_A} {m0 m' : pm_M} {r : Unit} (ht : t.1 = 4) (h : f_X4_begins F t i0 m0 = some (r, m')) : Cal_ G l yX4_begins (ws_ yX4_begins cX4_begins 3 none) 2 [vR_ (some t), vR_ i0] m0 (.inl none) m' := by
  refine cal_of (by decide +kernel) (Nat.le_of_ble_eq_true rfl) ?_
  unfold f_X4_begins at h
  show AW_ cX4_begins RX4 (none, "begins", 2, 3, m0, m', (.inl none), G, l, [], true) m0 0 [(0, vR_ (some t)), (1, vR_ i0)] []
  refine a_aload_n 0 dX4_begins_0 rfl rfl ?_
  refine a_aload_n 1 dX4_begins_1 rfl rfl ?_
  obtain ⟨m1, e2, h⟩ := lt_some h
  refine a_putR kc_4 10 (by decide) rfl ht q301 rfl na_obj dX4_begins_2 ?_
  rw [← e2]
  refine a_aload_n 0 dX4_begins_5 rfl rfl ?_
  refine a_iconst (v := 0) dX4_begins_6 (by decide) ?_
  obtain ⟨m3, e4, h⟩ := lt_some h
  refine a_putI kc_4 11 (by decide) rfl ht q303 rfl rfl rfl dX4_begins_7 ?_
  rw [← e4]
  refine a_aload_n 0 dX4_begins_10 rfl rfl ?_
  refine a_aload_n 1 dX4_begins_11 rfl rfl ?_
  obtain ⟨a5, e6, f7, h⟩ := gd_some h
  rw [e6]
  refine a_getIN kc_6 9 (by decide) rfl f7 q254 dX4_begins_12 ?_
  obtain ⟨m8, e9, h⟩ := lt_some h
  refine a_putI kc_4 12 (by decide) rfl ht q305 rfl rfl rfl dX4_begins_15 ?_
  rw [← e9]
  refine a_iconst (v := 0) dX4_begins_18 (by decide) ?_
  refine a_istore_n (ls' := [(2, vI_ 0), (0, vR_ (some t)), (1, vR_ (some a5))]) dX4_begins_19 rfl (Nat.le_of_ble_eq_true rfl) rfl ?_
  refine aw_pick [1, 2, 0] rfl ?_
  exact w_X4_begins_L20 hl _ _ ht f7 _ _ _ h
def f_X1_register (F : Nat)  (t : pm_A) (i0 : Int32) (m : pm_M) : Option ((Int32 ⊕ pm_A) × pm_M) :=
  bt_ (f_X1_within F t i0 0 (gI_ m t 13) m) (fun v3 m1 =>
    lt_ (pN_ m1 9 0 4) fun m6 =>
    bm_ (f_X1_reader F t i0 m6) fun v10 m8 =>
    bm_ (f_X9_init F ((9, 0, gN_ m1)) v10 m8) fun v13 m11 =>
    bt_ (f_X9_reads F ((9, 0, gN_ m1)) m11) (fun v16 m14 =>
      lt_ (pR_ m14 t 12 v16) fun m19 =>
      gd_ 3 (gR_ m19 t 2) fun a21 =>
      lt_ (pI_ m19 a21 1 0) fun m24 =>
      gd_ 3 (gR_ m24 t 2) fun a26 =>
      bm_ (f_X3_now F a26 m24) fun v31 m29 =>
      gd_ 4 v31 fun a32 =>
      bm_ (f_X4_begins F a32 (gR_ m29 t 12) m29) fun v37 m35 =>
      gd_ 2 (gR_ m35 t 1) fun a38 =>
      gd_ 106 (gR_ m35 a38 0) fun a41 =>
      iz_ (!(ib_ 0 a41.2.1)) <|
      lt_ (pR_ m35 a41 ((0 : Int32).toNatClampNeg) none) fun m45 =>
      gd_ 2 (gR_ m45 t 1) fun a47 =>
      gd_ 106 (gR_ m45 a47 0) fun a50 =>
      iz_ (!(ib_ 1 a50.2.1)) <|
      lt_ (pR_ m45 a50 ((1 : Int32).toNatClampNeg) none) fun m54 =>
      lt_ (pI_ m54 t 15 0) fun m56 =>
      lt_ (pI_ m56 t 16 0) fun m58 =>
      lt_ (pI_ m58 t 17 0) fun m60 =>
      gd_ 6 (gR_ m60 t 12) fun a62 =>
      some (.inl (gI_ m60 a62 7), m60)
    ) fun b18 m17 =>
      if b18.1 = 11 then
        bm_ (f_X1_faulty F t (some b18) m17) fun v68 m66 =>
        some (.inl v68, m66)
      else
      none
  ) fun b5 m4 =>
    some (.inr b5, m4)
set_option maxHeartbeats 4000000 in
theorem e_X1_register {G : xg_T} {l : Launch} (hl : l.stackTraces = false) {F : Nat}    {t : pm_A} {i0 : Int32} {m0 m' : pm_M} {r : (Int32 ⊕ pm_A)} (ht : t.1 = 1) (h : f_X1_register F t i0 m0 = some (r, m')) : Cal_ G l yX1_register (wsW_ yX1_register cX1_register 3 (some .int) [(10, 29, 32, 110)]) 10 [vR_ (some t), vI_ i0] m0 (oI_ r) m' := by
  refine cal_ofH (by decide +kernel) (Nat.le_of_ble_eq_true rfl) ?_
  unfold f_X1_register at h
  show AW_ cX1_register RX1 (some (.int), "register", 10, 3, m0, m', (oI_ r), G, l, [(10, 29, 32, 110)], true) m0 0 [(0, vR_ (some t)), (1, vI_ i0)] []
  refine a_aload_n 0 dX1_register_0 rfl rfl ?_
  refine a_iload_n 1 dX1_register_1 rfl rfl ?_
  refine a_iconst (v := 0) dX1_register_2 (by decide) ?_
  refine a_aload_n 0 dX1_register_3 rfl rfl ?_
  refine a_getI kc_1 13 (by decide) rfl ht q401 dX1_register_4 ?_
  rcases bt_some h with ⟨v3, m1, e2, h⟩ | ⟨b5, m4, e2, h⟩
  · have he2 := e_X1_within (G := G) hl ht e2
    refine c_V he2.1 (rn_V (n := 3) (As := [vI_ i0, vI_ 0, vI_ (gI_ m0 t 13)]) kc_1 ht he2 (lw_V q581 q583 qs0 q90 q584) (by decide +kernel) rfl (Nat.le_of_ble_eq_true rfl) (Nat.le_of_ble_eq_true rfl) (Nat.le_of_ble_eq_true rfl) dX1_register_7) (fun z => (os_av (As := [vI_ i0, vI_ 0, vI_ (gI_ m0 t 13)]) z).2.1) ?_
    refine a_aload_n 0 dX1_register_10 rfl rfl ?_
    obtain ⟨m6, e7, h⟩ := lt_some h
    refine a_new kc_9 q649 q650 q102 dX1_register_11 ?_
    rw [← e7]
    refine a_dup dX1_register_14 rfl ?_
    refine a_aload_n 0 dX1_register_15 rfl rfl ?_
    refine a_iload_n 1 dX1_register_16 rfl rfl ?_
    obtain ⟨v10, m8, e9, h⟩ := bm_some h
    have he9 := e_X1_reader (G := G) hl ht e9
    refine c_R he9.1 (rn_V (n := 1) (As := [vI_ i0]) kc_1 ht he9 (lw_V q651 q653 qs2 q90 q654) (by decide +kernel) rfl (Nat.le_of_ble_eq_true rfl) (Nat.le_of_ble_eq_true rfl) (Nat.le_of_ble_eq_true rfl) dX1_register_17) (fun z => (os_av (As := [vI_ i0]) z).2.1) ?_
    obtain ⟨v13, m11, e12, h⟩ := bm_some h
    have he12 := e_X9_init (G := G) hl rfl e12
    refine c_V he12.1 (rn_I (n := 1) (As := [vR_ v10]) he12 q674 q675 q102 q676 rfl (by decide +kernel) rfl (Nat.le_of_ble_eq_true rfl) (Nat.le_of_ble_eq_true rfl) (Nat.le_of_ble_eq_true rfl) dX1_register_20) (fun z => (os_av (As := [vR_ v10]) z).2.1) ?_
    rcases bt_some h with ⟨v16, m14, e15, h⟩ | ⟨b18, m17, e15, h⟩
    · have he15 := e_X9_reads (G := G) hl rfl e15
      refine c_R (v := v16) he15.1 (rn_V (n := 0) (As := []) kc_9 rfl he15 (lw_V q700 q701 q702 q102 q703) (by decide +kernel) rfl (Nat.le_of_ble_eq_true rfl) (Nat.le_of_ble_eq_true rfl) (Nat.le_of_ble_eq_true rfl) dX1_register_23) (fun z => (os_av (As := []) z).2.1) ?_
      obtain ⟨m19, e20, h⟩ := lt_some h
      refine a_putR kc_1 12 (by decide) rfl ht q400 rfl na_obj dX1_register_26 ?_
      rw [← e20]
      refine a_goto (tgt := 39) dX1_register_29 (by decide) ?_
      refine a_aload_n 0 dX1_register_39 rfl rfl ?_
      refine a_getR kc_1 2 (by decide) rfl ht q390 dX1_register_40 ?_
      refine a_iconst (v := 0) dX1_register_43 (by decide) ?_
      obtain ⟨a21, e22, f23, h⟩ := gd_some h
      rw [e22]
      obtain ⟨m24, e25, h⟩ := lt_some h
      refine a_putIN kc_3 1 (by decide) rfl f23 q340 rfl rfl rfl dX1_register_44 ?_
      rw [← e25]
      refine a_aload_n 0 dX1_register_47 rfl rfl ?_
      refine a_getR kc_1 2 (by decide) rfl ht q390 dX1_register_48 ?_
      obtain ⟨a26, e27, f28, h⟩ := gd_some h
      rw [e27]
      obtain ⟨v31, m29, e30, h⟩ := bm_some h
      have he30 := e_X3_now (G := G) hl f28 e30
      refine c_R he30.1 (rn_V (n := 0) (As := []) kc_3 f28 he30 (lw_V q380 q381 q382 q92 q383) (by decide +kernel) rfl (Nat.le_of_ble_eq_true rfl) (Nat.le_of_ble_eq_true rfl) (Nat.le_of_ble_eq_true rfl) dX1_register_51) (fun z => (os_av (As := []) z).2.1) ?_
      refine a_aload_n 0 dX1_register_54 rfl rfl ?_
      refine a_getR kc_1 12 (by decide) rfl ht q400 dX1_register_55 ?_
      obtain ⟨a32, e33, f34, h⟩ := gd_some h
      rw [e33]
      obtain ⟨v37, m35, e36, h⟩ := bm_some h
      have he36 := e_X4_begins (G := G) hl f34 e36
      refine c_V he36.1 (rn_V (n := 1) (As := [vR_ (gR_ m29 t 12)]) kc_4 f34 he36 (lw_V q384 q385 q386 q93 q387) (by decide +kernel) rfl (Nat.le_of_ble_eq_true rfl) (Nat.le_of_ble_eq_true rfl) (Nat.le_of_ble_eq_true rfl) dX1_register_58) (fun z => (os_av (As := [vR_ (gR_ m29 t 12)]) z).2.1) ?_
      refine a_aload_n 0 dX1_register_61 rfl rfl ?_
      refine a_getR kc_1 1 (by decide) rfl ht q389 dX1_register_62 ?_
      obtain ⟨a38, e39, f40, h⟩ := gd_some h
      rw [e39]
      refine a_getRN kc_2 0 (by decide) rfl f40 q143 dX1_register_65 ?_
      refine a_iconst (v := 0) dX1_register_68 (by decide) ?_
      refine a_null dX1_register_69 ?_
      obtain ⟨a41, e42, f43, h⟩ := gd_some h
      rw [e42]
      obtain ⟨c44, h⟩ := iz_some h
      obtain ⟨m45, e46, h⟩ := lt_some h
      refine a_aastN (t0 := 6) f43 (by decide) (by decide) rfl (bn_ c44) dX1_register_70 ?_
      rw [← e46]
      refine a_aload_n 0 dX1_register_71 rfl rfl ?_
      refine a_getR kc_1 1 (by decide) rfl ht q389 dX1_register_72 ?_
      obtain ⟨a47, e48, f49, h⟩ := gd_some h
      rw [e48]
      refine a_getRN kc_2 0 (by decide) rfl f49 q143 dX1_register_75 ?_
      refine a_iconst (v := 1) dX1_register_78 (by decide) ?_
      refine a_null dX1_register_79 ?_
      obtain ⟨a50, e51, f52, h⟩ := gd_some h
      rw [e51]
      obtain ⟨c53, h⟩ := iz_some h
      obtain ⟨m54, e55, h⟩ := lt_some h
      refine a_aastN (t0 := 6) f52 (by decide) (by decide) rfl (bn_ c53) dX1_register_80 ?_
      rw [← e55]
      refine a_aload_n 0 dX1_register_81 rfl rfl ?_
      refine a_iconst (v := 0) dX1_register_82 (by decide) ?_
      obtain ⟨m56, e57, h⟩ := lt_some h
      refine a_putI kc_1 15 (by decide) rfl ht q403 rfl rfl rfl dX1_register_83 ?_
      rw [← e57]
      refine a_aload_n 0 dX1_register_86 rfl rfl ?_
      refine a_iconst (v := 0) dX1_register_87 (by decide) ?_
      obtain ⟨m58, e59, h⟩ := lt_some h
      refine a_putI kc_1 16 (by decide) rfl ht q404 rfl rfl rfl dX1_register_88 ?_
      rw [← e59]
      refine a_aload_n 0 dX1_register_91 rfl rfl ?_
      refine a_iconst (v := 0) dX1_register_92 (by decide) ?_
      obtain ⟨m60, e61, h⟩ := lt_some h
      refine a_putI kc_1 17 (by decide) rfl ht q405 rfl rfl rfl dX1_register_93 ?_
      rw [← e61]
      refine a_aload_n 0 dX1_register_96 rfl rfl ?_
      refine a_getR kc_1 12 (by decide) rfl ht q400 dX1_register_97 ?_
      obtain ⟨a62, e63, f64, h⟩ := gd_some h
      rw [e63]
      refine a_getIN kc_6 7 (by decide) rfl f64 q244 dX1_register_100 ?_
      cases h
      exact a_ireturn rfl rfl rfl rfl rfl dX1_register_103
    · have he15 := e_X9_reads (G := G) hl rfl e15
      refine c_X (b := b18) he15.1 (rn_V (n := 0) (As := []) kc_9 rfl he15 (lw_V q700 q701 q702 q102 q703) (by decide +kernel) rfl (Nat.le_of_ble_eq_true rfl) (Nat.le_of_ble_eq_true rfl) (Nat.le_of_ble_eq_true rfl) dX1_register_23) ?_
      by_cases c65 : b18.1 = 11
      · replace h := ifp_ c65 h
        refine a_catch [] ⟨10, 29, 32, 110⟩ [] rfl (fun z hz => nomatch hz) rfl (by decide) q580 (by rw [c65]; exact q783) ?_
        refine a_astore_n (ls' := [(2, vR_ (some b18)), (0, vR_ (some t)), (1, vI_ i0)]) dX1_register_32 rfl (Nat.le_of_ble_eq_true rfl) rfl ?_
        refine a_aload_n 1 dX1_register_33 rfl rfl ?_
        refine a_aload_n 0 dX1_register_34 rfl rfl ?_
        obtain ⟨v68, m66, e67, h⟩ := bm_some h
        have he67 := e_X1_faulty (G := G) hl ht e67
        refine c_I he67.1 (rn_V (n := 1) (As := [vR_ (some b18)]) kc_1 ht he67 (lw_V q836 q838 qs7 q90 q839) (by decide +kernel) rfl (Nat.le_of_ble_eq_true rfl) (Nat.le_of_ble_eq_true rfl) (Nat.le_of_ble_eq_true rfl) dX1_register_35) (fun z => (os_av (As := [vR_ (some b18)]) z).2.1) ?_
        cases h
        exact a_ireturn rfl rfl rfl rfl rfl dX1_register_38
      replace h := ifn_ c65 h
      cases h
  · have he2 := e_X1_within (G := G) hl ht e2
    refine c_X (b := b5) he2.1 (rn_V (n := 3) (As := [vI_ i0, vI_ 0, vI_ (gI_ m0 t 13)]) kc_1 ht he2 (lw_V q581 q583 qs0 q90 q584) (by decide +kernel) rfl (Nat.le_of_ble_eq_true rfl) (Nat.le_of_ble_eq_true rfl) (Nat.le_of_ble_eq_true rfl) dX1_register_7) ?_
    cases h
    exact a_out rfl rfl rfl rfl
def f_X0_register (F : Nat)  (i0 : Option pm_A) (i1 : Int32) (i2 : Option pm_A) (m : pm_M) : Option (Int32 × pm_M) :=
  gd_ 1 i0 fun a1 =>
  bt_ (f_X1_register F a1 i1 m) (fun v6 m4 =>
    gd_ 103 i2 fun a9 =>
    iz_ (!(ib_ 0 a9.2.1)) <|
    lt_ (pL_ m4 a9 ((0 : Int32).toNatClampNeg) v6.toInt64) fun m13 =>
    some (0, m13)
  ) fun b8 m7 =>
    if b8.1 = 25 then
      some (1, m7)
    else
    none
set_option maxHeartbeats 4000000 in
theorem e_X0_register {G : xg_T} {l : Launch} (hl : l.stackTraces = false) {F : Nat}    {i0 : Option pm_A} {i1 : Int32} {i2 : Option pm_A} {m0 m' : pm_M} {r : Int32} (h : f_X0_register F i0 i1 i2 m0 = some (r, m')) : Cal_ G l yX0_register (wsW_ yX0_register cX0_register 4 (some .int) [(0, 9, 12, 13)]) 11 [vR_ i0, vI_ i1, vR_ i2] m0 (.inl (some (vI_ r))) m' := by
  refine cal_ofH (by decide +kernel) (Nat.le_of_ble_eq_true rfl) ?_
  unfold f_X0_register at h
  show AW_ cX0_register RX0 (some (.int), "register", 11, 4, m0, m', (.inl (some (vI_ r))), G, l, [(0, 9, 12, 13)], true) m0 0 [(0, vR_ i0), (1, vI_ i1), (2, vR_ i2)] []
  refine a_aload_n 2 dX0_register_0 rfl rfl ?_
  refine a_iconst (v := 0) dX0_register_1 (by decide) ?_
  refine a_aload_n 0 dX0_register_2 rfl rfl ?_
  refine a_iload_n 1 dX0_register_3 rfl rfl ?_
  obtain ⟨a1, e2, f3, h⟩ := gd_some h
  rw [e2]
  rcases bt_some h with ⟨v6, m4, e5, h⟩ | ⟨b8, m7, e5, h⟩
  · have he5 := e_X1_register (G := G) hl f3 e5
    refine c_I (v := v6) he5.1 (rn_VH (n := 1) (As := [vI_ i1]) kc_1 f3 he5 (lw_VW q576 q577 q578 q90 q579) (by decide +kernel) rfl (Nat.le_of_ble_eq_true rfl) (Nat.le_of_ble_eq_true rfl) (Nat.le_of_ble_eq_true rfl) dX0_register_4) (fun z => (os_av (As := [vI_ i1]) z).2.1) ?_
    refine a_i2l dX0_register_7 ?_
    obtain ⟨a9, e10, f11, h⟩ := gd_some h
    rw [e10]
    obtain ⟨c12, h⟩ := iz_some h
    obtain ⟨m13, e14, h⟩ := lt_some h
    refine a_last f11 (bn_ c12) dX0_register_8 ?_
    rw [← e14]
    refine a_goto (tgt := 15) dX0_register_9 (by decide) ?_
    refine a_iconst (v := 0) dX0_register_15 (by decide) ?_
    cases h
    exact a_ireturn rfl rfl rfl rfl rfl dX0_register_16
  · have he5 := e_X1_register (G := G) hl f3 e5
    refine c_X (b := b8) he5.1 (rn_VH (n := 1) (As := [vI_ i1]) kc_1 f3 he5 (lw_VW q576 q577 q578 q90 q579) (by decide +kernel) rfl (Nat.le_of_ble_eq_true rfl) (Nat.le_of_ble_eq_true rfl) (Nat.le_of_ble_eq_true rfl) dX0_register_4) ?_
    by_cases c15 : b8.1 = 25
    · replace h := ifp_ c15 h
      refine a_catch [] ⟨0, 9, 12, 13⟩ [] rfl (fun z hz => nomatch hz) rfl (by decide) q575 (by rw [c15]; exact q587) ?_
      refine a_astore_n (ls' := [(3, vR_ (some b8)), (0, vR_ (some a1)), (1, vI_ i1), (2, vR_ i2)]) dX0_register_12 rfl (Nat.le_of_ble_eq_true rfl) rfl ?_
      refine a_iconst (v := 1) dX0_register_13 (by decide) ?_
      cases h
      exact a_ireturn rfl rfl rfl rfl rfl dX0_register_14
    replace h := ifn_ c15 h
    cases h
def f_X12_init (F : Nat)  (t : pm_A) (i0 : Option pm_A) (m : pm_M) : Option (Unit × pm_M) :=
  lt_ (pN_ m 108 8 8) fun m1 =>
  iz_ (!(ib_ 0 ((108, 8, gN_ m)).2.1)) <|
  lt_ (pR_ m1 ((108, 8, gN_ m)) ((0 : Int32).toNatClampNeg) (some ((200, 0, 22)))) fun m4 =>
  iz_ (!(ib_ 1 ((108, 8, gN_ m)).2.1)) <|
  lt_ (pR_ m4 ((108, 8, gN_ m)) ((1 : Int32).toNatClampNeg) (some ((200, 0, 1)))) fun m7 =>
  iz_ (!(ib_ 2 ((108, 8, gN_ m)).2.1)) <|
  lt_ (pR_ m7 ((108, 8, gN_ m)) ((2 : Int32).toNatClampNeg) (some ((200, 0, 19)))) fun m10 =>
  iz_ (!(ib_ 3 ((108, 8, gN_ m)).2.1)) <|
  lt_ (pR_ m10 ((108, 8, gN_ m)) ((3 : Int32).toNatClampNeg) (some ((200, 0, 4)))) fun m13 =>
  iz_ (!(ib_ 4 ((108, 8, gN_ m)).2.1)) <|
  lt_ (pR_ m13 ((108, 8, gN_ m)) ((4 : Int32).toNatClampNeg) (some ((200, 0, 5)))) fun m16 =>
  iz_ (!(ib_ 5 ((108, 8, gN_ m)).2.1)) <|
  lt_ (pR_ m16 ((108, 8, gN_ m)) ((5 : Int32).toNatClampNeg) (some ((200, 0, 10)))) fun m19 =>
  iz_ (!(ib_ 6 ((108, 8, gN_ m)).2.1)) <|
  lt_ (pR_ m19 ((108, 8, gN_ m)) ((6 : Int32).toNatClampNeg) (some ((200, 0, 14)))) fun m22 =>
  iz_ (!(ib_ 7 ((108, 8, gN_ m)).2.1)) <|
  lt_ (pR_ m22 ((108, 8, gN_ m)) ((7 : Int32).toNatClampNeg) (some ((200, 0, 21)))) fun m25 =>
  lt_ (pR_ m25 t 0 (some ((108, 8, gN_ m)))) fun m27 =>
  lt_ (pR_ m27 t 1 i0) fun m29 =>
  some ((), m29)
set_option maxHeartbeats 4000000 in
theorem e_X12_init {G : xg_T} {l : Launch} (hl : l.stackTraces = false) {F : Nat}    {t : pm_A} {i0 : Option pm_A} {m0 m' : pm_M} {r : Unit} (ht : t.1 = 12) (h : f_X12_init F t i0 m0 = some (r, m')) : Cal_ G l yX12_init (ws_ yX12_init cX12_init 2 none) 2 [vR_ (some t), vR_ i0] m0 (.inl none) m' := by
  refine cal_of (by decide +kernel) (Nat.le_of_ble_eq_true rfl) ?_
  unfold f_X12_init at h
  show AW_ cX12_init RX12 (none, "<init>", 2, 2, m0, m', (.inl none), G, l, [], true) m0 0 [(0, vR_ (some t)), (1, vR_ i0)] []
  refine a_aload_n 0 dX12_init_0 rfl rfl ?_
  refine a_obj q853 q132 q133 (Nat.le_of_ble_eq_true rfl) (Nat.le_of_ble_eq_true rfl) dX12_init_1 ?_
  refine a_aload_n 0 dX12_init_4 rfl rfl ?_
  refine a_bipush (v := 8) dX12_init_5 (by decide) ?_
  obtain ⟨m1, e2, h⟩ := lt_some h
  refine a_newq (t0 := 8) (C := "java/lang/String") (N := 8) (by decide) (by decide) rfl (by decide +kernel) q854 (by decide) rfl (by decide) dX12_init_7 ?_
  rw [← e2]
  refine a_dup dX12_init_10 rfl ?_
  refine a_iconst (v := 0) dX12_init_11 (by decide) ?_
  refine a_ldcS (n := 22) (tx := "years") (by decide +kernel) (by decide) dX12_init_12 ?_
  obtain ⟨c3, h⟩ := iz_some h
  obtain ⟨m4, e5, h⟩ := lt_some h
  refine a_aastS rfl rfl (bn_ c3) dX12_init_14 ?_
  rw [← e5]
  refine a_dup dX12_init_15 rfl ?_
  refine a_iconst (v := 1) dX12_init_16 (by decide) ?_
  refine a_ldcS (n := 1) (tx := "added") (by decide +kernel) (by decide) dX12_init_17 ?_
  obtain ⟨c6, h⟩ := iz_some h
  obtain ⟨m7, e8, h⟩ := lt_some h
  refine a_aastS rfl rfl (bn_ c6) dX12_init_19 ?_
  rw [← e8]
  refine a_dup dX12_init_20 rfl ?_
  refine a_iconst (v := 2) dX12_init_21 (by decide) ?_
  refine a_ldcS (n := 19) (tx := "trade") (by decide +kernel) (by decide) dX12_init_22 ?_
  obtain ⟨c9, h⟩ := iz_some h
  obtain ⟨m10, e11, h⟩ := lt_some h
  refine a_aastS rfl rfl (bn_ c9) dX12_init_24 ?_
  rw [← e11]
  refine a_dup dX12_init_25 rfl ?_
  refine a_iconst (v := 3) dX12_init_26 (by decide) ?_
  refine a_ldcS (n := 4) (tx := "hungry") (by decide +kernel) (by decide) dX12_init_27 ?_
  obtain ⟨c12, h⟩ := iz_some h
  obtain ⟨m13, e14, h⟩ := lt_some h
  refine a_aastS rfl rfl (bn_ c12) dX12_init_29 ?_
  rw [← e14]
  refine a_dup dX12_init_30 rfl ?_
  refine a_iconst (v := 4) dX12_init_31 (by decide) ?_
  refine a_ldcS (n := 5) (tx := "kin") (by decide +kernel) (by decide) dX12_init_32 ?_
  obtain ⟨c15, h⟩ := iz_some h
  obtain ⟨m16, e17, h⟩ := lt_some h
  refine a_aastS rfl rfl (bn_ c15) dX12_init_34 ?_
  rw [← e17]
  refine a_dup dX12_init_35 rfl ?_
  refine a_iconst (v := 5) dX12_init_36 (by decide) ?_
  refine a_ldcS (n := 10) (tx := "lost") (by decide +kernel) (by decide) dX12_init_37 ?_
  obtain ⟨c18, h⟩ := iz_some h
  obtain ⟨m19, e20, h⟩ := lt_some h
  refine a_aastS rfl rfl (bn_ c18) dX12_init_39 ?_
  rw [← e20]
  refine a_dup dX12_init_40 rfl ?_
  refine a_bipush (v := 6) dX12_init_41 (by decide) ?_
  refine a_ldcS (n := 14) (tx := "placed") (by decide +kernel) (by decide) dX12_init_43 ?_
  obtain ⟨c21, h⟩ := iz_some h
  obtain ⟨m22, e23, h⟩ := lt_some h
  refine a_aastS rfl rfl (bn_ c21) dX12_init_45 ?_
  rw [← e23]
  refine a_dup dX12_init_46 rfl ?_
  refine a_bipush (v := 7) dX12_init_47 (by decide) ?_
  refine a_ldcS (n := 21) (tx := "week") (by decide +kernel) (by decide) dX12_init_49 ?_
  obtain ⟨c24, h⟩ := iz_some h
  obtain ⟨m25, e26, h⟩ := lt_some h
  refine a_aastS rfl rfl (bn_ c24) dX12_init_51 ?_
  rw [← e26]
  obtain ⟨m27, e28, h⟩ := lt_some h
  refine a_putRF kc_12 0 (by decide) rfl ht q863 rfl rfl rfl na_arr dX12_init_52 ?_
  rw [← e28]
  refine a_aload_n 0 dX12_init_55 rfl rfl ?_
  refine a_aload_n 1 dX12_init_56 rfl rfl ?_
  obtain ⟨m29, e30, h⟩ := lt_some h
  refine a_putRF kc_12 1 (by decide) rfl ht q864 rfl rfl rfl na_obj dX12_init_57 ?_
  rw [← e30]
  cases h
  exact a_return rfl rfl rfl rfl dX12_init_60
def f_X10_opens (F : Nat)  (t : pm_A) (m : pm_M) : Option ((Unit ⊕ pm_A) × pm_M) :=
  if (gI_ m t 3) = 6 then
    lt_ (pN_ m 11 0 8) fun m4 =>
    bm_ (f_X10_place F t m4) fun v8 m6 =>
    bm_ (f_X11_init F ((11, 0, gN_ m)) 3 v8 m6) fun v11 m9 =>
    some (.inr ((11, 0, gN_ m)), m9)
  else
    lt_ (pI_ m t 3 ((gI_ m t 3) + 1)) fun m2 =>
    some (.inl (), m2)
set_option maxHeartbeats 4000000 in
theorem e_X10_opens {G : xg_T} {l : Launch} (hl : l.stackTraces = false) {F : Nat}    {t : pm_A} {m0 m' : pm_M} {r : (Unit ⊕ pm_A)} (ht : t.1 = 10) (h : f_X10_opens F t m0 = some (r, m')) : Cal_ G l yX10_opens (ws_ yX10_opens cX10_opens 1 none) 5 [vR_ (some t)] m0 (oV_ r) m' := by
  refine cal_of (by decide +kernel) (Nat.le_of_ble_eq_true rfl) ?_
  unfold f_X10_opens at h
  show AW_ cX10_opens RX10 (none, "opens", 5, 1, m0, m', (oV_ r), G, l, [], true) m0 0 [(0, vR_ (some t))] []
  refine a_aload_n 0 dX10_opens_0 rfl rfl ?_
  refine a_getI kc_10 3 (by decide) rfl ht q664 dX10_opens_1 ?_
  refine a_bipush (v := 6) dX10_opens_4 (by decide) ?_
  refine a_icmp_ne (tgt := 22) dX10_opens_6 (by decide) (fun c1 => ?_) (fun c1 => ?_)
  · replace h := ifn_ c1 h
    refine a_aload_n 0 dX10_opens_22 rfl rfl ?_
    refine a_dup dX10_opens_23 rfl ?_
    refine a_getI kc_10 3 (by decide) rfl ht q664 dX10_opens_24 ?_
    refine a_iconst (v := 1) dX10_opens_27 (by decide) ?_
    refine a_iadd dX10_opens_28 ?_
    obtain ⟨m2, e3, h⟩ := lt_some h
    refine a_putI kc_10 3 (by decide) rfl ht q664 rfl rfl rfl dX10_opens_29 ?_
    rw [← e3]
    cases h
    exact a_return rfl rfl rfl rfl dX10_opens_32
  · replace h := ifp_ c1 h
    obtain ⟨m4, e5, h⟩ := lt_some h
    refine a_new kc_11 q824 q782 q108 dX10_opens_9 ?_
    rw [← e5]
    refine a_dup dX10_opens_12 rfl ?_
    refine a_iconst (v := 3) dX10_opens_13 (by decide) ?_
    refine a_aload_n 0 dX10_opens_14 rfl rfl ?_
    obtain ⟨v8, m6, e7, h⟩ := bm_some h
    have he7 := e_X10_place (G := G) hl ht e7
    refine c_I he7.1 (rn_V (n := 0) (As := []) kc_10 ht he7 (lw_V q729 q717 q718 q103 q719) (by decide +kernel) rfl (Nat.le_of_ble_eq_true rfl) (Nat.le_of_ble_eq_true rfl) (Nat.le_of_ble_eq_true rfl) dX10_opens_15) (fun z => (os_av (As := []) z).2.1) ?_
    obtain ⟨v11, m9, e10, h⟩ := bm_some h
    have he10 := e_X11_init (G := G) hl rfl e10
    refine c_V he10.1 (rn_I (n := 2) (As := [vI_ 3, vI_ v8]) he10 q825 q791 q108 q792 rfl (by decide +kernel) rfl (Nat.le_of_ble_eq_true rfl) (Nat.le_of_ble_eq_true rfl) (Nat.le_of_ble_eq_true rfl) dX10_opens_18) (fun z => (os_av (As := [vI_ 3, vI_ v8]) z).2.1) ?_
    refine a_athrow kc_11 rfl dX10_opens_21 ?_
    cases h
    exact a_out rfl rfl rfl rfl
def f_X10_closes (F : Nat)  (t : pm_A) (m : pm_M) : Option (Unit × pm_M) :=
  lt_ (pI_ m t 3 ((gI_ m t 3) - 1)) fun m1 =>
  some ((), m1)
set_option maxHeartbeats 4000000 in
theorem e_X10_closes {G : xg_T} {l : Launch} (hl : l.stackTraces = false) {F : Nat}    {t : pm_A} {m0 m' : pm_M} {r : Unit} (ht : t.1 = 10) (h : f_X10_closes F t m0 = some (r, m')) : Cal_ G l yX10_closes (ws_ yX10_closes cX10_closes 1 none) 2 [vR_ (some t)] m0 (.inl none) m' := by
  refine cal_of (by decide +kernel) (Nat.le_of_ble_eq_true rfl) ?_
  unfold f_X10_closes at h
  show AW_ cX10_closes RX10 (none, "closes", 2, 1, m0, m', (.inl none), G, l, [], true) m0 0 [(0, vR_ (some t))] []
  refine a_aload_n 0 dX10_closes_0 rfl rfl ?_
  refine a_dup dX10_closes_1 rfl ?_
  refine a_getI kc_10 3 (by decide) rfl ht q664 dX10_closes_2 ?_
  refine a_iconst (v := 1) dX10_closes_5 (by decide) ?_
  refine a_isub dX10_closes_6 ?_
  obtain ⟨m1, e2, h⟩ := lt_some h
  refine a_putI kc_10 3 (by decide) rfl ht q664 rfl rfl rfl dX10_closes_7 ?_
  rw [← e2]
  cases h
  exact a_return rfl rfl rfl rfl dX10_closes_10
def f_X13_init (F : Nat)  (t : pm_A) (i0 : Int32) (i1 : Option pm_A) (i2 : Option pm_A) (m : pm_M) : Option (Unit × pm_M) :=
  iz_ (!(nf_ .char i0)) <|
  lt_ (pI_ m t 0 i0) fun m2 =>
  lt_ (pR_ m2 t 1 i1) fun m4 =>
  lt_ (pR_ m4 t 2 i2) fun m6 =>
  some ((), m6)
set_option maxHeartbeats 4000000 in
theorem e_X13_init {G : xg_T} {l : Launch} (hl : l.stackTraces = false) {F : Nat}    {t : pm_A} {i0 : Int32} {i1 : Option pm_A} {i2 : Option pm_A} {m0 m' : pm_M} {r : Unit} (ht : t.1 = 13) (h : f_X13_init F t i0 i1 i2 m0 = some (r, m')) : Cal_ G l yX13_init (ws_ yX13_init cX13_init 4 none) 2 [vR_ (some t), vI_ i0, vR_ i1, vR_ i2] m0 (.inl none) m' := by
  refine cal_of (by decide +kernel) (Nat.le_of_ble_eq_true rfl) ?_
  unfold f_X13_init at h
  show AW_ cX13_init RX13 (none, "<init>", 2, 4, m0, m', (.inl none), G, l, [], true) m0 0 [(0, vR_ (some t)), (1, vI_ i0), (2, vR_ i1), (3, vR_ i2)] []
  refine a_aload_n 0 dX13_init_0 rfl rfl ?_
  refine a_obj q904 q132 q133 (Nat.le_of_ble_eq_true rfl) (Nat.le_of_ble_eq_true rfl) dX13_init_1 ?_
  refine a_aload_n 0 dX13_init_4 rfl rfl ?_
  refine a_iload_n 1 dX13_init_5 rfl rfl ?_
  obtain ⟨c1, h⟩ := iz_some h
  have c1 := nf_ok (bn_ c1)
  obtain ⟨m2, e3, h⟩ := lt_some h
  refine a_putIF kc_13 0 (by decide) rfl ht q905 rfl rfl rfl c1.1 c1.2 dX13_init_6 ?_
  rw [← e3]
  refine a_aload_n 0 dX13_init_9 rfl rfl ?_
  refine a_aload_n 2 dX13_init_10 rfl rfl ?_
  obtain ⟨m4, e5, h⟩ := lt_some h
  refine a_putRF kc_13 1 (by decide) rfl ht q906 rfl rfl rfl na_obj dX13_init_11 ?_
  rw [← e5]
  refine a_aload_n 0 dX13_init_14 rfl rfl ?_
  refine a_aload_n 3 dX13_init_15 rfl rfl ?_
  obtain ⟨m6, e7, h⟩ := lt_some h
  refine a_putRF kc_13 2 (by decide) rfl ht q907 rfl rfl rfl na_obj dX13_init_16 ?_
  rw [← e7]
  cases h
  exact a_return rfl rfl rfl rfl dX13_init_19
def f_X14_init (F : Nat)  (t : pm_A) (i0 : Int32) (m : pm_M) : Option (Unit × pm_M) :=
  lt_ (pI_ m t 0 i0) fun m1 =>
  some ((), m1)
set_option maxHeartbeats 4000000 in
theorem e_X14_init {G : xg_T} {l : Launch} (hl : l.stackTraces = false) {F : Nat}    {t : pm_A} {i0 : Int32} {m0 m' : pm_M} {r : Unit} (ht : t.1 = 14) (h : f_X14_init F t i0 m0 = some (r, m')) : Cal_ G l yX14_init (ws_ yX14_init cX14_init 2 none) 2 [vR_ (some t), vI_ i0] m0 (.inl none) m' := by
  refine cal_of (by decide +kernel) (Nat.le_of_ble_eq_true rfl) ?_
  unfold f_X14_init at h
  show AW_ cX14_init RX14 (none, "<init>", 2, 2, m0, m', (.inl none), G, l, [], true) m0 0 [(0, vR_ (some t)), (1, vI_ i0)] []
  refine a_aload_n 0 dX14_init_0 rfl rfl ?_
  refine a_obj q923 q132 q133 (Nat.le_of_ble_eq_true rfl) (Nat.le_of_ble_eq_true rfl) dX14_init_1 ?_
  refine a_aload_n 0 dX14_init_4 rfl rfl ?_
  refine a_iload_n 1 dX14_init_5 rfl rfl ?_
  obtain ⟨m1, e2, h⟩ := lt_some h
  refine a_putIF kc_14 0 (by decide) rfl ht q924 rfl rfl rfl rfl rfl dX14_init_6 ?_
  rw [← e2]
  cases h
  exact a_return rfl rfl rfl rfl dX14_init_9
def f_X15_init (F : Nat)  (t : pm_A) (i0 : Int32) (m : pm_M) : Option (Unit × pm_M) :=
  lt_ (pI_ m t 0 i0) fun m1 =>
  some ((), m1)
set_option maxHeartbeats 4000000 in
theorem e_X15_init {G : xg_T} {l : Launch} (hl : l.stackTraces = false) {F : Nat}    {t : pm_A} {i0 : Int32} {m0 m' : pm_M} {r : Unit} (ht : t.1 = 15) (h : f_X15_init F t i0 m0 = some (r, m')) : Cal_ G l yX15_init (ws_ yX15_init cX15_init 2 none) 2 [vR_ (some t), vI_ i0] m0 (.inl none) m' := by
  refine cal_of (by decide +kernel) (Nat.le_of_ble_eq_true rfl) ?_
  unfold f_X15_init at h
  show AW_ cX15_init RX15 (none, "<init>", 2, 2, m0, m', (.inl none), G, l, [], true) m0 0 [(0, vR_ (some t)), (1, vI_ i0)] []
  refine a_aload_n 0 dX15_init_0 rfl rfl ?_
  refine a_obj q933 q132 q133 (Nat.le_of_ble_eq_true rfl) (Nat.le_of_ble_eq_true rfl) dX15_init_1 ?_
  refine a_aload_n 0 dX15_init_4 rfl rfl ?_
  refine a_iload_n 1 dX15_init_5 rfl rfl ?_
  obtain ⟨m1, e2, h⟩ := lt_some h
  refine a_putIF kc_15 0 (by decide) rfl ht q934 rfl rfl rfl rfl rfl dX15_init_6 ?_
  rw [← e2]
  cases h
  exact a_return rfl rfl rfl rfl dX15_init_9
def f_X10_takesSign (F : Nat)  (t : pm_A) (i0 : Int32) (m : pm_M) : Option (Int32 × pm_M) :=
  bm_ (f_X10_now F t m) fun v3 m1 =>
  jn_ (fun (y6 : Int32) (m5 : pm_M) =>
    if y6 = 0 then
      iz_ (!(nr_ .boolean y6)) <|
      some (y6, m5)
    else
      lt_ (pI_ m5 t 2 ((gI_ m5 t 2) + 1)) fun m9 =>
      iz_ (!(nr_ .boolean y6)) <|
      some (y6, m9)
  ) fun k4 =>
  if v3 = i0 then
    k4 1 m1
  else
    k4 0 m1
set_option maxHeartbeats 4000000 in
theorem e_X10_takesSign {G : xg_T} {l : Launch} (hl : l.stackTraces = false) {F : Nat}    {t : pm_A} {i0 : Int32} {m0 m' : pm_M} {r : Int32} (ht : t.1 = 10) (h : f_X10_takesSign F t i0 m0 = some (r, m')) : Cal_ G l yX10_takesSign (ws_ yX10_takesSign cX10_takesSign 3 (some .boolean)) 4 [vR_ (some t), vI_ i0] m0 (.inl (some (vI_ r))) m' := by
  refine cal_of (by decide +kernel) (Nat.le_of_ble_eq_true rfl) ?_
  unfold f_X10_takesSign at h
  show AW_ cX10_takesSign RX10 (some (.boolean), "takesSign", 4, 3, m0, m', (.inl (some (vI_ r))), G, l, [], true) m0 0 [(0, vR_ (some t)), (1, vI_ i0)] []
  refine a_aload_n 0 dX10_takesSign_0 rfl rfl ?_
  obtain ⟨v3, m1, e2, h⟩ := bm_some h
  have he2 := e_X10_now (G := G) hl ht e2
  refine c_I he2.1 (rn_V (n := 0) (As := []) kc_10 ht he2 (lw_V q720 q705 q706 q103 q707) (by decide +kernel) rfl (Nat.le_of_ble_eq_true rfl) (Nat.le_of_ble_eq_true rfl) (Nat.le_of_ble_eq_true rfl) dX10_takesSign_1) (fun z => (os_av (As := []) z).2.1) ?_
  refine a_iload_n 1 dX10_takesSign_4 rfl rfl ?_
  obtain ⟨k4, e13, h⟩ := jn2_some h
  have hk4 : ∀ (y6 : Int32) (m5 : pm_M), k4 y6 m5 = some (r, m') → AW_ cX10_takesSign RX10 (some (.boolean), "takesSign", 4, 3, m0, m', (.inl (some (vI_ r))), G, l, [], true) m5 13 [(0, vR_ (some t))] [vI_ y6] := by
    intro y6 m5 h
    have h := (e13 y6 m5).symm.trans h
    refine a_istore_n (ls' := [(2, vI_ y6), (0, vR_ (some t))]) dX10_takesSign_13 rfl (Nat.le_of_ble_eq_true rfl) rfl ?_
    refine a_iload_n 0 dX10_takesSign_14 rfl rfl ?_
    refine a_if_eq (tgt := 28) dX10_takesSign_15 (by decide) (fun c7 => ?_) (fun c7 => ?_)
    · replace h := ifp_ c7 h
      refine a_iload_n 0 dX10_takesSign_28 rfl rfl ?_
      obtain ⟨c8, h⟩ := iz_some h
      cases h
      exact a_ireturn rfl (nr_ok (bn_ c8)) rfl rfl rfl dX10_takesSign_29
    · replace h := ifn_ c7 h
      refine a_aload_n 1 dX10_takesSign_18 rfl rfl ?_
      refine a_dup dX10_takesSign_19 rfl ?_
      refine a_getI kc_10 2 (by decide) rfl ht q663 dX10_takesSign_20 ?_
      refine a_iconst (v := 1) dX10_takesSign_23 (by decide) ?_
      refine a_iadd dX10_takesSign_24 ?_
      obtain ⟨m9, e10, h⟩ := lt_some h
      refine a_putI kc_10 2 (by decide) rfl ht q663 rfl rfl rfl dX10_takesSign_25 ?_
      rw [← e10]
      refine a_iload_n 0 dX10_takesSign_28 rfl rfl ?_
      obtain ⟨c11, h⟩ := iz_some h
      cases h
      exact a_ireturn rfl (nr_ok (bn_ c11)) rfl rfl rfl dX10_takesSign_29
  refine a_icmp_ne (tgt := 12) dX10_takesSign_5 (by decide) (fun c12 => ?_) (fun c12 => ?_)
  · replace h := ifn_ c12 h
    refine a_iconst (v := 0) dX10_takesSign_12 (by decide) ?_
    refine aw_pick [0] rfl ?_
    exact hk4 _ _ h
  · replace h := ifp_ c12 h
    refine a_iconst (v := 1) dX10_takesSign_8 (by decide) ?_
    refine a_goto (tgt := 13) dX10_takesSign_9 (by decide) ?_
    refine aw_pick [0] rfl ?_
    exact hk4 _ _ h
def f_X12_value (F : Nat) (z_ : pm_A → pm_M → Option ((Option pm_A ⊕ pm_A) × pm_M)) (t : pm_A) (m : pm_M) : Option ((Option pm_A ⊕ pm_A) × pm_M) :=
  gd_ 10 (gR_ m t 1) fun a1 =>
  bm_ (f_X10_isWord F a1 (some ((200, 0, 8))) m) fun v6 m4 =>
  jn_ (fun  (m8 : pm_M) =>
    gd_ 10 (gR_ m8 t 1) fun a9 =>
    bt_ (f_X10_opens F a9 m8) (fun v14 m12 =>
      gd_ 10 (gR_ m12 t 1) fun a17 =>
      bm_ (f_X10_skipsWord F a17 m12) fun v22 m20 =>
      gd_ 10 (gR_ m20 t 1) fun a23 =>
      bt_ (f_X10_sign F a23 91 m20) (fun v28 m26 =>
        bt_ (z_ t m26) (fun v33 m31 =>
          gd_ 10 (gR_ m31 t 1) fun a36 =>
          bt_ (f_X10_sign F a36 44 m31) (fun v41 m39 =>
            bt_ (z_ t m39) (fun v46 m44 =>
              gd_ 10 (gR_ m44 t 1) fun a49 =>
              bt_ (f_X10_sign F a49 93 m44) (fun v54 m52 =>
                gd_ 10 (gR_ m52 t 1) fun a57 =>
                bm_ (f_X10_closes F a57 m52) fun v62 m60 =>
                lt_ (pN_ m60 13 0 3) fun m63 =>
                jn_ (fun (y67 : Option pm_A) (y68 : Option pm_A) (y69 : Int32) (m66 : pm_M) =>
                  gd_ 13 y68 fun a70 =>
                  bm_ (f_X13_init F a70 y69 v33 v46 m66) fun v75 m73 =>
                  some (.inl y67, m73)
                ) fun k65 =>
                if v6 = 0 then
                  k65 (some ((13, 0, gN_ m60))) (some ((13, 0, gN_ m60))) 93 m63
                else
                  k65 (some ((13, 0, gN_ m60))) (some ((13, 0, gN_ m60))) 91 m63
              ) fun b56 m55 =>
                some (.inr b56, m55)
            ) fun b48 m47 =>
              some (.inr b48, m47)
          ) fun b43 m42 =>
            some (.inr b43, m42)
        ) fun b35 m34 =>
          some (.inr b35, m34)
      ) fun b30 m29 =>
        some (.inr b30, m29)
    ) fun b16 m15 =>
      some (.inr b16, m15)
  ) fun k7 =>
  if v6 = 0 then
    gd_ 10 (gR_ m4 t 1) fun a79 =>
    bm_ (f_X10_isWord F a79 (some ((200, 0, 11))) m4) fun v84 m82 =>
    if v84 = 0 then
      gd_ 10 (gR_ m82 t 1) fun a86 =>
      bm_ (f_X10_now F a86 m82) fun v91 m89 =>
      if v91 = 40 then
        gd_ 10 (gR_ m89 t 1) fun a124 =>
        bt_ (f_X10_opens F a124 m89) (fun v129 m127 =>
          gd_ 10 (gR_ m127 t 1) fun a132 =>
          bt_ (f_X10_sign F a132 40 m127) (fun v137 m135 =>
            bt_ (z_ t m135) (fun v142 m140 =>
              gd_ 10 (gR_ m140 t 1) fun a145 =>
              bt_ (f_X10_sign F a145 41 m140) (fun v150 m148 =>
                gd_ 10 (gR_ m148 t 1) fun a153 =>
                bm_ (f_X10_closes F a153 m148) fun v158 m156 =>
                some (.inl v142, m156)
              ) fun b152 m151 =>
                some (.inr b152, m151)
            ) fun b144 m143 =>
              some (.inr b144, m143)
          ) fun b139 m138 =>
            some (.inr b139, m138)
        ) fun b131 m130 =>
          some (.inr b131, m130)
      else
        gd_ 10 (gR_ m89 t 1) fun a93 =>
        bm_ (f_X10_which F a93 (gR_ m89 t 0) m89) fun v98 m96 =>
        if v98 = ((-1)) then
          lt_ (pN_ m96 14 0 1) fun m111 =>
          gd_ 10 (gR_ m111 t 1) fun a113 =>
          bt_ (f_X10_number F a113 0 999 m111) (fun v118 m116 =>
            bm_ (f_X14_init F ((14, 0, gN_ m96)) v118 m116) fun v123 m121 =>
            some (.inl (some ((14, 0, gN_ m96))), m121)
          ) fun b120 m119 =>
            some (.inr b120, m119)
        else
          gd_ 10 (gR_ m96 t 1) fun a100 =>
          bm_ (f_X10_skipsWord F a100 m96) fun v105 m103 =>
          lt_ (pN_ m103 15 0 1) fun m106 =>
          bm_ (f_X15_init F ((15, 0, gN_ m103)) v98 m106) fun v110 m108 =>
          some (.inl (some ((15, 0, gN_ m103))), m108)
    else
      k7 m82
  else
    k7 m4
set_option maxHeartbeats 4000000 in
theorem e_X12_value {G : xg_T} {l : Launch} (hl : l.stackTraces = false) {F : Nat} {dz : Nat} {z_ : pm_A → pm_M → Option ((Option pm_A ⊕ pm_A) × pm_M)} (hz : ∀ (w0 : pm_A) (m m' : pm_M) (r : (Option pm_A ⊕ pm_A)), w0.1 = 12 → z_ w0 m = some (r, m') → Cal_ G l yX12_sum (ws_ yX12_sum cX12_sum 2 (some (.object "PassagePapers$Term"))) dz [vR_ (some w0)] m (oR_ r) m') (hdz : 8 ≤ dz) {t : pm_A} {m0 m' : pm_M} {r : (Option pm_A ⊕ pm_A)} (ht : t.1 = 12) (h : f_X12_value F z_ t m0 = some (r, m')) : Cal_ G l yX12_value (ws_ yX12_value cX12_value 4 (some (.object "PassagePapers$Term"))) (dz + 1) [vR_ (some t)] m0 (oR_ r) m' := by
  refine cal_of (by decide +kernel) (Nat.le_of_ble_eq_true rfl) ?_
  unfold f_X12_value at h
  show AW_ cX12_value RX12 (some (.object "PassagePapers$Term"), "value", (dz + 1), 4, m0, m', (oR_ r), G, l, [], true) m0 0 [(0, vR_ (some t))] []
  refine a_aload_n 0 dX12_value_0 rfl rfl ?_
  refine a_getR kc_12 1 (by decide) rfl ht q864 dX12_value_1 ?_
  refine a_ldcS (n := 8) (tx := "least") (by decide +kernel) (by decide) dX12_value_4 ?_
  obtain ⟨a1, e2, f3, h⟩ := gd_some h
  rw [e2]
  obtain ⟨v6, m4, e5, h⟩ := bm_some h
  have he5 := e_X10_isWord (G := G) hl f3 e5
  refine c_I he5.1 (rn_V (n := 1) (As := [vR_ (some ((200, 0, 8)))]) kc_10 f3 he5 (lw_V q887 q726 q727 q103 q728) (by decide +kernel) rfl (by show 6 + 1 ≤ (dz + 1); omega) (Nat.le_of_ble_eq_true rfl) (Nat.le_of_ble_eq_true rfl) dX12_value_6) (fun z => (os_av (As := [vR_ (some ((200, 0, 8)))]) z).2.1) ?_
  refine a_istore_n (ls' := [(1, vI_ v6), (0, vR_ (some t))]) dX12_value_9 rfl (Nat.le_of_ble_eq_true rfl) rfl ?_
  refine a_iload_n 0 dX12_value_10 rfl rfl ?_
  obtain ⟨k7, e159, h⟩ := jn1_some h
  have hk7 : ∀  (m8 : pm_M), k7 m8 = some (r, m') → AW_ cX12_value RX12 (some (.object "PassagePapers$Term"), "value", (dz + 1), 4, m0, m', (oR_ r), G, l, [], true) m8 26 [(0, vR_ (some t)), (1, vI_ v6)] [] := by
    intro m8 h
    have h := (e159 m8).symm.trans h
    refine a_aload_n 0 dX12_value_26 rfl rfl ?_
    refine a_getR kc_12 1 (by decide) rfl ht q864 dX12_value_27 ?_
    obtain ⟨a9, e10, f11, h⟩ := gd_some h
    rw [e10]
    rcases bt_some h with ⟨v14, m12, e13, h⟩ | ⟨b16, m15, e13, h⟩
    · have he13 := e_X10_opens (G := G) hl f11 e13
      refine c_V he13.1 (rn_V (n := 0) (As := []) kc_10 f11 he13 (lw_V q889 q890 q891 q103 q892) (by decide +kernel) rfl (by show 5 + 1 ≤ (dz + 1); omega) (Nat.le_of_ble_eq_true rfl) (Nat.le_of_ble_eq_true rfl) dX12_value_30) (fun z => (os_av (As := []) z).2.1) ?_
      refine a_aload_n 0 dX12_value_33 rfl rfl ?_
      refine a_getR kc_12 1 (by decide) rfl ht q864 dX12_value_34 ?_
      obtain ⟨a17, e18, f19, h⟩ := gd_some h
      rw [e18]
      obtain ⟨v22, m20, e21, h⟩ := bm_some h
      have he21 := e_X10_skipsWord (G := G) hl f19 e21
      refine c_V he21.1 (rn_V (n := 0) (As := []) kc_10 f19 he21 (lw_V q893 q810 q811 q103 q812) (by decide +kernel) rfl (by show 3 + 1 ≤ (dz + 1); omega) (Nat.le_of_ble_eq_true rfl) (Nat.le_of_ble_eq_true rfl) dX12_value_37) (fun z => (os_av (As := []) z).2.1) ?_
      refine a_aload_n 0 dX12_value_40 rfl rfl ?_
      refine a_getR kc_12 1 (by decide) rfl ht q864 dX12_value_41 ?_
      refine a_bipush (v := 91) dX12_value_44 (by decide) ?_
      obtain ⟨a23, e24, f25, h⟩ := gd_some h
      rw [e24]
      rcases bt_some h with ⟨v28, m26, e27, h⟩ | ⟨b30, m29, e27, h⟩
      · have he27 := e_X10_sign (G := G) hl f25 e27
        refine c_V he27.1 (rn_V (n := 1) (As := [vI_ 91]) kc_10 f25 he27 (lw_V q894 q833 q834 q103 q835) (by decide +kernel) rfl (by show 5 + 1 ≤ (dz + 1); omega) (Nat.le_of_ble_eq_true rfl) (Nat.le_of_ble_eq_true rfl) dX12_value_46) (fun z => (os_av (As := [vI_ 91]) z).2.1) ?_
        refine a_aload_n 0 dX12_value_49 rfl rfl ?_
        rcases bt_some h with ⟨v33, m31, e32, h⟩ | ⟨b35, m34, e32, h⟩
        · have he32 := hz _ _ _ _ ht e32
          refine c_R (v := v33) he32.1 (rn_V (n := 0) (As := []) kc_12 ht he32 (lw_V q874 q876 qs8 q110 q877) (by decide +kernel) rfl (by show dz + 1 ≤ (dz + 1); omega) (Nat.le_of_ble_eq_true rfl) (Nat.le_of_ble_eq_true rfl) dX12_value_50) (fun z => (os_av (As := []) z).2.1) ?_
          refine a_astore_n (ls' := [(2, vR_ v33), (0, vR_ (some t)), (1, vI_ v6)]) dX12_value_53 rfl (Nat.le_of_ble_eq_true rfl) rfl ?_
          refine a_aload_n 1 dX12_value_54 rfl rfl ?_
          refine a_getR kc_12 1 (by decide) rfl ht q864 dX12_value_55 ?_
          refine a_bipush (v := 44) dX12_value_58 (by decide) ?_
          obtain ⟨a36, e37, f38, h⟩ := gd_some h
          rw [e37]
          rcases bt_some h with ⟨v41, m39, e40, h⟩ | ⟨b43, m42, e40, h⟩
          · have he40 := e_X10_sign (G := G) hl f38 e40
            refine c_V he40.1 (rn_V (n := 1) (As := [vI_ 44]) kc_10 f38 he40 (lw_V q894 q833 q834 q103 q835) (by decide +kernel) rfl (by show 5 + 1 ≤ (dz + 1); omega) (Nat.le_of_ble_eq_true rfl) (Nat.le_of_ble_eq_true rfl) dX12_value_60) (fun z => (os_av (As := [vI_ 44]) z).2.1) ?_
            refine a_aload_n 1 dX12_value_63 rfl rfl ?_
            rcases bt_some h with ⟨v46, m44, e45, h⟩ | ⟨b48, m47, e45, h⟩
            · have he45 := hz _ _ _ _ ht e45
              refine c_R (v := v46) he45.1 (rn_V (n := 0) (As := []) kc_12 ht he45 (lw_V q874 q876 qs8 q110 q877) (by decide +kernel) rfl (by show dz + 1 ≤ (dz + 1); omega) (Nat.le_of_ble_eq_true rfl) (Nat.le_of_ble_eq_true rfl) dX12_value_64) (fun z => (os_av (As := []) z).2.1) ?_
              refine a_astore_n (ls' := [(3, vR_ v46), (2, vR_ v33), (0, vR_ (some t)), (1, vI_ v6)]) dX12_value_67 rfl (Nat.le_of_ble_eq_true rfl) rfl ?_
              refine a_aload_n 2 dX12_value_68 rfl rfl ?_
              refine a_getR kc_12 1 (by decide) rfl ht q864 dX12_value_69 ?_
              refine a_bipush (v := 93) dX12_value_72 (by decide) ?_
              obtain ⟨a49, e50, f51, h⟩ := gd_some h
              rw [e50]
              rcases bt_some h with ⟨v54, m52, e53, h⟩ | ⟨b56, m55, e53, h⟩
              · have he53 := e_X10_sign (G := G) hl f51 e53
                refine c_V he53.1 (rn_V (n := 1) (As := [vI_ 93]) kc_10 f51 he53 (lw_V q894 q833 q834 q103 q835) (by decide +kernel) rfl (by show 5 + 1 ≤ (dz + 1); omega) (Nat.le_of_ble_eq_true rfl) (Nat.le_of_ble_eq_true rfl) dX12_value_74) (fun z => (os_av (As := [vI_ 93]) z).2.1) ?_
                refine a_aload_n 2 dX12_value_77 rfl rfl ?_
                refine a_getR kc_12 1 (by decide) rfl ht q864 dX12_value_78 ?_
                obtain ⟨a57, e58, f59, h⟩ := gd_some h
                rw [e58]
                obtain ⟨v62, m60, e61, h⟩ := bm_some h
                have he61 := e_X10_closes (G := G) hl f59 e61
                refine c_V he61.1 (rn_V (n := 0) (As := []) kc_10 f59 he61 (lw_V q895 q896 q897 q103 q898) (by decide +kernel) rfl (by show 2 + 1 ≤ (dz + 1); omega) (Nat.le_of_ble_eq_true rfl) (Nat.le_of_ble_eq_true rfl) dX12_value_81) (fun z => (os_av (As := []) z).2.1) ?_
                obtain ⟨m63, e64, h⟩ := lt_some h
                refine a_new kc_13 q899 q900 q111 dX12_value_84 ?_
                rw [← e64]
                refine a_dup dX12_value_87 rfl ?_
                refine a_iload_n 3 dX12_value_88 rfl rfl ?_
                obtain ⟨k65, e77, h⟩ := jn4_some h
                have hk65 : ∀ (y67 : Option pm_A) (y68 : Option pm_A) (y69 : Int32) (m66 : pm_M), k65 y67 y68 y69 m66 = some (r, m') → AW_ cX12_value RX12 (some (.object "PassagePapers$Term"), "value", (dz + 1), 4, m0, m', (oR_ r), G, l, [], true) m66 99 [(2, vR_ v33), (3, vR_ v46)] [vI_ y69, vR_ y68, vR_ y67] := by
                  intro y67 y68 y69 m66 h
                  have h := (e77 y67 y68 y69 m66).symm.trans h
                  refine a_aload_n 0 dX12_value_99 rfl rfl ?_
                  refine a_aload_n 1 dX12_value_100 rfl rfl ?_
                  obtain ⟨a70, e71, f72, h⟩ := gd_some h
                  rw [e71]
                  obtain ⟨v75, m73, e74, h⟩ := bm_some h
                  have he74 := e_X13_init (G := G) hl f72 e74
                  refine c_V he74.1 (rn_I (n := 3) (As := [vI_ y69, vR_ v33, vR_ v46]) he74 q901 q902 q111 q903 rfl (by decide +kernel) rfl (by show 2 + 1 ≤ (dz + 1); omega) (Nat.le_of_ble_eq_true rfl) (Nat.le_of_ble_eq_true rfl) dX12_value_101) (fun z => (os_av (As := [vI_ y69, vR_ v33, vR_ v46]) z).2.1) ?_
                  cases h
                  exact a_areturn rfl (Or.inl ⟨_, rfl⟩) rfl rfl rfl dX12_value_104
                refine a_if_eq (tgt := 97) dX12_value_89 (by decide) (fun c76 => ?_) (fun c76 => ?_)
                · replace h := ifp_ c76 h
                  refine a_bipush (v := 93) dX12_value_97 (by decide) ?_
                  refine aw_pick [1, 0] rfl ?_
                  exact hk65 _ _ _ _ h
                · replace h := ifn_ c76 h
                  refine a_bipush (v := 91) dX12_value_92 (by decide) ?_
                  refine a_goto (tgt := 99) dX12_value_94 (by decide) ?_
                  refine aw_pick [1, 0] rfl ?_
                  exact hk65 _ _ _ _ h
              · have he53 := e_X10_sign (G := G) hl f51 e53
                refine c_X (b := b56) he53.1 (rn_V (n := 1) (As := [vI_ 93]) kc_10 f51 he53 (lw_V q894 q833 q834 q103 q835) (by decide +kernel) rfl (by show 5 + 1 ≤ (dz + 1); omega) (Nat.le_of_ble_eq_true rfl) (Nat.le_of_ble_eq_true rfl) dX12_value_74) ?_
                cases h
                exact a_out rfl rfl rfl rfl
            · have he45 := hz _ _ _ _ ht e45
              refine c_X (b := b48) he45.1 (rn_V (n := 0) (As := []) kc_12 ht he45 (lw_V q874 q876 qs8 q110 q877) (by decide +kernel) rfl (by show dz + 1 ≤ (dz + 1); omega) (Nat.le_of_ble_eq_true rfl) (Nat.le_of_ble_eq_true rfl) dX12_value_64) ?_
              cases h
              exact a_out rfl rfl rfl rfl
          · have he40 := e_X10_sign (G := G) hl f38 e40
            refine c_X (b := b43) he40.1 (rn_V (n := 1) (As := [vI_ 44]) kc_10 f38 he40 (lw_V q894 q833 q834 q103 q835) (by decide +kernel) rfl (by show 5 + 1 ≤ (dz + 1); omega) (Nat.le_of_ble_eq_true rfl) (Nat.le_of_ble_eq_true rfl) dX12_value_60) ?_
            cases h
            exact a_out rfl rfl rfl rfl
        · have he32 := hz _ _ _ _ ht e32
          refine c_X (b := b35) he32.1 (rn_V (n := 0) (As := []) kc_12 ht he32 (lw_V q874 q876 qs8 q110 q877) (by decide +kernel) rfl (by show dz + 1 ≤ (dz + 1); omega) (Nat.le_of_ble_eq_true rfl) (Nat.le_of_ble_eq_true rfl) dX12_value_50) ?_
          cases h
          exact a_out rfl rfl rfl rfl
      · have he27 := e_X10_sign (G := G) hl f25 e27
        refine c_X (b := b30) he27.1 (rn_V (n := 1) (As := [vI_ 91]) kc_10 f25 he27 (lw_V q894 q833 q834 q103 q835) (by decide +kernel) rfl (by show 5 + 1 ≤ (dz + 1); omega) (Nat.le_of_ble_eq_true rfl) (Nat.le_of_ble_eq_true rfl) dX12_value_46) ?_
        cases h
        exact a_out rfl rfl rfl rfl
    · have he13 := e_X10_opens (G := G) hl f11 e13
      refine c_X (b := b16) he13.1 (rn_V (n := 0) (As := []) kc_10 f11 he13 (lw_V q889 q890 q891 q103 q892) (by decide +kernel) rfl (by show 5 + 1 ≤ (dz + 1); omega) (Nat.le_of_ble_eq_true rfl) (Nat.le_of_ble_eq_true rfl) dX12_value_30) ?_
      cases h
      exact a_out rfl rfl rfl rfl
  refine a_if_ne (tgt := 26) dX12_value_11 (by decide) (fun c78 => ?_) (fun c78 => ?_)
  · replace h := ifn_ c78 h
    refine aw_pick [1, 0] rfl ?_
    exact hk7 _ h
  · replace h := ifp_ c78 h
    refine a_aload_n 1 dX12_value_14 rfl rfl ?_
    refine a_getR kc_12 1 (by decide) rfl ht q864 dX12_value_15 ?_
    refine a_ldcS (n := 11) (tx := "most") (by decide +kernel) (by decide) dX12_value_18 ?_
    obtain ⟨a79, e80, f81, h⟩ := gd_some h
    rw [e80]
    obtain ⟨v84, m82, e83, h⟩ := bm_some h
    have he83 := e_X10_isWord (G := G) hl f81 e83
    refine c_I he83.1 (rn_V (n := 1) (As := [vR_ (some ((200, 0, 11)))]) kc_10 f81 he83 (lw_V q887 q726 q727 q103 q728) (by decide +kernel) rfl (by show 6 + 1 ≤ (dz + 1); omega) (Nat.le_of_ble_eq_true rfl) (Nat.le_of_ble_eq_true rfl) dX12_value_20) (fun z => (os_av (As := [vR_ (some ((200, 0, 11)))]) z).2.1) ?_
    refine a_if_eq (tgt := 105) dX12_value_23 (by decide) (fun c85 => ?_) (fun c85 => ?_)
    · replace h := ifp_ c85 h
      refine a_aload_n 1 dX12_value_105 rfl rfl ?_
      refine a_getR kc_12 1 (by decide) rfl ht q864 dX12_value_106 ?_
      obtain ⟨a86, e87, f88, h⟩ := gd_some h
      rw [e87]
      obtain ⟨v91, m89, e90, h⟩ := bm_some h
      have he90 := e_X10_now (G := G) hl f88 e90
      refine c_I he90.1 (rn_V (n := 0) (As := []) kc_10 f88 he90 (lw_V q915 q705 q706 q103 q707) (by decide +kernel) rfl (by show 3 + 1 ≤ (dz + 1); omega) (Nat.le_of_ble_eq_true rfl) (Nat.le_of_ble_eq_true rfl) dX12_value_109) (fun z => (os_av (As := []) z).2.1) ?_
      refine a_bipush (v := 40) dX12_value_112 (by decide) ?_
      refine a_icmp_ne (tgt := 156) dX12_value_114 (by decide) (fun c92 => ?_) (fun c92 => ?_)
      · replace h := ifn_ c92 h
        refine a_aload_n 1 dX12_value_156 rfl rfl ?_
        refine a_getR kc_12 1 (by decide) rfl ht q864 dX12_value_157 ?_
        refine a_aload_n 1 dX12_value_160 rfl rfl ?_
        refine a_getR kc_12 0 (by decide) rfl ht q863 dX12_value_161 ?_
        obtain ⟨a93, e94, f95, h⟩ := gd_some h
        rw [e94]
        obtain ⟨v98, m96, e97, h⟩ := bm_some h
        have he97 := e_X10_which (G := G) hl f95 e97
        refine c_I he97.1 (rn_V (n := 1) (As := [vR_ (gR_ m89 t 0)]) kc_10 f95 he97 (lw_V q916 q722 q723 q103 q724) (by decide +kernel) rfl (by show 7 + 1 ≤ (dz + 1); omega) (Nat.le_of_ble_eq_true rfl) (Nat.le_of_ble_eq_true rfl) dX12_value_164) (fun z => (os_av (As := [vR_ (gR_ m89 t 0)]) z).2.1) ?_
        refine a_istore_n (ls' := [(2, vI_ v98), (1, vI_ v6), (0, vR_ (some t))]) dX12_value_167 rfl (Nat.le_of_ble_eq_true rfl) rfl ?_
        refine a_iload_n 0 dX12_value_168 rfl rfl ?_
        refine a_iconst (v := (-1)) dX12_value_169 (by decide) ?_
        refine a_icmp_ne (tgt := 192) dX12_value_170 (by decide) (fun c99 => ?_) (fun c99 => ?_)
        · replace h := ifn_ c99 h
          refine a_aload_n 2 dX12_value_192 rfl rfl ?_
          refine a_getR kc_12 1 (by decide) rfl ht q864 dX12_value_193 ?_
          obtain ⟨a100, e101, f102, h⟩ := gd_some h
          rw [e101]
          obtain ⟨v105, m103, e104, h⟩ := bm_some h
          have he104 := e_X10_skipsWord (G := G) hl f102 e104
          refine c_V he104.1 (rn_V (n := 0) (As := []) kc_10 f102 he104 (lw_V q893 q810 q811 q103 q812) (by decide +kernel) rfl (by show 3 + 1 ≤ (dz + 1); omega) (Nat.le_of_ble_eq_true rfl) (Nat.le_of_ble_eq_true rfl) dX12_value_196) (fun z => (os_av (As := []) z).2.1) ?_
          obtain ⟨m106, e107, h⟩ := lt_some h
          refine a_new kc_15 q928 q929 q113 dX12_value_199 ?_
          rw [← e107]
          refine a_dup dX12_value_202 rfl ?_
          refine a_iload_n 0 dX12_value_203 rfl rfl ?_
          obtain ⟨v110, m108, e109, h⟩ := bm_some h
          have he109 := e_X15_init (G := G) hl rfl e109
          refine c_V he109.1 (rn_I (n := 1) (As := [vI_ v98]) he109 q930 q931 q113 q932 rfl (by decide +kernel) rfl (by show 2 + 1 ≤ (dz + 1); omega) (Nat.le_of_ble_eq_true rfl) (Nat.le_of_ble_eq_true rfl) dX12_value_204) (fun z => (os_av (As := [vI_ v98]) z).2.1) ?_
          cases h
          exact a_areturn rfl (Or.inl ⟨_, rfl⟩) rfl rfl rfl dX12_value_207
        · replace h := ifp_ c99 h
          obtain ⟨m111, e112, h⟩ := lt_some h
          refine a_new kc_14 q917 q918 q112 dX12_value_173 ?_
          rw [← e112]
          refine a_dup dX12_value_176 rfl ?_
          refine a_aload_n 2 dX12_value_177 rfl rfl ?_
          refine a_getR kc_12 1 (by decide) rfl ht q864 dX12_value_178 ?_
          refine a_iconst (v := 0) dX12_value_181 (by decide) ?_
          refine a_sipush (v := 999) dX12_value_182 (by decide) ?_
          obtain ⟨a113, e114, f115, h⟩ := gd_some h
          rw [e114]
          rcases bt_some h with ⟨v118, m116, e117, h⟩ | ⟨b120, m119, e117, h⟩
          · have he117 := e_X10_number (G := G) hl f115 e117
            refine c_I (v := v118) he117.1 (rn_V (n := 2) (As := [vI_ 0, vI_ 999]) kc_10 f115 he117 (lw_V q919 q818 q819 q103 q820) (by decide +kernel) rfl (by show 5 + 1 ≤ (dz + 1); omega) (Nat.le_of_ble_eq_true rfl) (Nat.le_of_ble_eq_true rfl) dX12_value_185) (fun z => (os_av (As := [vI_ 0, vI_ 999]) z).2.1) ?_
            obtain ⟨v123, m121, e122, h⟩ := bm_some h
            have he122 := e_X14_init (G := G) hl rfl e122
            refine c_V he122.1 (rn_I (n := 1) (As := [vI_ v118]) he122 q920 q921 q112 q922 rfl (by decide +kernel) rfl (by show 2 + 1 ≤ (dz + 1); omega) (Nat.le_of_ble_eq_true rfl) (Nat.le_of_ble_eq_true rfl) dX12_value_188) (fun z => (os_av (As := [vI_ v118]) z).2.1) ?_
            cases h
            exact a_areturn rfl (Or.inl ⟨_, rfl⟩) rfl rfl rfl dX12_value_191
          · have he117 := e_X10_number (G := G) hl f115 e117
            refine c_X (b := b120) he117.1 (rn_V (n := 2) (As := [vI_ 0, vI_ 999]) kc_10 f115 he117 (lw_V q919 q818 q819 q103 q820) (by decide +kernel) rfl (by show 5 + 1 ≤ (dz + 1); omega) (Nat.le_of_ble_eq_true rfl) (Nat.le_of_ble_eq_true rfl) dX12_value_185) ?_
            cases h
            exact a_out rfl rfl rfl rfl
      · replace h := ifp_ c92 h
        refine a_aload_n 1 dX12_value_117 rfl rfl ?_
        refine a_getR kc_12 1 (by decide) rfl ht q864 dX12_value_118 ?_
        obtain ⟨a124, e125, f126, h⟩ := gd_some h
        rw [e125]
        rcases bt_some h with ⟨v129, m127, e128, h⟩ | ⟨b131, m130, e128, h⟩
        · have he128 := e_X10_opens (G := G) hl f126 e128
          refine c_V he128.1 (rn_V (n := 0) (As := []) kc_10 f126 he128 (lw_V q889 q890 q891 q103 q892) (by decide +kernel) rfl (by show 5 + 1 ≤ (dz + 1); omega) (Nat.le_of_ble_eq_true rfl) (Nat.le_of_ble_eq_true rfl) dX12_value_121) (fun z => (os_av (As := []) z).2.1) ?_
          refine a_aload_n 1 dX12_value_124 rfl rfl ?_
          refine a_getR kc_12 1 (by decide) rfl ht q864 dX12_value_125 ?_
          refine a_bipush (v := 40) dX12_value_128 (by decide) ?_
          obtain ⟨a132, e133, f134, h⟩ := gd_some h
          rw [e133]
          rcases bt_some h with ⟨v137, m135, e136, h⟩ | ⟨b139, m138, e136, h⟩
          · have he136 := e_X10_sign (G := G) hl f134 e136
            refine c_V he136.1 (rn_V (n := 1) (As := [vI_ 40]) kc_10 f134 he136 (lw_V q894 q833 q834 q103 q835) (by decide +kernel) rfl (by show 5 + 1 ≤ (dz + 1); omega) (Nat.le_of_ble_eq_true rfl) (Nat.le_of_ble_eq_true rfl) dX12_value_130) (fun z => (os_av (As := [vI_ 40]) z).2.1) ?_
            refine a_aload_n 1 dX12_value_133 rfl rfl ?_
            rcases bt_some h with ⟨v142, m140, e141, h⟩ | ⟨b144, m143, e141, h⟩
            · have he141 := hz _ _ _ _ ht e141
              refine c_R (v := v142) he141.1 (rn_V (n := 0) (As := []) kc_12 ht he141 (lw_V q874 q876 qs8 q110 q877) (by decide +kernel) rfl (by show dz + 1 ≤ (dz + 1); omega) (Nat.le_of_ble_eq_true rfl) (Nat.le_of_ble_eq_true rfl) dX12_value_134) (fun z => (os_av (As := []) z).2.1) ?_
              refine a_astore_n (ls' := [(2, vR_ v142), (1, vI_ v6), (0, vR_ (some t))]) dX12_value_137 rfl (Nat.le_of_ble_eq_true rfl) rfl ?_
              refine a_aload_n 2 dX12_value_138 rfl rfl ?_
              refine a_getR kc_12 1 (by decide) rfl ht q864 dX12_value_139 ?_
              refine a_bipush (v := 41) dX12_value_142 (by decide) ?_
              obtain ⟨a145, e146, f147, h⟩ := gd_some h
              rw [e146]
              rcases bt_some h with ⟨v150, m148, e149, h⟩ | ⟨b152, m151, e149, h⟩
              · have he149 := e_X10_sign (G := G) hl f147 e149
                refine c_V he149.1 (rn_V (n := 1) (As := [vI_ 41]) kc_10 f147 he149 (lw_V q894 q833 q834 q103 q835) (by decide +kernel) rfl (by show 5 + 1 ≤ (dz + 1); omega) (Nat.le_of_ble_eq_true rfl) (Nat.le_of_ble_eq_true rfl) dX12_value_144) (fun z => (os_av (As := [vI_ 41]) z).2.1) ?_
                refine a_aload_n 2 dX12_value_147 rfl rfl ?_
                refine a_getR kc_12 1 (by decide) rfl ht q864 dX12_value_148 ?_
                obtain ⟨a153, e154, f155, h⟩ := gd_some h
                rw [e154]
                obtain ⟨v158, m156, e157, h⟩ := bm_some h
                have he157 := e_X10_closes (G := G) hl f155 e157
                refine c_V he157.1 (rn_V (n := 0) (As := []) kc_10 f155 he157 (lw_V q895 q896 q897 q103 q898) (by decide +kernel) rfl (by show 2 + 1 ≤ (dz + 1); omega) (Nat.le_of_ble_eq_true rfl) (Nat.le_of_ble_eq_true rfl) dX12_value_151) (fun z => (os_av (As := []) z).2.1) ?_
                refine a_aload_n 0 dX12_value_154 rfl rfl ?_
                cases h
                exact a_areturn rfl (Or.inl ⟨_, rfl⟩) rfl rfl rfl dX12_value_155
              · have he149 := e_X10_sign (G := G) hl f147 e149
                refine c_X (b := b152) he149.1 (rn_V (n := 1) (As := [vI_ 41]) kc_10 f147 he149 (lw_V q894 q833 q834 q103 q835) (by decide +kernel) rfl (by show 5 + 1 ≤ (dz + 1); omega) (Nat.le_of_ble_eq_true rfl) (Nat.le_of_ble_eq_true rfl) dX12_value_144) ?_
                cases h
                exact a_out rfl rfl rfl rfl
            · have he141 := hz _ _ _ _ ht e141
              refine c_X (b := b144) he141.1 (rn_V (n := 0) (As := []) kc_12 ht he141 (lw_V q874 q876 qs8 q110 q877) (by decide +kernel) rfl (by show dz + 1 ≤ (dz + 1); omega) (Nat.le_of_ble_eq_true rfl) (Nat.le_of_ble_eq_true rfl) dX12_value_134) ?_
              cases h
              exact a_out rfl rfl rfl rfl
          · have he136 := e_X10_sign (G := G) hl f134 e136
            refine c_X (b := b139) he136.1 (rn_V (n := 1) (As := [vI_ 40]) kc_10 f134 he136 (lw_V q894 q833 q834 q103 q835) (by decide +kernel) rfl (by show 5 + 1 ≤ (dz + 1); omega) (Nat.le_of_ble_eq_true rfl) (Nat.le_of_ble_eq_true rfl) dX12_value_130) ?_
            cases h
            exact a_out rfl rfl rfl rfl
        · have he128 := e_X10_opens (G := G) hl f126 e128
          refine c_X (b := b131) he128.1 (rn_V (n := 0) (As := []) kc_10 f126 he128 (lw_V q889 q890 q891 q103 q892) (by decide +kernel) rfl (by show 5 + 1 ≤ (dz + 1); omega) (Nat.le_of_ble_eq_true rfl) (Nat.le_of_ble_eq_true rfl) dX12_value_121) ?_
          cases h
          exact a_out rfl rfl rfl rfl
    · replace h := ifn_ c85 h
      refine aw_pick [1, 0] rfl ?_
      exact hk7 _ h
