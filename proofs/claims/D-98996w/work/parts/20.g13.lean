/-! PRINTED BY dec.py: X8_readTwo X8_readUnit X8_readProduct X8_readSum X8_law X8_tellsStep X8_readOne X8_readStep X8_take X8_many -/
set_option maxRecDepth 100000
def f_X8_readTwo (F : Nat) (z_ : pm_A → pm_M → Option (Unit × pm_M)) (t : pm_A) (i0 : Int32) (i1 : Int32) (m : pm_M) : Option (Unit × pm_M) :=
  bm_ (f_X8_opensOne F t i0 m) fun v3 m1 =>
  bm_ (f_X8_sign F t 91 m1) fun v6 m4 =>
  bm_ (z_ t m4) fun v9 m7 =>
  bm_ (f_X8_sign F t 44 m7) fun v12 m10 =>
  bm_ (z_ t m10) fun v15 m13 =>
  bm_ (f_X8_sign F t 93 m13) fun v18 m16 =>
  lt_ (pI_ m16 t 7 ((gI_ m16 t 7) - 1)) fun m19 =>
  bm_ (f_X8_emit F t i1 0 m19) fun v23 m21 =>
  some ((), m21)
set_option maxHeartbeats 4000000 in
theorem e_X8_readTwo {G : xg_T} {l : Launch} (hl : l.stackTraces = false) {F : Nat} {dz : Nat} {z_ : pm_A → pm_M → Option (Unit × pm_M)} (hz : ∀ (w0 : pm_A) (m m' : pm_M) (r : Unit), w0.1 = 8 → z_ w0 m = some (r, m') → Cal_ G l yX8_readSum (ws_ yX8_readSum cX8_readSum 2 none) dz [vR_ (some w0)] m (.inl none) m') (hdz : 8 ≤ dz) {t : pm_A} {i0 : Int32} {i1 : Int32} {m0 m' : pm_M} {r : Unit} (ht : t.1 = 8) (h : f_X8_readTwo F z_ t i0 i1 m0 = some (r, m')) : Cal_ G l yX8_readTwo (ws_ yX8_readTwo cX8_readTwo 3 none) (dz + 1) [vR_ (some t), vI_ i0, vI_ i1] m0 (.inl none) m' := by
  refine cal_of (by decide +kernel) (Nat.le_of_ble_eq_true rfl) ?_
  unfold f_X8_readTwo at h
  show AW_ cX8_readTwo RX8 (none, "readTwo", (dz + 1), 3, m0, m', (.inl none), G, l, [], true) m0 0 [(0, vR_ (some t)), (1, vI_ i0), (2, vI_ i1)] []
  refine a_aload_n 0 dX8_readTwo_0 rfl rfl ?_
  refine a_iload_n 1 dX8_readTwo_1 rfl rfl ?_
  obtain ⟨v3, m1, e2, h⟩ := bm_some h
  have he2 := e_X8_opensOne (G := G) hl ht e2
  refine c_V he2.1 (rn_V (n := 1) (As := [vI_ i0]) kc_8 ht he2 (lw_V q1838 q1840 qs49 q97 q1841) (by decide +kernel) rfl (by show 3 + 1 ≤ (dz + 1); omega) (Nat.le_of_ble_eq_true rfl) (Nat.le_of_ble_eq_true rfl) dX8_readTwo_2) (fun z => (os_av (As := [vI_ i0]) z).2.1) ?_
  refine a_aload_n 0 dX8_readTwo_5 rfl rfl ?_
  refine a_bipush (v := 91) dX8_readTwo_6 (by decide) ?_
  obtain ⟨v6, m4, e5, h⟩ := bm_some h
  have he5 := e_X8_sign (G := G) hl ht e5
  refine c_V he5.1 (rn_V (n := 1) (As := [vI_ 91]) kc_8 ht he5 (lw_V q1811 q1813 qs44 q97 q1814) (by decide +kernel) rfl (by show 3 + 1 ≤ (dz + 1); omega) (Nat.le_of_ble_eq_true rfl) (Nat.le_of_ble_eq_true rfl) dX8_readTwo_8) (fun z => (os_av (As := [vI_ 91]) z).2.1) ?_
  refine a_aload_n 0 dX8_readTwo_11 rfl rfl ?_
  obtain ⟨v9, m7, e8, h⟩ := bm_some h
  have he8 := hz _ _ _ _ ht e8
  refine c_V he8.1 (rn_V (n := 0) (As := []) kc_8 ht he8 (lw_V q1826 q1828 qs46 q97 q1829) (by decide +kernel) rfl (by show dz + 1 ≤ (dz + 1); omega) (Nat.le_of_ble_eq_true rfl) (Nat.le_of_ble_eq_true rfl) dX8_readTwo_12) (fun z => (os_av (As := []) z).2.1) ?_
  refine a_aload_n 0 dX8_readTwo_15 rfl rfl ?_
  refine a_bipush (v := 44) dX8_readTwo_16 (by decide) ?_
  obtain ⟨v12, m10, e11, h⟩ := bm_some h
  have he11 := e_X8_sign (G := G) hl ht e11
  refine c_V he11.1 (rn_V (n := 1) (As := [vI_ 44]) kc_8 ht he11 (lw_V q1811 q1813 qs44 q97 q1814) (by decide +kernel) rfl (by show 3 + 1 ≤ (dz + 1); omega) (Nat.le_of_ble_eq_true rfl) (Nat.le_of_ble_eq_true rfl) dX8_readTwo_18) (fun z => (os_av (As := [vI_ 44]) z).2.1) ?_
  refine a_aload_n 0 dX8_readTwo_21 rfl rfl ?_
  obtain ⟨v15, m13, e14, h⟩ := bm_some h
  have he14 := hz _ _ _ _ ht e14
  refine c_V he14.1 (rn_V (n := 0) (As := []) kc_8 ht he14 (lw_V q1826 q1828 qs46 q97 q1829) (by decide +kernel) rfl (by show dz + 1 ≤ (dz + 1); omega) (Nat.le_of_ble_eq_true rfl) (Nat.le_of_ble_eq_true rfl) dX8_readTwo_22) (fun z => (os_av (As := []) z).2.1) ?_
  refine a_aload_n 0 dX8_readTwo_25 rfl rfl ?_
  refine a_bipush (v := 93) dX8_readTwo_26 (by decide) ?_
  obtain ⟨v18, m16, e17, h⟩ := bm_some h
  have he17 := e_X8_sign (G := G) hl ht e17
  refine c_V he17.1 (rn_V (n := 1) (As := [vI_ 93]) kc_8 ht he17 (lw_V q1811 q1813 qs44 q97 q1814) (by decide +kernel) rfl (by show 3 + 1 ≤ (dz + 1); omega) (Nat.le_of_ble_eq_true rfl) (Nat.le_of_ble_eq_true rfl) dX8_readTwo_28) (fun z => (os_av (As := [vI_ 93]) z).2.1) ?_
  refine a_aload_n 0 dX8_readTwo_31 rfl rfl ?_
  refine a_dup dX8_readTwo_32 rfl ?_
  refine a_getI kc_8 7 (by decide) rfl ht q1561 dX8_readTwo_33 ?_
  refine a_iconst (v := 1) dX8_readTwo_36 (by decide) ?_
  refine a_isub dX8_readTwo_37 ?_
  obtain ⟨m19, e20, h⟩ := lt_some h
  refine a_putI kc_8 7 (by decide) rfl ht q1561 rfl rfl rfl dX8_readTwo_38 ?_
  rw [← e20]
  refine a_aload_n 0 dX8_readTwo_41 rfl rfl ?_
  refine a_iload_n 2 dX8_readTwo_42 rfl rfl ?_
  refine a_iconst (v := 0) dX8_readTwo_43 (by decide) ?_
  obtain ⟨v23, m21, e22, h⟩ := bm_some h
  have he22 := e_X8_emit (G := G) hl ht e22
  refine c_V he22.1 (rn_V (n := 2) (As := [vI_ i1, vI_ 0]) kc_8 ht he22 (lw_V q1842 q1844 qs50 q97 q1845) (by decide +kernel) rfl (by show 3 + 1 ≤ (dz + 1); omega) (Nat.le_of_ble_eq_true rfl) (Nat.le_of_ble_eq_true rfl) dX8_readTwo_44) (fun z => (os_av (As := [vI_ i1, vI_ 0]) z).2.1) ?_
  cases h
  exact a_return rfl rfl rfl rfl dX8_readTwo_47
def f_X8_readUnit (F : Nat) (z_ : pm_A → pm_M → Option (Unit × pm_M)) (t : pm_A) (m : pm_M) : Option (Unit × pm_M) :=
  bm_ (f_X8_fine F t m) fun v3 m1 =>
  if v3 = 0 then
    some ((), m1)
  else
    bm_ (f_X8_here F t m1) fun v7 m5 =>
    if v7 = 40 then
      bm_ (f_X8_opensOne F t 1 m5) fun v64 m62 =>
      bm_ (z_ t m62) fun v67 m65 =>
      bm_ (f_X8_sign F t 41 m65) fun v70 m68 =>
      lt_ (pI_ m68 t 7 ((gI_ m68 t 7) - 1)) fun m71 =>
      some ((), m71)
    else
      bm_ (f_X8_here F t m5) fun v11 m9 =>
      bm_ (f_X8_isDigit F v11 m9) fun v14 m12 =>
      if v14 = 0 then
        bm_ (f_X8_word F t m12) fun v18 m16 =>
        bm_ (f_X8_of F (some ((200, 0, 8))) m16) fun v21 m19 =>
        if v18 = v21 then
          bm_ (f_X8_readTwo F z_ t 5 6 m19) fun v55 m53 =>
          some ((), m53)
        else
          bm_ (f_X8_word F t m19) fun v25 m23 =>
          bm_ (f_X8_of F (some ((200, 0, 11))) m23) fun v28 m26 =>
          if v25 = v28 then
            bm_ (f_X8_readTwo F z_ t 4 7 m26) fun v52 m50 =>
            some ((), m50)
          else
            bm_ (f_X8_factHere F t m26) fun v32 m30 =>
            jn_ (fun  (m34 : pm_M) =>
              bm_ (f_X8_fine F t m34) fun v37 m35 =>
              if v37 = 0 then
                some ((), m35)
              else
                bm_ (f_X8_pass F t m35) fun v41 m39 =>
                bm_ (f_X8_emit F t 1 v32 m39) fun v44 m42 =>
                some ((), m42)
            ) fun k33 =>
            if v32 = ((-1)) then
              bm_ (f_X8_wrong F t 1 (gI_ m30 t 4) m30) fun v48 m46 =>
              k33 m46
            else
              k33 m30
      else
        bm_ (f_X8_readNumber F t 0 999 m12) fun v58 m56 =>
        bm_ (f_X8_emit F t 0 v58 m56) fun v61 m59 =>
        some ((), m59)
set_option maxHeartbeats 4000000 in
theorem e_X8_readUnit {G : xg_T} {l : Launch} (hl : l.stackTraces = false) {F : Nat} {dz : Nat} {z_ : pm_A → pm_M → Option (Unit × pm_M)} (hz : ∀ (w0 : pm_A) (m m' : pm_M) (r : Unit), w0.1 = 8 → z_ w0 m = some (r, m') → Cal_ G l yX8_readSum (ws_ yX8_readSum cX8_readSum 2 none) dz [vR_ (some w0)] m (.inl none) m') (hdz : 8 ≤ dz) {t : pm_A} {m0 m' : pm_M} {r : Unit} (ht : t.1 = 8) (h : f_X8_readUnit F z_ t m0 = some (r, m')) : Cal_ G l yX8_readUnit (ws_ yX8_readUnit cX8_readUnit 2 none) (dz + 2) [vR_ (some t)] m0 (.inl none) m' := by
  refine cal_of (by decide +kernel) (Nat.le_of_ble_eq_true rfl) ?_
  unfold f_X8_readUnit at h
  show AW_ cX8_readUnit RX8 (none, "readUnit", (dz + 2), 2, m0, m', (.inl none), G, l, [], true) m0 0 [(0, vR_ (some t))] []
  refine a_aload_n 0 dX8_readUnit_0 rfl rfl ?_
  obtain ⟨v3, m1, e2, h⟩ := bm_some h
  have he2 := e_X8_fine (G := G) hl ht e2
  refine c_I he2.1 (rn_V (n := 0) (As := []) kc_8 ht he2 (lw_V q1752 q1754 qs34 q97 q1755) (by decide +kernel) rfl (by show 2 + 1 ≤ (dz + 2); omega) (Nat.le_of_ble_eq_true rfl) (Nat.le_of_ble_eq_true rfl) dX8_readUnit_1) (fun z => (os_av (As := []) z).2.1) ?_
  refine a_if_ne (tgt := 8) dX8_readUnit_4 (by decide) (fun c4 => ?_) (fun c4 => ?_)
  · replace h := ifn_ c4 h
    refine a_aload_n 0 dX8_readUnit_8 rfl rfl ?_
    obtain ⟨v7, m5, e6, h⟩ := bm_some h
    have he6 := e_X8_here (G := G) hl ht e6
    refine c_I he6.1 (rn_V (n := 0) (As := []) kc_8 ht he6 (lw_V q1760 q1762 qs36 q97 q1763) (by decide +kernel) rfl (by show 2 + 1 ≤ (dz + 2); omega) (Nat.le_of_ble_eq_true rfl) (Nat.le_of_ble_eq_true rfl) dX8_readUnit_9) (fun z => (os_av (As := []) z).2.1) ?_
    refine a_bipush (v := 40) dX8_readUnit_12 (by decide) ?_
    refine a_icmp_ne (tgt := 45) dX8_readUnit_14 (by decide) (fun c8 => ?_) (fun c8 => ?_)
    · replace h := ifn_ c8 h
      refine a_aload_n 0 dX8_readUnit_45 rfl rfl ?_
      obtain ⟨v11, m9, e10, h⟩ := bm_some h
      have he10 := e_X8_here (G := G) hl ht e10
      refine c_I he10.1 (rn_V (n := 0) (As := []) kc_8 ht he10 (lw_V q1760 q1762 qs36 q97 q1763) (by decide +kernel) rfl (by show 2 + 1 ≤ (dz + 2); omega) (Nat.le_of_ble_eq_true rfl) (Nat.le_of_ble_eq_true rfl) dX8_readUnit_46) (fun z => (os_av (As := []) z).2.1) ?_
      obtain ⟨v14, m12, e13, h⟩ := bm_some h
      have he13 := e_X8_isDigit (G := G) hl e13
      refine c_I he13.1 (rn_S (n := 1) (As := [vI_ v11]) he13 (lw_S q1804 q1805 q97 q1806) (by decide +kernel) rfl (by show 2 + 1 ≤ (dz + 2); omega) (Nat.le_of_ble_eq_true rfl) (Nat.le_of_ble_eq_true rfl) dX8_readUnit_49) (fun z => (os_aS (As := [vI_ v11]) z).2) ?_
      refine a_if_eq (tgt := 71) dX8_readUnit_52 (by decide) (fun c15 => ?_) (fun c15 => ?_)
      · replace h := ifp_ c15 h
        refine a_aload_n 0 dX8_readUnit_71 rfl rfl ?_
        obtain ⟨v18, m16, e17, h⟩ := bm_some h
        have he17 := e_X8_word (G := G) hl ht e17
        refine c_I he17.1 (rn_V (n := 0) (As := []) kc_8 ht he17 (lw_V q1774 q1776 qs38 q97 q1777) (by decide +kernel) rfl (by show 3 + 1 ≤ (dz + 2); omega) (Nat.le_of_ble_eq_true rfl) (Nat.le_of_ble_eq_true rfl) dX8_readUnit_72) (fun z => (os_av (As := []) z).2.1) ?_
        refine a_ldcSW (n := 8) (tx := "least") (by decide +kernel) (by decide) dX8_readUnit_75 ?_
        obtain ⟨v21, m19, e20, h⟩ := bm_some h
        have he20 := e_X8_of (G := G) hl e20
        refine c_I he20.1 (rn_S (n := 1) (As := [vR_ (some ((200, 0, 8)))]) he20 (lw_S q1782 q1783 q97 q1784) (by decide +kernel) rfl (by show 6 + 1 ≤ (dz + 2); omega) (Nat.le_of_ble_eq_true rfl) (Nat.le_of_ble_eq_true rfl) dX8_readUnit_78) (fun z => (os_aS (As := [vR_ (some ((200, 0, 8)))]) z).2) ?_
        refine a_icmp_ne (tgt := 94) dX8_readUnit_81 (by decide) (fun c22 => ?_) (fun c22 => ?_)
        · replace h := ifn_ c22 h
          refine a_aload_n 0 dX8_readUnit_94 rfl rfl ?_
          obtain ⟨v25, m23, e24, h⟩ := bm_some h
          have he24 := e_X8_word (G := G) hl ht e24
          refine c_I he24.1 (rn_V (n := 0) (As := []) kc_8 ht he24 (lw_V q1774 q1776 qs38 q97 q1777) (by decide +kernel) rfl (by show 3 + 1 ≤ (dz + 2); omega) (Nat.le_of_ble_eq_true rfl) (Nat.le_of_ble_eq_true rfl) dX8_readUnit_95) (fun z => (os_av (As := []) z).2.1) ?_
          refine a_ldcSW (n := 11) (tx := "most") (by decide +kernel) (by decide) dX8_readUnit_98 ?_
          obtain ⟨v28, m26, e27, h⟩ := bm_some h
          have he27 := e_X8_of (G := G) hl e27
          refine c_I he27.1 (rn_S (n := 1) (As := [vR_ (some ((200, 0, 11)))]) he27 (lw_S q1782 q1783 q97 q1784) (by decide +kernel) rfl (by show 6 + 1 ≤ (dz + 2); omega) (Nat.le_of_ble_eq_true rfl) (Nat.le_of_ble_eq_true rfl) dX8_readUnit_101) (fun z => (os_aS (As := [vR_ (some ((200, 0, 11)))]) z).2) ?_
          refine a_icmp_ne (tgt := 117) dX8_readUnit_104 (by decide) (fun c29 => ?_) (fun c29 => ?_)
          · replace h := ifn_ c29 h
            refine a_aload_n 0 dX8_readUnit_117 rfl rfl ?_
            obtain ⟨v32, m30, e31, h⟩ := bm_some h
            have he31 := e_X8_factHere (G := G) hl ht e31
            refine c_I he31.1 (rn_V (n := 0) (As := []) kc_8 ht he31 (lw_V q1852 q1854 qs52 q97 q1855) (by decide +kernel) rfl (by show 7 + 1 ≤ (dz + 2); omega) (Nat.le_of_ble_eq_true rfl) (Nat.le_of_ble_eq_true rfl) dX8_readUnit_118) (fun z => (os_av (As := []) z).2.1) ?_
            refine a_istore_n (ls' := [(1, vI_ v32), (0, vR_ (some t))]) dX8_readUnit_121 rfl (Nat.le_of_ble_eq_true rfl) rfl ?_
            refine a_iload_n 0 dX8_readUnit_122 rfl rfl ?_
            refine a_iconst (v := (-1)) dX8_readUnit_123 (by decide) ?_
            obtain ⟨k33, e49, h⟩ := jn1_some h
            have hk33 : ∀  (m34 : pm_M), k33 m34 = some (r, m') → AW_ cX8_readUnit RX8 (none, "readUnit", (dz + 2), 2, m0, m', (.inl none), G, l, [], true) m34 136 [(0, vR_ (some t)), (1, vI_ v32)] [] := by
              intro m34 h
              have h := (e49 m34).symm.trans h
              refine a_aload_n 0 dX8_readUnit_136 rfl rfl ?_
              obtain ⟨v37, m35, e36, h⟩ := bm_some h
              have he36 := e_X8_fine (G := G) hl ht e36
              refine c_I he36.1 (rn_V (n := 0) (As := []) kc_8 ht he36 (lw_V q1752 q1754 qs34 q97 q1755) (by decide +kernel) rfl (by show 2 + 1 ≤ (dz + 2); omega) (Nat.le_of_ble_eq_true rfl) (Nat.le_of_ble_eq_true rfl) dX8_readUnit_137) (fun z => (os_av (As := []) z).2.1) ?_
              refine a_if_ne (tgt := 144) dX8_readUnit_140 (by decide) (fun c38 => ?_) (fun c38 => ?_)
              · replace h := ifn_ c38 h
                refine a_aload_n 0 dX8_readUnit_144 rfl rfl ?_
                obtain ⟨v41, m39, e40, h⟩ := bm_some h
                have he40 := e_X8_pass (G := G) hl ht e40
                refine c_V he40.1 (rn_V (n := 0) (As := []) kc_8 ht he40 (lw_V q1792 q1794 qs40 q97 q1795) (by decide +kernel) rfl (by show 3 + 1 ≤ (dz + 2); omega) (Nat.le_of_ble_eq_true rfl) (Nat.le_of_ble_eq_true rfl) dX8_readUnit_145) (fun z => (os_av (As := []) z).2.1) ?_
                refine a_aload_n 0 dX8_readUnit_148 rfl rfl ?_
                refine a_iconst (v := 1) dX8_readUnit_149 (by decide) ?_
                refine a_iload_n 1 dX8_readUnit_150 rfl rfl ?_
                obtain ⟨v44, m42, e43, h⟩ := bm_some h
                have he43 := e_X8_emit (G := G) hl ht e43
                refine c_V he43.1 (rn_V (n := 2) (As := [vI_ 1, vI_ v32]) kc_8 ht he43 (lw_V q1842 q1844 qs50 q97 q1845) (by decide +kernel) rfl (by show 3 + 1 ≤ (dz + 2); omega) (Nat.le_of_ble_eq_true rfl) (Nat.le_of_ble_eq_true rfl) dX8_readUnit_151) (fun z => (os_av (As := [vI_ 1, vI_ v32]) z).2.1) ?_
                cases h
                exact a_return rfl rfl rfl rfl dX8_readUnit_154
              · replace h := ifp_ c38 h
                cases h
                exact a_return rfl rfl rfl rfl dX8_readUnit_143
            refine a_icmp_ne (tgt := 136) dX8_readUnit_124 (by decide) (fun c45 => ?_) (fun c45 => ?_)
            · replace h := ifn_ c45 h
              refine aw_pick [1, 0] rfl ?_
              exact hk33 _ h
            · replace h := ifp_ c45 h
              refine a_aload_n 1 dX8_readUnit_127 rfl rfl ?_
              refine a_iconst (v := 1) dX8_readUnit_128 (by decide) ?_
              refine a_aload_n 1 dX8_readUnit_129 rfl rfl ?_
              refine a_getI kc_8 4 (by decide) rfl ht q1558 dX8_readUnit_130 ?_
              obtain ⟨v48, m46, e47, h⟩ := bm_some h
              have he47 := e_X8_wrong (G := G) hl ht e47
              refine c_V he47.1 (rn_V (n := 2) (As := [vI_ 1, vI_ (gI_ m30 t 4)]) kc_8 ht he47 (lw_V q1788 q1790 qs39 q97 q1791) (by decide +kernel) rfl (by show 2 + 1 ≤ (dz + 2); omega) (Nat.le_of_ble_eq_true rfl) (Nat.le_of_ble_eq_true rfl) dX8_readUnit_133) (fun z => (os_av (As := [vI_ 1, vI_ (gI_ m30 t 4)]) z).2.1) ?_
              refine aw_pick [1, 0] rfl ?_
              exact hk33 _ h
          · replace h := ifp_ c29 h
            refine a_aload_n 0 dX8_readUnit_107 rfl rfl ?_
            refine a_iconst (v := 4) dX8_readUnit_108 (by decide) ?_
            refine a_bipush (v := 7) dX8_readUnit_109 (by decide) ?_
            obtain ⟨v52, m50, e51, h⟩ := bm_some h
            have he51 := e_X8_readTwo (G := G) hl hz hdz ht e51
            refine c_V he51.1 (rn_V (n := 2) (As := [vI_ 4, vI_ 7]) kc_8 ht he51 (lw_V q1847 q1849 qs51 q97 q1850) (by decide +kernel) rfl (by show (dz + 1) + 1 ≤ (dz + 2); omega) (Nat.le_of_ble_eq_true rfl) (Nat.le_of_ble_eq_true rfl) dX8_readUnit_111) (fun z => (os_av (As := [vI_ 4, vI_ 7]) z).2.1) ?_
            refine a_goto (tgt := 154) dX8_readUnit_114 (by decide) ?_
            cases h
            exact a_return rfl rfl rfl rfl dX8_readUnit_154
        · replace h := ifp_ c22 h
          refine a_aload_n 0 dX8_readUnit_84 rfl rfl ?_
          refine a_iconst (v := 5) dX8_readUnit_85 (by decide) ?_
          refine a_bipush (v := 6) dX8_readUnit_86 (by decide) ?_
          obtain ⟨v55, m53, e54, h⟩ := bm_some h
          have he54 := e_X8_readTwo (G := G) hl hz hdz ht e54
          refine c_V he54.1 (rn_V (n := 2) (As := [vI_ 5, vI_ 6]) kc_8 ht he54 (lw_V q1847 q1849 qs51 q97 q1850) (by decide +kernel) rfl (by show (dz + 1) + 1 ≤ (dz + 2); omega) (Nat.le_of_ble_eq_true rfl) (Nat.le_of_ble_eq_true rfl) dX8_readUnit_88) (fun z => (os_av (As := [vI_ 5, vI_ 6]) z).2.1) ?_
          refine a_goto (tgt := 154) dX8_readUnit_91 (by decide) ?_
          cases h
          exact a_return rfl rfl rfl rfl dX8_readUnit_154
      · replace h := ifn_ c15 h
        refine a_aload_n 0 dX8_readUnit_55 rfl rfl ?_
        refine a_iconst (v := 0) dX8_readUnit_56 (by decide) ?_
        refine a_aload_n 0 dX8_readUnit_57 rfl rfl ?_
        refine a_iconst (v := 0) dX8_readUnit_58 (by decide) ?_
        refine a_sipush (v := 999) dX8_readUnit_59 (by decide) ?_
        obtain ⟨v58, m56, e57, h⟩ := bm_some h
        have he57 := e_X8_readNumber (G := G) hl ht e57
        refine c_I he57.1 (rn_V (n := 2) (As := [vI_ 0, vI_ 999]) kc_8 ht he57 (lw_V q1800 q1802 qs42 q97 q1803) (by decide +kernel) rfl (by show 3 + 1 ≤ (dz + 2); omega) (Nat.le_of_ble_eq_true rfl) (Nat.le_of_ble_eq_true rfl) dX8_readUnit_62) (fun z => (os_av (As := [vI_ 0, vI_ 999]) z).2.1) ?_
        obtain ⟨v61, m59, e60, h⟩ := bm_some h
        have he60 := e_X8_emit (G := G) hl ht e60
        refine c_V he60.1 (rn_V (n := 2) (As := [vI_ 0, vI_ v58]) kc_8 ht he60 (lw_V q1842 q1844 qs50 q97 q1845) (by decide +kernel) rfl (by show 3 + 1 ≤ (dz + 2); omega) (Nat.le_of_ble_eq_true rfl) (Nat.le_of_ble_eq_true rfl) dX8_readUnit_65) (fun z => (os_av (As := [vI_ 0, vI_ v58]) z).2.1) ?_
        refine a_goto (tgt := 154) dX8_readUnit_68 (by decide) ?_
        cases h
        exact a_return rfl rfl rfl rfl dX8_readUnit_154
    · replace h := ifp_ c8 h
      refine a_aload_n 0 dX8_readUnit_17 rfl rfl ?_
      refine a_iconst (v := 1) dX8_readUnit_18 (by decide) ?_
      obtain ⟨v64, m62, e63, h⟩ := bm_some h
      have he63 := e_X8_opensOne (G := G) hl ht e63
      refine c_V he63.1 (rn_V (n := 1) (As := [vI_ 1]) kc_8 ht he63 (lw_V q1838 q1840 qs49 q97 q1841) (by decide +kernel) rfl (by show 3 + 1 ≤ (dz + 2); omega) (Nat.le_of_ble_eq_true rfl) (Nat.le_of_ble_eq_true rfl) dX8_readUnit_19) (fun z => (os_av (As := [vI_ 1]) z).2.1) ?_
      refine a_aload_n 0 dX8_readUnit_22 rfl rfl ?_
      obtain ⟨v67, m65, e66, h⟩ := bm_some h
      have he66 := hz _ _ _ _ ht e66
      refine c_V he66.1 (rn_V (n := 0) (As := []) kc_8 ht he66 (lw_V q1826 q1828 qs46 q97 q1829) (by decide +kernel) rfl (by show dz + 1 ≤ (dz + 2); omega) (Nat.le_of_ble_eq_true rfl) (Nat.le_of_ble_eq_true rfl) dX8_readUnit_23) (fun z => (os_av (As := []) z).2.1) ?_
      refine a_aload_n 0 dX8_readUnit_26 rfl rfl ?_
      refine a_bipush (v := 41) dX8_readUnit_27 (by decide) ?_
      obtain ⟨v70, m68, e69, h⟩ := bm_some h
      have he69 := e_X8_sign (G := G) hl ht e69
      refine c_V he69.1 (rn_V (n := 1) (As := [vI_ 41]) kc_8 ht he69 (lw_V q1811 q1813 qs44 q97 q1814) (by decide +kernel) rfl (by show 3 + 1 ≤ (dz + 2); omega) (Nat.le_of_ble_eq_true rfl) (Nat.le_of_ble_eq_true rfl) dX8_readUnit_29) (fun z => (os_av (As := [vI_ 41]) z).2.1) ?_
      refine a_aload_n 0 dX8_readUnit_32 rfl rfl ?_
      refine a_dup dX8_readUnit_33 rfl ?_
      refine a_getI kc_8 7 (by decide) rfl ht q1561 dX8_readUnit_34 ?_
      refine a_iconst (v := 1) dX8_readUnit_37 (by decide) ?_
      refine a_isub dX8_readUnit_38 ?_
      obtain ⟨m71, e72, h⟩ := lt_some h
      refine a_putI kc_8 7 (by decide) rfl ht q1561 rfl rfl rfl dX8_readUnit_39 ?_
      rw [← e72]
      refine a_goto (tgt := 154) dX8_readUnit_42 (by decide) ?_
      cases h
      exact a_return rfl rfl rfl rfl dX8_readUnit_154
  · replace h := ifp_ c4 h
    cases h
    exact a_return rfl rfl rfl rfl dX8_readUnit_7
def f_X8_readProduct_L4 (F : Nat) (z_ : pm_A → pm_M → Option (Unit × pm_M)) (p4 : pm_A) : Nat → pm_M → Option (Unit × pm_M)
  | 0, _ => none
  | n6 + 1, m7 =>
    bm_ (f_X8_fine F p4 m7) fun v10 m8 =>
    if v10 = 0 then
      some ((), m8)
    else
      bm_ (f_X8_here F p4 m8) fun v14 m12 =>
      jn_ (fun  (m16 : pm_M) =>
        bm_ (f_X8_here F p4 m16) fun v19 m17 =>
        jn_ (fun (y22 : Int32) (m21 : pm_M) =>
          lt_ (pI_ m21 p4 4 ((gI_ m21 p4 4) + 1)) fun m23 =>
          bm_ (f_X8_readUnit F z_ p4 m23) fun v27 m25 =>
          bm_ (f_X8_emit F p4 y22 0 m25) fun v30 m28 =>
          (f_X8_readProduct_L4 F z_ p4 n6) m28
        ) fun k20 =>
        if v19 = 42 then
          k20 4 m17
        else
          k20 5 m17
      ) fun k15 =>
      if v14 = 42 then
        k15 m12
      else
        bm_ (f_X8_here F p4 m12) fun v36 m34 =>
        if v36 = 47 then
          k15 m34
        else
          some ((), m34)
set_option maxHeartbeats 4000000 in
theorem w_X8_readProduct_L4 {G : xg_T} {l : Launch} (hl : l.stackTraces = false) {F : Nat} {dz : Nat} {z_ : pm_A → pm_M → Option (Unit × pm_M)} (hz : ∀ (w0 : pm_A) (m m' : pm_M) (r : Unit), w0.1 = 8 → z_ w0 m = some (r, m') → Cal_ G l yX8_readSum (ws_ yX8_readSum cX8_readSum 2 none) dz [vR_ (some w0)] m (.inl none) m') (hdz : 8 ≤ dz) (p4 : pm_A) {m0 m' : pm_M} {r : Unit} (hf5 : p4.1 = 8)  : ∀ (n : Nat) (m7 : pm_M), f_X8_readProduct_L4 F z_ p4 n m7 = some (r, m') → AW_ cX8_readProduct RX8 (none, "readProduct", (dz + 3), 2, m0, m', (.inl none), G, l, [], true) m7 4 [(0, vR_ (some p4))] [] := by
  intro n
  induction n with
  | zero => intro m7 h; cases h
  | succ n6 ih =>
    intro m7 h
    rw [f_X8_readProduct_L4] at h
    refine a_aload_n 0 dX8_readProduct_4 rfl rfl ?_
    obtain ⟨v10, m8, e9, h⟩ := bm_some h
    have he9 := e_X8_fine (G := G) hl hf5 e9
    refine c_I he9.1 (rn_V (n := 0) (As := []) kc_8 hf5 he9 (lw_V q1752 q1754 qs34 q97 q1755) (by decide +kernel) rfl (by show 2 + 1 ≤ (dz + 3); omega) (Nat.le_of_ble_eq_true rfl) (Nat.le_of_ble_eq_true rfl) dX8_readProduct_5) (fun z => (os_av (As := []) z).2.1) ?_
    refine a_if_eq (tgt := 67) dX8_readProduct_8 (by decide) (fun c11 => ?_) (fun c11 => ?_)
    · replace h := ifp_ c11 h
      cases h
      exact a_return rfl rfl rfl rfl dX8_readProduct_67
    · replace h := ifn_ c11 h
      refine a_aload_n 0 dX8_readProduct_11 rfl rfl ?_
      obtain ⟨v14, m12, e13, h⟩ := bm_some h
      have he13 := e_X8_here (G := G) hl hf5 e13
      refine c_I he13.1 (rn_V (n := 0) (As := []) kc_8 hf5 he13 (lw_V q1760 q1762 qs36 q97 q1763) (by decide +kernel) rfl (by show 2 + 1 ≤ (dz + 3); omega) (Nat.le_of_ble_eq_true rfl) (Nat.le_of_ble_eq_true rfl) dX8_readProduct_12) (fun z => (os_av (As := []) z).2.1) ?_
      refine a_bipush (v := 42) dX8_readProduct_15 (by decide) ?_
      obtain ⟨k15, e38, h⟩ := jn1_some h
      have hk15 : ∀  (m16 : pm_M), k15 m16 = some (r, m') → AW_ cX8_readProduct RX8 (none, "readProduct", (dz + 3), 2, m0, m', (.inl none), G, l, [], true) m16 29 [(0, vR_ (some p4))] [] := by
        intro m16 h
        have h := (e38 m16).symm.trans h
        refine a_aload_n 0 dX8_readProduct_29 rfl rfl ?_
        obtain ⟨v19, m17, e18, h⟩ := bm_some h
        have he18 := e_X8_here (G := G) hl hf5 e18
        refine c_I he18.1 (rn_V (n := 0) (As := []) kc_8 hf5 he18 (lw_V q1760 q1762 qs36 q97 q1763) (by decide +kernel) rfl (by show 2 + 1 ≤ (dz + 3); omega) (Nat.le_of_ble_eq_true rfl) (Nat.le_of_ble_eq_true rfl) dX8_readProduct_30) (fun z => (os_av (As := []) z).2.1) ?_
        refine a_bipush (v := 42) dX8_readProduct_33 (by decide) ?_
        obtain ⟨k20, e32, h⟩ := jn2_some h
        have hk20 : ∀ (y22 : Int32) (m21 : pm_M), k20 y22 m21 = some (r, m') → AW_ cX8_readProduct RX8 (none, "readProduct", (dz + 3), 2, m0, m', (.inl none), G, l, [], true) m21 43 [(0, vR_ (some p4))] [vI_ y22] := by
          intro y22 m21 h
          have h := (e32 y22 m21).symm.trans h
          refine a_istore_n (ls' := [(1, vI_ y22), (0, vR_ (some p4))]) dX8_readProduct_43 rfl (Nat.le_of_ble_eq_true rfl) rfl ?_
          refine a_aload_n 1 dX8_readProduct_44 rfl rfl ?_
          refine a_dup dX8_readProduct_45 rfl ?_
          refine a_getI kc_8 4 (by decide) rfl hf5 q1558 dX8_readProduct_46 ?_
          refine a_iconst (v := 1) dX8_readProduct_49 (by decide) ?_
          refine a_iadd dX8_readProduct_50 ?_
          obtain ⟨m23, e24, h⟩ := lt_some h
          refine a_putI kc_8 4 (by decide) rfl hf5 q1558 rfl rfl rfl dX8_readProduct_51 ?_
          rw [← e24]
          refine a_aload_n 1 dX8_readProduct_54 rfl rfl ?_
          obtain ⟨v27, m25, e26, h⟩ := bm_some h
          have he26 := e_X8_readUnit (G := G) hl hz hdz hf5 e26
          refine c_V he26.1 (rn_V (n := 0) (As := []) kc_8 hf5 he26 (lw_V q1834 q1836 qs48 q97 q1837) (by decide +kernel) rfl (by show (dz + 2) + 1 ≤ (dz + 3); omega) (Nat.le_of_ble_eq_true rfl) (Nat.le_of_ble_eq_true rfl) dX8_readProduct_55) (fun z => (os_av (As := []) z).2.1) ?_
          refine a_aload_n 1 dX8_readProduct_58 rfl rfl ?_
          refine a_iload_n 0 dX8_readProduct_59 rfl rfl ?_
          refine a_iconst (v := 0) dX8_readProduct_60 (by decide) ?_
          obtain ⟨v30, m28, e29, h⟩ := bm_some h
          have he29 := e_X8_emit (G := G) hl hf5 e29
          refine c_V he29.1 (rn_V (n := 2) (As := [vI_ y22, vI_ 0]) kc_8 hf5 he29 (lw_V q1842 q1844 qs50 q97 q1845) (by decide +kernel) rfl (by show 3 + 1 ≤ (dz + 3); omega) (Nat.le_of_ble_eq_true rfl) (Nat.le_of_ble_eq_true rfl) dX8_readProduct_61) (fun z => (os_av (As := [vI_ y22, vI_ 0]) z).2.1) ?_
          refine a_goto (tgt := 4) dX8_readProduct_64 (by decide) ?_
          refine aw_pick [1] rfl ?_
          exact ih _ h
        refine a_icmp_ne (tgt := 42) dX8_readProduct_35 (by decide) (fun c31 => ?_) (fun c31 => ?_)
        · replace h := ifn_ c31 h
          refine a_iconst (v := 5) dX8_readProduct_42 (by decide) ?_
          exact hk20 _ _ h
        · replace h := ifp_ c31 h
          refine a_iconst (v := 4) dX8_readProduct_38 (by decide) ?_
          refine a_goto (tgt := 43) dX8_readProduct_39 (by decide) ?_
          exact hk20 _ _ h
      refine a_icmp_eq (tgt := 29) dX8_readProduct_17 (by decide) (fun c33 => ?_) (fun c33 => ?_)
      · replace h := ifp_ c33 h
        exact hk15 _ h
      · replace h := ifn_ c33 h
        refine a_aload_n 0 dX8_readProduct_20 rfl rfl ?_
        obtain ⟨v36, m34, e35, h⟩ := bm_some h
        have he35 := e_X8_here (G := G) hl hf5 e35
        refine c_I he35.1 (rn_V (n := 0) (As := []) kc_8 hf5 he35 (lw_V q1760 q1762 qs36 q97 q1763) (by decide +kernel) rfl (by show 2 + 1 ≤ (dz + 3); omega) (Nat.le_of_ble_eq_true rfl) (Nat.le_of_ble_eq_true rfl) dX8_readProduct_21) (fun z => (os_av (As := []) z).2.1) ?_
        refine a_bipush (v := 47) dX8_readProduct_24 (by decide) ?_
        refine a_icmp_ne (tgt := 67) dX8_readProduct_26 (by decide) (fun c37 => ?_) (fun c37 => ?_)
        · replace h := ifn_ c37 h
          cases h
          exact a_return rfl rfl rfl rfl dX8_readProduct_67
        · replace h := ifp_ c37 h
          exact hk15 _ h
def f_X8_readProduct (F : Nat) (z_ : pm_A → pm_M → Option (Unit × pm_M)) (t : pm_A) (m : pm_M) : Option (Unit × pm_M) :=
  bm_ (f_X8_readUnit F z_ t m) fun v3 m1 =>
  f_X8_readProduct_L4 F z_ t F m1
set_option maxHeartbeats 4000000 in
theorem e_X8_readProduct {G : xg_T} {l : Launch} (hl : l.stackTraces = false) {F : Nat} {dz : Nat} {z_ : pm_A → pm_M → Option (Unit × pm_M)} (hz : ∀ (w0 : pm_A) (m m' : pm_M) (r : Unit), w0.1 = 8 → z_ w0 m = some (r, m') → Cal_ G l yX8_readSum (ws_ yX8_readSum cX8_readSum 2 none) dz [vR_ (some w0)] m (.inl none) m') (hdz : 8 ≤ dz) {t : pm_A} {m0 m' : pm_M} {r : Unit} (ht : t.1 = 8) (h : f_X8_readProduct F z_ t m0 = some (r, m')) : Cal_ G l yX8_readProduct (ws_ yX8_readProduct cX8_readProduct 2 none) (dz + 3) [vR_ (some t)] m0 (.inl none) m' := by
  refine cal_of (by decide +kernel) (Nat.le_of_ble_eq_true rfl) ?_
  unfold f_X8_readProduct at h
  show AW_ cX8_readProduct RX8 (none, "readProduct", (dz + 3), 2, m0, m', (.inl none), G, l, [], true) m0 0 [(0, vR_ (some t))] []
  refine a_aload_n 0 dX8_readProduct_0 rfl rfl ?_
  obtain ⟨v3, m1, e2, h⟩ := bm_some h
  have he2 := e_X8_readUnit (G := G) hl hz hdz ht e2
  refine c_V he2.1 (rn_V (n := 0) (As := []) kc_8 ht he2 (lw_V q1834 q1836 qs48 q97 q1837) (by decide +kernel) rfl (by show (dz + 2) + 1 ≤ (dz + 3); omega) (Nat.le_of_ble_eq_true rfl) (Nat.le_of_ble_eq_true rfl) dX8_readProduct_1) (fun z => (os_av (As := []) z).2.1) ?_
  exact w_X8_readProduct_L4 hl hz hdz _ ht _ _ h
def f_X8_readSum_L4 (F : Nat) (z_ : pm_A → pm_M → Option (Unit × pm_M)) (p4 : pm_A) : Nat → pm_M → Option (Unit × pm_M)
  | 0, _ => none
  | n6 + 1, m7 =>
    bm_ (f_X8_fine F p4 m7) fun v10 m8 =>
    if v10 = 0 then
      some ((), m8)
    else
      bm_ (f_X8_here F p4 m8) fun v14 m12 =>
      jn_ (fun  (m16 : pm_M) =>
        bm_ (f_X8_here F p4 m16) fun v19 m17 =>
        jn_ (fun (y22 : Int32) (m21 : pm_M) =>
          lt_ (pI_ m21 p4 4 ((gI_ m21 p4 4) + 1)) fun m23 =>
          bm_ (f_X8_readProduct F z_ p4 m23) fun v27 m25 =>
          bm_ (f_X8_emit F p4 y22 0 m25) fun v30 m28 =>
          (f_X8_readSum_L4 F z_ p4 n6) m28
        ) fun k20 =>
        if v19 = 43 then
          k20 2 m17
        else
          k20 3 m17
      ) fun k15 =>
      if v14 = 43 then
        k15 m12
      else
        bm_ (f_X8_here F p4 m12) fun v36 m34 =>
        if v36 = 45 then
          k15 m34
        else
          some ((), m34)
set_option maxHeartbeats 4000000 in
theorem w_X8_readSum_L4 {G : xg_T} {l : Launch} (hl : l.stackTraces = false) {F : Nat} {dz : Nat} {z_ : pm_A → pm_M → Option (Unit × pm_M)} (hz : ∀ (w0 : pm_A) (m m' : pm_M) (r : Unit), w0.1 = 8 → z_ w0 m = some (r, m') → Cal_ G l yX8_readSum (ws_ yX8_readSum cX8_readSum 2 none) dz [vR_ (some w0)] m (.inl none) m') (hdz : 8 ≤ dz) (p4 : pm_A) {m0 m' : pm_M} {r : Unit} (hf5 : p4.1 = 8)  : ∀ (n : Nat) (m7 : pm_M), f_X8_readSum_L4 F z_ p4 n m7 = some (r, m') → AW_ cX8_readSum RX8 (none, "readSum", (dz + 4), 2, m0, m', (.inl none), G, l, [], true) m7 4 [(0, vR_ (some p4))] [] := by
  intro n
  induction n with
  | zero => intro m7 h; cases h
  | succ n6 ih =>
    intro m7 h
    rw [f_X8_readSum_L4] at h
    refine a_aload_n 0 dX8_readSum_4 rfl rfl ?_
    obtain ⟨v10, m8, e9, h⟩ := bm_some h
    have he9 := e_X8_fine (G := G) hl hf5 e9
    refine c_I he9.1 (rn_V (n := 0) (As := []) kc_8 hf5 he9 (lw_V q1752 q1754 qs34 q97 q1755) (by decide +kernel) rfl (by show 2 + 1 ≤ (dz + 4); omega) (Nat.le_of_ble_eq_true rfl) (Nat.le_of_ble_eq_true rfl) dX8_readSum_5) (fun z => (os_av (As := []) z).2.1) ?_
    refine a_if_eq (tgt := 67) dX8_readSum_8 (by decide) (fun c11 => ?_) (fun c11 => ?_)
    · replace h := ifp_ c11 h
      cases h
      exact a_return rfl rfl rfl rfl dX8_readSum_67
    · replace h := ifn_ c11 h
      refine a_aload_n 0 dX8_readSum_11 rfl rfl ?_
      obtain ⟨v14, m12, e13, h⟩ := bm_some h
      have he13 := e_X8_here (G := G) hl hf5 e13
      refine c_I he13.1 (rn_V (n := 0) (As := []) kc_8 hf5 he13 (lw_V q1760 q1762 qs36 q97 q1763) (by decide +kernel) rfl (by show 2 + 1 ≤ (dz + 4); omega) (Nat.le_of_ble_eq_true rfl) (Nat.le_of_ble_eq_true rfl) dX8_readSum_12) (fun z => (os_av (As := []) z).2.1) ?_
      refine a_bipush (v := 43) dX8_readSum_15 (by decide) ?_
      obtain ⟨k15, e38, h⟩ := jn1_some h
      have hk15 : ∀  (m16 : pm_M), k15 m16 = some (r, m') → AW_ cX8_readSum RX8 (none, "readSum", (dz + 4), 2, m0, m', (.inl none), G, l, [], true) m16 29 [(0, vR_ (some p4))] [] := by
        intro m16 h
        have h := (e38 m16).symm.trans h
        refine a_aload_n 0 dX8_readSum_29 rfl rfl ?_
        obtain ⟨v19, m17, e18, h⟩ := bm_some h
        have he18 := e_X8_here (G := G) hl hf5 e18
        refine c_I he18.1 (rn_V (n := 0) (As := []) kc_8 hf5 he18 (lw_V q1760 q1762 qs36 q97 q1763) (by decide +kernel) rfl (by show 2 + 1 ≤ (dz + 4); omega) (Nat.le_of_ble_eq_true rfl) (Nat.le_of_ble_eq_true rfl) dX8_readSum_30) (fun z => (os_av (As := []) z).2.1) ?_
        refine a_bipush (v := 43) dX8_readSum_33 (by decide) ?_
        obtain ⟨k20, e32, h⟩ := jn2_some h
        have hk20 : ∀ (y22 : Int32) (m21 : pm_M), k20 y22 m21 = some (r, m') → AW_ cX8_readSum RX8 (none, "readSum", (dz + 4), 2, m0, m', (.inl none), G, l, [], true) m21 43 [(0, vR_ (some p4))] [vI_ y22] := by
          intro y22 m21 h
          have h := (e32 y22 m21).symm.trans h
          refine a_istore_n (ls' := [(1, vI_ y22), (0, vR_ (some p4))]) dX8_readSum_43 rfl (Nat.le_of_ble_eq_true rfl) rfl ?_
          refine a_aload_n 1 dX8_readSum_44 rfl rfl ?_
          refine a_dup dX8_readSum_45 rfl ?_
          refine a_getI kc_8 4 (by decide) rfl hf5 q1558 dX8_readSum_46 ?_
          refine a_iconst (v := 1) dX8_readSum_49 (by decide) ?_
          refine a_iadd dX8_readSum_50 ?_
          obtain ⟨m23, e24, h⟩ := lt_some h
          refine a_putI kc_8 4 (by decide) rfl hf5 q1558 rfl rfl rfl dX8_readSum_51 ?_
          rw [← e24]
          refine a_aload_n 1 dX8_readSum_54 rfl rfl ?_
          obtain ⟨v27, m25, e26, h⟩ := bm_some h
          have he26 := e_X8_readProduct (G := G) hl hz hdz hf5 e26
          refine c_V he26.1 (rn_V (n := 0) (As := []) kc_8 hf5 he26 (lw_V q1830 q1832 qs47 q97 q1833) (by decide +kernel) rfl (by show (dz + 3) + 1 ≤ (dz + 4); omega) (Nat.le_of_ble_eq_true rfl) (Nat.le_of_ble_eq_true rfl) dX8_readSum_55) (fun z => (os_av (As := []) z).2.1) ?_
          refine a_aload_n 1 dX8_readSum_58 rfl rfl ?_
          refine a_iload_n 0 dX8_readSum_59 rfl rfl ?_
          refine a_iconst (v := 0) dX8_readSum_60 (by decide) ?_
          obtain ⟨v30, m28, e29, h⟩ := bm_some h
          have he29 := e_X8_emit (G := G) hl hf5 e29
          refine c_V he29.1 (rn_V (n := 2) (As := [vI_ y22, vI_ 0]) kc_8 hf5 he29 (lw_V q1842 q1844 qs50 q97 q1845) (by decide +kernel) rfl (by show 3 + 1 ≤ (dz + 4); omega) (Nat.le_of_ble_eq_true rfl) (Nat.le_of_ble_eq_true rfl) dX8_readSum_61) (fun z => (os_av (As := [vI_ y22, vI_ 0]) z).2.1) ?_
          refine a_goto (tgt := 4) dX8_readSum_64 (by decide) ?_
          refine aw_pick [1] rfl ?_
          exact ih _ h
        refine a_icmp_ne (tgt := 42) dX8_readSum_35 (by decide) (fun c31 => ?_) (fun c31 => ?_)
        · replace h := ifn_ c31 h
          refine a_iconst (v := 3) dX8_readSum_42 (by decide) ?_
          exact hk20 _ _ h
        · replace h := ifp_ c31 h
          refine a_iconst (v := 2) dX8_readSum_38 (by decide) ?_
          refine a_goto (tgt := 43) dX8_readSum_39 (by decide) ?_
          exact hk20 _ _ h
      refine a_icmp_eq (tgt := 29) dX8_readSum_17 (by decide) (fun c33 => ?_) (fun c33 => ?_)
      · replace h := ifp_ c33 h
        exact hk15 _ h
      · replace h := ifn_ c33 h
        refine a_aload_n 0 dX8_readSum_20 rfl rfl ?_
        obtain ⟨v36, m34, e35, h⟩ := bm_some h
        have he35 := e_X8_here (G := G) hl hf5 e35
        refine c_I he35.1 (rn_V (n := 0) (As := []) kc_8 hf5 he35 (lw_V q1760 q1762 qs36 q97 q1763) (by decide +kernel) rfl (by show 2 + 1 ≤ (dz + 4); omega) (Nat.le_of_ble_eq_true rfl) (Nat.le_of_ble_eq_true rfl) dX8_readSum_21) (fun z => (os_av (As := []) z).2.1) ?_
        refine a_bipush (v := 45) dX8_readSum_24 (by decide) ?_
        refine a_icmp_ne (tgt := 67) dX8_readSum_26 (by decide) (fun c37 => ?_) (fun c37 => ?_)
        · replace h := ifn_ c37 h
          cases h
          exact a_return rfl rfl rfl rfl dX8_readSum_67
        · replace h := ifp_ c37 h
          exact hk15 _ h
def b_X8_readSum (F : Nat) (z_ : pm_A → pm_M → Option (Unit × pm_M)) (t : pm_A) (m : pm_M) : Option (Unit × pm_M) :=
  bm_ (f_X8_readProduct F z_ t m) fun v3 m1 =>
  f_X8_readSum_L4 F z_ t F m1
set_option maxHeartbeats 4000000 in
theorem eb_X8_readSum {G : xg_T} {l : Launch} (hl : l.stackTraces = false) {F : Nat} {dz : Nat} {z_ : pm_A → pm_M → Option (Unit × pm_M)} (hz : ∀ (w0 : pm_A) (m m' : pm_M) (r : Unit), w0.1 = 8 → z_ w0 m = some (r, m') → Cal_ G l yX8_readSum (ws_ yX8_readSum cX8_readSum 2 none) dz [vR_ (some w0)] m (.inl none) m') (hdz : 8 ≤ dz) {t : pm_A} {m0 m' : pm_M} {r : Unit} (ht : t.1 = 8) (h : b_X8_readSum F z_ t m0 = some (r, m')) : Cal_ G l yX8_readSum (ws_ yX8_readSum cX8_readSum 2 none) (dz + 4) [vR_ (some t)] m0 (.inl none) m' := by
  refine cal_of (by decide +kernel) (Nat.le_of_ble_eq_true rfl) ?_
  unfold b_X8_readSum at h
  show AW_ cX8_readSum RX8 (none, "readSum", (dz + 4), 2, m0, m', (.inl none), G, l, [], true) m0 0 [(0, vR_ (some t))] []
  refine a_aload_n 0 dX8_readSum_0 rfl rfl ?_
  obtain ⟨v3, m1, e2, h⟩ := bm_some h
  have he2 := e_X8_readProduct (G := G) hl hz hdz ht e2
  refine c_V he2.1 (rn_V (n := 0) (As := []) kc_8 ht he2 (lw_V q1830 q1832 qs47 q97 q1833) (by decide +kernel) rfl (by show (dz + 3) + 1 ≤ (dz + 4); omega) (Nat.le_of_ble_eq_true rfl) (Nat.le_of_ble_eq_true rfl) dX8_readSum_1) (fun z => (os_av (As := []) z).2.1) ?_
  exact w_X8_readSum_L4 hl hz hdz _ ht _ _ h
def f_X8_readSum (F : Nat) : Nat → pm_A → pm_M → Option (Unit × pm_M)
  | 0, _, _ => none
  | D + 1, t, m => b_X8_readSum F (f_X8_readSum F D) t m
theorem er_X8_readSum {G : xg_T} {l : Launch} (hl : l.stackTraces = false) {F : Nat} : ∀ (D : Nat) (t : pm_A) (m m' : pm_M) (r : Unit), t.1 = 8 → f_X8_readSum F D t m = some (r, m') → Cal_ G l yX8_readSum (ws_ yX8_readSum cX8_readSum 2 none) (4 * D + 8) [vR_ (some t)] m (.inl none) m' := by
  intro D
  induction D with
  | zero => intro t m m' r ht h; cases h
  | succ D ih =>
    intro t m m' r ht h
    have h : b_X8_readSum F (f_X8_readSum F D) t m = some (r, m') := h
    have q := eb_X8_readSum (dz := 4 * D + 8) hl ih (by omega) ht h
    rw [show 4 * (D + 1) + 8 = 4 * D + 8 + 4 by omega]
    exact q
theorem e_X8_readSum {G : xg_T} {l : Launch} (hl : l.stackTraces = false) {F : Nat} {t : pm_A} {m m' : pm_M} {r : Unit} (ht : t.1 = 8) (h : f_X8_readSum F 10 t m = some (r, m')) : Cal_ G l yX8_readSum (ws_ yX8_readSum cX8_readSum 2 none) 48 [vR_ (some t)] m (.inl none) m' := er_X8_readSum hl 10 _ _ _ _ ht h
def f_X8_law_L115 (F : Nat)  (p40 : pm_A) (p42 : Int32) (p43 : Int32) : Nat → Int32 → pm_M → Option (Int32 × pm_M)
  | 0, _, _ => none
  | n44 + 1, x46, m45 =>
    if (gI_ m45 p40 27) ≤ x46 then
      some (p43, m45)
    else
      gd_ 100 (gR_ m45 p40 21) fun a48 =>
      iz_ (!(ib_ x46 a48.2.1)) <|
      gd_ 100 (gR_ m45 p40 23) fun a52 =>
      iz_ (!(ib_ ((150 * p42) + x46) a52.2.1)) <|
      lt_ (pI_ m45 a52 (((150 * p42) + x46).toNatClampNeg) (gI_ m45 a48 x46.toNatClampNeg)) fun m56 =>
      gd_ 100 (gR_ m56 p40 22) fun a58 =>
      iz_ (!(ib_ x46 a58.2.1)) <|
      gd_ 100 (gR_ m56 p40 24) fun a62 =>
      iz_ (!(ib_ ((150 * p42) + x46) a62.2.1)) <|
      lt_ (pI_ m56 a62 (((150 * p42) + x46).toNatClampNeg) (gI_ m56 a58 x46.toNatClampNeg)) fun m66 =>
      (f_X8_law_L115 F p40 p42 p43 n44) (x46 + 1) m66
set_option maxHeartbeats 4000000 in
theorem w_X8_law_L115 {G : xg_T} {l : Launch} (hl : l.stackTraces = false) {F : Nat}    (p40 : pm_A) (p42 : Int32) (p43 : Int32) {m0 m' : pm_M} {r : Int32} (hf41 : p40.1 = 8)  : ∀ (n : Nat) (x46 : Int32) (m45 : pm_M), f_X8_law_L115 F p40 p42 p43 n x46 m45 = some (r, m') → AW_ cX8_law RX8 (some (.int), "law", 49, 5, m0, m', (.inl (some (vI_ r))), G, l, [], true) m45 115 [(0, vR_ (some p40)), (1, vI_ p42), (3, vI_ p43), (4, vI_ x46)] [] := by
  intro n
  induction n with
  | zero => intro x46 m45 h; cases h
  | succ n44 ih =>
    intro x46 m45 h
    rw [f_X8_law_L115] at h
    refine a_iload 3 dX8_law_115 rfl ?_
    refine a_aload_n 0 dX8_law_117 rfl rfl ?_
    refine a_getI kc_8 27 (by decide) rfl hf41 q1581 dX8_law_118 ?_
    refine a_icmp_ge (tgt := 170) dX8_law_121 (by decide) (fun c47 => ?_) (fun c47 => ?_)
    · replace h := ifp_ c47 h
      refine a_iload_n 2 dX8_law_170 rfl rfl ?_
      cases h
      exact a_ireturn rfl rfl rfl rfl rfl dX8_law_171
    · replace h := ifn_ c47 h
      refine a_aload_n 0 dX8_law_124 rfl rfl ?_
      refine a_getR kc_8 23 (by decide) rfl hf41 q1577 dX8_law_125 ?_
      refine a_sipush (v := 150) dX8_law_128 (by decide) ?_
      refine a_iload_n 1 dX8_law_131 rfl rfl ?_
      refine a_imul dX8_law_132 ?_
      refine a_iload 3 dX8_law_133 rfl ?_
      refine a_iadd dX8_law_135 ?_
      refine a_aload_n 0 dX8_law_136 rfl rfl ?_
      refine a_getR kc_8 21 (by decide) rfl hf41 q1575 dX8_law_137 ?_
      refine a_iload 3 dX8_law_140 rfl ?_
      obtain ⟨a48, e49, f50, h⟩ := gd_some h
      rw [e49]
      obtain ⟨c51, h⟩ := iz_some h
      refine a_iald f50 (bn_ c51) dX8_law_142 ?_
      obtain ⟨a52, e53, f54, h⟩ := gd_some h
      rw [e53]
      obtain ⟨c55, h⟩ := iz_some h
      obtain ⟨m56, e57, h⟩ := lt_some h
      refine a_iast f54 (bn_ c55) dX8_law_143 ?_
      rw [← e57]
      refine a_aload_n 0 dX8_law_144 rfl rfl ?_
      refine a_getR kc_8 24 (by decide) rfl hf41 q1578 dX8_law_145 ?_
      refine a_sipush (v := 150) dX8_law_148 (by decide) ?_
      refine a_iload_n 1 dX8_law_151 rfl rfl ?_
      refine a_imul dX8_law_152 ?_
      refine a_iload 3 dX8_law_153 rfl ?_
      refine a_iadd dX8_law_155 ?_
      refine a_aload_n 0 dX8_law_156 rfl rfl ?_
      refine a_getR kc_8 22 (by decide) rfl hf41 q1576 dX8_law_157 ?_
      refine a_iload 3 dX8_law_160 rfl ?_
      obtain ⟨a58, e59, f60, h⟩ := gd_some h
      rw [e59]
      obtain ⟨c61, h⟩ := iz_some h
      refine a_iald f60 (bn_ c61) dX8_law_162 ?_
      obtain ⟨a62, e63, f64, h⟩ := gd_some h
      rw [e63]
      obtain ⟨c65, h⟩ := iz_some h
      obtain ⟨m66, e67, h⟩ := lt_some h
      refine a_iast f64 (bn_ c65) dX8_law_163 ?_
      rw [← e67]
      refine a_iinc (v := x46 + 1) (ls' := [(4, vI_ (x46 + 1)), (0, vR_ (some p40)), (1, vI_ p42), (3, vI_ p43)]) 3 dX8_law_164 rfl rfl (Nat.le_of_ble_eq_true rfl) rfl ?_
      refine a_goto (tgt := 115) dX8_law_167 (by decide) ?_
      refine aw_pick [1, 2, 3, 0] rfl ?_
      exact ih _ _ h
def f_X8_law (F : Nat)  (t : pm_A) (i0 : Int32) (i1 : Int32) (m : pm_M) : Option (Int32 × pm_M) :=
  lt_ (pI_ m t 0 0) fun m1 =>
  bm_ (f_X8_within F i0 0 1 m1) fun v5 m3 =>
  jn_ (fun (y8 : Option pm_A) (y9 : Int32) (m7 : pm_M) =>
    gd_ 8 y8 fun a10 =>
    bm_ (f_X8_may F a10 y9 1 1 m7) fun v15 m13 =>
    if v15 = 0 then
      some (0, m13)
    else
      bm_ (f_X8_begins F t i1 m13) fun v19 m17 =>
      lt_ (pI_ m17 t 27 0) fun m20 =>
      bm_ (f_X8_readSum F 10 t m20) fun v24 m22 =>
      bm_ (f_X8_fine F t m22) fun v27 m25 =>
      jn_ (fun  (m29 : pm_M) =>
        bm_ (f_X8_result F t 1 m29) fun v32 m30 =>
        if (gI_ m30 t 5) = ((-1)) then
          gd_ 100 (gR_ m30 t 25) fun a34 =>
          iz_ (!(ib_ i0 a34.2.1)) <|
          lt_ (pI_ m30 a34 i0.toNatClampNeg (gI_ m30 t 27)) fun m38 =>
          f_X8_law_L115 F t i0 v32 F 0 m38
        else
          some (v32, m30)
      ) fun k28 =>
      if v27 = 0 then
        k28 m25
      else
        bm_ (f_X8_isMore F t m25) fun v71 m69 =>
        if v71 = 0 then
          k28 m69
        else
          bm_ (f_X8_wrong F t 1 (gI_ m69 t 4) m69) fun v75 m73 =>
          k28 m73
  ) fun k6 =>
  jn_ (fun (y79 : Option pm_A) (m78 : pm_M) =>
    k6 y79 0 m78
  ) fun k77 =>
  if v5 = 0 then
    k77 (some t) m3
  else
    if i1 < 0 then
      k77 (some t) m3
    else
      if (gI_ m3 t 2) < i1 then
        k77 (some t) m3
      else
        if 150 < i1 then
          k77 (some t) m3
        else
          k6 (some t) 1 m3
set_option maxHeartbeats 4000000 in
theorem e_X8_law {G : xg_T} {l : Launch} (hl : l.stackTraces = false) {F : Nat}    {t : pm_A} {i0 : Int32} {i1 : Int32} {m0 m' : pm_M} {r : Int32} (ht : t.1 = 8) (h : f_X8_law F t i0 i1 m0 = some (r, m')) : Cal_ G l yX8_law (ws_ yX8_law cX8_law 5 (some .int)) 49 [vR_ (some t), vI_ i0, vI_ i1] m0 (.inl (some (vI_ r))) m' := by
  refine cal_of (by decide +kernel) (Nat.le_of_ble_eq_true rfl) ?_
  unfold f_X8_law at h
  show AW_ cX8_law RX8 (some (.int), "law", 49, 5, m0, m', (.inl (some (vI_ r))), G, l, [], true) m0 0 [(0, vR_ (some t)), (1, vI_ i0), (2, vI_ i1)] []
  refine a_aload_n 0 dX8_law_0 rfl rfl ?_
  refine a_iconst (v := 0) dX8_law_1 (by decide) ?_
  obtain ⟨m1, e2, h⟩ := lt_some h
  refine a_putI kc_8 0 (by decide) rfl ht q1554 rfl rfl rfl dX8_law_2 ?_
  rw [← e2]
  refine a_aload_n 0 dX8_law_5 rfl rfl ?_
  refine a_iload_n 1 dX8_law_6 rfl rfl ?_
  refine a_iconst (v := 0) dX8_law_7 (by decide) ?_
  refine a_iconst (v := 1) dX8_law_8 (by decide) ?_
  obtain ⟨v5, m3, e4, h⟩ := bm_some h
  have he4 := e_X8_within (G := G) hl e4
  refine c_I he4.1 (rn_S (n := 3) (As := [vI_ i0, vI_ 0, vI_ 1]) he4 (lw_S q1823 q1824 q97 q1825) (by decide +kernel) rfl (Nat.le_of_ble_eq_true rfl) (Nat.le_of_ble_eq_true rfl) (Nat.le_of_ble_eq_true rfl) dX8_law_9) (fun z => (os_aS (As := [vI_ i0, vI_ 0, vI_ 1]) z).2) ?_
  obtain ⟨k6, e85, h⟩ := jn3_some h
  have hk6 : ∀ (y8 : Option pm_A) (y9 : Int32) (m7 : pm_M), k6 y8 y9 m7 = some (r, m') → AW_ cX8_law RX8 (some (.int), "law", 49, 5, m0, m', (.inl (some (vI_ r))), G, l, [], true) m7 39 [(0, vR_ (some t)), (1, vI_ i0), (2, vI_ i1)] [vI_ y9, vR_ y8] := by
    intro y8 y9 m7 h
    have h := (e85 y8 y9 m7).symm.trans h
    refine a_iconst (v := 1) dX8_law_39 (by decide) ?_
    refine a_iconst (v := 1) dX8_law_40 (by decide) ?_
    obtain ⟨a10, e11, f12, h⟩ := gd_some h
    rw [e11]
    obtain ⟨v15, m13, e14, h⟩ := bm_some h
    have he14 := e_X8_may (G := G) hl f12 e14
    refine c_I he14.1 (rn_V (n := 3) (As := [vI_ y9, vI_ 1, vI_ 1]) kc_8 f12 he14 (lw_V q1744 q1746 qs32 q97 q1747) (by decide +kernel) rfl (Nat.le_of_ble_eq_true rfl) (Nat.le_of_ble_eq_true rfl) (Nat.le_of_ble_eq_true rfl) dX8_law_41) (fun z => (os_av (As := [vI_ y9, vI_ 1, vI_ 1]) z).2.1) ?_
    refine a_if_ne (tgt := 49) dX8_law_44 (by decide) (fun c16 => ?_) (fun c16 => ?_)
    · replace h := ifn_ c16 h
      refine a_aload_n 0 dX8_law_49 rfl rfl ?_
      refine a_iload_n 2 dX8_law_50 rfl rfl ?_
      obtain ⟨v19, m17, e18, h⟩ := bm_some h
      have he18 := e_X8_begins (G := G) hl ht e18
      refine c_V he18.1 (rn_V (n := 1) (As := [vI_ i1]) kc_8 ht he18 (lw_V q1748 q1750 qs33 q97 q1751) (by decide +kernel) rfl (Nat.le_of_ble_eq_true rfl) (Nat.le_of_ble_eq_true rfl) (Nat.le_of_ble_eq_true rfl) dX8_law_51) (fun z => (os_av (As := [vI_ i1]) z).2.1) ?_
      refine a_aload_n 0 dX8_law_54 rfl rfl ?_
      refine a_iconst (v := 0) dX8_law_55 (by decide) ?_
      obtain ⟨m20, e21, h⟩ := lt_some h
      refine a_putI kc_8 27 (by decide) rfl ht q1581 rfl rfl rfl dX8_law_56 ?_
      rw [← e21]
      refine a_aload_n 0 dX8_law_59 rfl rfl ?_
      obtain ⟨v24, m22, e23, h⟩ := bm_some h
      have he23 := e_X8_readSum (G := G) hl ht e23
      refine c_V he23.1 (rn_V (n := 0) (As := []) kc_8 ht he23 (lw_V q1826 q1828 qs46 q97 q1829) (by decide +kernel) rfl (Nat.le_of_ble_eq_true rfl) (Nat.le_of_ble_eq_true rfl) (Nat.le_of_ble_eq_true rfl) dX8_law_60) (fun z => (os_av (As := []) z).2.1) ?_
      refine a_aload_n 0 dX8_law_63 rfl rfl ?_
      obtain ⟨v27, m25, e26, h⟩ := bm_some h
      have he26 := e_X8_fine (G := G) hl ht e26
      refine c_I he26.1 (rn_V (n := 0) (As := []) kc_8 ht he26 (lw_V q1752 q1754 qs34 q97 q1755) (by decide +kernel) rfl (Nat.le_of_ble_eq_true rfl) (Nat.le_of_ble_eq_true rfl) (Nat.le_of_ble_eq_true rfl) dX8_law_64) (fun z => (os_av (As := []) z).2.1) ?_
      obtain ⟨k28, e76, h⟩ := jn1_some h
      have hk28 : ∀  (m29 : pm_M), k28 m29 = some (r, m') → AW_ cX8_law RX8 (some (.int), "law", 49, 5, m0, m', (.inl (some (vI_ r))), G, l, [], true) m29 86 [(0, vR_ (some t)), (1, vI_ i0)] [] := by
        intro m29 h
        have h := (e76 m29).symm.trans h
        refine a_aload_n 0 dX8_law_86 rfl rfl ?_
        refine a_iconst (v := 1) dX8_law_87 (by decide) ?_
        obtain ⟨v32, m30, e31, h⟩ := bm_some h
        have he31 := e_X8_result (G := G) hl ht e31
        refine c_I he31.1 (rn_V (n := 1) (As := [vI_ 1]) kc_8 ht he31 (lw_V q1815 q1817 qs45 q97 q1818) (by decide +kernel) rfl (Nat.le_of_ble_eq_true rfl) (Nat.le_of_ble_eq_true rfl) (Nat.le_of_ble_eq_true rfl) dX8_law_88) (fun z => (os_av (As := [vI_ 1]) z).2.1) ?_
        refine a_istore_n (ls' := [(3, vI_ v32), (0, vR_ (some t)), (1, vI_ i0)]) dX8_law_91 rfl (Nat.le_of_ble_eq_true rfl) rfl ?_
        refine a_aload_n 1 dX8_law_92 rfl rfl ?_
        refine a_getI kc_8 5 (by decide) rfl ht q1559 dX8_law_93 ?_
        refine a_iconst (v := (-1)) dX8_law_96 (by decide) ?_
        refine a_icmp_eq (tgt := 102) dX8_law_97 (by decide) (fun c33 => ?_) (fun c33 => ?_)
        · replace h := ifp_ c33 h
          refine a_aload_n 1 dX8_law_102 rfl rfl ?_
          refine a_getR kc_8 25 (by decide) rfl ht q1579 dX8_law_103 ?_
          refine a_iload_n 2 dX8_law_106 rfl rfl ?_
          refine a_aload_n 1 dX8_law_107 rfl rfl ?_
          refine a_getI kc_8 27 (by decide) rfl ht q1581 dX8_law_108 ?_
          obtain ⟨a34, e35, f36, h⟩ := gd_some h
          rw [e35]
          obtain ⟨c37, h⟩ := iz_some h
          obtain ⟨m38, e39, h⟩ := lt_some h
          refine a_iast f36 (bn_ c37) dX8_law_111 ?_
          rw [← e39]
          refine a_iconst (v := 0) dX8_law_112 (by decide) ?_
          refine a_istore (ls' := [(4, vI_ 0), (3, vI_ v32), (0, vR_ (some t)), (1, vI_ i0)]) dX8_law_113 (Nat.le_of_ble_eq_true rfl) rfl ?_
          refine aw_pick [2, 3, 1, 0] rfl ?_
          exact w_X8_law_L115 hl _ _ _ ht _ _ _ h
        · replace h := ifn_ c33 h
          refine a_iload_n 0 dX8_law_100 rfl rfl ?_
          cases h
          exact a_ireturn rfl rfl rfl rfl rfl dX8_law_101
      refine a_if_eq (tgt := 86) dX8_law_67 (by decide) (fun c68 => ?_) (fun c68 => ?_)
      · replace h := ifp_ c68 h
        refine aw_pick [0, 1] rfl ?_
        exact hk28 _ h
      · replace h := ifn_ c68 h
        refine a_aload_n 0 dX8_law_70 rfl rfl ?_
        obtain ⟨v71, m69, e70, h⟩ := bm_some h
        have he70 := e_X8_isMore (G := G) hl ht e70
        refine c_I he70.1 (rn_V (n := 0) (As := []) kc_8 ht he70 (lw_V q1756 q1758 qs35 q97 q1759) (by decide +kernel) rfl (Nat.le_of_ble_eq_true rfl) (Nat.le_of_ble_eq_true rfl) (Nat.le_of_ble_eq_true rfl) dX8_law_71) (fun z => (os_av (As := []) z).2.1) ?_
        refine a_if_eq (tgt := 86) dX8_law_74 (by decide) (fun c72 => ?_) (fun c72 => ?_)
        · replace h := ifp_ c72 h
          refine aw_pick [0, 1] rfl ?_
          exact hk28 _ h
        · replace h := ifn_ c72 h
          refine a_aload_n 0 dX8_law_77 rfl rfl ?_
          refine a_iconst (v := 1) dX8_law_78 (by decide) ?_
          refine a_aload_n 0 dX8_law_79 rfl rfl ?_
          refine a_getI kc_8 4 (by decide) rfl ht q1558 dX8_law_80 ?_
          obtain ⟨v75, m73, e74, h⟩ := bm_some h
          have he74 := e_X8_wrong (G := G) hl ht e74
          refine c_V he74.1 (rn_V (n := 2) (As := [vI_ 1, vI_ (gI_ m69 t 4)]) kc_8 ht he74 (lw_V q1788 q1790 qs39 q97 q1791) (by decide +kernel) rfl (Nat.le_of_ble_eq_true rfl) (Nat.le_of_ble_eq_true rfl) (Nat.le_of_ble_eq_true rfl) dX8_law_83) (fun z => (os_av (As := [vI_ 1, vI_ (gI_ m69 t 4)]) z).2.1) ?_
          refine aw_pick [0, 1] rfl ?_
          exact hk28 _ h
    · replace h := ifp_ c16 h
      refine a_iconst (v := 0) dX8_law_47 (by decide) ?_
      cases h
      exact a_ireturn rfl rfl rfl rfl rfl dX8_law_48
  obtain ⟨k77, e84, h⟩ := jn2_some h
  have hk77 : ∀ (y79 : Option pm_A) (m78 : pm_M), k77 y79 m78 = some (r, m') → AW_ cX8_law RX8 (some (.int), "law", 49, 5, m0, m', (.inl (some (vI_ r))), G, l, [], true) m78 38 [(0, vR_ (some t)), (1, vI_ i0), (2, vI_ i1)] [vR_ y79] := by
    intro y79 m78 h
    have h := (e84 y79 m78).symm.trans h
    refine a_iconst (v := 0) dX8_law_38 (by decide) ?_
    exact hk6 _ _ _ h
  refine a_if_eq (tgt := 38) dX8_law_12 (by decide) (fun c80 => ?_) (fun c80 => ?_)
  · replace h := ifp_ c80 h
    exact hk77 _ _ h
  · replace h := ifn_ c80 h
    refine a_iload_n 2 dX8_law_15 rfl rfl ?_
    refine a_if_lt (tgt := 38) dX8_law_16 (by decide) (fun c81 => ?_) (fun c81 => ?_)
    · replace h := ifp_ c81 h
      exact hk77 _ _ h
    · replace h := ifn_ c81 h
      refine a_iload_n 2 dX8_law_19 rfl rfl ?_
      refine a_aload_n 0 dX8_law_20 rfl rfl ?_
      refine a_getI kc_8 2 (by decide) rfl ht q1556 dX8_law_21 ?_
      refine a_icmp_gt (tgt := 38) dX8_law_24 (by decide) (fun c82 => ?_) (fun c82 => ?_)
      · replace h := ifp_ c82 h
        exact hk77 _ _ h
      · replace h := ifn_ c82 h
        refine a_iload_n 2 dX8_law_27 rfl rfl ?_
        refine a_sipush (v := 150) dX8_law_28 (by decide) ?_
        refine a_icmp_gt (tgt := 38) dX8_law_31 (by decide) (fun c83 => ?_) (fun c83 => ?_)
        · replace h := ifp_ c83 h
          exact hk77 _ _ h
        · replace h := ifn_ c83 h
          refine a_iconst (v := 1) dX8_law_34 (by decide) ?_
          refine a_goto (tgt := 39) dX8_law_35 (by decide) ?_
          exact hk6 _ _ _ h
def f_X8_tellsStep (F : Nat)  (t : pm_A) (i0 : Int32) (i1 : Int32) (i2 : Int32) (m : pm_M) : Option (Unit × pm_M) :=
  bm_ (f_X8_fine F t m) fun v3 m1 =>
  if v3 = 0 then
    some ((), m1)
  else
    gd_ 100 (gR_ m1 t 29) fun a5 =>
    iz_ (!(ib_ (gI_ m1 t 31) a5.2.1)) <|
    lt_ (pI_ m1 a5 ((gI_ m1 t 31).toNatClampNeg) i0) fun m9 =>
    gd_ 100 (gR_ m9 t 29) fun a11 =>
    iz_ (!(ib_ ((gI_ m9 t 31) + 1) a11.2.1)) <|
    lt_ (pI_ m9 a11 (((gI_ m9 t 31) + 1).toNatClampNeg) i1) fun m15 =>
    gd_ 100 (gR_ m15 t 29) fun a17 =>
    iz_ (!(ib_ ((gI_ m15 t 31) + 2) a17.2.1)) <|
    lt_ (pI_ m15 a17 (((gI_ m15 t 31) + 2).toNatClampNeg) i2) fun m21 =>
    lt_ (pI_ m21 t 31 ((gI_ m21 t 31) + 3)) fun m23 =>
    some ((), m23)
set_option maxHeartbeats 4000000 in
theorem e_X8_tellsStep {G : xg_T} {l : Launch} (hl : l.stackTraces = false) {F : Nat}    {t : pm_A} {i0 : Int32} {i1 : Int32} {i2 : Int32} {m0 m' : pm_M} {r : Unit} (ht : t.1 = 8) (h : f_X8_tellsStep F t i0 i1 i2 m0 = some (r, m')) : Cal_ G l yX8_tellsStep (ws_ yX8_tellsStep cX8_tellsStep 4 none) 3 [vR_ (some t), vI_ i0, vI_ i1, vI_ i2] m0 (.inl none) m' := by
  refine cal_of (by decide +kernel) (Nat.le_of_ble_eq_true rfl) ?_
  unfold f_X8_tellsStep at h
  show AW_ cX8_tellsStep RX8 (none, "tellsStep", 3, 4, m0, m', (.inl none), G, l, [], true) m0 0 [(0, vR_ (some t)), (1, vI_ i0), (2, vI_ i1), (3, vI_ i2)] []
  refine a_aload_n 0 dX8_tellsStep_0 rfl rfl ?_
  obtain ⟨v3, m1, e2, h⟩ := bm_some h
  have he2 := e_X8_fine (G := G) hl ht e2
  refine c_I he2.1 (rn_V (n := 0) (As := []) kc_8 ht he2 (lw_V q1752 q1754 qs34 q97 q1755) (by decide +kernel) rfl (Nat.le_of_ble_eq_true rfl) (Nat.le_of_ble_eq_true rfl) (Nat.le_of_ble_eq_true rfl) dX8_tellsStep_1) (fun z => (os_av (As := []) z).2.1) ?_
  refine a_if_ne (tgt := 8) dX8_tellsStep_4 (by decide) (fun c4 => ?_) (fun c4 => ?_)
  · replace h := ifn_ c4 h
    refine a_aload_n 0 dX8_tellsStep_8 rfl rfl ?_
    refine a_getR kc_8 29 (by decide) rfl ht q1583 dX8_tellsStep_9 ?_
    refine a_aload_n 0 dX8_tellsStep_12 rfl rfl ?_
    refine a_getI kc_8 31 (by decide) rfl ht q1585 dX8_tellsStep_13 ?_
    refine a_iload_n 1 dX8_tellsStep_16 rfl rfl ?_
    obtain ⟨a5, e6, f7, h⟩ := gd_some h
    rw [e6]
    obtain ⟨c8, h⟩ := iz_some h
    obtain ⟨m9, e10, h⟩ := lt_some h
    refine a_iast f7 (bn_ c8) dX8_tellsStep_17 ?_
    rw [← e10]
    refine a_aload_n 0 dX8_tellsStep_18 rfl rfl ?_
    refine a_getR kc_8 29 (by decide) rfl ht q1583 dX8_tellsStep_19 ?_
    refine a_aload_n 0 dX8_tellsStep_22 rfl rfl ?_
    refine a_getI kc_8 31 (by decide) rfl ht q1585 dX8_tellsStep_23 ?_
    refine a_iconst (v := 1) dX8_tellsStep_26 (by decide) ?_
    refine a_iadd dX8_tellsStep_27 ?_
    refine a_iload_n 2 dX8_tellsStep_28 rfl rfl ?_
    obtain ⟨a11, e12, f13, h⟩ := gd_some h
    rw [e12]
    obtain ⟨c14, h⟩ := iz_some h
    obtain ⟨m15, e16, h⟩ := lt_some h
    refine a_iast f13 (bn_ c14) dX8_tellsStep_29 ?_
    rw [← e16]
    refine a_aload_n 0 dX8_tellsStep_30 rfl rfl ?_
    refine a_getR kc_8 29 (by decide) rfl ht q1583 dX8_tellsStep_31 ?_
    refine a_aload_n 0 dX8_tellsStep_34 rfl rfl ?_
    refine a_getI kc_8 31 (by decide) rfl ht q1585 dX8_tellsStep_35 ?_
    refine a_iconst (v := 2) dX8_tellsStep_38 (by decide) ?_
    refine a_iadd dX8_tellsStep_39 ?_
    refine a_iload_n 3 dX8_tellsStep_40 rfl rfl ?_
    obtain ⟨a17, e18, f19, h⟩ := gd_some h
    rw [e18]
    obtain ⟨c20, h⟩ := iz_some h
    obtain ⟨m21, e22, h⟩ := lt_some h
    refine a_iast f19 (bn_ c20) dX8_tellsStep_41 ?_
    rw [← e22]
    refine a_aload_n 0 dX8_tellsStep_42 rfl rfl ?_
    refine a_dup dX8_tellsStep_43 rfl ?_
    refine a_getI kc_8 31 (by decide) rfl ht q1585 dX8_tellsStep_44 ?_
    refine a_iconst (v := 3) dX8_tellsStep_47 (by decide) ?_
    refine a_iadd dX8_tellsStep_48 ?_
    obtain ⟨m23, e24, h⟩ := lt_some h
    refine a_putI kc_8 31 (by decide) rfl ht q1585 rfl rfl rfl dX8_tellsStep_49 ?_
    rw [← e24]
    cases h
    exact a_return rfl rfl rfl rfl dX8_tellsStep_52
  · replace h := ifp_ c4 h
    cases h
    exact a_return rfl rfl rfl rfl dX8_tellsStep_7
def f_X8_readOne (F : Nat)  (t : pm_A) (m : pm_M) : Option (Int32 × pm_M) :=
  bm_ (f_X8_readNumber F t 0 ((gI_ m t 18) - 1) m) fun v3 m1 =>
  some (v3, m1)
set_option maxHeartbeats 4000000 in
theorem e_X8_readOne {G : xg_T} {l : Launch} (hl : l.stackTraces = false) {F : Nat}    {t : pm_A} {m0 m' : pm_M} {r : Int32} (ht : t.1 = 8) (h : f_X8_readOne F t m0 = some (r, m')) : Cal_ G l yX8_readOne (ws_ yX8_readOne cX8_readOne 1 (some .int)) 4 [vR_ (some t)] m0 (.inl (some (vI_ r))) m' := by
  refine cal_of (by decide +kernel) (Nat.le_of_ble_eq_true rfl) ?_
  unfold f_X8_readOne at h
  show AW_ cX8_readOne RX8 (some (.int), "readOne", 4, 1, m0, m', (.inl (some (vI_ r))), G, l, [], true) m0 0 [(0, vR_ (some t))] []
  refine a_aload_n 0 dX8_readOne_0 rfl rfl ?_
  refine a_iconst (v := 0) dX8_readOne_1 (by decide) ?_
  refine a_aload_n 0 dX8_readOne_2 rfl rfl ?_
  refine a_getI kc_8 18 (by decide) rfl ht q1572 dX8_readOne_3 ?_
  refine a_iconst (v := 1) dX8_readOne_6 (by decide) ?_
  refine a_isub dX8_readOne_7 ?_
  obtain ⟨v3, m1, e2, h⟩ := bm_some h
  have he2 := e_X8_readNumber (G := G) hl ht e2
  refine c_I he2.1 (rn_V (n := 2) (As := [vI_ 0, vI_ ((gI_ m0 t 18) - 1)]) kc_8 ht he2 (lw_V q1800 q1802 qs42 q97 q1803) (by decide +kernel) rfl (Nat.le_of_ble_eq_true rfl) (Nat.le_of_ble_eq_true rfl) (Nat.le_of_ble_eq_true rfl) dX8_readOne_8) (fun z => (os_av (As := [vI_ 0, vI_ ((gI_ m0 t 18) - 1)]) z).2.1) ?_
  cases h
  exact a_ireturn rfl rfl rfl rfl rfl dX8_readOne_11
def f_X8_readStep_L270 (F : Nat) (z_ : pm_A → pm_M → Option (Unit × pm_M)) (p128 : pm_A) (p130 : Int32) (k131 : pm_M → Option (Unit × pm_M)) : Nat → pm_M → Option (Unit × pm_M)
  | 0, _ => none
  | n133 + 1, m134 =>
    bm_ (f_X8_fine F p128 m134) fun v137 m135 =>
    if v137 = 0 then
      k131 m135
    else
      bm_ (f_X8_here F p128 m135) fun v141 m139 =>
      if v141 = 93 then
        k131 m139
      else
        bm_ (z_ p128 m139) fun v145 m143 =>
        (f_X8_readStep_L270 F z_ p128 p130 k131 n133) m143
set_option maxHeartbeats 4000000 in
theorem w_X8_readStep_L270 {G : xg_T} {l : Launch} (hl : l.stackTraces = false) {F : Nat} {dz : Nat} {z_ : pm_A → pm_M → Option (Unit × pm_M)} (hz : ∀ (w0 : pm_A) (m m' : pm_M) (r : Unit), w0.1 = 8 → z_ w0 m = some (r, m') → Cal_ G l yX8_readStep (ws_ yX8_readStep cX8_readStep 4 none) dz [vR_ (some w0)] m (.inl none) m') (hdz : 7 ≤ dz) (p128 : pm_A) (p130 : Int32) (k131 : pm_M → Option (Unit × pm_M)) {m0 m' : pm_M} {r : Unit} (hf129 : p128.1 = 8) (hk131 : ∀ (m132 : pm_M), k131 m132 = some (r, m') → AW_ cX8_readStep RX8 (none, "readStep", (dz + 1), 4, m0, m', (.inl none), G, l, [], true) m132 293 [(0, vR_ (some p128)), (3, vI_ p130)] []) : ∀ (n : Nat) (m134 : pm_M), f_X8_readStep_L270 F z_ p128 p130 k131 n m134 = some (r, m') → AW_ cX8_readStep RX8 (none, "readStep", (dz + 1), 4, m0, m', (.inl none), G, l, [], true) m134 270 [(0, vR_ (some p128)), (3, vI_ p130)] [] := by
  intro n
  induction n with
  | zero => intro m134 h; cases h
  | succ n133 ih =>
    intro m134 h
    rw [f_X8_readStep_L270] at h
    refine a_aload_n 0 dX8_readStep_270 rfl rfl ?_
    obtain ⟨v137, m135, e136, h⟩ := bm_some h
    have he136 := e_X8_fine (G := G) hl hf129 e136
    refine c_I he136.1 (rn_V (n := 0) (As := []) kc_8 hf129 he136 (lw_V q1752 q1754 qs34 q97 q1755) (by decide +kernel) rfl (by show 2 + 1 ≤ (dz + 1); omega) (Nat.le_of_ble_eq_true rfl) (Nat.le_of_ble_eq_true rfl) dX8_readStep_271) (fun z => (os_av (As := []) z).2.1) ?_
    refine a_if_eq (tgt := 293) dX8_readStep_274 (by decide) (fun c138 => ?_) (fun c138 => ?_)
    · replace h := ifp_ c138 h
      exact hk131 _ h
    · replace h := ifn_ c138 h
      refine a_aload_n 0 dX8_readStep_277 rfl rfl ?_
      obtain ⟨v141, m139, e140, h⟩ := bm_some h
      have he140 := e_X8_here (G := G) hl hf129 e140
      refine c_I he140.1 (rn_V (n := 0) (As := []) kc_8 hf129 he140 (lw_V q1760 q1762 qs36 q97 q1763) (by decide +kernel) rfl (by show 2 + 1 ≤ (dz + 1); omega) (Nat.le_of_ble_eq_true rfl) (Nat.le_of_ble_eq_true rfl) dX8_readStep_278) (fun z => (os_av (As := []) z).2.1) ?_
      refine a_bipush (v := 93) dX8_readStep_281 (by decide) ?_
      refine a_icmp_eq (tgt := 293) dX8_readStep_283 (by decide) (fun c142 => ?_) (fun c142 => ?_)
      · replace h := ifp_ c142 h
        exact hk131 _ h
      · replace h := ifn_ c142 h
        refine a_aload_n 0 dX8_readStep_286 rfl rfl ?_
        obtain ⟨v145, m143, e144, h⟩ := bm_some h
        have he144 := hz _ _ _ _ hf129 e144
        refine c_V he144.1 (rn_V (n := 0) (As := []) kc_8 hf129 he144 (lw_V q1868 q1870 qs53 q97 q1871) (by decide +kernel) rfl (by show dz + 1 ≤ (dz + 1); omega) (Nat.le_of_ble_eq_true rfl) (Nat.le_of_ble_eq_true rfl) dX8_readStep_287) (fun z => (os_av (As := []) z).2.1) ?_
        refine a_goto (tgt := 270) dX8_readStep_290 (by decide) ?_
        exact ih _ h
def b_X8_readStep (F : Nat) (z_ : pm_A → pm_M → Option (Unit × pm_M)) (t : pm_A) (m : pm_M) : Option (Unit × pm_M) :=
  bm_ (f_X8_word F t m) fun v3 m1 =>
  bm_ (f_X8_of F (some ((200, 0, 7))) m1) fun v6 m4 =>
  jn_ (fun  (m8 : pm_M) =>
    bm_ (f_X8_sign F t 59 m8) fun v11 m9 =>
    some ((), m9)
  ) fun k7 =>
  jn_ (fun  (m13 : pm_M) =>
    bm_ (f_X8_pass F t m13) fun v16 m14 =>
    bm_ (f_X8_of F (some ((200, 0, 7))) m14) fun v19 m17 =>
    jn_ (fun (y22 : Option pm_A) (y23 : Int32) (m21 : pm_M) =>
      gd_ 8 y22 fun a24 =>
      bm_ (f_X8_tellsStep F a24 y23 0 0 m21) fun v29 m27 =>
      k7 m27
    ) fun k20 =>
    if v3 = v19 then
      k20 (some t) 0 m17
    else
      k20 (some t) 7 m17
  ) fun k12 =>
  if v3 = v6 then
    k12 m4
  else
    bm_ (f_X8_of F (some ((200, 0, 21))) m4) fun v35 m33 =>
    if v3 = v35 then
      k12 m33
    else
      bm_ (f_X8_of F (some ((200, 0, 13))) m33) fun v39 m37 =>
      if v3 = v39 then
        bm_ (f_X8_pass F t m37) fun v162 m160 =>
        bm_ (f_X8_readOne F t m160) fun v165 m163 =>
        bm_ (f_X8_readNumber F t 0 ((gI_ m163 t 19) - 1) m163) fun v168 m166 =>
        bm_ (f_X8_tellsStep F t 1 v165 v168 m166) fun v171 m169 =>
        k7 m169
      else
        bm_ (f_X8_of F (some ((200, 0, 0))) m37) fun v43 m41 =>
        if v3 = v43 then
          bm_ (f_X8_pass F t m41) fun v150 m148 =>
          bm_ (f_X8_readOne F t m148) fun v153 m151 =>
          bm_ (f_X8_readNumber F t 1 24 m151) fun v156 m154 =>
          bm_ (f_X8_tellsStep F t 2 v153 v156 m154) fun v159 m157 =>
          k7 m157
        else
          bm_ (f_X8_of F (some ((200, 0, 17))) m41) fun v47 m45 =>
          jn_ (fun  (m49 : pm_M) =>
            bm_ (f_X8_pass F t m49) fun v52 m50 =>
            bm_ (f_X8_of F (some ((200, 0, 17))) m50) fun v55 m53 =>
            jn_ (fun (y58 : Option pm_A) (y59 : Int32) (m57 : pm_M) =>
              bm_ (f_X8_readOne F t m57) fun v62 m60 =>
              gd_ 8 y58 fun a63 =>
              bm_ (f_X8_tellsStep F a63 y59 v62 0 m60) fun v68 m66 =>
              k7 m66
            ) fun k56 =>
            if v3 = v55 then
              k56 (some t) 3 m53
            else
              bm_ (f_X8_of F (some ((200, 0, 9))) m53) fun v72 m70 =>
              if v3 = v72 then
                k56 (some t) 4 m70
              else
                bm_ (f_X8_of F (some ((200, 0, 3))) m70) fun v76 m74 =>
                if v3 = v76 then
                  k56 (some t) 5 m74
                else
                  k56 (some t) 6 m74
          ) fun k48 =>
          if v3 = v47 then
            k48 m45
          else
            bm_ (f_X8_of F (some ((200, 0, 9))) m45) fun v82 m80 =>
            if v3 = v82 then
              k48 m80
            else
              bm_ (f_X8_of F (some ((200, 0, 3))) m80) fun v86 m84 =>
              if v3 = v86 then
                k48 m84
              else
                bm_ (f_X8_of F (some ((200, 0, 12))) m84) fun v90 m88 =>
                if v3 = v90 then
                  k48 m88
                else
                  bm_ (f_X8_of F (some ((200, 0, 2))) m88) fun v94 m92 =>
                  if v3 = v94 then
                    bm_ (f_X8_opensOne F t 5 m92) fun v101 m99 =>
                    bm_ (f_X8_readNumber F t 0 60 m99) fun v104 m102 =>
                    bm_ (f_X8_sign F t 91 m102) fun v107 m105 =>
                    bm_ (f_X8_tellsStep F t 8 v104 0 m105) fun v110 m108 =>
                    jn_ (fun  (m112 : pm_M) =>
                      bm_ (f_X8_sign F t 93 m112) fun v115 m113 =>
                      lt_ (pI_ m113 t 7 ((gI_ m113 t 7) - 1)) fun m116 =>
                      bm_ (f_X8_fine F t m116) fun v120 m118 =>
                      if v120 = 0 then
                        k7 m118
                      else
                        gd_ 100 (gR_ m118 t 29) fun a122 =>
                        iz_ (!(ib_ ((gI_ m105 t 31) + 2) a122.2.1)) <|
                        lt_ (pI_ m118 a122 (((gI_ m105 t 31) + 2).toNatClampNeg) (gI_ m118 t 31)) fun m126 =>
                        k7 m126
                    ) fun k111 =>
                    f_X8_readStep_L270 F z_ t (gI_ m105 t 31) k111 F m108
                  else
                    bm_ (f_X8_wrong F t 1 (gI_ m92 t 4) m92) fun v98 m96 =>
                    k7 m96
set_option maxHeartbeats 4000000 in
theorem eb_X8_readStep {G : xg_T} {l : Launch} (hl : l.stackTraces = false) {F : Nat} {dz : Nat} {z_ : pm_A → pm_M → Option (Unit × pm_M)} (hz : ∀ (w0 : pm_A) (m m' : pm_M) (r : Unit), w0.1 = 8 → z_ w0 m = some (r, m') → Cal_ G l yX8_readStep (ws_ yX8_readStep cX8_readStep 4 none) dz [vR_ (some w0)] m (.inl none) m') (hdz : 7 ≤ dz) {t : pm_A} {m0 m' : pm_M} {r : Unit} (ht : t.1 = 8) (h : b_X8_readStep F z_ t m0 = some (r, m')) : Cal_ G l yX8_readStep (ws_ yX8_readStep cX8_readStep 4 none) (dz + 1) [vR_ (some t)] m0 (.inl none) m' := by
  refine cal_of (by decide +kernel) (Nat.le_of_ble_eq_true rfl) ?_
  unfold b_X8_readStep at h
  show AW_ cX8_readStep RX8 (none, "readStep", (dz + 1), 4, m0, m', (.inl none), G, l, [], true) m0 0 [(0, vR_ (some t))] []
  refine a_aload_n 0 dX8_readStep_0 rfl rfl ?_
  obtain ⟨v3, m1, e2, h⟩ := bm_some h
  have he2 := e_X8_word (G := G) hl ht e2
  refine c_I he2.1 (rn_V (n := 0) (As := []) kc_8 ht he2 (lw_V q1774 q1776 qs38 q97 q1777) (by decide +kernel) rfl (by show 3 + 1 ≤ (dz + 1); omega) (Nat.le_of_ble_eq_true rfl) (Nat.le_of_ble_eq_true rfl) dX8_readStep_1) (fun z => (os_av (As := []) z).2.1) ?_
  refine a_istore_n (ls' := [(1, vI_ v3), (0, vR_ (some t))]) dX8_readStep_4 rfl (Nat.le_of_ble_eq_true rfl) rfl ?_
  refine a_iload_n 0 dX8_readStep_5 rfl rfl ?_
  refine a_ldcSW (n := 7) (tx := "land") (by decide +kernel) (by decide) dX8_readStep_6 ?_
  obtain ⟨v6, m4, e5, h⟩ := bm_some h
  have he5 := e_X8_of (G := G) hl e5
  refine c_I he5.1 (rn_S (n := 1) (As := [vR_ (some ((200, 0, 7)))]) he5 (lw_S q1782 q1783 q97 q1784) (by decide +kernel) rfl (by show 6 + 1 ≤ (dz + 1); omega) (Nat.le_of_ble_eq_true rfl) (Nat.le_of_ble_eq_true rfl) dX8_readStep_9) (fun z => (os_aS (As := [vR_ (some ((200, 0, 7)))]) z).2) ?_
  obtain ⟨k7, e173, h⟩ := jn1_some h
  have hk7 : ∀  (m8 : pm_M), k7 m8 = some (r, m') → AW_ cX8_readStep RX8 (none, "readStep", (dz + 1), 4, m0, m', (.inl none), G, l, [], true) m8 340 [(0, vR_ (some t))] [] := by
    intro m8 h
    have h := (e173 m8).symm.trans h
    refine a_aload_n 0 dX8_readStep_340 rfl rfl ?_
    refine a_bipush (v := 59) dX8_readStep_341 (by decide) ?_
    obtain ⟨v11, m9, e10, h⟩ := bm_some h
    have he10 := e_X8_sign (G := G) hl ht e10
    refine c_V he10.1 (rn_V (n := 1) (As := [vI_ 59]) kc_8 ht he10 (lw_V q1811 q1813 qs44 q97 q1814) (by decide +kernel) rfl (by show 3 + 1 ≤ (dz + 1); omega) (Nat.le_of_ble_eq_true rfl) (Nat.le_of_ble_eq_true rfl) dX8_readStep_343) (fun z => (os_av (As := [vI_ 59]) z).2.1) ?_
    cases h
    exact a_return rfl rfl rfl rfl dX8_readStep_346
  obtain ⟨k12, e172, h⟩ := jn1_some h
  have hk12 : ∀  (m13 : pm_M), k12 m13 = some (r, m') → AW_ cX8_readStep RX8 (none, "readStep", (dz + 1), 4, m0, m', (.inl none), G, l, [], true) m13 25 [(0, vR_ (some t)), (1, vI_ v3)] [] := by
    intro m13 h
    have h := (e172 m13).symm.trans h
    refine a_aload_n 0 dX8_readStep_25 rfl rfl ?_
    obtain ⟨v16, m14, e15, h⟩ := bm_some h
    have he15 := e_X8_pass (G := G) hl ht e15
    refine c_V he15.1 (rn_V (n := 0) (As := []) kc_8 ht he15 (lw_V q1792 q1794 qs40 q97 q1795) (by decide +kernel) rfl (by show 3 + 1 ≤ (dz + 1); omega) (Nat.le_of_ble_eq_true rfl) (Nat.le_of_ble_eq_true rfl) dX8_readStep_26) (fun z => (os_av (As := []) z).2.1) ?_
    refine a_aload_n 0 dX8_readStep_29 rfl rfl ?_
    refine a_iload_n 1 dX8_readStep_30 rfl rfl ?_
    refine a_ldcSW (n := 7) (tx := "land") (by decide +kernel) (by decide) dX8_readStep_31 ?_
    obtain ⟨v19, m17, e18, h⟩ := bm_some h
    have he18 := e_X8_of (G := G) hl e18
    refine c_I he18.1 (rn_S (n := 1) (As := [vR_ (some ((200, 0, 7)))]) he18 (lw_S q1782 q1783 q97 q1784) (by decide +kernel) rfl (by show 6 + 1 ≤ (dz + 1); omega) (Nat.le_of_ble_eq_true rfl) (Nat.le_of_ble_eq_true rfl) dX8_readStep_34) (fun z => (os_aS (As := [vR_ (some ((200, 0, 7)))]) z).2) ?_
    obtain ⟨k20, e31, h⟩ := jn3_some h
    have hk20 : ∀ (y22 : Option pm_A) (y23 : Int32) (m21 : pm_M), k20 y22 y23 m21 = some (r, m') → AW_ cX8_readStep RX8 (none, "readStep", (dz + 1), 4, m0, m', (.inl none), G, l, [], true) m21 46 [(0, vR_ (some t))] [vI_ y23, vR_ y22] := by
      intro y22 y23 m21 h
      have h := (e31 y22 y23 m21).symm.trans h
      refine a_iconst (v := 0) dX8_readStep_46 (by decide) ?_
      refine a_iconst (v := 0) dX8_readStep_47 (by decide) ?_
      obtain ⟨a24, e25, f26, h⟩ := gd_some h
      rw [e25]
      obtain ⟨v29, m27, e28, h⟩ := bm_some h
      have he28 := e_X8_tellsStep (G := G) hl f26 e28
      refine c_V he28.1 (rn_V (n := 3) (As := [vI_ y23, vI_ 0, vI_ 0]) kc_8 f26 he28 (lw_V q1873 q1875 qs54 q97 q1876) (by decide +kernel) rfl (by show 3 + 1 ≤ (dz + 1); omega) (Nat.le_of_ble_eq_true rfl) (Nat.le_of_ble_eq_true rfl) dX8_readStep_48) (fun z => (os_av (As := [vI_ y23, vI_ 0, vI_ 0]) z).2.1) ?_
      refine a_goto (tgt := 340) dX8_readStep_51 (by decide) ?_
      exact hk7 _ h
    refine a_icmp_ne (tgt := 44) dX8_readStep_37 (by decide) (fun c30 => ?_) (fun c30 => ?_)
    · replace h := ifn_ c30 h
      refine a_bipush (v := 7) dX8_readStep_44 (by decide) ?_
      refine aw_pick [0] rfl ?_
      exact hk20 _ _ _ h
    · replace h := ifp_ c30 h
      refine a_iconst (v := 0) dX8_readStep_40 (by decide) ?_
      refine a_goto (tgt := 46) dX8_readStep_41 (by decide) ?_
      refine aw_pick [0] rfl ?_
      exact hk20 _ _ _ h
  refine a_icmp_eq (tgt := 25) dX8_readStep_12 (by decide) (fun c32 => ?_) (fun c32 => ?_)
  · replace h := ifp_ c32 h
    refine aw_pick [1, 0] rfl ?_
    exact hk12 _ h
  · replace h := ifn_ c32 h
    refine a_iload_n 0 dX8_readStep_15 rfl rfl ?_
    refine a_ldcSW (n := 21) (tx := "week") (by decide +kernel) (by decide) dX8_readStep_16 ?_
    obtain ⟨v35, m33, e34, h⟩ := bm_some h
    have he34 := e_X8_of (G := G) hl e34
    refine c_I he34.1 (rn_S (n := 1) (As := [vR_ (some ((200, 0, 21)))]) he34 (lw_S q1782 q1783 q97 q1784) (by decide +kernel) rfl (by show 6 + 1 ≤ (dz + 1); omega) (Nat.le_of_ble_eq_true rfl) (Nat.le_of_ble_eq_true rfl) dX8_readStep_19) (fun z => (os_aS (As := [vR_ (some ((200, 0, 21)))]) z).2) ?_
    refine a_icmp_ne (tgt := 54) dX8_readStep_22 (by decide) (fun c36 => ?_) (fun c36 => ?_)
    · replace h := ifn_ c36 h
      refine a_iload_n 0 dX8_readStep_54 rfl rfl ?_
      refine a_ldcSW (n := 13) (tx := "place") (by decide +kernel) (by decide) dX8_readStep_55 ?_
      obtain ⟨v39, m37, e38, h⟩ := bm_some h
      have he38 := e_X8_of (G := G) hl e38
      refine c_I he38.1 (rn_S (n := 1) (As := [vR_ (some ((200, 0, 13)))]) he38 (lw_S q1782 q1783 q97 q1784) (by decide +kernel) rfl (by show 6 + 1 ≤ (dz + 1); omega) (Nat.le_of_ble_eq_true rfl) (Nat.le_of_ble_eq_true rfl) dX8_readStep_58) (fun z => (os_aS (As := [vR_ (some ((200, 0, 13)))]) z).2) ?_
      refine a_icmp_ne (tgt := 93) dX8_readStep_61 (by decide) (fun c40 => ?_) (fun c40 => ?_)
      · replace h := ifn_ c40 h
        refine a_iload_n 0 dX8_readStep_93 rfl rfl ?_
        refine a_ldcSW (n := 0) (tx := "add") (by decide +kernel) (by decide) dX8_readStep_94 ?_
        obtain ⟨v43, m41, e42, h⟩ := bm_some h
        have he42 := e_X8_of (G := G) hl e42
        refine c_I he42.1 (rn_S (n := 1) (As := [vR_ (some ((200, 0, 0)))]) he42 (lw_S q1782 q1783 q97 q1784) (by decide +kernel) rfl (by show 6 + 1 ≤ (dz + 1); omega) (Nat.le_of_ble_eq_true rfl) (Nat.le_of_ble_eq_true rfl) dX8_readStep_97) (fun z => (os_aS (As := [vR_ (some ((200, 0, 0)))]) z).2) ?_
        refine a_icmp_ne (tgt := 128) dX8_readStep_100 (by decide) (fun c44 => ?_) (fun c44 => ?_)
        · replace h := ifn_ c44 h
          refine a_iload_n 0 dX8_readStep_128 rfl rfl ?_
          refine a_ldcSW (n := 17) (tx := "strike") (by decide +kernel) (by decide) dX8_readStep_129 ?_
          obtain ⟨v47, m45, e46, h⟩ := bm_some h
          have he46 := e_X8_of (G := G) hl e46
          refine c_I he46.1 (rn_S (n := 1) (As := [vR_ (some ((200, 0, 17)))]) he46 (lw_S q1782 q1783 q97 q1784) (by decide +kernel) rfl (by show 6 + 1 ≤ (dz + 1); omega) (Nat.le_of_ble_eq_true rfl) (Nat.le_of_ble_eq_true rfl) dX8_readStep_132) (fun z => (os_aS (As := [vR_ (some ((200, 0, 17)))]) z).2) ?_
          obtain ⟨k48, e147, h⟩ := jn1_some h
          have hk48 : ∀  (m49 : pm_M), k48 m49 = some (r, m') → AW_ cX8_readStep RX8 (none, "readStep", (dz + 1), 4, m0, m', (.inl none), G, l, [], true) m49 168 [(0, vR_ (some t)), (1, vI_ v3)] [] := by
            intro m49 h
            have h := (e147 m49).symm.trans h
            refine a_aload_n 0 dX8_readStep_168 rfl rfl ?_
            obtain ⟨v52, m50, e51, h⟩ := bm_some h
            have he51 := e_X8_pass (G := G) hl ht e51
            refine c_V he51.1 (rn_V (n := 0) (As := []) kc_8 ht he51 (lw_V q1792 q1794 qs40 q97 q1795) (by decide +kernel) rfl (by show 3 + 1 ≤ (dz + 1); omega) (Nat.le_of_ble_eq_true rfl) (Nat.le_of_ble_eq_true rfl) dX8_readStep_169) (fun z => (os_av (As := []) z).2.1) ?_
            refine a_aload_n 0 dX8_readStep_172 rfl rfl ?_
            refine a_iload_n 1 dX8_readStep_173 rfl rfl ?_
            refine a_ldcSW (n := 17) (tx := "strike") (by decide +kernel) (by decide) dX8_readStep_174 ?_
            obtain ⟨v55, m53, e54, h⟩ := bm_some h
            have he54 := e_X8_of (G := G) hl e54
            refine c_I he54.1 (rn_S (n := 1) (As := [vR_ (some ((200, 0, 17)))]) he54 (lw_S q1782 q1783 q97 q1784) (by decide +kernel) rfl (by show 6 + 1 ≤ (dz + 1); omega) (Nat.le_of_ble_eq_true rfl) (Nat.le_of_ble_eq_true rfl) dX8_readStep_177) (fun z => (os_aS (As := [vR_ (some ((200, 0, 17)))]) z).2) ?_
            obtain ⟨k56, e78, h⟩ := jn3_some h
            have hk56 : ∀ (y58 : Option pm_A) (y59 : Int32) (m57 : pm_M), k56 y58 y59 m57 = some (r, m') → AW_ cX8_readStep RX8 (none, "readStep", (dz + 1), 4, m0, m', (.inl none), G, l, [], true) m57 217 [(0, vR_ (some t))] [vI_ y59, vR_ y58] := by
              intro y58 y59 m57 h
              have h := (e78 y58 y59 m57).symm.trans h
              refine a_aload_n 0 dX8_readStep_217 rfl rfl ?_
              obtain ⟨v62, m60, e61, h⟩ := bm_some h
              have he61 := e_X8_readOne (G := G) hl ht e61
              refine c_I he61.1 (rn_V (n := 0) (As := []) kc_8 ht he61 (lw_V q1878 q1880 qs55 q97 q1881) (by decide +kernel) rfl (by show 4 + 1 ≤ (dz + 1); omega) (Nat.le_of_ble_eq_true rfl) (Nat.le_of_ble_eq_true rfl) dX8_readStep_218) (fun z => (os_av (As := []) z).2.1) ?_
              refine a_iconst (v := 0) dX8_readStep_221 (by decide) ?_
              obtain ⟨a63, e64, f65, h⟩ := gd_some h
              rw [e64]
              obtain ⟨v68, m66, e67, h⟩ := bm_some h
              have he67 := e_X8_tellsStep (G := G) hl f65 e67
              refine c_V he67.1 (rn_V (n := 3) (As := [vI_ y59, vI_ v62, vI_ 0]) kc_8 f65 he67 (lw_V q1873 q1875 qs54 q97 q1876) (by decide +kernel) rfl (by show 3 + 1 ≤ (dz + 1); omega) (Nat.le_of_ble_eq_true rfl) (Nat.le_of_ble_eq_true rfl) dX8_readStep_222) (fun z => (os_av (As := [vI_ y59, vI_ v62, vI_ 0]) z).2.1) ?_
              refine a_goto (tgt := 340) dX8_readStep_225 (by decide) ?_
              exact hk7 _ h
            refine a_icmp_ne (tgt := 187) dX8_readStep_180 (by decide) (fun c69 => ?_) (fun c69 => ?_)
            · replace h := ifn_ c69 h
              refine a_iload_n 1 dX8_readStep_187 rfl rfl ?_
              refine a_ldcSW (n := 9) (tx := "lose") (by decide +kernel) (by decide) dX8_readStep_188 ?_
              obtain ⟨v72, m70, e71, h⟩ := bm_some h
              have he71 := e_X8_of (G := G) hl e71
              refine c_I he71.1 (rn_S (n := 1) (As := [vR_ (some ((200, 0, 9)))]) he71 (lw_S q1782 q1783 q97 q1784) (by decide +kernel) rfl (by show 6 + 1 ≤ (dz + 1); omega) (Nat.le_of_ble_eq_true rfl) (Nat.le_of_ble_eq_true rfl) dX8_readStep_191) (fun z => (os_aS (As := [vR_ (some ((200, 0, 9)))]) z).2) ?_
              refine a_icmp_ne (tgt := 201) dX8_readStep_194 (by decide) (fun c73 => ?_) (fun c73 => ?_)
              · replace h := ifn_ c73 h
                refine a_iload_n 1 dX8_readStep_201 rfl rfl ?_
                refine a_ldcSW (n := 3) (tx := "copy") (by decide +kernel) (by decide) dX8_readStep_202 ?_
                obtain ⟨v76, m74, e75, h⟩ := bm_some h
                have he75 := e_X8_of (G := G) hl e75
                refine c_I he75.1 (rn_S (n := 1) (As := [vR_ (some ((200, 0, 3)))]) he75 (lw_S q1782 q1783 q97 q1784) (by decide +kernel) rfl (by show 6 + 1 ≤ (dz + 1); omega) (Nat.le_of_ble_eq_true rfl) (Nat.le_of_ble_eq_true rfl) dX8_readStep_205) (fun z => (os_aS (As := [vR_ (some ((200, 0, 3)))]) z).2) ?_
                refine a_icmp_ne (tgt := 215) dX8_readStep_208 (by decide) (fun c77 => ?_) (fun c77 => ?_)
                · replace h := ifn_ c77 h
                  refine a_bipush (v := 6) dX8_readStep_215 (by decide) ?_
                  refine aw_pick [0] rfl ?_
                  exact hk56 _ _ _ h
                · replace h := ifp_ c77 h
                  refine a_iconst (v := 5) dX8_readStep_211 (by decide) ?_
                  refine a_goto (tgt := 217) dX8_readStep_212 (by decide) ?_
                  refine aw_pick [0] rfl ?_
                  exact hk56 _ _ _ h
              · replace h := ifp_ c73 h
                refine a_iconst (v := 4) dX8_readStep_197 (by decide) ?_
                refine a_goto (tgt := 217) dX8_readStep_198 (by decide) ?_
                refine aw_pick [0] rfl ?_
                exact hk56 _ _ _ h
            · replace h := ifp_ c69 h
              refine a_iconst (v := 3) dX8_readStep_183 (by decide) ?_
              refine a_goto (tgt := 217) dX8_readStep_184 (by decide) ?_
              refine aw_pick [0] rfl ?_
              exact hk56 _ _ _ h
          refine a_icmp_eq (tgt := 168) dX8_readStep_135 (by decide) (fun c79 => ?_) (fun c79 => ?_)
          · replace h := ifp_ c79 h
            refine aw_pick [1, 0] rfl ?_
            exact hk48 _ h
          · replace h := ifn_ c79 h
            refine a_iload_n 0 dX8_readStep_138 rfl rfl ?_
            refine a_ldcSW (n := 9) (tx := "lose") (by decide +kernel) (by decide) dX8_readStep_139 ?_
            obtain ⟨v82, m80, e81, h⟩ := bm_some h
            have he81 := e_X8_of (G := G) hl e81
            refine c_I he81.1 (rn_S (n := 1) (As := [vR_ (some ((200, 0, 9)))]) he81 (lw_S q1782 q1783 q97 q1784) (by decide +kernel) rfl (by show 6 + 1 ≤ (dz + 1); omega) (Nat.le_of_ble_eq_true rfl) (Nat.le_of_ble_eq_true rfl) dX8_readStep_142) (fun z => (os_aS (As := [vR_ (some ((200, 0, 9)))]) z).2) ?_
            refine a_icmp_eq (tgt := 168) dX8_readStep_145 (by decide) (fun c83 => ?_) (fun c83 => ?_)
            · replace h := ifp_ c83 h
              refine aw_pick [1, 0] rfl ?_
              exact hk48 _ h
            · replace h := ifn_ c83 h
              refine a_iload_n 0 dX8_readStep_148 rfl rfl ?_
              refine a_ldcSW (n := 3) (tx := "copy") (by decide +kernel) (by decide) dX8_readStep_149 ?_
              obtain ⟨v86, m84, e85, h⟩ := bm_some h
              have he85 := e_X8_of (G := G) hl e85
              refine c_I he85.1 (rn_S (n := 1) (As := [vR_ (some ((200, 0, 3)))]) he85 (lw_S q1782 q1783 q97 q1784) (by decide +kernel) rfl (by show 6 + 1 ≤ (dz + 1); omega) (Nat.le_of_ble_eq_true rfl) (Nat.le_of_ble_eq_true rfl) dX8_readStep_152) (fun z => (os_aS (As := [vR_ (some ((200, 0, 3)))]) z).2) ?_
              refine a_icmp_eq (tgt := 168) dX8_readStep_155 (by decide) (fun c87 => ?_) (fun c87 => ?_)
              · replace h := ifp_ c87 h
                refine aw_pick [1, 0] rfl ?_
                exact hk48 _ h
              · replace h := ifn_ c87 h
                refine a_iload_n 0 dX8_readStep_158 rfl rfl ?_
                refine a_ldcSW (n := 12) (tx := "pay") (by decide +kernel) (by decide) dX8_readStep_159 ?_
                obtain ⟨v90, m88, e89, h⟩ := bm_some h
                have he89 := e_X8_of (G := G) hl e89
                refine c_I he89.1 (rn_S (n := 1) (As := [vR_ (some ((200, 0, 12)))]) he89 (lw_S q1782 q1783 q97 q1784) (by decide +kernel) rfl (by show 6 + 1 ≤ (dz + 1); omega) (Nat.le_of_ble_eq_true rfl) (Nat.le_of_ble_eq_true rfl) dX8_readStep_162) (fun z => (os_aS (As := [vR_ (some ((200, 0, 12)))]) z).2) ?_
                refine a_icmp_ne (tgt := 228) dX8_readStep_165 (by decide) (fun c91 => ?_) (fun c91 => ?_)
                · replace h := ifn_ c91 h
                  refine a_iload_n 0 dX8_readStep_228 rfl rfl ?_
                  refine a_ldcSW (n := 2) (tx := "again") (by decide +kernel) (by decide) dX8_readStep_229 ?_
                  obtain ⟨v94, m92, e93, h⟩ := bm_some h
                  have he93 := e_X8_of (G := G) hl e93
                  refine c_I he93.1 (rn_S (n := 1) (As := [vR_ (some ((200, 0, 2)))]) he93 (lw_S q1782 q1783 q97 q1784) (by decide +kernel) rfl (by show 6 + 1 ≤ (dz + 1); omega) (Nat.le_of_ble_eq_true rfl) (Nat.le_of_ble_eq_true rfl) dX8_readStep_232) (fun z => (os_aS (As := [vR_ (some ((200, 0, 2)))]) z).2) ?_
                  refine a_icmp_ne (tgt := 331) dX8_readStep_235 (by decide) (fun c95 => ?_) (fun c95 => ?_)
                  · replace h := ifn_ c95 h
                    refine a_aload_n 1 dX8_readStep_331 rfl rfl ?_
                    refine a_iconst (v := 1) dX8_readStep_332 (by decide) ?_
                    refine a_aload_n 1 dX8_readStep_333 rfl rfl ?_
                    refine a_getI kc_8 4 (by decide) rfl ht q1558 dX8_readStep_334 ?_
                    obtain ⟨v98, m96, e97, h⟩ := bm_some h
                    have he97 := e_X8_wrong (G := G) hl ht e97
                    refine c_V he97.1 (rn_V (n := 2) (As := [vI_ 1, vI_ (gI_ m92 t 4)]) kc_8 ht he97 (lw_V q1788 q1790 qs39 q97 q1791) (by decide +kernel) rfl (by show 2 + 1 ≤ (dz + 1); omega) (Nat.le_of_ble_eq_true rfl) (Nat.le_of_ble_eq_true rfl) dX8_readStep_337) (fun z => (os_av (As := [vI_ 1, vI_ (gI_ m92 t 4)]) z).2.1) ?_
                    refine aw_pick [1] rfl ?_
                    exact hk7 _ h
                  · replace h := ifp_ c95 h
                    refine a_aload_n 1 dX8_readStep_238 rfl rfl ?_
                    refine a_iconst (v := 5) dX8_readStep_239 (by decide) ?_
                    obtain ⟨v101, m99, e100, h⟩ := bm_some h
                    have he100 := e_X8_opensOne (G := G) hl ht e100
                    refine c_V he100.1 (rn_V (n := 1) (As := [vI_ 5]) kc_8 ht he100 (lw_V q1838 q1840 qs49 q97 q1841) (by decide +kernel) rfl (by show 3 + 1 ≤ (dz + 1); omega) (Nat.le_of_ble_eq_true rfl) (Nat.le_of_ble_eq_true rfl) dX8_readStep_240) (fun z => (os_av (As := [vI_ 5]) z).2.1) ?_
                    refine a_aload_n 1 dX8_readStep_243 rfl rfl ?_
                    refine a_iconst (v := 0) dX8_readStep_244 (by decide) ?_
                    refine a_bipush (v := 60) dX8_readStep_245 (by decide) ?_
                    obtain ⟨v104, m102, e103, h⟩ := bm_some h
                    have he103 := e_X8_readNumber (G := G) hl ht e103
                    refine c_I he103.1 (rn_V (n := 2) (As := [vI_ 0, vI_ 60]) kc_8 ht he103 (lw_V q1800 q1802 qs42 q97 q1803) (by decide +kernel) rfl (by show 3 + 1 ≤ (dz + 1); omega) (Nat.le_of_ble_eq_true rfl) (Nat.le_of_ble_eq_true rfl) dX8_readStep_247) (fun z => (os_av (As := [vI_ 0, vI_ 60]) z).2.1) ?_
                    refine a_istore_n (ls' := [(2, vI_ v104), (1, vI_ v3), (0, vR_ (some t))]) dX8_readStep_250 rfl (Nat.le_of_ble_eq_true rfl) rfl ?_
                    refine a_aload_n 2 dX8_readStep_251 rfl rfl ?_
                    refine a_bipush (v := 91) dX8_readStep_252 (by decide) ?_
                    obtain ⟨v107, m105, e106, h⟩ := bm_some h
                    have he106 := e_X8_sign (G := G) hl ht e106
                    refine c_V he106.1 (rn_V (n := 1) (As := [vI_ 91]) kc_8 ht he106 (lw_V q1811 q1813 qs44 q97 q1814) (by decide +kernel) rfl (by show 3 + 1 ≤ (dz + 1); omega) (Nat.le_of_ble_eq_true rfl) (Nat.le_of_ble_eq_true rfl) dX8_readStep_254) (fun z => (os_av (As := [vI_ 91]) z).2.1) ?_
                    refine a_aload_n 2 dX8_readStep_257 rfl rfl ?_
                    refine a_getI kc_8 31 (by decide) rfl ht q1585 dX8_readStep_258 ?_
                    refine a_istore_n (ls' := [(3, vI_ (gI_ m105 t 31)), (2, vI_ v104), (1, vI_ v3), (0, vR_ (some t))]) dX8_readStep_261 rfl (Nat.le_of_ble_eq_true rfl) rfl ?_
                    refine a_aload_n 3 dX8_readStep_262 rfl rfl ?_
                    refine a_bipush (v := 8) dX8_readStep_263 (by decide) ?_
                    refine a_iload_n 1 dX8_readStep_265 rfl rfl ?_
                    refine a_iconst (v := 0) dX8_readStep_266 (by decide) ?_
                    obtain ⟨v110, m108, e109, h⟩ := bm_some h
                    have he109 := e_X8_tellsStep (G := G) hl ht e109
                    refine c_V he109.1 (rn_V (n := 3) (As := [vI_ 8, vI_ v104, vI_ 0]) kc_8 ht he109 (lw_V q1873 q1875 qs54 q97 q1876) (by decide +kernel) rfl (by show 3 + 1 ≤ (dz + 1); omega) (Nat.le_of_ble_eq_true rfl) (Nat.le_of_ble_eq_true rfl) dX8_readStep_267) (fun z => (os_av (As := [vI_ 8, vI_ v104, vI_ 0]) z).2.1) ?_
                    obtain ⟨k111, e146, h⟩ := jn1_some h
                    have hk111 : ∀  (m112 : pm_M), k111 m112 = some (r, m') → AW_ cX8_readStep RX8 (none, "readStep", (dz + 1), 4, m0, m', (.inl none), G, l, [], true) m112 293 [(0, vR_ (some t)), (3, vI_ (gI_ m105 t 31))] [] := by
                      intro m112 h
                      have h := (e146 m112).symm.trans h
                      refine a_aload_n 0 dX8_readStep_293 rfl rfl ?_
                      refine a_bipush (v := 93) dX8_readStep_294 (by decide) ?_
                      obtain ⟨v115, m113, e114, h⟩ := bm_some h
                      have he114 := e_X8_sign (G := G) hl ht e114
                      refine c_V he114.1 (rn_V (n := 1) (As := [vI_ 93]) kc_8 ht he114 (lw_V q1811 q1813 qs44 q97 q1814) (by decide +kernel) rfl (by show 3 + 1 ≤ (dz + 1); omega) (Nat.le_of_ble_eq_true rfl) (Nat.le_of_ble_eq_true rfl) dX8_readStep_296) (fun z => (os_av (As := [vI_ 93]) z).2.1) ?_
                      refine a_aload_n 0 dX8_readStep_299 rfl rfl ?_
                      refine a_dup dX8_readStep_300 rfl ?_
                      refine a_getI kc_8 7 (by decide) rfl ht q1561 dX8_readStep_301 ?_
                      refine a_iconst (v := 1) dX8_readStep_304 (by decide) ?_
                      refine a_isub dX8_readStep_305 ?_
                      obtain ⟨m116, e117, h⟩ := lt_some h
                      refine a_putI kc_8 7 (by decide) rfl ht q1561 rfl rfl rfl dX8_readStep_306 ?_
                      rw [← e117]
                      refine a_aload_n 0 dX8_readStep_309 rfl rfl ?_
                      obtain ⟨v120, m118, e119, h⟩ := bm_some h
                      have he119 := e_X8_fine (G := G) hl ht e119
                      refine c_I he119.1 (rn_V (n := 0) (As := []) kc_8 ht he119 (lw_V q1752 q1754 qs34 q97 q1755) (by decide +kernel) rfl (by show 2 + 1 ≤ (dz + 1); omega) (Nat.le_of_ble_eq_true rfl) (Nat.le_of_ble_eq_true rfl) dX8_readStep_310) (fun z => (os_av (As := []) z).2.1) ?_
                      refine a_if_eq (tgt := 328) dX8_readStep_313 (by decide) (fun c121 => ?_) (fun c121 => ?_)
                      · replace h := ifp_ c121 h
                        refine a_goto (tgt := 340) dX8_readStep_328 (by decide) ?_
                        refine aw_pick [0] rfl ?_
                        exact hk7 _ h
                      · replace h := ifn_ c121 h
                        refine a_aload_n 0 dX8_readStep_316 rfl rfl ?_
                        refine a_getR kc_8 29 (by decide) rfl ht q1583 dX8_readStep_317 ?_
                        refine a_iload_n 1 dX8_readStep_320 rfl rfl ?_
                        refine a_iconst (v := 2) dX8_readStep_321 (by decide) ?_
                        refine a_iadd dX8_readStep_322 ?_
                        refine a_aload_n 0 dX8_readStep_323 rfl rfl ?_
                        refine a_getI kc_8 31 (by decide) rfl ht q1585 dX8_readStep_324 ?_
                        obtain ⟨a122, e123, f124, h⟩ := gd_some h
                        rw [e123]
                        obtain ⟨c125, h⟩ := iz_some h
                        obtain ⟨m126, e127, h⟩ := lt_some h
                        refine a_iast f124 (bn_ c125) dX8_readStep_327 ?_
                        rw [← e127]
                        refine a_goto (tgt := 340) dX8_readStep_328 (by decide) ?_
                        refine aw_pick [0] rfl ?_
                        exact hk7 _ h
                    refine aw_pick [3, 0] rfl ?_
                    exact w_X8_readStep_L270 hl hz hdz _ _ _ ht hk111 _ _ h
                · replace h := ifp_ c91 h
                  refine aw_pick [1, 0] rfl ?_
                  exact hk48 _ h
        · replace h := ifp_ c44 h
          refine a_aload_n 1 dX8_readStep_103 rfl rfl ?_
          obtain ⟨v150, m148, e149, h⟩ := bm_some h
          have he149 := e_X8_pass (G := G) hl ht e149
          refine c_V he149.1 (rn_V (n := 0) (As := []) kc_8 ht he149 (lw_V q1792 q1794 qs40 q97 q1795) (by decide +kernel) rfl (by show 3 + 1 ≤ (dz + 1); omega) (Nat.le_of_ble_eq_true rfl) (Nat.le_of_ble_eq_true rfl) dX8_readStep_104) (fun z => (os_av (As := []) z).2.1) ?_
          refine a_aload_n 1 dX8_readStep_107 rfl rfl ?_
          obtain ⟨v153, m151, e152, h⟩ := bm_some h
          have he152 := e_X8_readOne (G := G) hl ht e152
          refine c_I he152.1 (rn_V (n := 0) (As := []) kc_8 ht he152 (lw_V q1878 q1880 qs55 q97 q1881) (by decide +kernel) rfl (by show 4 + 1 ≤ (dz + 1); omega) (Nat.le_of_ble_eq_true rfl) (Nat.le_of_ble_eq_true rfl) dX8_readStep_108) (fun z => (os_av (As := []) z).2.1) ?_
          refine a_istore_n (ls' := [(2, vI_ v153), (1, vI_ v3), (0, vR_ (some t))]) dX8_readStep_111 rfl (Nat.le_of_ble_eq_true rfl) rfl ?_
          refine a_aload_n 2 dX8_readStep_112 rfl rfl ?_
          refine a_iconst (v := 2) dX8_readStep_113 (by decide) ?_
          refine a_iload_n 0 dX8_readStep_114 rfl rfl ?_
          refine a_aload_n 2 dX8_readStep_115 rfl rfl ?_
          refine a_iconst (v := 1) dX8_readStep_116 (by decide) ?_
          refine a_bipush (v := 24) dX8_readStep_117 (by decide) ?_
          obtain ⟨v156, m154, e155, h⟩ := bm_some h
          have he155 := e_X8_readNumber (G := G) hl ht e155
          refine c_I he155.1 (rn_V (n := 2) (As := [vI_ 1, vI_ 24]) kc_8 ht he155 (lw_V q1800 q1802 qs42 q97 q1803) (by decide +kernel) rfl (by show 3 + 1 ≤ (dz + 1); omega) (Nat.le_of_ble_eq_true rfl) (Nat.le_of_ble_eq_true rfl) dX8_readStep_119) (fun z => (os_av (As := [vI_ 1, vI_ 24]) z).2.1) ?_
          obtain ⟨v159, m157, e158, h⟩ := bm_some h
          have he158 := e_X8_tellsStep (G := G) hl ht e158
          refine c_V he158.1 (rn_V (n := 3) (As := [vI_ 2, vI_ v153, vI_ v156]) kc_8 ht he158 (lw_V q1873 q1875 qs54 q97 q1876) (by decide +kernel) rfl (by show 3 + 1 ≤ (dz + 1); omega) (Nat.le_of_ble_eq_true rfl) (Nat.le_of_ble_eq_true rfl) dX8_readStep_122) (fun z => (os_av (As := [vI_ 2, vI_ v153, vI_ v156]) z).2.1) ?_
          refine a_goto (tgt := 340) dX8_readStep_125 (by decide) ?_
          refine aw_pick [2] rfl ?_
          exact hk7 _ h
      · replace h := ifp_ c40 h
        refine a_aload_n 1 dX8_readStep_64 rfl rfl ?_
        obtain ⟨v162, m160, e161, h⟩ := bm_some h
        have he161 := e_X8_pass (G := G) hl ht e161
        refine c_V he161.1 (rn_V (n := 0) (As := []) kc_8 ht he161 (lw_V q1792 q1794 qs40 q97 q1795) (by decide +kernel) rfl (by show 3 + 1 ≤ (dz + 1); omega) (Nat.le_of_ble_eq_true rfl) (Nat.le_of_ble_eq_true rfl) dX8_readStep_65) (fun z => (os_av (As := []) z).2.1) ?_
        refine a_aload_n 1 dX8_readStep_68 rfl rfl ?_
        obtain ⟨v165, m163, e164, h⟩ := bm_some h
        have he164 := e_X8_readOne (G := G) hl ht e164
        refine c_I he164.1 (rn_V (n := 0) (As := []) kc_8 ht he164 (lw_V q1878 q1880 qs55 q97 q1881) (by decide +kernel) rfl (by show 4 + 1 ≤ (dz + 1); omega) (Nat.le_of_ble_eq_true rfl) (Nat.le_of_ble_eq_true rfl) dX8_readStep_69) (fun z => (os_av (As := []) z).2.1) ?_
        refine a_istore_n (ls' := [(2, vI_ v165), (1, vI_ v3), (0, vR_ (some t))]) dX8_readStep_72 rfl (Nat.le_of_ble_eq_true rfl) rfl ?_
        refine a_aload_n 2 dX8_readStep_73 rfl rfl ?_
        refine a_iconst (v := 1) dX8_readStep_74 (by decide) ?_
        refine a_iload_n 0 dX8_readStep_75 rfl rfl ?_
        refine a_aload_n 2 dX8_readStep_76 rfl rfl ?_
        refine a_iconst (v := 0) dX8_readStep_77 (by decide) ?_
        refine a_aload_n 2 dX8_readStep_78 rfl rfl ?_
        refine a_getI kc_8 19 (by decide) rfl ht q1573 dX8_readStep_79 ?_
        refine a_iconst (v := 1) dX8_readStep_82 (by decide) ?_
        refine a_isub dX8_readStep_83 ?_
        obtain ⟨v168, m166, e167, h⟩ := bm_some h
        have he167 := e_X8_readNumber (G := G) hl ht e167
        refine c_I he167.1 (rn_V (n := 2) (As := [vI_ 0, vI_ ((gI_ m163 t 19) - 1)]) kc_8 ht he167 (lw_V q1800 q1802 qs42 q97 q1803) (by decide +kernel) rfl (by show 3 + 1 ≤ (dz + 1); omega) (Nat.le_of_ble_eq_true rfl) (Nat.le_of_ble_eq_true rfl) dX8_readStep_84) (fun z => (os_av (As := [vI_ 0, vI_ ((gI_ m163 t 19) - 1)]) z).2.1) ?_
        obtain ⟨v171, m169, e170, h⟩ := bm_some h
        have he170 := e_X8_tellsStep (G := G) hl ht e170
        refine c_V he170.1 (rn_V (n := 3) (As := [vI_ 1, vI_ v165, vI_ v168]) kc_8 ht he170 (lw_V q1873 q1875 qs54 q97 q1876) (by decide +kernel) rfl (by show 3 + 1 ≤ (dz + 1); omega) (Nat.le_of_ble_eq_true rfl) (Nat.le_of_ble_eq_true rfl) dX8_readStep_87) (fun z => (os_av (As := [vI_ 1, vI_ v165, vI_ v168]) z).2.1) ?_
        refine a_goto (tgt := 340) dX8_readStep_90 (by decide) ?_
        refine aw_pick [2] rfl ?_
        exact hk7 _ h
    · replace h := ifp_ c36 h
      refine aw_pick [1, 0] rfl ?_
      exact hk12 _ h
def f_X8_readStep (F : Nat) : Nat → pm_A → pm_M → Option (Unit × pm_M)
  | 0, _, _ => none
  | D + 1, t, m => b_X8_readStep F (f_X8_readStep F D) t m
theorem er_X8_readStep {G : xg_T} {l : Launch} (hl : l.stackTraces = false) {F : Nat} : ∀ (D : Nat) (t : pm_A) (m m' : pm_M) (r : Unit), t.1 = 8 → f_X8_readStep F D t m = some (r, m') → Cal_ G l yX8_readStep (ws_ yX8_readStep cX8_readStep 4 none) (1 * D + 7) [vR_ (some t)] m (.inl none) m' := by
  intro D
  induction D with
  | zero => intro t m m' r ht h; cases h
  | succ D ih =>
    intro t m m' r ht h
    have h : b_X8_readStep F (f_X8_readStep F D) t m = some (r, m') := h
    have q := eb_X8_readStep (dz := 1 * D + 7) hl ih (by omega) ht h
    rw [show 1 * (D + 1) + 7 = 1 * D + 7 + 1 by omega]
    exact q
theorem e_X8_readStep {G : xg_T} {l : Launch} (hl : l.stackTraces = false) {F : Nat} {t : pm_A} {m m' : pm_M} {r : Unit} (ht : t.1 = 8) (h : f_X8_readStep F 10 t m = some (r, m')) : Cal_ G l yX8_readStep (ws_ yX8_readStep cX8_readStep 4 none) 17 [vR_ (some t)] m (.inl none) m' := er_X8_readStep hl 10 _ _ _ _ ht h
def f_X8_take (F : Nat)  (t : pm_A) (m : pm_M) : Option (Unit × pm_M) :=
  bm_ (f_X8_copies F t (gR_ m t 37) (gR_ m t 38) 66 m) fun v3 m1 =>
  lt_ (pI_ m1 t 40 0) fun m4 =>
  lt_ (pI_ m4 t 41 0) fun m6 =>
  lt_ (pI_ m6 t 42 0) fun m8 =>
  some ((), m8)
set_option maxHeartbeats 4000000 in
theorem e_X8_take {G : xg_T} {l : Launch} (hl : l.stackTraces = false) {F : Nat}    {t : pm_A} {m0 m' : pm_M} {r : Unit} (ht : t.1 = 8) (h : f_X8_take F t m0 = some (r, m')) : Cal_ G l yX8_take (ws_ yX8_take cX8_take 1 none) 3 [vR_ (some t)] m0 (.inl none) m' := by
  refine cal_of (by decide +kernel) (Nat.le_of_ble_eq_true rfl) ?_
  unfold f_X8_take at h
  show AW_ cX8_take RX8 (none, "take", 3, 1, m0, m', (.inl none), G, l, [], true) m0 0 [(0, vR_ (some t))] []
  refine a_aload_n 0 dX8_take_0 rfl rfl ?_
  refine a_aload_n 0 dX8_take_1 rfl rfl ?_
  refine a_getR kc_8 37 (by decide) rfl ht q1591 dX8_take_2 ?_
  refine a_aload_n 0 dX8_take_5 rfl rfl ?_
  refine a_getR kc_8 38 (by decide) rfl ht q1592 dX8_take_6 ?_
  refine a_bipush (v := 66) dX8_take_9 (by decide) ?_
  obtain ⟨v3, m1, e2, h⟩ := bm_some h
  have he2 := e_X8_copies (G := G) hl ht e2
  refine c_V he2.1 (rn_V (n := 3) (As := [vR_ (gR_ m0 t 37), vR_ (gR_ m0 t 38), vI_ 66]) kc_8 ht he2 (lw_V q1550 q1552 qs31 q97 q1553) (by decide +kernel) rfl (Nat.le_of_ble_eq_true rfl) (Nat.le_of_ble_eq_true rfl) (Nat.le_of_ble_eq_true rfl) dX8_take_11) (fun z => (os_av (As := [vR_ (gR_ m0 t 37), vR_ (gR_ m0 t 38), vI_ 66]) z).2.1) ?_
  refine a_aload_n 0 dX8_take_14 rfl rfl ?_
  refine a_iconst (v := 0) dX8_take_15 (by decide) ?_
  obtain ⟨m4, e5, h⟩ := lt_some h
  refine a_putI kc_8 40 (by decide) rfl ht q1594 rfl rfl rfl dX8_take_16 ?_
  rw [← e5]
  refine a_aload_n 0 dX8_take_19 rfl rfl ?_
  refine a_iconst (v := 0) dX8_take_20 (by decide) ?_
  obtain ⟨m6, e7, h⟩ := lt_some h
  refine a_putI kc_8 41 (by decide) rfl ht q1595 rfl rfl rfl dX8_take_21 ?_
  rw [← e7]
  refine a_aload_n 0 dX8_take_24 rfl rfl ?_
  refine a_iconst (v := 0) dX8_take_25 (by decide) ?_
  obtain ⟨m8, e9, h⟩ := lt_some h
  refine a_putI kc_8 42 (by decide) rfl ht q1596 rfl rfl rfl dX8_take_26 ?_
  rw [← e9]
  cases h
  exact a_return rfl rfl rfl rfl dX8_take_29
def f_X8_many_L4 (F : Nat)  (p1 : pm_A) (p3 : Int32) : Nat → Int32 → Int32 → pm_M → Option (Int32 × pm_M)
  | 0, _, _, _ => none
  | n4 + 1, x6, x7, m5 =>
    if (gI_ m5 p1 18) ≤ x7 then
      some (x6, m5)
    else
      gd_ 100 (gR_ m5 p1 38) fun a9 =>
      iz_ (!(ib_ (0 + x7) a9.2.1)) <|
      if (gI_ m5 a9 (0 + x7).toNatClampNeg) = p3 then
        (f_X8_many_L4 F p1 p3 n4) (x6 + 1) (x7 + 1) m5
      else
        (f_X8_many_L4 F p1 p3 n4) (x6 + 0) (x7 + 1) m5
set_option maxHeartbeats 4000000 in
theorem w_X8_many_L4 {G : xg_T} {l : Launch} (hl : l.stackTraces = false) {F : Nat}    (p1 : pm_A) (p3 : Int32) {m0 m' : pm_M} {r : Int32} (hf2 : p1.1 = 8)  : ∀ (n : Nat) (x6 : Int32) (x7 : Int32) (m5 : pm_M), f_X8_many_L4 F p1 p3 n x6 x7 m5 = some (r, m') → AW_ cX8_many RX8 (some (.int), "many", 2, 4, m0, m', (.inl (some (vI_ r))), G, l, [], true) m5 4 [(0, vR_ (some p1)), (1, vI_ p3), (2, vI_ x6), (3, vI_ x7)] [] := by
  intro n
  induction n with
  | zero => intro x6 x7 m5 h; cases h
  | succ n4 ih =>
    intro x6 x7 m5 h
    rw [f_X8_many_L4] at h
    refine a_iload_n 3 dX8_many_4 rfl rfl ?_
    refine a_aload_n 0 dX8_many_5 rfl rfl ?_
    refine a_getI kc_8 18 (by decide) rfl hf2 q1572 dX8_many_6 ?_
    refine a_icmp_ge (tgt := 38) dX8_many_9 (by decide) (fun c8 => ?_) (fun c8 => ?_)
    · replace h := ifp_ c8 h
      refine a_iload_n 2 dX8_many_38 rfl rfl ?_
      cases h
      exact a_ireturn rfl rfl rfl rfl rfl dX8_many_39
    · replace h := ifn_ c8 h
      refine a_iload_n 2 dX8_many_12 rfl rfl ?_
      refine a_aload_n 0 dX8_many_13 rfl rfl ?_
      refine a_getR kc_8 38 (by decide) rfl hf2 q1592 dX8_many_14 ?_
      refine a_iconst (v := 0) dX8_many_17 (by decide) ?_
      refine a_iload_n 3 dX8_many_18 rfl rfl ?_
      refine a_iadd dX8_many_19 ?_
      obtain ⟨a9, e10, f11, h⟩ := gd_some h
      rw [e10]
      obtain ⟨c12, h⟩ := iz_some h
      refine a_iald f11 (bn_ c12) dX8_many_20 ?_
      refine a_iload_n 1 dX8_many_21 rfl rfl ?_
      refine a_icmp_ne (tgt := 29) dX8_many_22 (by decide) (fun c13 => ?_) (fun c13 => ?_)
      · replace h := ifn_ c13 h
        refine a_iconst (v := 0) dX8_many_29 (by decide) ?_
        refine a_iadd dX8_many_30 ?_
        refine a_istore_n (ls' := [(2, vI_ (x6 + 0)), (0, vR_ (some p1)), (1, vI_ p3), (3, vI_ x7)]) dX8_many_31 rfl (Nat.le_of_ble_eq_true rfl) rfl ?_
        refine a_iinc (v := x7 + 1) (ls' := [(3, vI_ (x7 + 1)), (2, vI_ (x6 + 0)), (0, vR_ (some p1)), (1, vI_ p3)]) 3 dX8_many_32 rfl rfl (Nat.le_of_ble_eq_true rfl) rfl ?_
        refine a_goto (tgt := 4) dX8_many_35 (by decide) ?_
        refine aw_pick [2, 3, 1, 0] rfl ?_
        exact ih _ _ _ h
      · replace h := ifp_ c13 h
        refine a_iconst (v := 1) dX8_many_25 (by decide) ?_
        refine a_goto (tgt := 30) dX8_many_26 (by decide) ?_
        refine a_iadd dX8_many_30 ?_
        refine a_istore_n (ls' := [(2, vI_ (x6 + 1)), (0, vR_ (some p1)), (1, vI_ p3), (3, vI_ x7)]) dX8_many_31 rfl (Nat.le_of_ble_eq_true rfl) rfl ?_
        refine a_iinc (v := x7 + 1) (ls' := [(3, vI_ (x7 + 1)), (2, vI_ (x6 + 1)), (0, vR_ (some p1)), (1, vI_ p3)]) 3 dX8_many_32 rfl rfl (Nat.le_of_ble_eq_true rfl) rfl ?_
        refine a_goto (tgt := 4) dX8_many_35 (by decide) ?_
        refine aw_pick [2, 3, 1, 0] rfl ?_
        exact ih _ _ _ h
def f_X8_many (F : Nat)  (t : pm_A) (i0 : Int32) (m : pm_M) : Option (Int32 × pm_M) :=
  f_X8_many_L4 F t i0 F 0 0 m
set_option maxHeartbeats 4000000 in
theorem e_X8_many {G : xg_T} {l : Launch} (hl : l.stackTraces = false) {F : Nat}    {t : pm_A} {i0 : Int32} {m0 m' : pm_M} {r : Int32} (ht : t.1 = 8) (h : f_X8_many F t i0 m0 = some (r, m')) : Cal_ G l yX8_many (ws_ yX8_many cX8_many 4 (some .int)) 2 [vR_ (some t), vI_ i0] m0 (.inl (some (vI_ r))) m' := by
  refine cal_of (by decide +kernel) (Nat.le_of_ble_eq_true rfl) ?_
  unfold f_X8_many at h
  show AW_ cX8_many RX8 (some (.int), "many", 2, 4, m0, m', (.inl (some (vI_ r))), G, l, [], true) m0 0 [(0, vR_ (some t)), (1, vI_ i0)] []
  refine a_iconst (v := 0) dX8_many_0 (by decide) ?_
  refine a_istore_n (ls' := [(2, vI_ 0), (0, vR_ (some t)), (1, vI_ i0)]) dX8_many_1 rfl (Nat.le_of_ble_eq_true rfl) rfl ?_
  refine a_iconst (v := 0) dX8_many_2 (by decide) ?_
  refine a_istore_n (ls' := [(3, vI_ 0), (2, vI_ 0), (0, vR_ (some t)), (1, vI_ i0)]) dX8_many_3 rfl (Nat.le_of_ble_eq_true rfl) rfl ?_
  refine aw_pick [2, 3, 1, 0] rfl ?_
  exact w_X8_many_L4 hl _ _ ht _ _ _ _ h
