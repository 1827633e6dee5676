/-! PRINTED BY dec.py: X8_voyage X8_span X8_keepsRow X8_keepsAll X8_image X8_restore X8_status X8_count -/
set_option maxRecDepth 100000
def f_X8_voyage (F : Nat)  (t : pm_A) (i0 : Int32) (i1 : Int32) (i2 : Int32) (i3 : Int32) (i4 : Int32) (m : pm_M) : Option (Int32 × pm_M) :=
  lt_ (pI_ m t 0 0) fun m1 =>
  bm_ (f_X8_isVoyage F i1 i2 i3 m1) fun v5 m3 =>
  jn_ (fun (y8 : Option pm_A) (y9 : Int32) (m7 : pm_M) =>
    gd_ 8 y8 fun a10 =>
    bm_ (f_X8_may F a10 y9 1 1 m7) fun v15 m13 =>
    if v15 = 0 then
      some (0, m13)
    else
      bm_ (f_X8_sails F t i0 i1 i2 i3 m13) fun v19 m17 =>
      if i4 = 0 then
        some ((gI_ m17 t 41), m17)
      else
        if i4 = 1 then
          gd_ 100 (gR_ m17 t 38) fun a26 =>
          iz_ (!(ib_ 65 a26.2.1)) <|
          some ((gI_ m17 a26 (65 : Int32).toNatClampNeg), m17)
        else
          if i4 = 2 then
            some ((gI_ m17 t 56), m17)
          else
            bm_ (f_X8_many F t 3 m17) fun v25 m23 =>
            some (v25, m23)
  ) fun k6 =>
  jn_ (fun (y32 : Option pm_A) (m31 : pm_M) =>
    k6 y32 0 m31
  ) fun k30 =>
  if v5 = 0 then
    k30 (some t) m3
  else
    bm_ (f_X8_within F i4 0 3 m3) fun v36 m34 =>
    if v36 = 0 then
      k30 (some t) m34
    else
      k6 (some t) 1 m34
set_option maxHeartbeats 4000000 in
theorem e_X8_voyage {G : xg_T} {l : Launch} (hl : l.stackTraces = false) {F : Nat}    {t : pm_A} {i0 : Int32} {i1 : Int32} {i2 : Int32} {i3 : Int32} {i4 : Int32} {m0 m' : pm_M} {r : Int32} (ht : t.1 = 8) (h : f_X8_voyage F t i0 i1 i2 i3 i4 m0 = some (r, m')) : Cal_ G l yX8_voyage (ws_ yX8_voyage cX8_voyage 6 (some .int)) 10 [vR_ (some t), vI_ i0, vI_ i1, vI_ i2, vI_ i3, vI_ i4] m0 (.inl (some (vI_ r))) m' := by
  refine cal_of (by decide +kernel) (Nat.le_of_ble_eq_true rfl) ?_
  unfold f_X8_voyage at h
  show AW_ cX8_voyage RX8 (some (.int), "voyage", 10, 6, m0, m', (.inl (some (vI_ r))), G, l, [], true) m0 0 [(0, vR_ (some t)), (1, vI_ i0), (2, vI_ i1), (3, vI_ i2), (4, vI_ i3), (5, vI_ i4)] []
  refine a_aload_n 0 dX8_voyage_0 rfl rfl ?_
  refine a_iconst (v := 0) dX8_voyage_1 (by decide) ?_
  obtain ⟨m1, e2, h⟩ := lt_some h
  refine a_putI kc_8 0 (by decide) rfl ht q1554 rfl rfl rfl dX8_voyage_2 ?_
  rw [← e2]
  refine a_aload_n 0 dX8_voyage_5 rfl rfl ?_
  refine a_iload_n 2 dX8_voyage_6 rfl rfl ?_
  refine a_iload_n 3 dX8_voyage_7 rfl rfl ?_
  refine a_iload 4 dX8_voyage_8 rfl ?_
  obtain ⟨v5, m3, e4, h⟩ := bm_some h
  have he4 := e_X8_isVoyage (G := G) hl e4
  refine c_I he4.1 (rn_S (n := 3) (As := [vI_ i1, vI_ i2, vI_ i3]) he4 (lw_S q2152 q2153 q97 q2154) (by decide +kernel) rfl (Nat.le_of_ble_eq_true rfl) (Nat.le_of_ble_eq_true rfl) (Nat.le_of_ble_eq_true rfl) dX8_voyage_10) (fun z => (os_aS (As := [vI_ i1, vI_ i2, vI_ i3]) z).2) ?_
  obtain ⟨k6, e39, h⟩ := jn3_some h
  have hk6 : ∀ (y8 : Option pm_A) (y9 : Int32) (m7 : pm_M), k6 y8 y9 m7 = some (r, m') → AW_ cX8_voyage RX8 (some (.int), "voyage", 10, 6, m0, m', (.inl (some (vI_ r))), G, l, [], true) m7 31 [(0, vR_ (some t)), (1, vI_ i0), (2, vI_ i1), (3, vI_ i2), (4, vI_ i3), (5, vI_ i4)] [vI_ y9, vR_ y8] := by
    intro y8 y9 m7 h
    have h := (e39 y8 y9 m7).symm.trans h
    refine a_iconst (v := 1) dX8_voyage_31 (by decide) ?_
    refine a_iconst (v := 1) dX8_voyage_32 (by decide) ?_
    obtain ⟨a10, e11, f12, h⟩ := gd_some h
    rw [e11]
    obtain ⟨v15, m13, e14, h⟩ := bm_some h
    have he14 := e_X8_may (G := G) hl f12 e14
    refine c_I he14.1 (rn_V (n := 3) (As := [vI_ y9, vI_ 1, vI_ 1]) kc_8 f12 he14 (lw_V q1744 q1746 qs32 q97 q1747) (by decide +kernel) rfl (Nat.le_of_ble_eq_true rfl) (Nat.le_of_ble_eq_true rfl) (Nat.le_of_ble_eq_true rfl) dX8_voyage_33) (fun z => (os_av (As := [vI_ y9, vI_ 1, vI_ 1]) z).2.1) ?_
    refine a_if_ne (tgt := 41) dX8_voyage_36 (by decide) (fun c16 => ?_) (fun c16 => ?_)
    · replace h := ifn_ c16 h
      refine a_aload_n 0 dX8_voyage_41 rfl rfl ?_
      refine a_iload_n 1 dX8_voyage_42 rfl rfl ?_
      refine a_iload_n 2 dX8_voyage_43 rfl rfl ?_
      refine a_iload_n 3 dX8_voyage_44 rfl rfl ?_
      refine a_iload 4 dX8_voyage_45 rfl ?_
      obtain ⟨v19, m17, e18, h⟩ := bm_some h
      have he18 := e_X8_sails (G := G) hl ht e18
      refine c_V he18.1 (rn_V (n := 4) (As := [vI_ i0, vI_ i1, vI_ i2, vI_ i3]) kc_8 ht he18 (lw_V q2155 q2157 qs85 q97 q2158) (by decide +kernel) rfl (Nat.le_of_ble_eq_true rfl) (Nat.le_of_ble_eq_true rfl) (Nat.le_of_ble_eq_true rfl) dX8_voyage_47) (fun z => (os_av (As := [vI_ i0, vI_ i1, vI_ i2, vI_ i3]) z).2.1) ?_
      refine a_iload 5 dX8_voyage_50 rfl ?_
      refine a_if_ne (tgt := 62) dX8_voyage_52 (by decide) (fun c20 => ?_) (fun c20 => ?_)
      · replace h := ifn_ c20 h
        refine a_iload 5 dX8_voyage_62 rfl ?_
        refine a_iconst (v := 1) dX8_voyage_64 (by decide) ?_
        refine a_icmp_ne (tgt := 78) dX8_voyage_65 (by decide) (fun c21 => ?_) (fun c21 => ?_)
        · replace h := ifn_ c21 h
          refine a_iload 5 dX8_voyage_78 rfl ?_
          refine a_iconst (v := 2) dX8_voyage_80 (by decide) ?_
          refine a_icmp_ne (tgt := 91) dX8_voyage_81 (by decide) (fun c22 => ?_) (fun c22 => ?_)
          · replace h := ifn_ c22 h
            refine a_aload_n 0 dX8_voyage_91 rfl rfl ?_
            refine a_iconst (v := 3) dX8_voyage_92 (by decide) ?_
            obtain ⟨v25, m23, e24, h⟩ := bm_some h
            have he24 := e_X8_many (G := G) hl ht e24
            refine c_I he24.1 (rn_V (n := 1) (As := [vI_ 3]) kc_8 ht he24 (lw_V q1904 q1906 qs60 q97 q1907) (by decide +kernel) rfl (Nat.le_of_ble_eq_true rfl) (Nat.le_of_ble_eq_true rfl) (Nat.le_of_ble_eq_true rfl) dX8_voyage_93) (fun z => (os_av (As := [vI_ 3]) z).2.1) ?_
            cases h
            exact a_ireturn rfl rfl rfl rfl rfl dX8_voyage_96
          · replace h := ifp_ c22 h
            refine a_aload_n 0 dX8_voyage_84 rfl rfl ?_
            refine a_getI kc_8 56 (by decide) rfl ht q1610 dX8_voyage_85 ?_
            refine a_goto (tgt := 96) dX8_voyage_88 (by decide) ?_
            cases h
            exact a_ireturn rfl rfl rfl rfl rfl dX8_voyage_96
        · replace h := ifp_ c21 h
          refine a_aload_n 0 dX8_voyage_68 rfl rfl ?_
          refine a_getR kc_8 38 (by decide) rfl ht q1592 dX8_voyage_69 ?_
          refine a_bipush (v := 65) dX8_voyage_72 (by decide) ?_
          obtain ⟨a26, e27, f28, h⟩ := gd_some h
          rw [e27]
          obtain ⟨c29, h⟩ := iz_some h
          refine a_iald f28 (bn_ c29) dX8_voyage_74 ?_
          refine a_goto (tgt := 96) dX8_voyage_75 (by decide) ?_
          cases h
          exact a_ireturn rfl rfl rfl rfl rfl dX8_voyage_96
      · replace h := ifp_ c20 h
        refine a_aload_n 0 dX8_voyage_55 rfl rfl ?_
        refine a_getI kc_8 41 (by decide) rfl ht q1595 dX8_voyage_56 ?_
        refine a_goto (tgt := 96) dX8_voyage_59 (by decide) ?_
        cases h
        exact a_ireturn rfl rfl rfl rfl rfl dX8_voyage_96
    · replace h := ifp_ c16 h
      refine a_iconst (v := 0) dX8_voyage_39 (by decide) ?_
      cases h
      exact a_ireturn rfl rfl rfl rfl rfl dX8_voyage_40
  obtain ⟨k30, e38, h⟩ := jn2_some h
  have hk30 : ∀ (y32 : Option pm_A) (m31 : pm_M), k30 y32 m31 = some (r, m') → AW_ cX8_voyage RX8 (some (.int), "voyage", 10, 6, m0, m', (.inl (some (vI_ r))), G, l, [], true) m31 30 [(0, vR_ (some t)), (1, vI_ i0), (2, vI_ i1), (3, vI_ i2), (4, vI_ i3), (5, vI_ i4)] [vR_ y32] := by
    intro y32 m31 h
    have h := (e38 y32 m31).symm.trans h
    refine a_iconst (v := 0) dX8_voyage_30 (by decide) ?_
    exact hk6 _ _ _ h
  refine a_if_eq (tgt := 30) dX8_voyage_13 (by decide) (fun c33 => ?_) (fun c33 => ?_)
  · replace h := ifp_ c33 h
    exact hk30 _ _ h
  · replace h := ifn_ c33 h
    refine a_iload 5 dX8_voyage_16 rfl ?_
    refine a_iconst (v := 0) dX8_voyage_18 (by decide) ?_
    refine a_iconst (v := 3) dX8_voyage_19 (by decide) ?_
    obtain ⟨v36, m34, e35, h⟩ := bm_some h
    have he35 := e_X8_within (G := G) hl e35
    refine c_I he35.1 (rn_S (n := 3) (As := [vI_ i4, vI_ 0, vI_ 3]) he35 (lw_S q1823 q1824 q97 q1825) (by decide +kernel) rfl (Nat.le_of_ble_eq_true rfl) (Nat.le_of_ble_eq_true rfl) (Nat.le_of_ble_eq_true rfl) dX8_voyage_20) (fun z => (os_aS (As := [vI_ i4, vI_ 0, vI_ 3]) z).2) ?_
    refine a_if_eq (tgt := 30) dX8_voyage_23 (by decide) (fun c37 => ?_) (fun c37 => ?_)
    · replace h := ifp_ c37 h
      exact hk30 _ _ h
    · replace h := ifn_ c37 h
      refine a_iconst (v := 1) dX8_voyage_26 (by decide) ?_
      refine a_goto (tgt := 31) dX8_voyage_27 (by decide) ?_
      exact hk6 _ _ _ h
def f_X8_span_L64 (F : Nat)  (p24 : pm_A) (p26 : Int32) (p27 : Int32) (p28 : Int32) (p29 : Int32) (p30 : Int32) (p31 : Int32) (k32 : Int32 → Int32 → Int32 → pm_M → Option (Int32 × pm_M)) : Nat → Int32 → Int32 → Int32 → Int32 → pm_M → Option (Int32 × pm_M)
  | 0, _, _, _, _, _ => none
  | n37 + 1, x39, x40, x41, x42, m38 =>
    if p27 ≤ x42 then
      k32 x39 x40 x41 m38
    else
      bm_ (f_X8_sails F p24 (p26 + x42) p28 p29 p30 m38) fun v46 m44 =>
      jn_ (fun (y49 : Int32) (m48 : pm_M) =>
        jn_ (fun (y52 : Int32) (m51 : pm_M) =>
          if (gI_ m51 p24 41) = 0 then
            (f_X8_span_L64 F p24 p26 p27 p28 p29 p30 p31 k32 n37) y49 y52 (x41 + 1) (x42 + 1) m51
          else
            (f_X8_span_L64 F p24 p26 p27 p28 p29 p30 p31 k32 n37) y49 y52 (x41 + 0) (x42 + 1) m51
        ) fun k50 =>
        if (gI_ m48 p24 41) ≤ x40 then
          k50 x40 m48
        else
          k50 (gI_ m48 p24 41) m48
      ) fun k47 =>
      jn_ (fun  (m57 : pm_M) =>
        k47 (gI_ m57 p24 41) m57
      ) fun k56 =>
      if x39 = ((-1)) then
        k56 m44
      else
        if x39 ≤ (gI_ m44 p24 41) then
          k47 x39 m44
        else
          k56 m44
set_option maxHeartbeats 4000000 in
theorem w_X8_span_L64 {G : xg_T} {l : Launch} (hl : l.stackTraces = false) {F : Nat}    (p24 : pm_A) (p26 : Int32) (p27 : Int32) (p28 : Int32) (p29 : Int32) (p30 : Int32) (p31 : Int32) (k32 : Int32 → Int32 → Int32 → pm_M → Option (Int32 × pm_M)) {m0 m' : pm_M} {r : Int32} (hf25 : p24.1 = 8) (hk32 : ∀ (x33 : Int32) (x34 : Int32) (x35 : Int32) (m36 : pm_M), k32 x33 x34 x35 m36 = some (r, m') → AW_ cX8_span RX8 (some (.int), "span", 10, 11, m0, m', (.inl (some (vI_ r))), G, l, [], true) m36 152 [(6, vI_ p31), (7, vI_ x33), (8, vI_ x34), (9, vI_ x35)] []) : ∀ (n : Nat) (x39 : Int32) (x40 : Int32) (x41 : Int32) (x42 : Int32) (m38 : pm_M), f_X8_span_L64 F p24 p26 p27 p28 p29 p30 p31 k32 n x39 x40 x41 x42 m38 = some (r, m') → AW_ cX8_span RX8 (some (.int), "span", 10, 11, m0, m', (.inl (some (vI_ r))), G, l, [], true) m38 64 [(0, vR_ (some p24)), (1, vI_ p26), (2, vI_ p27), (3, vI_ p28), (4, vI_ p29), (5, vI_ p30), (6, vI_ p31), (7, vI_ x39), (8, vI_ x40), (9, vI_ x41), (10, vI_ x42)] [] := by
  intro n
  induction n with
  | zero => intro x39 x40 x41 x42 m38 h; cases h
  | succ n37 ih =>
    intro x39 x40 x41 x42 m38 h
    rw [f_X8_span_L64] at h
    refine a_iload 10 dX8_span_64 rfl ?_
    refine a_iload_n 2 dX8_span_66 rfl rfl ?_
    refine a_icmp_ge (tgt := 152) dX8_span_67 (by decide) (fun c43 => ?_) (fun c43 => ?_)
    · replace h := ifp_ c43 h
      refine aw_pick [6, 7, 8, 9] rfl ?_
      exact hk32 _ _ _ _ h
    · replace h := ifn_ c43 h
      refine a_aload_n 0 dX8_span_70 rfl rfl ?_
      refine a_iload_n 1 dX8_span_71 rfl rfl ?_
      refine a_iload 10 dX8_span_72 rfl ?_
      refine a_iadd dX8_span_74 ?_
      refine a_iload_n 3 dX8_span_75 rfl rfl ?_
      refine a_iload 4 dX8_span_76 rfl ?_
      refine a_iload 5 dX8_span_78 rfl ?_
      obtain ⟨v46, m44, e45, h⟩ := bm_some h
      have he45 := e_X8_sails (G := G) hl hf25 e45
      refine c_V he45.1 (rn_V (n := 4) (As := [vI_ (p26 + x42), vI_ p28, vI_ p29, vI_ p30]) kc_8 hf25 he45 (lw_V q2155 q2157 qs85 q97 q2158) (by decide +kernel) rfl (Nat.le_of_ble_eq_true rfl) (Nat.le_of_ble_eq_true rfl) (Nat.le_of_ble_eq_true rfl) dX8_span_80) (fun z => (os_av (As := [vI_ (p26 + x42), vI_ p28, vI_ p29, vI_ p30]) z).2.1) ?_
      refine a_iload 7 dX8_span_83 rfl ?_
      refine a_iconst (v := (-1)) dX8_span_85 (by decide) ?_
      obtain ⟨k47, e61, h⟩ := jn2_some h
      have hk47 : ∀ (y49 : Int32) (m48 : pm_M), k47 y49 m48 = some (r, m') → AW_ cX8_span RX8 (some (.int), "span", 10, 11, m0, m', (.inl (some (vI_ r))), G, l, [], true) m48 107 [(0, vR_ (some p24)), (1, vI_ p26), (2, vI_ p27), (3, vI_ p28), (4, vI_ p29), (5, vI_ p30), (6, vI_ p31), (8, vI_ x40), (9, vI_ x41), (10, vI_ x42)] [vI_ y49] := by
        intro y49 m48 h
        have h := (e61 y49 m48).symm.trans h
        refine a_istore (ls' := [(7, vI_ y49), (0, vR_ (some p24)), (1, vI_ p26), (2, vI_ p27), (3, vI_ p28), (4, vI_ p29), (5, vI_ p30), (6, vI_ p31), (8, vI_ x40), (9, vI_ x41), (10, vI_ x42)]) dX8_span_107 (Nat.le_of_ble_eq_true rfl) rfl ?_
        refine a_aload_n 1 dX8_span_109 rfl rfl ?_
        refine a_getI kc_8 41 (by decide) rfl hf25 q1595 dX8_span_110 ?_
        refine a_iload 8 dX8_span_113 rfl ?_
        obtain ⟨k50, e55, h⟩ := jn2_some h
        have hk50 : ∀ (y52 : Int32) (m51 : pm_M), k50 y52 m51 = some (r, m') → AW_ cX8_span RX8 (some (.int), "span", 10, 11, m0, m', (.inl (some (vI_ r))), G, l, [], true) m51 127 [(0, vR_ (some p24)), (1, vI_ p26), (2, vI_ p27), (3, vI_ p28), (4, vI_ p29), (5, vI_ p30), (6, vI_ p31), (7, vI_ y49), (9, vI_ x41), (10, vI_ x42)] [vI_ y52] := by
          intro y52 m51 h
          have h := (e55 y52 m51).symm.trans h
          refine a_istore (ls' := [(8, vI_ y52), (0, vR_ (some p24)), (1, vI_ p26), (2, vI_ p27), (3, vI_ p28), (4, vI_ p29), (5, vI_ p30), (6, vI_ p31), (7, vI_ y49), (9, vI_ x41), (10, vI_ x42)]) dX8_span_127 (Nat.le_of_ble_eq_true rfl) rfl ?_
          refine a_iload 9 dX8_span_129 rfl ?_
          refine a_aload_n 1 dX8_span_131 rfl rfl ?_
          refine a_getI kc_8 41 (by decide) rfl hf25 q1595 dX8_span_132 ?_
          refine a_if_ne (tgt := 142) dX8_span_135 (by decide) (fun c53 => ?_) (fun c53 => ?_)
          · replace h := ifn_ c53 h
            refine a_iconst (v := 0) dX8_span_142 (by decide) ?_
            refine a_iadd dX8_span_143 ?_
            refine a_istore (ls' := [(9, vI_ (x41 + 0)), (8, vI_ y52), (0, vR_ (some p24)), (1, vI_ p26), (2, vI_ p27), (3, vI_ p28), (4, vI_ p29), (5, vI_ p30), (6, vI_ p31), (7, vI_ y49), (10, vI_ x42)]) dX8_span_144 (Nat.le_of_ble_eq_true rfl) rfl ?_
            refine a_iinc (v := x42 + 1) (ls' := [(10, vI_ (x42 + 1)), (9, vI_ (x41 + 0)), (8, vI_ y52), (0, vR_ (some p24)), (1, vI_ p26), (2, vI_ p27), (3, vI_ p28), (4, vI_ p29), (5, vI_ p30), (6, vI_ p31), (7, vI_ y49)]) 10 dX8_span_146 rfl rfl (Nat.le_of_ble_eq_true rfl) rfl ?_
            refine a_goto (tgt := 64) dX8_span_149 (by decide) ?_
            refine aw_pick [3, 4, 5, 6, 7, 8, 9, 10, 2, 1, 0] rfl ?_
            exact ih _ _ _ _ _ h
          · replace h := ifp_ c53 h
            refine a_iconst (v := 1) dX8_span_138 (by decide) ?_
            refine a_goto (tgt := 143) dX8_span_139 (by decide) ?_
            refine a_iadd dX8_span_143 ?_
            refine a_istore (ls' := [(9, vI_ (x41 + 1)), (8, vI_ y52), (0, vR_ (some p24)), (1, vI_ p26), (2, vI_ p27), (3, vI_ p28), (4, vI_ p29), (5, vI_ p30), (6, vI_ p31), (7, vI_ y49), (10, vI_ x42)]) dX8_span_144 (Nat.le_of_ble_eq_true rfl) rfl ?_
            refine a_iinc (v := x42 + 1) (ls' := [(10, vI_ (x42 + 1)), (9, vI_ (x41 + 1)), (8, vI_ y52), (0, vR_ (some p24)), (1, vI_ p26), (2, vI_ p27), (3, vI_ p28), (4, vI_ p29), (5, vI_ p30), (6, vI_ p31), (7, vI_ y49)]) 10 dX8_span_146 rfl rfl (Nat.le_of_ble_eq_true rfl) rfl ?_
            refine a_goto (tgt := 64) dX8_span_149 (by decide) ?_
            refine aw_pick [3, 4, 5, 6, 7, 8, 9, 10, 2, 1, 0] rfl ?_
            exact ih _ _ _ _ _ h
        refine a_icmp_le (tgt := 125) dX8_span_115 (by decide) (fun c54 => ?_) (fun c54 => ?_)
        · replace h := ifp_ c54 h
          refine a_iload 8 dX8_span_125 rfl ?_
          refine aw_pick [1, 2, 3, 4, 5, 6, 7, 0, 9, 10] rfl ?_
          exact hk50 _ _ h
        · replace h := ifn_ c54 h
          refine a_aload_n 1 dX8_span_118 rfl rfl ?_
          refine a_getI kc_8 41 (by decide) rfl hf25 q1595 dX8_span_119 ?_
          refine a_goto (tgt := 127) dX8_span_122 (by decide) ?_
          refine aw_pick [1, 2, 3, 4, 5, 6, 7, 0, 9, 10] rfl ?_
          exact hk50 _ _ h
      obtain ⟨k56, e60, h⟩ := jn1_some h
      have hk56 : ∀  (m57 : pm_M), k56 m57 = some (r, m') → AW_ cX8_span RX8 (some (.int), "span", 10, 11, m0, m', (.inl (some (vI_ r))), G, l, [], true) m57 98 [(0, vR_ (some p24)), (1, vI_ p26), (2, vI_ p27), (3, vI_ p28), (4, vI_ p29), (5, vI_ p30), (6, vI_ p31), (8, vI_ x40), (9, vI_ x41), (10, vI_ x42)] [] := by
        intro m57 h
        have h := (e60 m57).symm.trans h
        refine a_aload_n 0 dX8_span_98 rfl rfl ?_
        refine a_getI kc_8 41 (by decide) rfl hf25 q1595 dX8_span_99 ?_
        refine a_goto (tgt := 107) dX8_span_102 (by decide) ?_
        exact hk47 _ _ h
      refine a_icmp_eq (tgt := 98) dX8_span_86 (by decide) (fun c58 => ?_) (fun c58 => ?_)
      · replace h := ifp_ c58 h
        refine aw_pick [0, 1, 2, 3, 4, 5, 6, 8, 9, 10] rfl ?_
        exact hk56 _ h
      · replace h := ifn_ c58 h
        refine a_aload_n 0 dX8_span_89 rfl rfl ?_
        refine a_getI kc_8 41 (by decide) rfl hf25 q1595 dX8_span_90 ?_
        refine a_iload 7 dX8_span_93 rfl ?_
        refine a_icmp_ge (tgt := 105) dX8_span_95 (by decide) (fun c59 => ?_) (fun c59 => ?_)
        · replace h := ifp_ c59 h
          refine a_iload 7 dX8_span_105 rfl ?_
          refine aw_pick [0, 1, 2, 3, 4, 5, 6, 8, 9, 10] rfl ?_
          exact hk47 _ _ h
        · replace h := ifn_ c59 h
          refine aw_pick [0, 1, 2, 3, 4, 5, 6, 8, 9, 10] rfl ?_
          exact hk56 _ h
def f_X8_span (F : Nat)  (t : pm_A) (i0 : Int32) (i1 : Int32) (i2 : Int32) (i3 : Int32) (i4 : Int32) (i5 : Int32) (m : pm_M) : Option (Int32 × pm_M) :=
  lt_ (pI_ m t 0 0) fun m1 =>
  bm_ (f_X8_within F i1 1 20 m1) fun v5 m3 =>
  jn_ (fun (y8 : Option pm_A) (y9 : Int32) (m7 : pm_M) =>
    gd_ 8 y8 fun a10 =>
    bm_ (f_X8_may F a10 y9 1 1 m7) fun v15 m13 =>
    if v15 = 0 then
      some (0, m13)
    else
      jn_ (fun (x19 : Int32) (x20 : Int32) (x21 : Int32) (m18 : pm_M) =>
        if i5 = 0 then
          some (x19, m18)
        else
          if i5 = 1 then
            some (x20, m18)
          else
            some (x21, m18)
      ) fun k17 =>
      f_X8_span_L64 F t i0 i1 i2 i3 i4 i5 k17 F ((-1)) 0 0 0 m13
  ) fun k6 =>
  jn_ (fun (y65 : Option pm_A) (m64 : pm_M) =>
    k6 y65 0 m64
  ) fun k63 =>
  if v5 = 0 then
    k63 (some t) m3
  else
    bm_ (f_X8_isVoyage F i2 i3 i4 m3) fun v69 m67 =>
    if v69 = 0 then
      k63 (some t) m67
    else
      bm_ (f_X8_within F i5 0 2 m67) fun v73 m71 =>
      if v73 = 0 then
        k63 (some t) m71
      else
        k6 (some t) 1 m71
set_option maxHeartbeats 4000000 in
theorem e_X8_span {G : xg_T} {l : Launch} (hl : l.stackTraces = false) {F : Nat}    {t : pm_A} {i0 : Int32} {i1 : Int32} {i2 : Int32} {i3 : Int32} {i4 : Int32} {i5 : Int32} {m0 m' : pm_M} {r : Int32} (ht : t.1 = 8) (h : f_X8_span F t i0 i1 i2 i3 i4 i5 m0 = some (r, m')) : Cal_ G l yX8_span (ws_ yX8_span cX8_span 11 (some .int)) 10 [vR_ (some t), vI_ i0, vI_ i1, vI_ i2, vI_ i3, vI_ i4, vI_ i5] m0 (.inl (some (vI_ r))) m' := by
  refine cal_of (by decide +kernel) (Nat.le_of_ble_eq_true rfl) ?_
  unfold f_X8_span at h
  show AW_ cX8_span RX8 (some (.int), "span", 10, 11, m0, m', (.inl (some (vI_ r))), G, l, [], true) m0 0 [(0, vR_ (some t)), (1, vI_ i0), (2, vI_ i1), (3, vI_ i2), (4, vI_ i3), (5, vI_ i4), (6, vI_ i5)] []
  refine a_aload_n 0 dX8_span_0 rfl rfl ?_
  refine a_iconst (v := 0) dX8_span_1 (by decide) ?_
  obtain ⟨m1, e2, h⟩ := lt_some h
  refine a_putI kc_8 0 (by decide) rfl ht q1554 rfl rfl rfl dX8_span_2 ?_
  rw [← e2]
  refine a_aload_n 0 dX8_span_5 rfl rfl ?_
  refine a_iload_n 2 dX8_span_6 rfl rfl ?_
  refine a_iconst (v := 1) dX8_span_7 (by decide) ?_
  refine a_bipush (v := 20) dX8_span_8 (by decide) ?_
  obtain ⟨v5, m3, e4, h⟩ := bm_some h
  have he4 := e_X8_within (G := G) hl e4
  refine c_I he4.1 (rn_S (n := 3) (As := [vI_ i1, vI_ 1, vI_ 20]) he4 (lw_S q1823 q1824 q97 q1825) (by decide +kernel) rfl (Nat.le_of_ble_eq_true rfl) (Nat.le_of_ble_eq_true rfl) (Nat.le_of_ble_eq_true rfl) dX8_span_10) (fun z => (os_aS (As := [vI_ i1, vI_ 1, vI_ 20]) z).2) ?_
  obtain ⟨k6, e76, h⟩ := jn3_some h
  have hk6 : ∀ (y8 : Option pm_A) (y9 : Int32) (m7 : pm_M), k6 y8 y9 m7 = some (r, m') → AW_ cX8_span RX8 (some (.int), "span", 10, 11, m0, m', (.inl (some (vI_ r))), G, l, [], true) m7 42 [(0, vR_ (some t)), (1, vI_ i0), (2, vI_ i1), (3, vI_ i2), (4, vI_ i3), (5, vI_ i4), (6, vI_ i5)] [vI_ y9, vR_ y8] := by
    intro y8 y9 m7 h
    have h := (e76 y8 y9 m7).symm.trans h
    refine a_iconst (v := 1) dX8_span_42 (by decide) ?_
    refine a_iconst (v := 1) dX8_span_43 (by decide) ?_
    obtain ⟨a10, e11, f12, h⟩ := gd_some h
    rw [e11]
    obtain ⟨v15, m13, e14, h⟩ := bm_some h
    have he14 := e_X8_may (G := G) hl f12 e14
    refine c_I he14.1 (rn_V (n := 3) (As := [vI_ y9, vI_ 1, vI_ 1]) kc_8 f12 he14 (lw_V q1744 q1746 qs32 q97 q1747) (by decide +kernel) rfl (Nat.le_of_ble_eq_true rfl) (Nat.le_of_ble_eq_true rfl) (Nat.le_of_ble_eq_true rfl) dX8_span_44) (fun z => (os_av (As := [vI_ y9, vI_ 1, vI_ 1]) z).2.1) ?_
    refine a_if_ne (tgt := 52) dX8_span_47 (by decide) (fun c16 => ?_) (fun c16 => ?_)
    · replace h := ifn_ c16 h
      refine a_iconst (v := (-1)) dX8_span_52 (by decide) ?_
      refine a_istore (ls' := [(7, vI_ ((-1))), (0, vR_ (some t)), (1, vI_ i0), (2, vI_ i1), (3, vI_ i2), (4, vI_ i3), (5, vI_ i4), (6, vI_ i5)]) dX8_span_53 (Nat.le_of_ble_eq_true rfl) rfl ?_
      refine a_iconst (v := 0) dX8_span_55 (by decide) ?_
      refine a_istore (ls' := [(8, vI_ 0), (7, vI_ ((-1))), (0, vR_ (some t)), (1, vI_ i0), (2, vI_ i1), (3, vI_ i2), (4, vI_ i3), (5, vI_ i4), (6, vI_ i5)]) dX8_span_56 (Nat.le_of_ble_eq_true rfl) rfl ?_
      refine a_iconst (v := 0) dX8_span_58 (by decide) ?_
      refine a_istore (ls' := [(9, vI_ 0), (8, vI_ 0), (7, vI_ ((-1))), (0, vR_ (some t)), (1, vI_ i0), (2, vI_ i1), (3, vI_ i2), (4, vI_ i3), (5, vI_ i4), (6, vI_ i5)]) dX8_span_59 (Nat.le_of_ble_eq_true rfl) rfl ?_
      refine a_iconst (v := 0) dX8_span_61 (by decide) ?_
      refine a_istore (ls' := [(10, vI_ 0), (9, vI_ 0), (8, vI_ 0), (7, vI_ ((-1))), (0, vR_ (some t)), (1, vI_ i0), (2, vI_ i1), (3, vI_ i2), (4, vI_ i3), (5, vI_ i4), (6, vI_ i5)]) dX8_span_62 (Nat.le_of_ble_eq_true rfl) rfl ?_
      obtain ⟨k17, e62, h⟩ := jn4_some h
      have hk17 : ∀ (x19 : Int32) (x20 : Int32) (x21 : Int32) (m18 : pm_M), k17 x19 x20 x21 m18 = some (r, m') → AW_ cX8_span RX8 (some (.int), "span", 10, 11, m0, m', (.inl (some (vI_ r))), G, l, [], true) m18 152 [(6, vI_ i5), (7, vI_ x19), (8, vI_ x20), (9, vI_ x21)] [] := by
        intro x19 x20 x21 m18 h
        have h := (e62 x19 x20 x21 m18).symm.trans h
        refine a_iload 0 dX8_span_152 rfl ?_
        refine a_if_ne (tgt := 162) dX8_span_154 (by decide) (fun c22 => ?_) (fun c22 => ?_)
        · replace h := ifn_ c22 h
          refine a_iload 0 dX8_span_162 rfl ?_
          refine a_iconst (v := 1) dX8_span_164 (by decide) ?_
          refine a_icmp_ne (tgt := 173) dX8_span_165 (by decide) (fun c23 => ?_) (fun c23 => ?_)
          · replace h := ifn_ c23 h
            refine a_iload 3 dX8_span_173 rfl ?_
            cases h
            exact a_ireturn rfl rfl rfl rfl rfl dX8_span_175
          · replace h := ifp_ c23 h
            refine a_iload 2 dX8_span_168 rfl ?_
            refine a_goto (tgt := 175) dX8_span_170 (by decide) ?_
            cases h
            exact a_ireturn rfl rfl rfl rfl rfl dX8_span_175
        · replace h := ifp_ c22 h
          refine a_iload 1 dX8_span_157 rfl ?_
          refine a_goto (tgt := 175) dX8_span_159 (by decide) ?_
          cases h
          exact a_ireturn rfl rfl rfl rfl rfl dX8_span_175
      refine aw_pick [4, 5, 6, 7, 8, 9, 10, 3, 2, 1, 0] rfl ?_
      exact w_X8_span_L64 hl _ _ _ _ _ _ _ _ ht hk17 _ _ _ _ _ _ h
    · replace h := ifp_ c16 h
      refine a_iconst (v := 0) dX8_span_50 (by decide) ?_
      cases h
      exact a_ireturn rfl rfl rfl rfl rfl dX8_span_51
  obtain ⟨k63, e75, h⟩ := jn2_some h
  have hk63 : ∀ (y65 : Option pm_A) (m64 : pm_M), k63 y65 m64 = some (r, m') → AW_ cX8_span RX8 (some (.int), "span", 10, 11, m0, m', (.inl (some (vI_ r))), G, l, [], true) m64 41 [(0, vR_ (some t)), (1, vI_ i0), (2, vI_ i1), (3, vI_ i2), (4, vI_ i3), (5, vI_ i4), (6, vI_ i5)] [vR_ y65] := by
    intro y65 m64 h
    have h := (e75 y65 m64).symm.trans h
    refine a_iconst (v := 0) dX8_span_41 (by decide) ?_
    exact hk6 _ _ _ h
  refine a_if_eq (tgt := 41) dX8_span_13 (by decide) (fun c66 => ?_) (fun c66 => ?_)
  · replace h := ifp_ c66 h
    exact hk63 _ _ h
  · replace h := ifn_ c66 h
    refine a_iload_n 3 dX8_span_16 rfl rfl ?_
    refine a_iload 4 dX8_span_17 rfl ?_
    refine a_iload 5 dX8_span_19 rfl ?_
    obtain ⟨v69, m67, e68, h⟩ := bm_some h
    have he68 := e_X8_isVoyage (G := G) hl e68
    refine c_I he68.1 (rn_S (n := 3) (As := [vI_ i2, vI_ i3, vI_ i4]) he68 (lw_S q2152 q2153 q97 q2154) (by decide +kernel) rfl (Nat.le_of_ble_eq_true rfl) (Nat.le_of_ble_eq_true rfl) (Nat.le_of_ble_eq_true rfl) dX8_span_21) (fun z => (os_aS (As := [vI_ i2, vI_ i3, vI_ i4]) z).2) ?_
    refine a_if_eq (tgt := 41) dX8_span_24 (by decide) (fun c70 => ?_) (fun c70 => ?_)
    · replace h := ifp_ c70 h
      exact hk63 _ _ h
    · replace h := ifn_ c70 h
      refine a_iload 6 dX8_span_27 rfl ?_
      refine a_iconst (v := 0) dX8_span_29 (by decide) ?_
      refine a_iconst (v := 2) dX8_span_30 (by decide) ?_
      obtain ⟨v73, m71, e72, h⟩ := bm_some h
      have he72 := e_X8_within (G := G) hl e72
      refine c_I he72.1 (rn_S (n := 3) (As := [vI_ i5, vI_ 0, vI_ 2]) he72 (lw_S q1823 q1824 q97 q1825) (by decide +kernel) rfl (Nat.le_of_ble_eq_true rfl) (Nat.le_of_ble_eq_true rfl) (Nat.le_of_ble_eq_true rfl) dX8_span_31) (fun z => (os_aS (As := [vI_ i5, vI_ 0, vI_ 2]) z).2) ?_
      refine a_if_eq (tgt := 41) dX8_span_34 (by decide) (fun c74 => ?_) (fun c74 => ?_)
      · replace h := ifp_ c74 h
        exact hk63 _ _ h
      · replace h := ifn_ c74 h
        refine a_iconst (v := 1) dX8_span_37 (by decide) ?_
        refine a_goto (tgt := 42) dX8_span_38 (by decide) ?_
        exact hk6 _ _ _ h
def f_X8_keepsRow_L3 (F : Nat)  (p1 : pm_A) (p3 : Int32) (p4 : Option pm_A) (p5 : Int32) (p6 : Int32) : Nat → Int32 → pm_M → Option (Int32 × pm_M)
  | 0, _, _ => none
  | n7 + 1, x9, m8 =>
    if p5 ≤ x9 then
      some ((p3 + p5), m8)
    else
      if p6 = 0 then
        gd_ 100 (gR_ m8 p1 57) fun a12 =>
        iz_ (!(ib_ (p3 + x9) a12.2.1)) <|
        gd_ 100 p4 fun a16 =>
        iz_ (!(ib_ x9 a16.2.1)) <|
        lt_ (pI_ m8 a16 x9.toNatClampNeg (gI_ m8 a12 (p3 + x9).toNatClampNeg)) fun m20 =>
        (f_X8_keepsRow_L3 F p1 p3 p4 p5 p6 n7) (x9 + 1) m20
      else
        gd_ 100 p4 fun a23 =>
        iz_ (!(ib_ x9 a23.2.1)) <|
        gd_ 100 (gR_ m8 p1 57) fun a27 =>
        iz_ (!(ib_ (p3 + x9) a27.2.1)) <|
        lt_ (pI_ m8 a27 ((p3 + x9).toNatClampNeg) (gI_ m8 a23 x9.toNatClampNeg)) fun m31 =>
        (f_X8_keepsRow_L3 F p1 p3 p4 p5 p6 n7) (x9 + 1) m31
set_option maxHeartbeats 4000000 in
theorem w_X8_keepsRow_L3 {G : xg_T} {l : Launch} (hl : l.stackTraces = false) {F : Nat}    (p1 : pm_A) (p3 : Int32) (p4 : Option pm_A) (p5 : Int32) (p6 : Int32) {m0 m' : pm_M} {r : Int32} (hf2 : p1.1 = 8)  : ∀ (n : Nat) (x9 : Int32) (m8 : pm_M), f_X8_keepsRow_L3 F p1 p3 p4 p5 p6 n x9 m8 = some (r, m') → AW_ cX8_keepsRow RX8 (some (.int), "keepsRow", 2, 6, m0, m', (.inl (some (vI_ r))), G, l, [], true) m8 3 [(0, vR_ (some p1)), (1, vI_ p3), (2, vR_ p4), (3, vI_ p5), (4, vI_ p6), (5, vI_ x9)] [] := by
  intro n
  induction n with
  | zero => intro x9 m8 h; cases h
  | succ n7 ih =>
    intro x9 m8 h
    rw [f_X8_keepsRow_L3] at h
    refine a_iload 5 dX8_keepsRow_3 rfl ?_
    refine a_iload_n 3 dX8_keepsRow_5 rfl rfl ?_
    refine a_icmp_ge (tgt := 49) dX8_keepsRow_6 (by decide) (fun c10 => ?_) (fun c10 => ?_)
    · replace h := ifp_ c10 h
      refine a_iload_n 1 dX8_keepsRow_49 rfl rfl ?_
      refine a_iload_n 3 dX8_keepsRow_50 rfl rfl ?_
      refine a_iadd dX8_keepsRow_51 ?_
      cases h
      exact a_ireturn rfl rfl rfl rfl rfl dX8_keepsRow_52
    · replace h := ifn_ c10 h
      refine a_iload 4 dX8_keepsRow_9 rfl ?_
      refine a_if_eq (tgt := 30) dX8_keepsRow_11 (by decide) (fun c11 => ?_) (fun c11 => ?_)
      · replace h := ifp_ c11 h
        refine a_aload_n 2 dX8_keepsRow_30 rfl rfl ?_
        refine a_iload 5 dX8_keepsRow_31 rfl ?_
        refine a_aload_n 0 dX8_keepsRow_33 rfl rfl ?_
        refine a_getR kc_8 57 (by decide) rfl hf2 q1611 dX8_keepsRow_34 ?_
        refine a_iload_n 1 dX8_keepsRow_37 rfl rfl ?_
        refine a_iload 5 dX8_keepsRow_38 rfl ?_
        refine a_iadd dX8_keepsRow_40 ?_
        obtain ⟨a12, e13, f14, h⟩ := gd_some h
        rw [e13]
        obtain ⟨c15, h⟩ := iz_some h
        refine a_iald f14 (bn_ c15) dX8_keepsRow_41 ?_
        obtain ⟨a16, e17, f18, h⟩ := gd_some h
        rw [e17]
        obtain ⟨c19, h⟩ := iz_some h
        obtain ⟨m20, e21, h⟩ := lt_some h
        refine a_iast f18 (bn_ c19) dX8_keepsRow_42 ?_
        rw [← e21]
        refine a_iinc (v := x9 + 1) (ls' := [(5, vI_ (x9 + 1)), (0, vR_ (some p1)), (1, vI_ p3), (2, vR_ (some a16)), (3, vI_ p5), (4, vI_ p6)]) 5 dX8_keepsRow_43 rfl rfl (Nat.le_of_ble_eq_true rfl) rfl ?_
        refine a_goto (tgt := 3) dX8_keepsRow_46 (by decide) ?_
        refine aw_pick [1, 2, 3, 4, 5, 0] rfl ?_
        have q22 := ih _ _ h
        rw [e17] at q22
        exact q22
      · replace h := ifn_ c11 h
        refine a_aload_n 0 dX8_keepsRow_14 rfl rfl ?_
        refine a_getR kc_8 57 (by decide) rfl hf2 q1611 dX8_keepsRow_15 ?_
        refine a_iload_n 1 dX8_keepsRow_18 rfl rfl ?_
        refine a_iload 5 dX8_keepsRow_19 rfl ?_
        refine a_iadd dX8_keepsRow_21 ?_
        refine a_aload_n 2 dX8_keepsRow_22 rfl rfl ?_
        refine a_iload 5 dX8_keepsRow_23 rfl ?_
        obtain ⟨a23, e24, f25, h⟩ := gd_some h
        rw [e24]
        obtain ⟨c26, h⟩ := iz_some h
        refine a_iald f25 (bn_ c26) dX8_keepsRow_25 ?_
        obtain ⟨a27, e28, f29, h⟩ := gd_some h
        rw [e28]
        obtain ⟨c30, h⟩ := iz_some h
        obtain ⟨m31, e32, h⟩ := lt_some h
        refine a_iast f29 (bn_ c30) dX8_keepsRow_26 ?_
        rw [← e32]
        refine a_goto (tgt := 43) dX8_keepsRow_27 (by decide) ?_
        refine a_iinc (v := x9 + 1) (ls' := [(5, vI_ (x9 + 1)), (0, vR_ (some p1)), (1, vI_ p3), (2, vR_ (some a23)), (3, vI_ p5), (4, vI_ p6)]) 5 dX8_keepsRow_43 rfl rfl (Nat.le_of_ble_eq_true rfl) rfl ?_
        refine a_goto (tgt := 3) dX8_keepsRow_46 (by decide) ?_
        refine aw_pick [1, 2, 3, 4, 5, 0] rfl ?_
        have q33 := ih _ _ h
        rw [e24] at q33
        exact q33
def f_X8_keepsRow (F : Nat)  (t : pm_A) (i0 : Int32) (i1 : Option pm_A) (i2 : Int32) (i3 : Int32) (m : pm_M) : Option (Int32 × pm_M) :=
  f_X8_keepsRow_L3 F t i0 i1 i2 i3 F 0 m
set_option maxHeartbeats 4000000 in
theorem e_X8_keepsRow {G : xg_T} {l : Launch} (hl : l.stackTraces = false) {F : Nat}    {t : pm_A} {i0 : Int32} {i1 : Option pm_A} {i2 : Int32} {i3 : Int32} {m0 m' : pm_M} {r : Int32} (ht : t.1 = 8) (h : f_X8_keepsRow F t i0 i1 i2 i3 m0 = some (r, m')) : Cal_ G l yX8_keepsRow (ws_ yX8_keepsRow cX8_keepsRow 6 (some .int)) 2 [vR_ (some t), vI_ i0, vR_ i1, vI_ i2, vI_ i3] m0 (.inl (some (vI_ r))) m' := by
  refine cal_of (by decide +kernel) (Nat.le_of_ble_eq_true rfl) ?_
  unfold f_X8_keepsRow at h
  show AW_ cX8_keepsRow RX8 (some (.int), "keepsRow", 2, 6, m0, m', (.inl (some (vI_ r))), G, l, [], true) m0 0 [(0, vR_ (some t)), (1, vI_ i0), (2, vR_ i1), (3, vI_ i2), (4, vI_ i3)] []
  refine a_iconst (v := 0) dX8_keepsRow_0 (by decide) ?_
  refine a_istore (ls' := [(5, vI_ 0), (0, vR_ (some t)), (1, vI_ i0), (2, vR_ i1), (3, vI_ i2), (4, vI_ i3)]) dX8_keepsRow_1 (Nat.le_of_ble_eq_true rfl) rfl ?_
  refine aw_pick [1, 2, 3, 4, 5, 0] rfl ?_
  exact w_X8_keepsRow_L3 hl _ _ _ _ _ ht _ _ _ h
def f_X8_keepsAll (F : Nat)  (t : pm_A) (i0 : Int32) (i1 : Int32) (m : pm_M) : Option (Unit × pm_M) :=
  bm_ (f_X8_keepsRow F t (1123 * i0) (gR_ m t 37) 66 i1 m) fun v3 m1 =>
  bm_ (f_X8_keepsRow F t v3 (gR_ m1 t 39) 1056 i1 m1) fun v6 m4 =>
  if i1 = 0 then
    gd_ 100 (gR_ m4 t 57) fun a8 =>
    iz_ (!(ib_ v6 a8.2.1)) <|
    lt_ (pI_ m4 t 32 (gI_ m4 a8 v6.toNatClampNeg)) fun m12 =>
    some ((), m12)
  else
    gd_ 100 (gR_ m4 t 57) fun a14 =>
    iz_ (!(ib_ v6 a14.2.1)) <|
    lt_ (pI_ m4 a14 v6.toNatClampNeg (gI_ m4 t 32)) fun m18 =>
    some ((), m18)
set_option maxHeartbeats 4000000 in
theorem e_X8_keepsAll {G : xg_T} {l : Launch} (hl : l.stackTraces = false) {F : Nat}    {t : pm_A} {i0 : Int32} {i1 : Int32} {m0 m' : pm_M} {r : Unit} (ht : t.1 = 8) (h : f_X8_keepsAll F t i0 i1 m0 = some (r, m')) : Cal_ G l yX8_keepsAll (ws_ yX8_keepsAll cX8_keepsAll 4 none) 3 [vR_ (some t), vI_ i0, vI_ i1] m0 (.inl none) m' := by
  refine cal_of (by decide +kernel) (Nat.le_of_ble_eq_true rfl) ?_
  unfold f_X8_keepsAll at h
  show AW_ cX8_keepsAll RX8 (none, "keepsAll", 3, 4, m0, m', (.inl none), G, l, [], true) m0 0 [(0, vR_ (some t)), (1, vI_ i0), (2, vI_ i1)] []
  refine a_aload_n 0 dX8_keepsAll_0 rfl rfl ?_
  refine a_sipush (v := 1123) dX8_keepsAll_1 (by decide) ?_
  refine a_iload_n 1 dX8_keepsAll_4 rfl rfl ?_
  refine a_imul dX8_keepsAll_5 ?_
  refine a_aload_n 0 dX8_keepsAll_6 rfl rfl ?_
  refine a_getR kc_8 37 (by decide) rfl ht q1591 dX8_keepsAll_7 ?_
  refine a_bipush (v := 66) dX8_keepsAll_10 (by decide) ?_
  refine a_iload_n 2 dX8_keepsAll_12 rfl rfl ?_
  obtain ⟨v3, m1, e2, h⟩ := bm_some h
  have he2 := e_X8_keepsRow (G := G) hl ht e2
  refine c_I he2.1 (rn_V (n := 4) (As := [vI_ (1123 * i0), vR_ (gR_ m0 t 37), vI_ 66, vI_ i1]) kc_8 ht he2 (lw_V q2176 q2178 qs88 q97 q2179) (by decide +kernel) rfl (Nat.le_of_ble_eq_true rfl) (Nat.le_of_ble_eq_true rfl) (Nat.le_of_ble_eq_true rfl) dX8_keepsAll_13) (fun z => (os_av (As := [vI_ (1123 * i0), vR_ (gR_ m0 t 37), vI_ 66, vI_ i1]) z).2.1) ?_
  refine a_istore_n (ls' := [(3, vI_ v3), (0, vR_ (some t)), (1, vI_ i0), (2, vI_ i1)]) dX8_keepsAll_16 rfl (Nat.le_of_ble_eq_true rfl) rfl ?_
  refine a_aload_n 1 dX8_keepsAll_17 rfl rfl ?_
  refine a_iload_n 0 dX8_keepsAll_18 rfl rfl ?_
  refine a_aload_n 1 dX8_keepsAll_19 rfl rfl ?_
  refine a_getR kc_8 39 (by decide) rfl ht q1593 dX8_keepsAll_20 ?_
  refine a_sipush (v := 1056) dX8_keepsAll_23 (by decide) ?_
  refine a_iload_n 3 dX8_keepsAll_26 rfl rfl ?_
  obtain ⟨v6, m4, e5, h⟩ := bm_some h
  have he5 := e_X8_keepsRow (G := G) hl ht e5
  refine c_I he5.1 (rn_V (n := 4) (As := [vI_ v3, vR_ (gR_ m1 t 39), vI_ 1056, vI_ i1]) kc_8 ht he5 (lw_V q2176 q2178 qs88 q97 q2179) (by decide +kernel) rfl (Nat.le_of_ble_eq_true rfl) (Nat.le_of_ble_eq_true rfl) (Nat.le_of_ble_eq_true rfl) dX8_keepsAll_27) (fun z => (os_av (As := [vI_ v3, vR_ (gR_ m1 t 39), vI_ 1056, vI_ i1]) z).2.1) ?_
  refine a_istore_n (ls' := [(3, vI_ v6), (0, vR_ (some t)), (1, vI_ i0), (2, vI_ i1)]) dX8_keepsAll_30 rfl (Nat.le_of_ble_eq_true rfl) rfl ?_
  refine a_iload_n 3 dX8_keepsAll_31 rfl rfl ?_
  refine a_if_eq (tgt := 48) dX8_keepsAll_32 (by decide) (fun c7 => ?_) (fun c7 => ?_)
  · replace h := ifp_ c7 h
    refine a_aload_n 1 dX8_keepsAll_48 rfl rfl ?_
    refine a_aload_n 1 dX8_keepsAll_49 rfl rfl ?_
    refine a_getR kc_8 57 (by decide) rfl ht q1611 dX8_keepsAll_50 ?_
    refine a_iload_n 0 dX8_keepsAll_53 rfl rfl ?_
    obtain ⟨a8, e9, f10, h⟩ := gd_some h
    rw [e9]
    obtain ⟨c11, h⟩ := iz_some h
    refine a_iald f10 (bn_ c11) dX8_keepsAll_54 ?_
    obtain ⟨m12, e13, h⟩ := lt_some h
    refine a_putI kc_8 32 (by decide) rfl ht q1586 rfl rfl rfl dX8_keepsAll_55 ?_
    rw [← e13]
    cases h
    exact a_return rfl rfl rfl rfl dX8_keepsAll_58
  · replace h := ifn_ c7 h
    refine a_aload_n 1 dX8_keepsAll_35 rfl rfl ?_
    refine a_getR kc_8 57 (by decide) rfl ht q1611 dX8_keepsAll_36 ?_
    refine a_iload_n 0 dX8_keepsAll_39 rfl rfl ?_
    refine a_aload_n 1 dX8_keepsAll_40 rfl rfl ?_
    refine a_getI kc_8 32 (by decide) rfl ht q1586 dX8_keepsAll_41 ?_
    obtain ⟨a14, e15, f16, h⟩ := gd_some h
    rw [e15]
    obtain ⟨c17, h⟩ := iz_some h
    obtain ⟨m18, e19, h⟩ := lt_some h
    refine a_iast f16 (bn_ c17) dX8_keepsAll_44 ?_
    rw [← e19]
    refine a_goto (tgt := 58) dX8_keepsAll_45 (by decide) ?_
    cases h
    exact a_return rfl rfl rfl rfl dX8_keepsAll_58
def f_X8_image (F : Nat)  (t : pm_A) (m : pm_M) : Option (Int32 × pm_M) :=
  lt_ (pI_ m t 0 0) fun m1 =>
  if (gI_ m1 t 58) = 3 then
    some (((-1)), m1)
  else
    bm_ (f_X8_keepsAll F t (gI_ m1 t 58) 1 m1) fun v6 m4 =>
    lt_ (pI_ m4 t 58 ((gI_ m4 t 58) + 1)) fun m7 =>
    some ((gI_ m7 t 58), m7)
set_option maxHeartbeats 4000000 in
theorem e_X8_image {G : xg_T} {l : Launch} (hl : l.stackTraces = false) {F : Nat}    {t : pm_A} {m0 m' : pm_M} {r : Int32} (ht : t.1 = 8) (h : f_X8_image F t m0 = some (r, m')) : Cal_ G l yX8_image (ws_ yX8_image cX8_image 1 (some .int)) 4 [vR_ (some t)] m0 (.inl (some (vI_ r))) m' := by
  refine cal_of (by decide +kernel) (Nat.le_of_ble_eq_true rfl) ?_
  unfold f_X8_image at h
  show AW_ cX8_image RX8 (some (.int), "image", 4, 1, m0, m', (.inl (some (vI_ r))), G, l, [], true) m0 0 [(0, vR_ (some t))] []
  refine a_aload_n 0 dX8_image_0 rfl rfl ?_
  refine a_iconst (v := 0) dX8_image_1 (by decide) ?_
  obtain ⟨m1, e2, h⟩ := lt_some h
  refine a_putI kc_8 0 (by decide) rfl ht q1554 rfl rfl rfl dX8_image_2 ?_
  rw [← e2]
  refine a_aload_n 0 dX8_image_5 rfl rfl ?_
  refine a_getI kc_8 58 (by decide) rfl ht q1612 dX8_image_6 ?_
  refine a_iconst (v := 3) dX8_image_9 (by decide) ?_
  refine a_icmp_ne (tgt := 15) dX8_image_10 (by decide) (fun c3 => ?_) (fun c3 => ?_)
  · replace h := ifn_ c3 h
    refine a_aload_n 0 dX8_image_15 rfl rfl ?_
    refine a_aload_n 0 dX8_image_16 rfl rfl ?_
    refine a_getI kc_8 58 (by decide) rfl ht q1612 dX8_image_17 ?_
    refine a_iconst (v := 1) dX8_image_20 (by decide) ?_
    obtain ⟨v6, m4, e5, h⟩ := bm_some h
    have he5 := e_X8_keepsAll (G := G) hl ht e5
    refine c_V he5.1 (rn_V (n := 2) (As := [vI_ (gI_ m1 t 58), vI_ 1]) kc_8 ht he5 (lw_V q2172 q2174 qs87 q97 q2175) (by decide +kernel) rfl (Nat.le_of_ble_eq_true rfl) (Nat.le_of_ble_eq_true rfl) (Nat.le_of_ble_eq_true rfl) dX8_image_21) (fun z => (os_av (As := [vI_ (gI_ m1 t 58), vI_ 1]) z).2.1) ?_
    refine a_aload_n 0 dX8_image_24 rfl rfl ?_
    refine a_dup dX8_image_25 rfl ?_
    refine a_getI kc_8 58 (by decide) rfl ht q1612 dX8_image_26 ?_
    refine a_iconst (v := 1) dX8_image_29 (by decide) ?_
    refine a_iadd dX8_image_30 ?_
    obtain ⟨m7, e8, h⟩ := lt_some h
    refine a_putI kc_8 58 (by decide) rfl ht q1612 rfl rfl rfl dX8_image_31 ?_
    rw [← e8]
    refine a_aload_n 0 dX8_image_34 rfl rfl ?_
    refine a_getI kc_8 58 (by decide) rfl ht q1612 dX8_image_35 ?_
    cases h
    exact a_ireturn rfl rfl rfl rfl rfl dX8_image_38
  · replace h := ifp_ c3 h
    refine a_iconst (v := (-1)) dX8_image_13 (by decide) ?_
    cases h
    exact a_ireturn rfl rfl rfl rfl rfl dX8_image_14
def f_X8_restore (F : Nat)  (t : pm_A) (m : pm_M) : Option (Int32 × pm_M) :=
  lt_ (pI_ m t 0 0) fun m1 =>
  if (gI_ m1 t 58) = 0 then
    some (((-1)), m1)
  else
    lt_ (pI_ m1 t 58 ((gI_ m1 t 58) - 1)) fun m4 =>
    bm_ (f_X8_keepsAll F t (gI_ m4 t 58) 0 m4) fun v8 m6 =>
    lt_ (pI_ m6 t 33 0) fun m9 =>
    some ((gI_ m9 t 58), m9)
set_option maxHeartbeats 4000000 in
theorem e_X8_restore {G : xg_T} {l : Launch} (hl : l.stackTraces = false) {F : Nat}    {t : pm_A} {m0 m' : pm_M} {r : Int32} (ht : t.1 = 8) (h : f_X8_restore F t m0 = some (r, m')) : Cal_ G l yX8_restore (ws_ yX8_restore cX8_restore 1 (some .int)) 4 [vR_ (some t)] m0 (.inl (some (vI_ r))) m' := by
  refine cal_of (by decide +kernel) (Nat.le_of_ble_eq_true rfl) ?_
  unfold f_X8_restore at h
  show AW_ cX8_restore RX8 (some (.int), "restore", 4, 1, m0, m', (.inl (some (vI_ r))), G, l, [], true) m0 0 [(0, vR_ (some t))] []
  refine a_aload_n 0 dX8_restore_0 rfl rfl ?_
  refine a_iconst (v := 0) dX8_restore_1 (by decide) ?_
  obtain ⟨m1, e2, h⟩ := lt_some h
  refine a_putI kc_8 0 (by decide) rfl ht q1554 rfl rfl rfl dX8_restore_2 ?_
  rw [← e2]
  refine a_aload_n 0 dX8_restore_5 rfl rfl ?_
  refine a_getI kc_8 58 (by decide) rfl ht q1612 dX8_restore_6 ?_
  refine a_if_ne (tgt := 14) dX8_restore_9 (by decide) (fun c3 => ?_) (fun c3 => ?_)
  · replace h := ifn_ c3 h
    refine a_aload_n 0 dX8_restore_14 rfl rfl ?_
    refine a_dup dX8_restore_15 rfl ?_
    refine a_getI kc_8 58 (by decide) rfl ht q1612 dX8_restore_16 ?_
    refine a_iconst (v := 1) dX8_restore_19 (by decide) ?_
    refine a_isub dX8_restore_20 ?_
    obtain ⟨m4, e5, h⟩ := lt_some h
    refine a_putI kc_8 58 (by decide) rfl ht q1612 rfl rfl rfl dX8_restore_21 ?_
    rw [← e5]
    refine a_aload_n 0 dX8_restore_24 rfl rfl ?_
    refine a_aload_n 0 dX8_restore_25 rfl rfl ?_
    refine a_getI kc_8 58 (by decide) rfl ht q1612 dX8_restore_26 ?_
    refine a_iconst (v := 0) dX8_restore_29 (by decide) ?_
    obtain ⟨v8, m6, e7, h⟩ := bm_some h
    have he7 := e_X8_keepsAll (G := G) hl ht e7
    refine c_V he7.1 (rn_V (n := 2) (As := [vI_ (gI_ m4 t 58), vI_ 0]) kc_8 ht he7 (lw_V q2172 q2174 qs87 q97 q2175) (by decide +kernel) rfl (Nat.le_of_ble_eq_true rfl) (Nat.le_of_ble_eq_true rfl) (Nat.le_of_ble_eq_true rfl) dX8_restore_30) (fun z => (os_av (As := [vI_ (gI_ m4 t 58), vI_ 0]) z).2.1) ?_
    refine a_aload_n 0 dX8_restore_33 rfl rfl ?_
    refine a_iconst (v := 0) dX8_restore_34 (by decide) ?_
    obtain ⟨m9, e10, h⟩ := lt_some h
    refine a_putI kc_8 33 (by decide) rfl ht q1587 rfl rfl rfl dX8_restore_35 ?_
    rw [← e10]
    refine a_aload_n 0 dX8_restore_38 rfl rfl ?_
    refine a_getI kc_8 58 (by decide) rfl ht q1612 dX8_restore_39 ?_
    cases h
    exact a_ireturn rfl rfl rfl rfl rfl dX8_restore_42
  · replace h := ifp_ c3 h
    refine a_iconst (v := (-1)) dX8_restore_12 (by decide) ?_
    cases h
    exact a_ireturn rfl rfl rfl rfl rfl dX8_restore_13
def f_X8_status (F : Nat)  (t : pm_A) (i0 : Int32) (m : pm_M) : Option (Int32 × pm_M) :=
  lt_ (pI_ m t 0 0) fun m1 =>
  bm_ (f_X8_within F i0 0 1 m1) fun v5 m3 =>
  if v5 = 0 then
    some (((-1)), m3)
  else
    gd_ 100 (gR_ m3 t 1) fun a7 =>
    iz_ (!(ib_ i0 a7.2.1)) <|
    some ((gI_ m3 a7 i0.toNatClampNeg), m3)
set_option maxHeartbeats 4000000 in
theorem e_X8_status {G : xg_T} {l : Launch} (hl : l.stackTraces = false) {F : Nat}    {t : pm_A} {i0 : Int32} {m0 m' : pm_M} {r : Int32} (ht : t.1 = 8) (h : f_X8_status F t i0 m0 = some (r, m')) : Cal_ G l yX8_status (ws_ yX8_status cX8_status 2 (some .int)) 3 [vR_ (some t), vI_ i0] m0 (.inl (some (vI_ r))) m' := by
  refine cal_of (by decide +kernel) (Nat.le_of_ble_eq_true rfl) ?_
  unfold f_X8_status at h
  show AW_ cX8_status RX8 (some (.int), "status", 3, 2, m0, m', (.inl (some (vI_ r))), G, l, [], true) m0 0 [(0, vR_ (some t)), (1, vI_ i0)] []
  refine a_aload_n 0 dX8_status_0 rfl rfl ?_
  refine a_iconst (v := 0) dX8_status_1 (by decide) ?_
  obtain ⟨m1, e2, h⟩ := lt_some h
  refine a_putI kc_8 0 (by decide) rfl ht q1554 rfl rfl rfl dX8_status_2 ?_
  rw [← e2]
  refine a_iload_n 1 dX8_status_5 rfl rfl ?_
  refine a_iconst (v := 0) dX8_status_6 (by decide) ?_
  refine a_iconst (v := 1) dX8_status_7 (by decide) ?_
  obtain ⟨v5, m3, e4, h⟩ := bm_some h
  have he4 := e_X8_within (G := G) hl e4
  refine c_I he4.1 (rn_S (n := 3) (As := [vI_ i0, vI_ 0, vI_ 1]) he4 (lw_S q1823 q1824 q97 q1825) (by decide +kernel) rfl (Nat.le_of_ble_eq_true rfl) (Nat.le_of_ble_eq_true rfl) (Nat.le_of_ble_eq_true rfl) dX8_status_8) (fun z => (os_aS (As := [vI_ i0, vI_ 0, vI_ 1]) z).2) ?_
  refine a_if_eq (tgt := 23) dX8_status_11 (by decide) (fun c6 => ?_) (fun c6 => ?_)
  · replace h := ifp_ c6 h
    refine a_iconst (v := (-1)) dX8_status_23 (by decide) ?_
    cases h
    exact a_ireturn rfl rfl rfl rfl rfl dX8_status_24
  · replace h := ifn_ c6 h
    refine a_aload_n 0 dX8_status_14 rfl rfl ?_
    refine a_getR kc_8 1 (by decide) rfl ht q1555 dX8_status_15 ?_
    refine a_iload_n 1 dX8_status_18 rfl rfl ?_
    obtain ⟨a7, e8, f9, h⟩ := gd_some h
    rw [e8]
    obtain ⟨c10, h⟩ := iz_some h
    refine a_iald f9 (bn_ c10) dX8_status_19 ?_
    refine a_goto (tgt := 24) dX8_status_20 (by decide) ?_
    cases h
    exact a_ireturn rfl rfl rfl rfl rfl dX8_status_24
def f_X8_count (F : Nat)  (t : pm_A) (i0 : Int32) (m : pm_M) : Option (Int32 × pm_M) :=
  lt_ (pI_ m t 0 0) fun m1 =>
  if i0 = 0 then
    some ((gI_ m1 t 58), m1)
  else
    if i0 = 1 then
      some ((gI_ m1 t 2), m1)
    else
      if i0 = 2 then
        some ((gI_ m1 t 32), m1)
      else
        some (((-1)), m1)
set_option maxHeartbeats 4000000 in
theorem e_X8_count {G : xg_T} {l : Launch} (hl : l.stackTraces = false) {F : Nat}    {t : pm_A} {i0 : Int32} {m0 m' : pm_M} {r : Int32} (ht : t.1 = 8) (h : f_X8_count F t i0 m0 = some (r, m')) : Cal_ G l yX8_count (ws_ yX8_count cX8_count 2 (some .int)) 2 [vR_ (some t), vI_ i0] m0 (.inl (some (vI_ r))) m' := by
  refine cal_of (by decide +kernel) (Nat.le_of_ble_eq_true rfl) ?_
  unfold f_X8_count at h
  show AW_ cX8_count RX8 (some (.int), "count", 2, 2, m0, m', (.inl (some (vI_ r))), G, l, [], true) m0 0 [(0, vR_ (some t)), (1, vI_ i0)] []
  refine a_aload_n 0 dX8_count_0 rfl rfl ?_
  refine a_iconst (v := 0) dX8_count_1 (by decide) ?_
  obtain ⟨m1, e2, h⟩ := lt_some h
  refine a_putI kc_8 0 (by decide) rfl ht q1554 rfl rfl rfl dX8_count_2 ?_
  rw [← e2]
  refine a_iload_n 1 dX8_count_5 rfl rfl ?_
  refine a_if_ne (tgt := 16) dX8_count_6 (by decide) (fun c3 => ?_) (fun c3 => ?_)
  · replace h := ifn_ c3 h
    refine a_iload_n 1 dX8_count_16 rfl rfl ?_
    refine a_iconst (v := 1) dX8_count_17 (by decide) ?_
    refine a_icmp_ne (tgt := 28) dX8_count_18 (by decide) (fun c4 => ?_) (fun c4 => ?_)
    · replace h := ifn_ c4 h
      refine a_iload_n 1 dX8_count_28 rfl rfl ?_
      refine a_iconst (v := 2) dX8_count_29 (by decide) ?_
      refine a_icmp_ne (tgt := 40) dX8_count_30 (by decide) (fun c5 => ?_) (fun c5 => ?_)
      · replace h := ifn_ c5 h
        refine a_iconst (v := (-1)) dX8_count_40 (by decide) ?_
        cases h
        exact a_ireturn rfl rfl rfl rfl rfl dX8_count_41
      · replace h := ifp_ c5 h
        refine a_aload_n 0 dX8_count_33 rfl rfl ?_
        refine a_getI kc_8 32 (by decide) rfl ht q1586 dX8_count_34 ?_
        refine a_goto (tgt := 41) dX8_count_37 (by decide) ?_
        cases h
        exact a_ireturn rfl rfl rfl rfl rfl dX8_count_41
    · replace h := ifp_ c4 h
      refine a_aload_n 0 dX8_count_21 rfl rfl ?_
      refine a_getI kc_8 2 (by decide) rfl ht q1556 dX8_count_22 ?_
      refine a_goto (tgt := 41) dX8_count_25 (by decide) ?_
      cases h
      exact a_ireturn rfl rfl rfl rfl rfl dX8_count_41
  · replace h := ifp_ c3 h
    refine a_aload_n 0 dX8_count_9 rfl rfl ?_
    refine a_getI kc_8 58 (by decide) rfl ht q1612 dX8_count_10 ?_
    refine a_goto (tgt := 41) dX8_count_13 (by decide) ?_
    cases h
    exact a_ireturn rfl rfl rfl rfl rfl dX8_count_41
