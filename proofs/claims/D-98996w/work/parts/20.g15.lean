/-! PRINTED BY dec.py: X8_passes X8_goes X8_goesSteps X8_work -/
set_option maxRecDepth 100000
def f_X8_passes_L125 (F : Nat)  (p10 : pm_A) : Nat → Int32 → pm_M → Option (Unit × pm_M)
  | 0, _, _ => none
  | n12 + 1, x14, m13 =>
    if (gI_ m13 p10 18) ≤ x14 then
      some ((), m13)
    else
      gd_ 100 (gR_ m13 p10 38) fun a16 =>
      iz_ (!(ib_ (0 + x14) a16.2.1)) <|
      if (gI_ m13 a16 (0 + x14).toNatClampNeg) = 2 then
        bm_ (f_X8_owesOf F p10 x14 m13) fun v23 m21 =>
        if v23 = 0 then
          bm_ (f_X8_frees F p10 x14 m21) fun v27 m25 =>
          (f_X8_passes_L125 F p10 n12) (x14 + 1) m25
        else
          (f_X8_passes_L125 F p10 n12) (x14 + 1) m21
      else
        (f_X8_passes_L125 F p10 n12) (x14 + 1) m13
set_option maxHeartbeats 4000000 in
theorem w_X8_passes_L125 {G : xg_T} {l : Launch} (hl : l.stackTraces = false) {F : Nat}    (p10 : pm_A) {m0 m' : pm_M} {r : Unit} (hf11 : p10.1 = 8)  : ∀ (n : Nat) (x14 : Int32) (m13 : pm_M), f_X8_passes_L125 F p10 n x14 m13 = some (r, m') → AW_ cX8_passes RX8 (none, "passes", 8, 2, m0, m', (.inl none), G, l, [], true) m13 125 [(0, vR_ (some p10)), (1, vI_ x14)] [] := by
  intro n
  induction n with
  | zero => intro x14 m13 h; cases h
  | succ n12 ih =>
    intro x14 m13 h
    rw [f_X8_passes_L125] at h
    refine a_iload_n 1 dX8_passes_125 rfl rfl ?_
    refine a_aload_n 0 dX8_passes_126 rfl rfl ?_
    refine a_getI kc_8 18 (by decide) rfl hf11 q1572 dX8_passes_127 ?_
    refine a_icmp_ge (tgt := 164) dX8_passes_130 (by decide) (fun c15 => ?_) (fun c15 => ?_)
    · replace h := ifp_ c15 h
      cases h
      exact a_return rfl rfl rfl rfl dX8_passes_164
    · replace h := ifn_ c15 h
      refine a_aload_n 0 dX8_passes_133 rfl rfl ?_
      refine a_getR kc_8 38 (by decide) rfl hf11 q1592 dX8_passes_134 ?_
      refine a_iconst (v := 0) dX8_passes_137 (by decide) ?_
      refine a_iload_n 1 dX8_passes_138 rfl rfl ?_
      refine a_iadd dX8_passes_139 ?_
      obtain ⟨a16, e17, f18, h⟩ := gd_some h
      rw [e17]
      obtain ⟨c19, h⟩ := iz_some h
      refine a_iald f18 (bn_ c19) dX8_passes_140 ?_
      refine a_iconst (v := 2) dX8_passes_141 (by decide) ?_
      refine a_icmp_ne (tgt := 158) dX8_passes_142 (by decide) (fun c20 => ?_) (fun c20 => ?_)
      · replace h := ifn_ c20 h
        refine a_iinc (v := x14 + 1) (ls' := [(1, vI_ (x14 + 1)), (0, vR_ (some p10))]) 1 dX8_passes_158 rfl rfl (Nat.le_of_ble_eq_true rfl) rfl ?_
        refine a_goto (tgt := 125) dX8_passes_161 (by decide) ?_
        refine aw_pick [1, 0] rfl ?_
        exact ih _ _ h
      · replace h := ifp_ c20 h
        refine a_aload_n 0 dX8_passes_145 rfl rfl ?_
        refine a_iload_n 1 dX8_passes_146 rfl rfl ?_
        obtain ⟨v23, m21, e22, h⟩ := bm_some h
        have he22 := e_X8_owesOf (G := G) hl hf11 e22
        refine c_I he22.1 (rn_V (n := 1) (As := [vI_ x14]) kc_8 hf11 he22 (lw_V q1928 q1930 qs66 q97 q1931) (by decide +kernel) rfl (Nat.le_of_ble_eq_true rfl) (Nat.le_of_ble_eq_true rfl) (Nat.le_of_ble_eq_true rfl) dX8_passes_147) (fun z => (os_av (As := [vI_ x14]) z).2.1) ?_
        refine a_if_ne (tgt := 158) dX8_passes_150 (by decide) (fun c24 => ?_) (fun c24 => ?_)
        · replace h := ifn_ c24 h
          refine a_iinc (v := x14 + 1) (ls' := [(1, vI_ (x14 + 1)), (0, vR_ (some p10))]) 1 dX8_passes_158 rfl rfl (Nat.le_of_ble_eq_true rfl) rfl ?_
          refine a_goto (tgt := 125) dX8_passes_161 (by decide) ?_
          refine aw_pick [1, 0] rfl ?_
          exact ih _ _ h
        · replace h := ifp_ c24 h
          refine a_aload_n 0 dX8_passes_153 rfl rfl ?_
          refine a_iload_n 1 dX8_passes_154 rfl rfl ?_
          obtain ⟨v27, m25, e26, h⟩ := bm_some h
          have he26 := e_X8_frees (G := G) hl hf11 e26
          refine c_V he26.1 (rn_V (n := 1) (As := [vI_ x14]) kc_8 hf11 he26 (lw_V q1959 q1961 qs73 q97 q1962) (by decide +kernel) rfl (Nat.le_of_ble_eq_true rfl) (Nat.le_of_ble_eq_true rfl) (Nat.le_of_ble_eq_true rfl) dX8_passes_155) (fun z => (os_av (As := [vI_ x14]) z).2.1) ?_
          refine a_iinc (v := x14 + 1) (ls' := [(1, vI_ (x14 + 1)), (0, vR_ (some p10))]) 1 dX8_passes_158 rfl rfl (Nat.le_of_ble_eq_true rfl) rfl ?_
          refine a_goto (tgt := 125) dX8_passes_161 (by decide) ?_
          refine aw_pick [1, 0] rfl ?_
          exact ih _ _ h
def f_X8_passes_L2 (F : Nat)  (p28 : pm_A) (k30 : pm_M → Option (Unit × pm_M)) : Nat → Int32 → pm_M → Option (Unit × pm_M)
  | 0, _, _ => none
  | n32 + 1, x34, m33 =>
    if (gI_ m33 p28 18) ≤ x34 then
      k30 m33
    else
      gd_ 100 (gR_ m33 p28 38) fun a36 =>
      iz_ (!(ib_ (0 + x34) a36.2.1)) <|
      jn_ (fun  (m41 : pm_M) =>
        gd_ 100 (gR_ m41 p28 38) fun a42 =>
        iz_ (!(ib_ (0 + x34) a42.2.1)) <|
        if (gI_ m41 a42 (0 + x34).toNatClampNeg) = 0 then
          gd_ 100 (gR_ m41 p28 38) fun a47 =>
          iz_ (!(ib_ 65 a47.2.1)) <|
          if (gI_ m41 a47 (65 : Int32).toNatClampNeg) ≤ 0 then
            gd_ 100 (gR_ m41 p28 38) fun a52 =>
            iz_ (!(ib_ (32 + x34) a52.2.1)) <|
            iz_ (!(ib_ (32 + x34) a52.2.1)) <|
            lt_ (pI_ m41 a52 ((32 + x34).toNatClampNeg) ((gI_ m41 a52 (32 + x34).toNatClampNeg) + 1)) fun m57 =>
            lt_ (pI_ m57 p28 41 ((gI_ m57 p28 41) + 1)) fun m59 =>
            (f_X8_passes_L2 F p28 k30 n32) (x34 + 1) m59
          else
            gd_ 100 (gR_ m41 p28 38) fun a61 =>
            iz_ (!(ib_ 65 a61.2.1)) <|
            iz_ (!(ib_ 65 a61.2.1)) <|
            lt_ (pI_ m41 a61 ((65 : Int32).toNatClampNeg) ((gI_ m41 a61 (65 : Int32).toNatClampNeg) - 1)) fun m66 =>
            (f_X8_passes_L2 F p28 k30 n32) (x34 + 1) m66
        else
          (f_X8_passes_L2 F p28 k30 n32) (x34 + 1) m41
      ) fun k40 =>
      if (gI_ m33 a36 (0 + x34).toNatClampNeg) = 2 then
        gd_ 100 (gR_ m33 p28 38) fun a69 =>
        iz_ (!(ib_ (16 + x34) a69.2.1)) <|
        iz_ (!(ib_ (16 + x34) a69.2.1)) <|
        lt_ (pI_ m33 a69 ((16 + x34).toNatClampNeg) ((gI_ m33 a69 (16 + x34).toNatClampNeg) + 1)) fun m74 =>
        lt_ (pI_ m74 p28 42 ((gI_ m74 p28 42) + 1)) fun m76 =>
        k40 m76
      else
        k40 m33
set_option maxHeartbeats 4000000 in
theorem w_X8_passes_L2 {G : xg_T} {l : Launch} (hl : l.stackTraces = false) {F : Nat}    (p28 : pm_A) (k30 : pm_M → Option (Unit × pm_M)) {m0 m' : pm_M} {r : Unit} (hf29 : p28.1 = 8) (hk30 : ∀ (m31 : pm_M), k30 m31 = some (r, m') → AW_ cX8_passes RX8 (none, "passes", 8, 2, m0, m', (.inl none), G, l, [], true) m31 112 [(0, vR_ (some p28))] []) : ∀ (n : Nat) (x34 : Int32) (m33 : pm_M), f_X8_passes_L2 F p28 k30 n x34 m33 = some (r, m') → AW_ cX8_passes RX8 (none, "passes", 8, 2, m0, m', (.inl none), G, l, [], true) m33 2 [(0, vR_ (some p28)), (1, vI_ x34)] [] := by
  intro n
  induction n with
  | zero => intro x34 m33 h; cases h
  | succ n32 ih =>
    intro x34 m33 h
    rw [f_X8_passes_L2] at h
    refine a_iload_n 1 dX8_passes_2 rfl rfl ?_
    refine a_aload_n 0 dX8_passes_3 rfl rfl ?_
    refine a_getI kc_8 18 (by decide) rfl hf29 q1572 dX8_passes_4 ?_
    refine a_icmp_ge (tgt := 112) dX8_passes_7 (by decide) (fun c35 => ?_) (fun c35 => ?_)
    · replace h := ifp_ c35 h
      refine aw_pick [0] rfl ?_
      exact hk30 _ h
    · replace h := ifn_ c35 h
      refine a_aload_n 0 dX8_passes_10 rfl rfl ?_
      refine a_getR kc_8 38 (by decide) rfl hf29 q1592 dX8_passes_11 ?_
      refine a_iconst (v := 0) dX8_passes_14 (by decide) ?_
      refine a_iload_n 1 dX8_passes_15 rfl rfl ?_
      refine a_iadd dX8_passes_16 ?_
      obtain ⟨a36, e37, f38, h⟩ := gd_some h
      rw [e37]
      obtain ⟨c39, h⟩ := iz_some h
      refine a_iald f38 (bn_ c39) dX8_passes_17 ?_
      refine a_iconst (v := 2) dX8_passes_18 (by decide) ?_
      obtain ⟨k40, e78, h⟩ := jn1_some h
      have hk40 : ∀  (m41 : pm_M), k40 m41 = some (r, m') → AW_ cX8_passes RX8 (none, "passes", 8, 2, m0, m', (.inl none), G, l, [], true) m41 45 [(0, vR_ (some p28)), (1, vI_ x34)] [] := by
        intro m41 h
        have h := (e78 m41).symm.trans h
        refine a_aload_n 0 dX8_passes_45 rfl rfl ?_
        refine a_getR kc_8 38 (by decide) rfl hf29 q1592 dX8_passes_46 ?_
        refine a_iconst (v := 0) dX8_passes_49 (by decide) ?_
        refine a_iload_n 1 dX8_passes_50 rfl rfl ?_
        refine a_iadd dX8_passes_51 ?_
        obtain ⟨a42, e43, f44, h⟩ := gd_some h
        rw [e43]
        obtain ⟨c45, h⟩ := iz_some h
        refine a_iald f44 (bn_ c45) dX8_passes_52 ?_
        refine a_if_eq (tgt := 59) dX8_passes_53 (by decide) (fun c46 => ?_) (fun c46 => ?_)
        · replace h := ifp_ c46 h
          refine a_aload_n 0 dX8_passes_59 rfl rfl ?_
          refine a_getR kc_8 38 (by decide) rfl hf29 q1592 dX8_passes_60 ?_
          refine a_bipush (v := 65) dX8_passes_63 (by decide) ?_
          obtain ⟨a47, e48, f49, h⟩ := gd_some h
          rw [e48]
          obtain ⟨c50, h⟩ := iz_some h
          refine a_iald f49 (bn_ c50) dX8_passes_65 ?_
          refine a_if_le (tgt := 83) dX8_passes_66 (by decide) (fun c51 => ?_) (fun c51 => ?_)
          · replace h := ifp_ c51 h
            refine a_aload_n 0 dX8_passes_83 rfl rfl ?_
            refine a_getR kc_8 38 (by decide) rfl hf29 q1592 dX8_passes_84 ?_
            refine a_bipush (v := 32) dX8_passes_87 (by decide) ?_
            refine a_iload_n 1 dX8_passes_89 rfl rfl ?_
            refine a_iadd dX8_passes_90 ?_
            refine a_dup2 dX8_passes_91 rfl rfl ?_
            obtain ⟨a52, e53, f54, h⟩ := gd_some h
            rw [e53]
            obtain ⟨c55, h⟩ := iz_some h
            refine a_iald f54 (bn_ c55) dX8_passes_92 ?_
            refine a_iconst (v := 1) dX8_passes_93 (by decide) ?_
            refine a_iadd dX8_passes_94 ?_
            obtain ⟨c56, h⟩ := iz_some h
            obtain ⟨m57, e58, h⟩ := lt_some h
            refine a_iast f54 (bn_ c56) dX8_passes_95 ?_
            rw [← e58]
            refine a_aload_n 0 dX8_passes_96 rfl rfl ?_
            refine a_dup dX8_passes_97 rfl ?_
            refine a_getI kc_8 41 (by decide) rfl hf29 q1595 dX8_passes_98 ?_
            refine a_iconst (v := 1) dX8_passes_101 (by decide) ?_
            refine a_iadd dX8_passes_102 ?_
            obtain ⟨m59, e60, h⟩ := lt_some h
            refine a_putI kc_8 41 (by decide) rfl hf29 q1595 rfl rfl rfl dX8_passes_103 ?_
            rw [← e60]
            refine a_iinc (v := x34 + 1) (ls' := [(1, vI_ (x34 + 1)), (0, vR_ (some p28))]) 1 dX8_passes_106 rfl rfl (Nat.le_of_ble_eq_true rfl) rfl ?_
            refine a_goto (tgt := 2) dX8_passes_109 (by decide) ?_
            refine aw_pick [1, 0] rfl ?_
            exact ih _ _ h
          · replace h := ifn_ c51 h
            refine a_aload_n 0 dX8_passes_69 rfl rfl ?_
            refine a_getR kc_8 38 (by decide) rfl hf29 q1592 dX8_passes_70 ?_
            refine a_bipush (v := 65) dX8_passes_73 (by decide) ?_
            refine a_dup2 dX8_passes_75 rfl rfl ?_
            obtain ⟨a61, e62, f63, h⟩ := gd_some h
            rw [e62]
            obtain ⟨c64, h⟩ := iz_some h
            refine a_iald f63 (bn_ c64) dX8_passes_76 ?_
            refine a_iconst (v := 1) dX8_passes_77 (by decide) ?_
            refine a_isub dX8_passes_78 ?_
            obtain ⟨c65, h⟩ := iz_some h
            obtain ⟨m66, e67, h⟩ := lt_some h
            refine a_iast f63 (bn_ c65) dX8_passes_79 ?_
            rw [← e67]
            refine a_goto (tgt := 106) dX8_passes_80 (by decide) ?_
            refine a_iinc (v := x34 + 1) (ls' := [(1, vI_ (x34 + 1)), (0, vR_ (some p28))]) 1 dX8_passes_106 rfl rfl (Nat.le_of_ble_eq_true rfl) rfl ?_
            refine a_goto (tgt := 2) dX8_passes_109 (by decide) ?_
            refine aw_pick [1, 0] rfl ?_
            exact ih _ _ h
        · replace h := ifn_ c46 h
          refine a_goto (tgt := 106) dX8_passes_56 (by decide) ?_
          refine a_iinc (v := x34 + 1) (ls' := [(1, vI_ (x34 + 1)), (0, vR_ (some p28))]) 1 dX8_passes_106 rfl rfl (Nat.le_of_ble_eq_true rfl) rfl ?_
          refine a_goto (tgt := 2) dX8_passes_109 (by decide) ?_
          refine aw_pick [1, 0] rfl ?_
          exact ih _ _ h
      refine a_icmp_ne (tgt := 45) dX8_passes_19 (by decide) (fun c68 => ?_) (fun c68 => ?_)
      · replace h := ifn_ c68 h
        exact hk40 _ h
      · replace h := ifp_ c68 h
        refine a_aload_n 0 dX8_passes_22 rfl rfl ?_
        refine a_getR kc_8 38 (by decide) rfl hf29 q1592 dX8_passes_23 ?_
        refine a_bipush (v := 16) dX8_passes_26 (by decide) ?_
        refine a_iload_n 1 dX8_passes_28 rfl rfl ?_
        refine a_iadd dX8_passes_29 ?_
        refine a_dup2 dX8_passes_30 rfl rfl ?_
        obtain ⟨a69, e70, f71, h⟩ := gd_some h
        rw [e70]
        obtain ⟨c72, h⟩ := iz_some h
        refine a_iald f71 (bn_ c72) dX8_passes_31 ?_
        refine a_iconst (v := 1) dX8_passes_32 (by decide) ?_
        refine a_iadd dX8_passes_33 ?_
        obtain ⟨c73, h⟩ := iz_some h
        obtain ⟨m74, e75, h⟩ := lt_some h
        refine a_iast f71 (bn_ c73) dX8_passes_34 ?_
        rw [← e75]
        refine a_aload_n 0 dX8_passes_35 rfl rfl ?_
        refine a_dup dX8_passes_36 rfl ?_
        refine a_getI kc_8 42 (by decide) rfl hf29 q1596 dX8_passes_37 ?_
        refine a_iconst (v := 1) dX8_passes_40 (by decide) ?_
        refine a_iadd dX8_passes_41 ?_
        obtain ⟨m76, e77, h⟩ := lt_some h
        refine a_putI kc_8 42 (by decide) rfl hf29 q1596 rfl rfl rfl dX8_passes_42 ?_
        rw [← e77]
        exact hk40 _ h
def f_X8_passes (F : Nat)  (t : pm_A) (m : pm_M) : Option (Unit × pm_M) :=
  jn_ (fun  (m2 : pm_M) =>
    gd_ 100 (gR_ m2 t 38) fun a3 =>
    iz_ (!(ib_ 64 a3.2.1)) <|
    iz_ (!(ib_ 64 a3.2.1)) <|
    lt_ (pI_ m2 a3 ((64 : Int32).toNatClampNeg) ((gI_ m2 a3 (64 : Int32).toNatClampNeg) + 1)) fun m8 =>
    f_X8_passes_L125 F t F 0 m8
  ) fun k1 =>
  f_X8_passes_L2 F t k1 F 0 m
set_option maxHeartbeats 4000000 in
theorem e_X8_passes {G : xg_T} {l : Launch} (hl : l.stackTraces = false) {F : Nat}    {t : pm_A} {m0 m' : pm_M} {r : Unit} (ht : t.1 = 8) (h : f_X8_passes F t m0 = some (r, m')) : Cal_ G l yX8_passes (ws_ yX8_passes cX8_passes 2 none) 8 [vR_ (some t)] m0 (.inl none) m' := by
  refine cal_of (by decide +kernel) (Nat.le_of_ble_eq_true rfl) ?_
  unfold f_X8_passes at h
  show AW_ cX8_passes RX8 (none, "passes", 8, 2, m0, m', (.inl none), G, l, [], true) m0 0 [(0, vR_ (some t))] []
  refine a_iconst (v := 0) dX8_passes_0 (by decide) ?_
  refine a_istore_n (ls' := [(1, vI_ 0), (0, vR_ (some t))]) dX8_passes_1 rfl (Nat.le_of_ble_eq_true rfl) rfl ?_
  obtain ⟨k1, e79, h⟩ := jn1_some h
  have hk1 : ∀  (m2 : pm_M), k1 m2 = some (r, m') → AW_ cX8_passes RX8 (none, "passes", 8, 2, m0, m', (.inl none), G, l, [], true) m2 112 [(0, vR_ (some t))] [] := by
    intro m2 h
    have h := (e79 m2).symm.trans h
    refine a_aload_n 0 dX8_passes_112 rfl rfl ?_
    refine a_getR kc_8 38 (by decide) rfl ht q1592 dX8_passes_113 ?_
    refine a_bipush (v := 64) dX8_passes_116 (by decide) ?_
    refine a_dup2 dX8_passes_118 rfl rfl ?_
    obtain ⟨a3, e4, f5, h⟩ := gd_some h
    rw [e4]
    obtain ⟨c6, h⟩ := iz_some h
    refine a_iald f5 (bn_ c6) dX8_passes_119 ?_
    refine a_iconst (v := 1) dX8_passes_120 (by decide) ?_
    refine a_iadd dX8_passes_121 ?_
    obtain ⟨c7, h⟩ := iz_some h
    obtain ⟨m8, e9, h⟩ := lt_some h
    refine a_iast f5 (bn_ c7) dX8_passes_122 ?_
    rw [← e9]
    refine a_iconst (v := 0) dX8_passes_123 (by decide) ?_
    refine a_istore_n (ls' := [(1, vI_ 0), (0, vR_ (some t))]) dX8_passes_124 rfl (Nat.le_of_ble_eq_true rfl) rfl ?_
    refine aw_pick [1, 0] rfl ?_
    exact w_X8_passes_L125 hl _ ht _ _ _ h
  refine aw_pick [1, 0] rfl ?_
  exact w_X8_passes_L2 hl _ _ ht hk1 _ _ _ h
def f_X8_goes (F : Nat)  (t : pm_A) (i0 : Int32) (i1 : Int32) (i2 : Int32) (m : pm_M) : Option (Int32 × pm_M) :=
  if i0 = 0 then
    bm_ (f_X8_lands F t m) fun v77 m75 =>
    iz_ (!(nr_ .boolean v77)) <|
    some (v77, m75)
  else
    if i0 = 1 then
      bm_ (f_X8_places F t i1 i2 m) fun v73 m71 =>
      iz_ (!(nr_ .boolean v73)) <|
      some (v73, m71)
    else
      jn_ (fun  (m4 : pm_M) =>
        jn_ (fun (y7 : Option pm_A) (y8 : Int32) (y9 : Int32) (m6 : pm_M) =>
          gd_ 8 y7 fun a10 =>
          bm_ (f_X8_loses F a10 y8 y9 m6) fun v15 m13 =>
          iz_ (!(nr_ .boolean v15)) <|
          some (v15, m13)
        ) fun k5 =>
        if i0 = 4 then
          k5 (some t) i1 1 m4
        else
          k5 (some t) i1 0 m4
      ) fun k3 =>
      if i0 = 4 then
        k3 m
      else
        if i0 = 5 then
          k3 m
        else
          if i0 = 6 then
            bm_ (f_X8_pays F t i1 m) fun v68 m66 =>
            iz_ (!(nr_ .boolean v68)) <|
            some (v68, m66)
          else
            if i0 = 7 then
              gd_ 100 (gR_ m t 38) fun a58 =>
              iz_ (!(ib_ 64 a58.2.1)) <|
              if (gI_ m a58 (64 : Int32).toNatClampNeg) = 900 then
                some (0, m)
              else
                bm_ (f_X8_passes F t m) fun v65 m63 =>
                some (1, m63)
            else
              gd_ 100 (gR_ m t 38) fun a23 =>
              iz_ (!(ib_ (24 + i1) a23.2.1)) <|
              jn_ (fun  (m28 : pm_M) =>
                if i0 = 3 then
                  gd_ 100 (gR_ m28 t 38) fun a43 =>
                  iz_ (!(ib_ (24 + i1) a43.2.1)) <|
                  lt_ (pI_ m28 a43 ((24 + i1).toNatClampNeg) 0) fun m47 =>
                  some (1, m47)
                else
                  if ((gI_ m a23 (24 + i1).toNatClampNeg) + i2) ≤ 99 then
                    gd_ 100 (gR_ m28 t 38) fun a31 =>
                    iz_ (!(ib_ (24 + i1) a31.2.1)) <|
                    lt_ (pI_ m28 a31 ((24 + i1).toNatClampNeg) ((gI_ m a23 (24 + i1).toNatClampNeg) + i2)) fun m35 =>
                    some (1, m35)
                  else
                    gd_ 100 (gR_ m28 t 38) fun a37 =>
                    iz_ (!(ib_ (24 + i1) a37.2.1)) <|
                    lt_ (pI_ m28 a37 ((24 + i1).toNatClampNeg) 99) fun m41 =>
                    some (1, m41)
              ) fun k27 =>
              if i0 = 2 then
                gd_ 100 (gR_ m t 38) fun a51 =>
                iz_ (!(ib_ (0 + i1) a51.2.1)) <|
                if (gI_ m a51 (0 + i1).toNatClampNeg) = 2 then
                  if (gI_ m a23 (24 + i1).toNatClampNeg) = 99 then
                    some (0, m)
                  else
                    k27 m
                else
                  some (0, m)
              else
                if (gI_ m a23 (24 + i1).toNatClampNeg) = 0 then
                  some (0, m)
                else
                  k27 m
set_option maxHeartbeats 4000000 in
theorem e_X8_goes {G : xg_T} {l : Launch} (hl : l.stackTraces = false) {F : Nat}    {t : pm_A} {i0 : Int32} {i1 : Int32} {i2 : Int32} {m0 m' : pm_M} {r : Int32} (ht : t.1 = 8) (h : f_X8_goes F t i0 i1 i2 m0 = some (r, m')) : Cal_ G l yX8_goes (ws_ yX8_goes cX8_goes 5 (some .boolean)) 10 [vR_ (some t), vI_ i0, vI_ i1, vI_ i2] m0 (.inl (some (vI_ r))) m' := by
  refine cal_of (by decide +kernel) (Nat.le_of_ble_eq_true rfl) ?_
  unfold f_X8_goes at h
  show AW_ cX8_goes RX8 (some (.boolean), "goes", 10, 5, m0, m', (.inl (some (vI_ r))), G, l, [], true) m0 0 [(0, vR_ (some t)), (1, vI_ i0), (2, vI_ i1), (3, vI_ i2)] []
  refine a_iload_n 1 dX8_goes_0 rfl rfl ?_
  refine a_if_ne (tgt := 9) dX8_goes_1 (by decide) (fun c1 => ?_) (fun c1 => ?_)
  · replace h := ifn_ c1 h
    refine a_iload_n 1 dX8_goes_9 rfl rfl ?_
    refine a_iconst (v := 1) dX8_goes_10 (by decide) ?_
    refine a_icmp_ne (tgt := 21) dX8_goes_11 (by decide) (fun c2 => ?_) (fun c2 => ?_)
    · replace h := ifn_ c2 h
      refine a_iload_n 1 dX8_goes_21 rfl rfl ?_
      refine a_iconst (v := 4) dX8_goes_22 (by decide) ?_
      obtain ⟨k3, e70, h⟩ := jn1_some h
      have hk3 : ∀  (m4 : pm_M), k3 m4 = some (r, m') → AW_ cX8_goes RX8 (some (.boolean), "goes", 10, 5, m0, m', (.inl (some (vI_ r))), G, l, [], true) m4 31 [(0, vR_ (some t)), (1, vI_ i0), (2, vI_ i1)] [] := by
        intro m4 h
        have h := (e70 m4).symm.trans h
        refine a_aload_n 0 dX8_goes_31 rfl rfl ?_
        refine a_iload_n 2 dX8_goes_32 rfl rfl ?_
        refine a_iload_n 1 dX8_goes_33 rfl rfl ?_
        refine a_iconst (v := 4) dX8_goes_34 (by decide) ?_
        obtain ⟨k5, e18, h⟩ := jn4_some h
        have hk5 : ∀ (y7 : Option pm_A) (y8 : Int32) (y9 : Int32) (m6 : pm_M), k5 y7 y8 y9 m6 = some (r, m') → AW_ cX8_goes RX8 (some (.boolean), "goes", 10, 5, m0, m', (.inl (some (vI_ r))), G, l, [], true) m6 43 [] [vI_ y9, vI_ y8, vR_ y7] := by
          intro y7 y8 y9 m6 h
          have h := (e18 y7 y8 y9 m6).symm.trans h
          obtain ⟨a10, e11, f12, h⟩ := gd_some h
          rw [e11]
          obtain ⟨v15, m13, e14, h⟩ := bm_some h
          have he14 := e_X8_loses (G := G) hl f12 e14
          refine c_I he14.1 (rn_V (n := 2) (As := [vI_ y8, vI_ y9]) kc_8 f12 he14 (lw_V q1916 q1918 qs63 q97 q1919) (by decide +kernel) rfl (Nat.le_of_ble_eq_true rfl) (Nat.le_of_ble_eq_true rfl) (Nat.le_of_ble_eq_true rfl) dX8_goes_43) (fun z => (os_av (As := [vI_ y8, vI_ y9]) z).2.1) ?_
          obtain ⟨c16, h⟩ := iz_some h
          cases h
          exact a_ireturn rfl (nr_ok (bn_ c16)) rfl rfl rfl dX8_goes_46
        refine a_icmp_ne (tgt := 42) dX8_goes_35 (by decide) (fun c17 => ?_) (fun c17 => ?_)
        · replace h := ifn_ c17 h
          refine a_iconst (v := 0) dX8_goes_42 (by decide) ?_
          refine aw_pick [] rfl ?_
          exact hk5 _ _ _ _ h
        · replace h := ifp_ c17 h
          refine a_iconst (v := 1) dX8_goes_38 (by decide) ?_
          refine a_goto (tgt := 43) dX8_goes_39 (by decide) ?_
          refine aw_pick [] rfl ?_
          exact hk5 _ _ _ _ h
      refine a_icmp_eq (tgt := 31) dX8_goes_23 (by decide) (fun c19 => ?_) (fun c19 => ?_)
      · replace h := ifp_ c19 h
        refine aw_pick [0, 1, 2] rfl ?_
        exact hk3 _ h
      · replace h := ifn_ c19 h
        refine a_iload_n 1 dX8_goes_26 rfl rfl ?_
        refine a_iconst (v := 5) dX8_goes_27 (by decide) ?_
        refine a_icmp_ne (tgt := 47) dX8_goes_28 (by decide) (fun c20 => ?_) (fun c20 => ?_)
        · replace h := ifn_ c20 h
          refine a_iload_n 1 dX8_goes_47 rfl rfl ?_
          refine a_bipush (v := 6) dX8_goes_48 (by decide) ?_
          refine a_icmp_ne (tgt := 59) dX8_goes_50 (by decide) (fun c21 => ?_) (fun c21 => ?_)
          · replace h := ifn_ c21 h
            refine a_iload_n 1 dX8_goes_59 rfl rfl ?_
            refine a_bipush (v := 7) dX8_goes_60 (by decide) ?_
            refine a_icmp_ne (tgt := 86) dX8_goes_62 (by decide) (fun c22 => ?_) (fun c22 => ?_)
            · replace h := ifn_ c22 h
              refine a_aload_n 0 dX8_goes_86 rfl rfl ?_
              refine a_getR kc_8 38 (by decide) rfl ht q1592 dX8_goes_87 ?_
              refine a_bipush (v := 24) dX8_goes_90 (by decide) ?_
              refine a_iload_n 2 dX8_goes_92 rfl rfl ?_
              refine a_iadd dX8_goes_93 ?_
              obtain ⟨a23, e24, f25, h⟩ := gd_some h
              rw [e24]
              obtain ⟨c26, h⟩ := iz_some h
              refine a_iald f25 (bn_ c26) dX8_goes_94 ?_
              refine a_istore (ls' := [(4, vI_ (gI_ m0 a23 (24 + i1).toNatClampNeg)), (0, vR_ (some t)), (1, vI_ i0), (2, vI_ i1), (3, vI_ i2)]) dX8_goes_95 (Nat.le_of_ble_eq_true rfl) rfl ?_
              refine a_iload_n 2 dX8_goes_97 rfl rfl ?_
              refine a_iconst (v := 2) dX8_goes_98 (by decide) ?_
              obtain ⟨k27, e57, h⟩ := jn1_some h
              have hk27 : ∀  (m28 : pm_M), k27 m28 = some (r, m') → AW_ cX8_goes RX8 (some (.boolean), "goes", 10, 5, m0, m', (.inl (some (vI_ r))), G, l, [], true) m28 131 [(0, vR_ (some t)), (1, vI_ i0), (2, vI_ i1), (3, vI_ i2), (4, vI_ (gI_ m0 a23 (24 + i1).toNatClampNeg))] [] := by
                intro m28 h
                have h := (e57 m28).symm.trans h
                refine a_aload_n 0 dX8_goes_131 rfl rfl ?_
                refine a_getR kc_8 38 (by decide) rfl ht q1592 dX8_goes_132 ?_
                refine a_bipush (v := 24) dX8_goes_135 (by decide) ?_
                refine a_iload_n 2 dX8_goes_137 rfl rfl ?_
                refine a_iadd dX8_goes_138 ?_
                refine a_iload_n 1 dX8_goes_139 rfl rfl ?_
                refine a_iconst (v := 3) dX8_goes_140 (by decide) ?_
                refine a_icmp_ne (tgt := 148) dX8_goes_141 (by decide) (fun c29 => ?_) (fun c29 => ?_)
                · replace h := ifn_ c29 h
                  refine a_iload 4 dX8_goes_148 rfl ?_
                  refine a_iload_n 3 dX8_goes_150 rfl rfl ?_
                  refine a_iadd dX8_goes_151 ?_
                  refine a_bipush (v := 99) dX8_goes_152 (by decide) ?_
                  refine a_icmp_le (tgt := 162) dX8_goes_154 (by decide) (fun c30 => ?_) (fun c30 => ?_)
                  · replace h := ifp_ c30 h
                    refine a_iload 4 dX8_goes_162 rfl ?_
                    refine a_iload_n 3 dX8_goes_164 rfl rfl ?_
                    refine a_iadd dX8_goes_165 ?_
                    obtain ⟨a31, e32, f33, h⟩ := gd_some h
                    rw [e32]
                    obtain ⟨c34, h⟩ := iz_some h
                    obtain ⟨m35, e36, h⟩ := lt_some h
                    refine a_iast f33 (bn_ c34) dX8_goes_166 ?_
                    rw [← e36]
                    refine a_iconst (v := 1) dX8_goes_167 (by decide) ?_
                    cases h
                    exact a_ireturn rfl rfl rfl rfl rfl dX8_goes_168
                  · replace h := ifn_ c30 h
                    refine a_bipush (v := 99) dX8_goes_157 (by decide) ?_
                    refine a_goto (tgt := 166) dX8_goes_159 (by decide) ?_
                    obtain ⟨a37, e38, f39, h⟩ := gd_some h
                    rw [e38]
                    obtain ⟨c40, h⟩ := iz_some h
                    obtain ⟨m41, e42, h⟩ := lt_some h
                    refine a_iast f39 (bn_ c40) dX8_goes_166 ?_
                    rw [← e42]
                    refine a_iconst (v := 1) dX8_goes_167 (by decide) ?_
                    cases h
                    exact a_ireturn rfl rfl rfl rfl rfl dX8_goes_168
                · replace h := ifp_ c29 h
                  refine a_iconst (v := 0) dX8_goes_144 (by decide) ?_
                  refine a_goto (tgt := 166) dX8_goes_145 (by decide) ?_
                  obtain ⟨a43, e44, f45, h⟩ := gd_some h
                  rw [e44]
                  obtain ⟨c46, h⟩ := iz_some h
                  obtain ⟨m47, e48, h⟩ := lt_some h
                  refine a_iast f45 (bn_ c46) dX8_goes_166 ?_
                  rw [← e48]
                  refine a_iconst (v := 1) dX8_goes_167 (by decide) ?_
                  cases h
                  exact a_ireturn rfl rfl rfl rfl rfl dX8_goes_168
              refine a_icmp_ne (tgt := 124) dX8_goes_99 (by decide) (fun c49 => ?_) (fun c49 => ?_)
              · replace h := ifn_ c49 h
                refine a_iload 0 dX8_goes_124 rfl ?_
                refine a_if_ne (tgt := 131) dX8_goes_126 (by decide) (fun c50 => ?_) (fun c50 => ?_)
                · replace h := ifn_ c50 h
                  refine aw_pick [1, 2, 3, 4, 0] rfl ?_
                  exact hk27 _ h
                · replace h := ifp_ c50 h
                  refine a_iconst (v := 0) dX8_goes_129 (by decide) ?_
                  cases h
                  exact a_ireturn rfl rfl rfl rfl rfl dX8_goes_130
              · replace h := ifp_ c49 h
                refine a_aload_n 1 dX8_goes_102 rfl rfl ?_
                refine a_getR kc_8 38 (by decide) rfl ht q1592 dX8_goes_103 ?_
                refine a_iconst (v := 0) dX8_goes_106 (by decide) ?_
                refine a_iload_n 3 dX8_goes_107 rfl rfl ?_
                refine a_iadd dX8_goes_108 ?_
                obtain ⟨a51, e52, f53, h⟩ := gd_some h
                rw [e52]
                obtain ⟨c54, h⟩ := iz_some h
                refine a_iald f53 (bn_ c54) dX8_goes_109 ?_
                refine a_iconst (v := 2) dX8_goes_110 (by decide) ?_
                refine a_icmp_ne (tgt := 129) dX8_goes_111 (by decide) (fun c55 => ?_) (fun c55 => ?_)
                · replace h := ifn_ c55 h
                  refine a_iconst (v := 0) dX8_goes_129 (by decide) ?_
                  cases h
                  exact a_ireturn rfl rfl rfl rfl rfl dX8_goes_130
                · replace h := ifp_ c55 h
                  refine a_iload 0 dX8_goes_114 rfl ?_
                  refine a_bipush (v := 99) dX8_goes_116 (by decide) ?_
                  refine a_icmp_ne (tgt := 131) dX8_goes_118 (by decide) (fun c56 => ?_) (fun c56 => ?_)
                  · replace h := ifn_ c56 h
                    refine aw_pick [1, 2, 3, 4, 0] rfl ?_
                    exact hk27 _ h
                  · replace h := ifp_ c56 h
                    refine a_goto (tgt := 129) dX8_goes_121 (by decide) ?_
                    refine a_iconst (v := 0) dX8_goes_129 (by decide) ?_
                    cases h
                    exact a_ireturn rfl rfl rfl rfl rfl dX8_goes_130
            · replace h := ifp_ c22 h
              refine a_aload_n 0 dX8_goes_65 rfl rfl ?_
              refine a_getR kc_8 38 (by decide) rfl ht q1592 dX8_goes_66 ?_
              refine a_bipush (v := 64) dX8_goes_69 (by decide) ?_
              obtain ⟨a58, e59, f60, h⟩ := gd_some h
              rw [e59]
              obtain ⟨c61, h⟩ := iz_some h
              refine a_iald f60 (bn_ c61) dX8_goes_71 ?_
              refine a_sipush (v := 900) dX8_goes_72 (by decide) ?_
              refine a_icmp_ne (tgt := 80) dX8_goes_75 (by decide) (fun c62 => ?_) (fun c62 => ?_)
              · replace h := ifn_ c62 h
                refine a_aload_n 0 dX8_goes_80 rfl rfl ?_
                obtain ⟨v65, m63, e64, h⟩ := bm_some h
                have he64 := e_X8_passes (G := G) hl ht e64
                refine c_V he64.1 (rn_V (n := 0) (As := []) kc_8 ht he64 (lw_V q1963 q1965 qs74 q97 q1966) (by decide +kernel) rfl (Nat.le_of_ble_eq_true rfl) (Nat.le_of_ble_eq_true rfl) (Nat.le_of_ble_eq_true rfl) dX8_goes_81) (fun z => (os_av (As := []) z).2.1) ?_
                refine a_iconst (v := 1) dX8_goes_84 (by decide) ?_
                cases h
                exact a_ireturn rfl rfl rfl rfl rfl dX8_goes_85
              · replace h := ifp_ c62 h
                refine a_iconst (v := 0) dX8_goes_78 (by decide) ?_
                cases h
                exact a_ireturn rfl rfl rfl rfl rfl dX8_goes_79
          · replace h := ifp_ c21 h
            refine a_aload_n 0 dX8_goes_53 rfl rfl ?_
            refine a_iload_n 2 dX8_goes_54 rfl rfl ?_
            obtain ⟨v68, m66, e67, h⟩ := bm_some h
            have he67 := e_X8_pays (G := G) hl ht e67
            refine c_I he67.1 (rn_V (n := 1) (As := [vI_ i1]) kc_8 ht he67 (lw_V q1920 q1922 qs64 q97 q1923) (by decide +kernel) rfl (Nat.le_of_ble_eq_true rfl) (Nat.le_of_ble_eq_true rfl) (Nat.le_of_ble_eq_true rfl) dX8_goes_55) (fun z => (os_av (As := [vI_ i1]) z).2.1) ?_
            obtain ⟨c69, h⟩ := iz_some h
            cases h
            exact a_ireturn rfl (nr_ok (bn_ c69)) rfl rfl rfl dX8_goes_58
        · replace h := ifp_ c20 h
          refine aw_pick [0, 1, 2] rfl ?_
          exact hk3 _ h
    · replace h := ifp_ c2 h
      refine a_aload_n 0 dX8_goes_14 rfl rfl ?_
      refine a_iload_n 2 dX8_goes_15 rfl rfl ?_
      refine a_iload_n 3 dX8_goes_16 rfl rfl ?_
      obtain ⟨v73, m71, e72, h⟩ := bm_some h
      have he72 := e_X8_places (G := G) hl ht e72
      refine c_I he72.1 (rn_V (n := 2) (As := [vI_ i1, vI_ i2]) kc_8 ht he72 (lw_V q1908 q1910 qs61 q97 q1911) (by decide +kernel) rfl (Nat.le_of_ble_eq_true rfl) (Nat.le_of_ble_eq_true rfl) (Nat.le_of_ble_eq_true rfl) dX8_goes_17) (fun z => (os_av (As := [vI_ i1, vI_ i2]) z).2.1) ?_
      obtain ⟨c74, h⟩ := iz_some h
      cases h
      exact a_ireturn rfl (nr_ok (bn_ c74)) rfl rfl rfl dX8_goes_20
  · replace h := ifp_ c1 h
    refine a_aload_n 0 dX8_goes_4 rfl rfl ?_
    obtain ⟨v77, m75, e76, h⟩ := bm_some h
    have he76 := e_X8_lands (G := G) hl ht e76
    refine c_I he76.1 (rn_V (n := 0) (As := []) kc_8 ht he76 (lw_V q1900 q1902 qs59 q97 q1903) (by decide +kernel) rfl (Nat.le_of_ble_eq_true rfl) (Nat.le_of_ble_eq_true rfl) (Nat.le_of_ble_eq_true rfl) dX8_goes_5) (fun z => (os_av (As := []) z).2.1) ?_
    obtain ⟨c78, h⟩ := iz_some h
    cases h
    exact a_ireturn rfl (nr_ok (bn_ c78)) rfl rfl rfl dX8_goes_8
def f_X8_goesSteps_L51 (F : Nat) (z_ : pm_A → Int32 → Int32 → pm_M → Option (Unit × pm_M)) (p42 : pm_A) (p44 : Int32) (p45 : Int32) (p46 : Int32) (k47 : pm_M → Option (Unit × pm_M)) : Nat → Int32 → pm_M → Option (Unit × pm_M)
  | 0, _, _ => none
  | n49 + 1, x51, m50 =>
    gd_ 100 (gR_ m50 p42 30) fun a52 =>
    iz_ (!(ib_ (p45 + 1) a52.2.1)) <|
    if (gI_ m50 a52 (p45 + 1).toNatClampNeg) ≤ x51 then
      k47 m50
    else
      if 200 ≤ (gI_ m50 p42 34) then
        k47 m50
      else
        bm_ (z_ p42 (p45 + 3) p46 m50) fun v60 m58 =>
        (f_X8_goesSteps_L51 F z_ p42 p44 p45 p46 k47 n49) (x51 + 1) m58
set_option maxHeartbeats 4000000 in
theorem w_X8_goesSteps_L51 {G : xg_T} {l : Launch} (hl : l.stackTraces = false) {F : Nat} {dz : Nat} {z_ : pm_A → Int32 → Int32 → pm_M → Option (Unit × pm_M)} (hz : ∀ (w0 : pm_A) (w1 : Int32) (w2 : Int32) (m m' : pm_M) (r : Unit), w0.1 = 8 → z_ w0 w1 w2 m = some (r, m') → Cal_ G l yX8_goesSteps (ws_ yX8_goesSteps cX8_goesSteps 6 none) dz [vR_ (some w0), vI_ w1, vI_ w2] m (.inl none) m') (hdz : 11 ≤ dz) (p42 : pm_A) (p44 : Int32) (p45 : Int32) (p46 : Int32) (k47 : pm_M → Option (Unit × pm_M)) {m0 m' : pm_M} {r : Unit} (hf43 : p42.1 = 8) (hk47 : ∀ (m48 : pm_M), k47 m48 = some (r, m') → AW_ cX8_goesSteps RX8 (none, "goesSteps", (dz + 1), 6, m0, m', (.inl none), G, l, [], true) m48 89 [(0, vR_ (some p42)), (2, vI_ p44), (4, vI_ p46)] []) : ∀ (n : Nat) (x51 : Int32) (m50 : pm_M), f_X8_goesSteps_L51 F z_ p42 p44 p45 p46 k47 n x51 m50 = some (r, m') → AW_ cX8_goesSteps RX8 (none, "goesSteps", (dz + 1), 6, m0, m', (.inl none), G, l, [], true) m50 51 [(0, vR_ (some p42)), (2, vI_ p44), (3, vI_ p45), (4, vI_ p46), (5, vI_ x51)] [] := by
  intro n
  induction n with
  | zero => intro x51 m50 h; cases h
  | succ n49 ih =>
    intro x51 m50 h
    rw [f_X8_goesSteps_L51] at h
    refine a_iload 4 dX8_goesSteps_51 rfl ?_
    refine a_aload_n 0 dX8_goesSteps_53 rfl rfl ?_
    refine a_getR kc_8 30 (by decide) rfl hf43 q1584 dX8_goesSteps_54 ?_
    refine a_iload_n 2 dX8_goesSteps_57 rfl rfl ?_
    refine a_iconst (v := 1) dX8_goesSteps_58 (by decide) ?_
    refine a_iadd dX8_goesSteps_59 ?_
    obtain ⟨a52, e53, f54, h⟩ := gd_some h
    rw [e53]
    obtain ⟨c55, h⟩ := iz_some h
    refine a_iald f54 (bn_ c55) dX8_goesSteps_60 ?_
    refine a_icmp_ge (tgt := 89) dX8_goesSteps_61 (by decide) (fun c56 => ?_) (fun c56 => ?_)
    · replace h := ifp_ c56 h
      refine aw_pick [0, 1, 3] rfl ?_
      exact hk47 _ h
    · replace h := ifn_ c56 h
      refine a_aload_n 0 dX8_goesSteps_64 rfl rfl ?_
      refine a_getI kc_8 34 (by decide) rfl hf43 q1588 dX8_goesSteps_65 ?_
      refine a_sipush (v := 200) dX8_goesSteps_68 (by decide) ?_
      refine a_icmp_ge (tgt := 89) dX8_goesSteps_71 (by decide) (fun c57 => ?_) (fun c57 => ?_)
      · replace h := ifp_ c57 h
        refine aw_pick [0, 1, 3] rfl ?_
        exact hk47 _ h
      · replace h := ifn_ c57 h
        refine a_aload_n 0 dX8_goesSteps_74 rfl rfl ?_
        refine a_iload_n 2 dX8_goesSteps_75 rfl rfl ?_
        refine a_iconst (v := 3) dX8_goesSteps_76 (by decide) ?_
        refine a_iadd dX8_goesSteps_77 ?_
        refine a_iload 3 dX8_goesSteps_78 rfl ?_
        obtain ⟨v60, m58, e59, h⟩ := bm_some h
        have he59 := hz _ _ _ _ _ _ hf43 e59
        refine c_V he59.1 (rn_V (n := 2) (As := [vI_ (p45 + 3), vI_ p46]) kc_8 hf43 he59 (lw_V q1892 q1894 qs57 q97 q1895) (by decide +kernel) rfl (by show dz + 1 ≤ (dz + 1); omega) (Nat.le_of_ble_eq_true rfl) (Nat.le_of_ble_eq_true rfl) dX8_goesSteps_80) (fun z => (os_av (As := [vI_ (p45 + 3), vI_ p46]) z).2.1) ?_
        refine a_iinc (v := x51 + 1) (ls' := [(5, vI_ (x51 + 1)), (0, vR_ (some p42)), (2, vI_ p44), (3, vI_ p45), (4, vI_ p46)]) 4 dX8_goesSteps_83 rfl rfl (Nat.le_of_ble_eq_true rfl) rfl ?_
        refine a_goto (tgt := 51) dX8_goesSteps_86 (by decide) ?_
        refine aw_pick [1, 2, 3, 4, 0] rfl ?_
        exact ih _ _ h
def f_X8_goesSteps_L2 (F : Nat) (z_ : pm_A → Int32 → Int32 → pm_M → Option (Unit × pm_M)) (p1 : pm_A) (p3 : Int32) : Nat → Int32 → pm_M → Option (Unit × pm_M)
  | 0, _, _ => none
  | n4 + 1, x6, m5 =>
    if p3 ≤ x6 then
      some ((), m5)
    else
      if 200 ≤ (gI_ m5 p1 34) then
        some ((), m5)
      else
        lt_ (pI_ m5 p1 34 ((gI_ m5 p1 34) + 1)) fun m9 =>
        gd_ 100 (gR_ m9 p1 30) fun a11 =>
        iz_ (!(ib_ x6 a11.2.1)) <|
        if (gI_ m9 a11 x6.toNatClampNeg) = 8 then
          gd_ 100 (gR_ m9 p1 30) fun a36 =>
          iz_ (!(ib_ (x6 + 2) a36.2.1)) <|
          jn_ (fun  (m41 : pm_M) =>
            (f_X8_goesSteps_L2 F z_ p1 p3 n4) (gI_ m9 a36 (x6 + 2).toNatClampNeg) m41
          ) fun k40 =>
          f_X8_goesSteps_L51 F z_ p1 p3 x6 (gI_ m9 a36 (x6 + 2).toNatClampNeg) k40 F 0 m9
        else
          gd_ 100 (gR_ m9 p1 30) fun a16 =>
          iz_ (!(ib_ x6 a16.2.1)) <|
          gd_ 100 (gR_ m9 p1 30) fun a20 =>
          iz_ (!(ib_ (x6 + 1) a20.2.1)) <|
          gd_ 100 (gR_ m9 p1 30) fun a24 =>
          iz_ (!(ib_ (x6 + 2) a24.2.1)) <|
          bm_ (f_X8_goes F p1 (gI_ m9 a16 x6.toNatClampNeg) (gI_ m9 a20 (x6 + 1).toNatClampNeg) (gI_ m9 a24 (x6 + 2).toNatClampNeg) m9) fun v30 m28 =>
          if v30 = 0 then
            lt_ (pI_ m28 p1 36 ((gI_ m28 p1 36) + 1)) fun m32 =>
            (f_X8_goesSteps_L2 F z_ p1 p3 n4) (x6 + 3) m32
          else
            lt_ (pI_ m28 p1 35 ((gI_ m28 p1 35) + 1)) fun m34 =>
            (f_X8_goesSteps_L2 F z_ p1 p3 n4) (x6 + 3) m34
set_option maxHeartbeats 4000000 in
theorem w_X8_goesSteps_L2 {G : xg_T} {l : Launch} (hl : l.stackTraces = false) {F : Nat} {dz : Nat} {z_ : pm_A → Int32 → Int32 → pm_M → Option (Unit × pm_M)} (hz : ∀ (w0 : pm_A) (w1 : Int32) (w2 : Int32) (m m' : pm_M) (r : Unit), w0.1 = 8 → z_ w0 w1 w2 m = some (r, m') → Cal_ G l yX8_goesSteps (ws_ yX8_goesSteps cX8_goesSteps 6 none) dz [vR_ (some w0), vI_ w1, vI_ w2] m (.inl none) m') (hdz : 11 ≤ dz) (p1 : pm_A) (p3 : Int32) {m0 m' : pm_M} {r : Unit} (hf2 : p1.1 = 8)  : ∀ (n : Nat) (x6 : Int32) (m5 : pm_M), f_X8_goesSteps_L2 F z_ p1 p3 n x6 m5 = some (r, m') → AW_ cX8_goesSteps RX8 (none, "goesSteps", (dz + 1), 6, m0, m', (.inl none), G, l, [], true) m5 2 [(0, vR_ (some p1)), (2, vI_ p3), (3, vI_ x6)] [] := by
  intro n
  induction n with
  | zero => intro x6 m5 h; cases h
  | succ n4 ih =>
    intro x6 m5 h
    rw [f_X8_goesSteps_L2] at h
    refine a_iload_n 2 dX8_goesSteps_2 rfl rfl ?_
    refine a_iload_n 1 dX8_goesSteps_3 rfl rfl ?_
    refine a_icmp_ge (tgt := 153) dX8_goesSteps_4 (by decide) (fun c7 => ?_) (fun c7 => ?_)
    · replace h := ifp_ c7 h
      cases h
      exact a_return rfl rfl rfl rfl dX8_goesSteps_153
    · replace h := ifn_ c7 h
      refine a_aload_n 0 dX8_goesSteps_7 rfl rfl ?_
      refine a_getI kc_8 34 (by decide) rfl hf2 q1588 dX8_goesSteps_8 ?_
      refine a_sipush (v := 200) dX8_goesSteps_11 (by decide) ?_
      refine a_icmp_ge (tgt := 153) dX8_goesSteps_14 (by decide) (fun c8 => ?_) (fun c8 => ?_)
      · replace h := ifp_ c8 h
        cases h
        exact a_return rfl rfl rfl rfl dX8_goesSteps_153
      · replace h := ifn_ c8 h
        refine a_aload_n 0 dX8_goesSteps_17 rfl rfl ?_
        refine a_dup dX8_goesSteps_18 rfl ?_
        refine a_getI kc_8 34 (by decide) rfl hf2 q1588 dX8_goesSteps_19 ?_
        refine a_iconst (v := 1) dX8_goesSteps_22 (by decide) ?_
        refine a_iadd dX8_goesSteps_23 ?_
        obtain ⟨m9, e10, h⟩ := lt_some h
        refine a_putI kc_8 34 (by decide) rfl hf2 q1588 rfl rfl rfl dX8_goesSteps_24 ?_
        rw [← e10]
        refine a_aload_n 0 dX8_goesSteps_27 rfl rfl ?_
        refine a_getR kc_8 30 (by decide) rfl hf2 q1584 dX8_goesSteps_28 ?_
        refine a_iload_n 2 dX8_goesSteps_31 rfl rfl ?_
        obtain ⟨a11, e12, f13, h⟩ := gd_some h
        rw [e12]
        obtain ⟨c14, h⟩ := iz_some h
        refine a_iald f13 (bn_ c14) dX8_goesSteps_32 ?_
        refine a_bipush (v := 8) dX8_goesSteps_33 (by decide) ?_
        refine a_icmp_ne (tgt := 95) dX8_goesSteps_35 (by decide) (fun c15 => ?_) (fun c15 => ?_)
        · replace h := ifn_ c15 h
          refine a_aload_n 0 dX8_goesSteps_95 rfl rfl ?_
          refine a_aload_n 0 dX8_goesSteps_96 rfl rfl ?_
          refine a_getR kc_8 30 (by decide) rfl hf2 q1584 dX8_goesSteps_97 ?_
          refine a_iload_n 2 dX8_goesSteps_100 rfl rfl ?_
          obtain ⟨a16, e17, f18, h⟩ := gd_some h
          rw [e17]
          obtain ⟨c19, h⟩ := iz_some h
          refine a_iald f18 (bn_ c19) dX8_goesSteps_101 ?_
          refine a_aload_n 0 dX8_goesSteps_102 rfl rfl ?_
          refine a_getR kc_8 30 (by decide) rfl hf2 q1584 dX8_goesSteps_103 ?_
          refine a_iload_n 2 dX8_goesSteps_106 rfl rfl ?_
          refine a_iconst (v := 1) dX8_goesSteps_107 (by decide) ?_
          refine a_iadd dX8_goesSteps_108 ?_
          obtain ⟨a20, e21, f22, h⟩ := gd_some h
          rw [e21]
          obtain ⟨c23, h⟩ := iz_some h
          refine a_iald f22 (bn_ c23) dX8_goesSteps_109 ?_
          refine a_aload_n 0 dX8_goesSteps_110 rfl rfl ?_
          refine a_getR kc_8 30 (by decide) rfl hf2 q1584 dX8_goesSteps_111 ?_
          refine a_iload_n 2 dX8_goesSteps_114 rfl rfl ?_
          refine a_iconst (v := 2) dX8_goesSteps_115 (by decide) ?_
          refine a_iadd dX8_goesSteps_116 ?_
          obtain ⟨a24, e25, f26, h⟩ := gd_some h
          rw [e25]
          obtain ⟨c27, h⟩ := iz_some h
          refine a_iald f26 (bn_ c27) dX8_goesSteps_117 ?_
          obtain ⟨v30, m28, e29, h⟩ := bm_some h
          have he29 := e_X8_goes (G := G) hl hf2 e29
          refine c_I he29.1 (rn_V (n := 3) (As := [vI_ (gI_ m9 a16 x6.toNatClampNeg), vI_ (gI_ m9 a20 (x6 + 1).toNatClampNeg), vI_ (gI_ m9 a24 (x6 + 2).toNatClampNeg)]) kc_8 hf2 he29 (lw_V q1896 q1898 qs58 q97 q1899) (by decide +kernel) rfl (by show 10 + 1 ≤ (dz + 1); omega) (Nat.le_of_ble_eq_true rfl) (Nat.le_of_ble_eq_true rfl) dX8_goesSteps_118) (fun z => (os_av (As := [vI_ (gI_ m9 a16 x6.toNatClampNeg), vI_ (gI_ m9 a20 (x6 + 1).toNatClampNeg), vI_ (gI_ m9 a24 (x6 + 2).toNatClampNeg)]) z).2.1) ?_
          refine a_if_eq (tgt := 137) dX8_goesSteps_121 (by decide) (fun c31 => ?_) (fun c31 => ?_)
          · replace h := ifp_ c31 h
            refine a_aload_n 0 dX8_goesSteps_137 rfl rfl ?_
            refine a_dup dX8_goesSteps_138 rfl ?_
            refine a_getI kc_8 36 (by decide) rfl hf2 q1590 dX8_goesSteps_139 ?_
            refine a_iconst (v := 1) dX8_goesSteps_142 (by decide) ?_
            refine a_iadd dX8_goesSteps_143 ?_
            obtain ⟨m32, e33, h⟩ := lt_some h
            refine a_putI kc_8 36 (by decide) rfl hf2 q1590 rfl rfl rfl dX8_goesSteps_144 ?_
            rw [← e33]
            refine a_iinc (v := x6 + 3) (ls' := [(3, vI_ (x6 + 3)), (0, vR_ (some p1)), (2, vI_ p3)]) 2 dX8_goesSteps_147 rfl rfl (Nat.le_of_ble_eq_true rfl) rfl ?_
            refine a_goto (tgt := 2) dX8_goesSteps_150 (by decide) ?_
            refine aw_pick [1, 2, 0] rfl ?_
            exact ih _ _ h
          · replace h := ifn_ c31 h
            refine a_aload_n 0 dX8_goesSteps_124 rfl rfl ?_
            refine a_dup dX8_goesSteps_125 rfl ?_
            refine a_getI kc_8 35 (by decide) rfl hf2 q1589 dX8_goesSteps_126 ?_
            refine a_iconst (v := 1) dX8_goesSteps_129 (by decide) ?_
            refine a_iadd dX8_goesSteps_130 ?_
            obtain ⟨m34, e35, h⟩ := lt_some h
            refine a_putI kc_8 35 (by decide) rfl hf2 q1589 rfl rfl rfl dX8_goesSteps_131 ?_
            rw [← e35]
            refine a_goto (tgt := 147) dX8_goesSteps_134 (by decide) ?_
            refine a_iinc (v := x6 + 3) (ls' := [(3, vI_ (x6 + 3)), (0, vR_ (some p1)), (2, vI_ p3)]) 2 dX8_goesSteps_147 rfl rfl (Nat.le_of_ble_eq_true rfl) rfl ?_
            refine a_goto (tgt := 2) dX8_goesSteps_150 (by decide) ?_
            refine aw_pick [1, 2, 0] rfl ?_
            exact ih _ _ h
        · replace h := ifp_ c15 h
          refine a_aload_n 0 dX8_goesSteps_38 rfl rfl ?_
          refine a_getR kc_8 30 (by decide) rfl hf2 q1584 dX8_goesSteps_39 ?_
          refine a_iload_n 2 dX8_goesSteps_42 rfl rfl ?_
          refine a_iconst (v := 2) dX8_goesSteps_43 (by decide) ?_
          refine a_iadd dX8_goesSteps_44 ?_
          obtain ⟨a36, e37, f38, h⟩ := gd_some h
          rw [e37]
          obtain ⟨c39, h⟩ := iz_some h
          refine a_iald f38 (bn_ c39) dX8_goesSteps_45 ?_
          refine a_istore (ls' := [(4, vI_ (gI_ m9 a36 (x6 + 2).toNatClampNeg)), (0, vR_ (some p1)), (2, vI_ p3), (3, vI_ x6)]) dX8_goesSteps_46 (Nat.le_of_ble_eq_true rfl) rfl ?_
          refine a_iconst (v := 0) dX8_goesSteps_48 (by decide) ?_
          refine a_istore (ls' := [(5, vI_ 0), (4, vI_ (gI_ m9 a36 (x6 + 2).toNatClampNeg)), (0, vR_ (some p1)), (2, vI_ p3), (3, vI_ x6)]) dX8_goesSteps_49 (Nat.le_of_ble_eq_true rfl) rfl ?_
          obtain ⟨k40, e61, h⟩ := jn1_some h
          have hk40 : ∀  (m41 : pm_M), k40 m41 = some (r, m') → AW_ cX8_goesSteps RX8 (none, "goesSteps", (dz + 1), 6, m0, m', (.inl none), G, l, [], true) m41 89 [(0, vR_ (some p1)), (2, vI_ p3), (4, vI_ (gI_ m9 a36 (x6 + 2).toNatClampNeg))] [] := by
            intro m41 h
            have h := (e61 m41).symm.trans h
            refine a_iload 2 dX8_goesSteps_89 rfl ?_
            refine a_istore_n (ls' := [(3, vI_ (gI_ m9 a36 (x6 + 2).toNatClampNeg)), (0, vR_ (some p1)), (2, vI_ p3), (4, vI_ (gI_ m9 a36 (x6 + 2).toNatClampNeg))]) dX8_goesSteps_91 rfl (Nat.le_of_ble_eq_true rfl) rfl ?_
            refine a_goto (tgt := 2) dX8_goesSteps_92 (by decide) ?_
            refine aw_pick [1, 2, 0] rfl ?_
            exact ih _ _ h
          refine aw_pick [2, 3, 4, 1, 0] rfl ?_
          exact w_X8_goesSteps_L51 hl hz hdz _ _ _ _ _ hf2 hk40 _ _ _ h
def b_X8_goesSteps (F : Nat) (z_ : pm_A → Int32 → Int32 → pm_M → Option (Unit × pm_M)) (t : pm_A) (i0 : Int32) (i1 : Int32) (m : pm_M) : Option (Unit × pm_M) :=
  f_X8_goesSteps_L2 F z_ t i1 F i0 m
set_option maxHeartbeats 4000000 in
theorem eb_X8_goesSteps {G : xg_T} {l : Launch} (hl : l.stackTraces = false) {F : Nat} {dz : Nat} {z_ : pm_A → Int32 → Int32 → pm_M → Option (Unit × pm_M)} (hz : ∀ (w0 : pm_A) (w1 : Int32) (w2 : Int32) (m m' : pm_M) (r : Unit), w0.1 = 8 → z_ w0 w1 w2 m = some (r, m') → Cal_ G l yX8_goesSteps (ws_ yX8_goesSteps cX8_goesSteps 6 none) dz [vR_ (some w0), vI_ w1, vI_ w2] m (.inl none) m') (hdz : 11 ≤ dz) {t : pm_A} {i0 : Int32} {i1 : Int32} {m0 m' : pm_M} {r : Unit} (ht : t.1 = 8) (h : b_X8_goesSteps F z_ t i0 i1 m0 = some (r, m')) : Cal_ G l yX8_goesSteps (ws_ yX8_goesSteps cX8_goesSteps 6 none) (dz + 1) [vR_ (some t), vI_ i0, vI_ i1] m0 (.inl none) m' := by
  refine cal_of (by decide +kernel) (Nat.le_of_ble_eq_true rfl) ?_
  unfold b_X8_goesSteps at h
  show AW_ cX8_goesSteps RX8 (none, "goesSteps", (dz + 1), 6, m0, m', (.inl none), G, l, [], true) m0 0 [(0, vR_ (some t)), (1, vI_ i0), (2, vI_ i1)] []
  refine a_iload_n 1 dX8_goesSteps_0 rfl rfl ?_
  refine a_istore_n (ls' := [(3, vI_ i0), (0, vR_ (some t)), (1, vI_ i0), (2, vI_ i1)]) dX8_goesSteps_1 rfl (Nat.le_of_ble_eq_true rfl) rfl ?_
  refine aw_pick [1, 3, 0] rfl ?_
  exact w_X8_goesSteps_L2 hl hz hdz _ _ ht _ _ _ h
def f_X8_goesSteps (F : Nat) : Nat → pm_A → Int32 → Int32 → pm_M → Option (Unit × pm_M)
  | 0, _, _, _, _ => none
  | D + 1, t, i0, i1, m => b_X8_goesSteps F (f_X8_goesSteps F D) t i0 i1 m
theorem er_X8_goesSteps {G : xg_T} {l : Launch} (hl : l.stackTraces = false) {F : Nat} : ∀ (D : Nat) (t : pm_A) (i0 : Int32) (i1 : Int32) (m m' : pm_M) (r : Unit), t.1 = 8 → f_X8_goesSteps F D t i0 i1 m = some (r, m') → Cal_ G l yX8_goesSteps (ws_ yX8_goesSteps cX8_goesSteps 6 none) (1 * D + 11) [vR_ (some t), vI_ i0, vI_ i1] m (.inl none) m' := by
  intro D
  induction D with
  | zero => intro t i0 i1 m m' r ht h; cases h
  | succ D ih =>
    intro t i0 i1 m m' r ht h
    have h : b_X8_goesSteps F (f_X8_goesSteps F D) t i0 i1 m = some (r, m') := h
    have q := eb_X8_goesSteps (dz := 1 * D + 11) hl ih (by omega) ht h
    rw [show 1 * (D + 1) + 11 = 1 * D + 11 + 1 by omega]
    exact q
theorem e_X8_goesSteps {G : xg_T} {l : Launch} (hl : l.stackTraces = false) {F : Nat} {t : pm_A} {i0 : Int32} {i1 : Int32} {m m' : pm_M} {r : Unit} (ht : t.1 = 8) (h : f_X8_goesSteps F 10 t i0 i1 m = some (r, m')) : Cal_ G l yX8_goesSteps (ws_ yX8_goesSteps cX8_goesSteps 6 none) 21 [vR_ (some t), vI_ i0, vI_ i1] m (.inl none) m' := er_X8_goesSteps hl 10 _ _ _ _ _ _ ht h
def f_X8_work_L123 (F : Nat)  (p50 : pm_A) (k52 : pm_M → Option (Int32 × pm_M)) : Nat → Int32 → pm_M → Option (Int32 × pm_M)
  | 0, _, _ => none
  | n54 + 1, x56, m55 =>
    if 66 ≤ x56 then
      k52 m55
    else
      gd_ 100 (gR_ m55 p50 37) fun a58 =>
      iz_ (!(ib_ x56 a58.2.1)) <|
      gd_ 100 (gR_ m55 p50 39) fun a62 =>
      iz_ (!(ib_ ((66 * (gI_ m55 p50 32)) + x56) a62.2.1)) <|
      lt_ (pI_ m55 a62 (((66 * (gI_ m55 p50 32)) + x56).toNatClampNeg) (gI_ m55 a58 x56.toNatClampNeg)) fun m66 =>
      (f_X8_work_L123 F p50 k52 n54) (x56 + 1) m66
set_option maxHeartbeats 4000000 in
theorem w_X8_work_L123 {G : xg_T} {l : Launch} (hl : l.stackTraces = false) {F : Nat}    (p50 : pm_A) (k52 : pm_M → Option (Int32 × pm_M)) {m0 m' : pm_M} {r : Int32} (hf51 : p50.1 = 8) (hk52 : ∀ (m53 : pm_M), k52 m53 = some (r, m') → AW_ cX8_work RX8 (some (.int), "work", 22, 4, m0, m', (.inl (some (vI_ r))), G, l, [], true) m53 155 [(0, vR_ (some p50))] []) : ∀ (n : Nat) (x56 : Int32) (m55 : pm_M), f_X8_work_L123 F p50 k52 n x56 m55 = some (r, m') → AW_ cX8_work RX8 (some (.int), "work", 22, 4, m0, m', (.inl (some (vI_ r))), G, l, [], true) m55 123 [(0, vR_ (some p50)), (3, vI_ x56)] [] := by
  intro n
  induction n with
  | zero => intro x56 m55 h; cases h
  | succ n54 ih =>
    intro x56 m55 h
    rw [f_X8_work_L123] at h
    refine a_iload_n 1 dX8_work_123 rfl rfl ?_
    refine a_bipush (v := 66) dX8_work_124 (by decide) ?_
    refine a_icmp_ge (tgt := 155) dX8_work_126 (by decide) (fun c57 => ?_) (fun c57 => ?_)
    · replace h := ifp_ c57 h
      refine aw_pick [0] rfl ?_
      exact hk52 _ h
    · replace h := ifn_ c57 h
      refine a_aload_n 0 dX8_work_129 rfl rfl ?_
      refine a_getR kc_8 39 (by decide) rfl hf51 q1593 dX8_work_130 ?_
      refine a_bipush (v := 66) dX8_work_133 (by decide) ?_
      refine a_aload_n 0 dX8_work_135 rfl rfl ?_
      refine a_getI kc_8 32 (by decide) rfl hf51 q1586 dX8_work_136 ?_
      refine a_imul dX8_work_139 ?_
      refine a_iload_n 1 dX8_work_140 rfl rfl ?_
      refine a_iadd dX8_work_141 ?_
      refine a_aload_n 0 dX8_work_142 rfl rfl ?_
      refine a_getR kc_8 37 (by decide) rfl hf51 q1591 dX8_work_143 ?_
      refine a_iload_n 1 dX8_work_146 rfl rfl ?_
      obtain ⟨a58, e59, f60, h⟩ := gd_some h
      rw [e59]
      obtain ⟨c61, h⟩ := iz_some h
      refine a_iald f60 (bn_ c61) dX8_work_147 ?_
      obtain ⟨a62, e63, f64, h⟩ := gd_some h
      rw [e63]
      obtain ⟨c65, h⟩ := iz_some h
      obtain ⟨m66, e67, h⟩ := lt_some h
      refine a_iast f64 (bn_ c65) dX8_work_148 ?_
      rw [← e67]
      refine a_iinc (v := x56 + 1) (ls' := [(3, vI_ (x56 + 1)), (0, vR_ (some p50))]) 1 dX8_work_149 rfl rfl (Nat.le_of_ble_eq_true rfl) rfl ?_
      refine a_goto (tgt := 123) dX8_work_152 (by decide) ?_
      refine aw_pick [1, 0] rfl ?_
      exact ih _ _ h
def f_X8_work_L68 (F : Nat)  (p69 : pm_A) (k71 : pm_M → Option (Int32 × pm_M)) : Nat → pm_M → Option (Int32 × pm_M)
  | 0, _ => none
  | n73 + 1, m74 =>
    bm_ (f_X8_fine F p69 m74) fun v77 m75 =>
    if v77 = 0 then
      k71 m75
    else
      bm_ (f_X8_isMore F p69 m75) fun v81 m79 =>
      if v81 = 0 then
        k71 m79
      else
        bm_ (f_X8_readStep F 10 p69 m79) fun v85 m83 =>
        (f_X8_work_L68 F p69 k71 n73) m83
set_option maxHeartbeats 4000000 in
theorem w_X8_work_L68 {G : xg_T} {l : Launch} (hl : l.stackTraces = false) {F : Nat}    (p69 : pm_A) (k71 : pm_M → Option (Int32 × pm_M)) {m0 m' : pm_M} {r : Int32} (hf70 : p69.1 = 8) (hk71 : ∀ (m72 : pm_M), k71 m72 = some (r, m') → AW_ cX8_work RX8 (some (.int), "work", 22, 4, m0, m', (.inl (some (vI_ r))), G, l, [], true) m72 89 [(0, vR_ (some p69))] []) : ∀ (n : Nat) (m74 : pm_M), f_X8_work_L68 F p69 k71 n m74 = some (r, m') → AW_ cX8_work RX8 (some (.int), "work", 22, 4, m0, m', (.inl (some (vI_ r))), G, l, [], true) m74 68 [(0, vR_ (some p69))] [] := by
  intro n
  induction n with
  | zero => intro m74 h; cases h
  | succ n73 ih =>
    intro m74 h
    rw [f_X8_work_L68] at h
    refine a_aload_n 0 dX8_work_68 rfl rfl ?_
    obtain ⟨v77, m75, e76, h⟩ := bm_some h
    have he76 := e_X8_fine (G := G) hl hf70 e76
    refine c_I he76.1 (rn_V (n := 0) (As := []) kc_8 hf70 he76 (lw_V q1752 q1754 qs34 q97 q1755) (by decide +kernel) rfl (Nat.le_of_ble_eq_true rfl) (Nat.le_of_ble_eq_true rfl) (Nat.le_of_ble_eq_true rfl) dX8_work_69) (fun z => (os_av (As := []) z).2.1) ?_
    refine a_if_eq (tgt := 89) dX8_work_72 (by decide) (fun c78 => ?_) (fun c78 => ?_)
    · replace h := ifp_ c78 h
      exact hk71 _ h
    · replace h := ifn_ c78 h
      refine a_aload_n 0 dX8_work_75 rfl rfl ?_
      obtain ⟨v81, m79, e80, h⟩ := bm_some h
      have he80 := e_X8_isMore (G := G) hl hf70 e80
      refine c_I he80.1 (rn_V (n := 0) (As := []) kc_8 hf70 he80 (lw_V q1756 q1758 qs35 q97 q1759) (by decide +kernel) rfl (Nat.le_of_ble_eq_true rfl) (Nat.le_of_ble_eq_true rfl) (Nat.le_of_ble_eq_true rfl) dX8_work_76) (fun z => (os_av (As := []) z).2.1) ?_
      refine a_if_eq (tgt := 89) dX8_work_79 (by decide) (fun c82 => ?_) (fun c82 => ?_)
      · replace h := ifp_ c82 h
        exact hk71 _ h
      · replace h := ifn_ c82 h
        refine a_aload_n 0 dX8_work_82 rfl rfl ?_
        obtain ⟨v85, m83, e84, h⟩ := bm_some h
        have he84 := e_X8_readStep (G := G) hl hf70 e84
        refine c_V he84.1 (rn_V (n := 0) (As := []) kc_8 hf70 he84 (lw_V q1868 q1870 qs53 q97 q1871) (by decide +kernel) rfl (Nat.le_of_ble_eq_true rfl) (Nat.le_of_ble_eq_true rfl) (Nat.le_of_ble_eq_true rfl) dX8_work_83) (fun z => (os_av (As := []) z).2.1) ?_
        refine a_goto (tgt := 68) dX8_work_86 (by decide) ?_
        exact ih _ h
def f_X8_work (F : Nat)  (t : pm_A) (i0 : Int32) (m : pm_M) : Option (Int32 × pm_M) :=
  lt_ (pI_ m t 0 0) fun m1 =>
  jn_ (fun (y5 : Option pm_A) (y6 : Int32) (m4 : pm_M) =>
    gd_ 8 y5 fun a7 =>
    bm_ (f_X8_may F a7 y6 1 1 m4) fun v12 m10 =>
    if v12 = 0 then
      some (0, m10)
    else
      bm_ (f_X8_begins F t i0 m10) fun v16 m14 =>
      if (gI_ m14 t 32) = 16 then
        bm_ (f_X8_result F t 0 m14) fun v89 m87 =>
        some (((-20)), m87)
      else
        lt_ (pI_ m14 t 31 0) fun m18 =>
        jn_ (fun  (m21 : pm_M) =>
          bm_ (f_X8_result F t 0 m21) fun v24 m22 =>
          if (gI_ m22 t 5) = ((-1)) then
            bm_ (f_X8_copies F t (gR_ m22 t 29) (gR_ m22 t 30) (gI_ m22 t 31) m22) fun v28 m26 =>
            jn_ (fun  (m30 : pm_M) =>
              lt_ (pI_ m30 t 32 ((gI_ m30 t 32) + 1)) fun m31 =>
              bm_ (f_X8_take F t m31) fun v35 m33 =>
              lt_ (pI_ m33 t 34 0) fun m36 =>
              lt_ (pI_ m36 t 35 0) fun m38 =>
              lt_ (pI_ m38 t 36 0) fun m40 =>
              bm_ (f_X8_goesSteps F 10 t 0 (gI_ m40 t 31) m40) fun v44 m42 =>
              bm_ (f_X8_copies F t (gR_ m42 t 38) (gR_ m42 t 37) 66 m42) fun v47 m45 =>
              lt_ (pI_ m45 t 33 (gI_ m45 t 36)) fun m48 =>
              some ((gI_ m48 t 35), m48)
            ) fun k29 =>
            f_X8_work_L123 F t k29 F 0 m26
          else
            some (v24, m22)
        ) fun k20 =>
        f_X8_work_L68 F t k20 F m18
  ) fun k3 =>
  jn_ (fun (y92 : Option pm_A) (m91 : pm_M) =>
    k3 y92 0 m91
  ) fun k90 =>
  if i0 < 0 then
    k90 (some t) m1
  else
    if (gI_ m1 t 2) < i0 then
      k90 (some t) m1
    else
      if 150 < i0 then
        k90 (some t) m1
      else
        k3 (some t) 1 m1
set_option maxHeartbeats 4000000 in
theorem e_X8_work {G : xg_T} {l : Launch} (hl : l.stackTraces = false) {F : Nat}    {t : pm_A} {i0 : Int32} {m0 m' : pm_M} {r : Int32} (ht : t.1 = 8) (h : f_X8_work F t i0 m0 = some (r, m')) : Cal_ G l yX8_work (ws_ yX8_work cX8_work 4 (some .int)) 22 [vR_ (some t), vI_ i0] m0 (.inl (some (vI_ r))) m' := by
  refine cal_of (by decide +kernel) (Nat.le_of_ble_eq_true rfl) ?_
  unfold f_X8_work at h
  show AW_ cX8_work RX8 (some (.int), "work", 22, 4, m0, m', (.inl (some (vI_ r))), G, l, [], true) m0 0 [(0, vR_ (some t)), (1, vI_ i0)] []
  refine a_aload_n 0 dX8_work_0 rfl rfl ?_
  refine a_iconst (v := 0) dX8_work_1 (by decide) ?_
  obtain ⟨m1, e2, h⟩ := lt_some h
  refine a_putI kc_8 0 (by decide) rfl ht q1554 rfl rfl rfl dX8_work_2 ?_
  rw [← e2]
  refine a_aload_n 0 dX8_work_5 rfl rfl ?_
  refine a_iload_n 1 dX8_work_6 rfl rfl ?_
  obtain ⟨k3, e97, h⟩ := jn3_some h
  have hk3 : ∀ (y5 : Option pm_A) (y6 : Int32) (m4 : pm_M), k3 y5 y6 m4 = some (r, m') → AW_ cX8_work RX8 (some (.int), "work", 22, 4, m0, m', (.inl (some (vI_ r))), G, l, [], true) m4 30 [(0, vR_ (some t)), (1, vI_ i0)] [vI_ y6, vR_ y5] := by
    intro y5 y6 m4 h
    have h := (e97 y5 y6 m4).symm.trans h
    refine a_iconst (v := 1) dX8_work_30 (by decide) ?_
    refine a_iconst (v := 1) dX8_work_31 (by decide) ?_
    obtain ⟨a7, e8, f9, h⟩ := gd_some h
    rw [e8]
    obtain ⟨v12, m10, e11, h⟩ := bm_some h
    have he11 := e_X8_may (G := G) hl f9 e11
    refine c_I he11.1 (rn_V (n := 3) (As := [vI_ y6, vI_ 1, vI_ 1]) kc_8 f9 he11 (lw_V q1744 q1746 qs32 q97 q1747) (by decide +kernel) rfl (Nat.le_of_ble_eq_true rfl) (Nat.le_of_ble_eq_true rfl) (Nat.le_of_ble_eq_true rfl) dX8_work_32) (fun z => (os_av (As := [vI_ y6, vI_ 1, vI_ 1]) z).2.1) ?_
    refine a_if_ne (tgt := 40) dX8_work_35 (by decide) (fun c13 => ?_) (fun c13 => ?_)
    · replace h := ifn_ c13 h
      refine a_aload_n 0 dX8_work_40 rfl rfl ?_
      refine a_iload_n 1 dX8_work_41 rfl rfl ?_
      obtain ⟨v16, m14, e15, h⟩ := bm_some h
      have he15 := e_X8_begins (G := G) hl ht e15
      refine c_V he15.1 (rn_V (n := 1) (As := [vI_ i0]) kc_8 ht he15 (lw_V q1748 q1750 qs33 q97 q1751) (by decide +kernel) rfl (Nat.le_of_ble_eq_true rfl) (Nat.le_of_ble_eq_true rfl) (Nat.le_of_ble_eq_true rfl) dX8_work_42) (fun z => (os_av (As := [vI_ i0]) z).2.1) ?_
      refine a_aload_n 0 dX8_work_45 rfl rfl ?_
      refine a_getI kc_8 32 (by decide) rfl ht q1586 dX8_work_46 ?_
      refine a_bipush (v := 16) dX8_work_49 (by decide) ?_
      refine a_icmp_ne (tgt := 63) dX8_work_51 (by decide) (fun c17 => ?_) (fun c17 => ?_)
      · replace h := ifn_ c17 h
        refine a_aload_n 0 dX8_work_63 rfl rfl ?_
        refine a_iconst (v := 0) dX8_work_64 (by decide) ?_
        obtain ⟨m18, e19, h⟩ := lt_some h
        refine a_putI kc_8 31 (by decide) rfl ht q1585 rfl rfl rfl dX8_work_65 ?_
        rw [← e19]
        obtain ⟨k20, e86, h⟩ := jn1_some h
        have hk20 : ∀  (m21 : pm_M), k20 m21 = some (r, m') → AW_ cX8_work RX8 (some (.int), "work", 22, 4, m0, m', (.inl (some (vI_ r))), G, l, [], true) m21 89 [(0, vR_ (some t))] [] := by
          intro m21 h
          have h := (e86 m21).symm.trans h
          refine a_aload_n 0 dX8_work_89 rfl rfl ?_
          refine a_iconst (v := 0) dX8_work_90 (by decide) ?_
          obtain ⟨v24, m22, e23, h⟩ := bm_some h
          have he23 := e_X8_result (G := G) hl ht e23
          refine c_I he23.1 (rn_V (n := 1) (As := [vI_ 0]) kc_8 ht he23 (lw_V q1815 q1817 qs45 q97 q1818) (by decide +kernel) rfl (Nat.le_of_ble_eq_true rfl) (Nat.le_of_ble_eq_true rfl) (Nat.le_of_ble_eq_true rfl) dX8_work_91) (fun z => (os_av (As := [vI_ 0]) z).2.1) ?_
          refine a_istore_n (ls' := [(2, vI_ v24), (0, vR_ (some t))]) dX8_work_94 rfl (Nat.le_of_ble_eq_true rfl) rfl ?_
          refine a_aload_n 1 dX8_work_95 rfl rfl ?_
          refine a_getI kc_8 5 (by decide) rfl ht q1559 dX8_work_96 ?_
          refine a_iconst (v := (-1)) dX8_work_99 (by decide) ?_
          refine a_icmp_eq (tgt := 105) dX8_work_100 (by decide) (fun c25 => ?_) (fun c25 => ?_)
          · replace h := ifp_ c25 h
            refine a_aload_n 1 dX8_work_105 rfl rfl ?_
            refine a_aload_n 1 dX8_work_106 rfl rfl ?_
            refine a_getR kc_8 29 (by decide) rfl ht q1583 dX8_work_107 ?_
            refine a_aload_n 1 dX8_work_110 rfl rfl ?_
            refine a_getR kc_8 30 (by decide) rfl ht q1584 dX8_work_111 ?_
            refine a_aload_n 1 dX8_work_114 rfl rfl ?_
            refine a_getI kc_8 31 (by decide) rfl ht q1585 dX8_work_115 ?_
            obtain ⟨v28, m26, e27, h⟩ := bm_some h
            have he27 := e_X8_copies (G := G) hl ht e27
            refine c_V he27.1 (rn_V (n := 3) (As := [vR_ (gR_ m22 t 29), vR_ (gR_ m22 t 30), vI_ (gI_ m22 t 31)]) kc_8 ht he27 (lw_V q1550 q1552 qs31 q97 q1553) (by decide +kernel) rfl (Nat.le_of_ble_eq_true rfl) (Nat.le_of_ble_eq_true rfl) (Nat.le_of_ble_eq_true rfl) dX8_work_118) (fun z => (os_av (As := [vR_ (gR_ m22 t 29), vR_ (gR_ m22 t 30), vI_ (gI_ m22 t 31)]) z).2.1) ?_
            refine a_iconst (v := 0) dX8_work_121 (by decide) ?_
            refine a_istore_n (ls' := [(3, vI_ 0), (2, vI_ v24), (0, vR_ (some t))]) dX8_work_122 rfl (Nat.le_of_ble_eq_true rfl) rfl ?_
            obtain ⟨k29, e68, h⟩ := jn1_some h
            have hk29 : ∀  (m30 : pm_M), k29 m30 = some (r, m') → AW_ cX8_work RX8 (some (.int), "work", 22, 4, m0, m', (.inl (some (vI_ r))), G, l, [], true) m30 155 [(0, vR_ (some t))] [] := by
              intro m30 h
              have h := (e68 m30).symm.trans h
              refine a_aload_n 0 dX8_work_155 rfl rfl ?_
              refine a_dup dX8_work_156 rfl ?_
              refine a_getI kc_8 32 (by decide) rfl ht q1586 dX8_work_157 ?_
              refine a_iconst (v := 1) dX8_work_160 (by decide) ?_
              refine a_iadd dX8_work_161 ?_
              obtain ⟨m31, e32, h⟩ := lt_some h
              refine a_putI kc_8 32 (by decide) rfl ht q1586 rfl rfl rfl dX8_work_162 ?_
              rw [← e32]
              refine a_aload_n 0 dX8_work_165 rfl rfl ?_
              obtain ⟨v35, m33, e34, h⟩ := bm_some h
              have he34 := e_X8_take (G := G) hl ht e34
              refine c_V he34.1 (rn_V (n := 0) (As := []) kc_8 ht he34 (lw_V q1888 q1890 qs56 q97 q1891) (by decide +kernel) rfl (Nat.le_of_ble_eq_true rfl) (Nat.le_of_ble_eq_true rfl) (Nat.le_of_ble_eq_true rfl) dX8_work_166) (fun z => (os_av (As := []) z).2.1) ?_
              refine a_aload_n 0 dX8_work_169 rfl rfl ?_
              refine a_iconst (v := 0) dX8_work_170 (by decide) ?_
              obtain ⟨m36, e37, h⟩ := lt_some h
              refine a_putI kc_8 34 (by decide) rfl ht q1588 rfl rfl rfl dX8_work_171 ?_
              rw [← e37]
              refine a_aload_n 0 dX8_work_174 rfl rfl ?_
              refine a_iconst (v := 0) dX8_work_175 (by decide) ?_
              obtain ⟨m38, e39, h⟩ := lt_some h
              refine a_putI kc_8 35 (by decide) rfl ht q1589 rfl rfl rfl dX8_work_176 ?_
              rw [← e39]
              refine a_aload_n 0 dX8_work_179 rfl rfl ?_
              refine a_iconst (v := 0) dX8_work_180 (by decide) ?_
              obtain ⟨m40, e41, h⟩ := lt_some h
              refine a_putI kc_8 36 (by decide) rfl ht q1590 rfl rfl rfl dX8_work_181 ?_
              rw [← e41]
              refine a_aload_n 0 dX8_work_184 rfl rfl ?_
              refine a_iconst (v := 0) dX8_work_185 (by decide) ?_
              refine a_aload_n 0 dX8_work_186 rfl rfl ?_
              refine a_getI kc_8 31 (by decide) rfl ht q1585 dX8_work_187 ?_
              obtain ⟨v44, m42, e43, h⟩ := bm_some h
              have he43 := e_X8_goesSteps (G := G) hl ht e43
              refine c_V he43.1 (rn_V (n := 2) (As := [vI_ 0, vI_ (gI_ m40 t 31)]) kc_8 ht he43 (lw_V q1892 q1894 qs57 q97 q1895) (by decide +kernel) rfl (Nat.le_of_ble_eq_true rfl) (Nat.le_of_ble_eq_true rfl) (Nat.le_of_ble_eq_true rfl) dX8_work_190) (fun z => (os_av (As := [vI_ 0, vI_ (gI_ m40 t 31)]) z).2.1) ?_
              refine a_aload_n 0 dX8_work_193 rfl rfl ?_
              refine a_aload_n 0 dX8_work_194 rfl rfl ?_
              refine a_getR kc_8 38 (by decide) rfl ht q1592 dX8_work_195 ?_
              refine a_aload_n 0 dX8_work_198 rfl rfl ?_
              refine a_getR kc_8 37 (by decide) rfl ht q1591 dX8_work_199 ?_
              refine a_bipush (v := 66) dX8_work_202 (by decide) ?_
              obtain ⟨v47, m45, e46, h⟩ := bm_some h
              have he46 := e_X8_copies (G := G) hl ht e46
              refine c_V he46.1 (rn_V (n := 3) (As := [vR_ (gR_ m42 t 38), vR_ (gR_ m42 t 37), vI_ 66]) kc_8 ht he46 (lw_V q1550 q1552 qs31 q97 q1553) (by decide +kernel) rfl (Nat.le_of_ble_eq_true rfl) (Nat.le_of_ble_eq_true rfl) (Nat.le_of_ble_eq_true rfl) dX8_work_204) (fun z => (os_av (As := [vR_ (gR_ m42 t 38), vR_ (gR_ m42 t 37), vI_ 66]) z).2.1) ?_
              refine a_aload_n 0 dX8_work_207 rfl rfl ?_
              refine a_aload_n 0 dX8_work_208 rfl rfl ?_
              refine a_getI kc_8 36 (by decide) rfl ht q1590 dX8_work_209 ?_
              obtain ⟨m48, e49, h⟩ := lt_some h
              refine a_putI kc_8 33 (by decide) rfl ht q1587 rfl rfl rfl dX8_work_212 ?_
              rw [← e49]
              refine a_aload_n 0 dX8_work_215 rfl rfl ?_
              refine a_getI kc_8 35 (by decide) rfl ht q1589 dX8_work_216 ?_
              cases h
              exact a_ireturn rfl rfl rfl rfl rfl dX8_work_219
            refine aw_pick [2, 0] rfl ?_
            exact w_X8_work_L123 hl _ _ ht hk29 _ _ _ h
          · replace h := ifn_ c25 h
            refine a_iload_n 0 dX8_work_103 rfl rfl ?_
            cases h
            exact a_ireturn rfl rfl rfl rfl rfl dX8_work_104
        refine aw_pick [0] rfl ?_
        exact w_X8_work_L68 hl _ _ ht hk20 _ _ h
      · replace h := ifp_ c17 h
        refine a_aload_n 0 dX8_work_54 rfl rfl ?_
        refine a_iconst (v := 0) dX8_work_55 (by decide) ?_
        obtain ⟨v89, m87, e88, h⟩ := bm_some h
        have he88 := e_X8_result (G := G) hl ht e88
        refine c_I he88.1 (rn_V (n := 1) (As := [vI_ 0]) kc_8 ht he88 (lw_V q1815 q1817 qs45 q97 q1818) (by decide +kernel) rfl (Nat.le_of_ble_eq_true rfl) (Nat.le_of_ble_eq_true rfl) (Nat.le_of_ble_eq_true rfl) dX8_work_56) (fun z => (os_av (As := [vI_ 0]) z).2.1) ?_
        refine a_pop dX8_work_59 rfl ?_
        refine a_bipush (v := (-20)) dX8_work_60 (by decide) ?_
        cases h
        exact a_ireturn rfl rfl rfl rfl rfl dX8_work_62
    · replace h := ifp_ c13 h
      refine a_iconst (v := 0) dX8_work_38 (by decide) ?_
      cases h
      exact a_ireturn rfl rfl rfl rfl rfl dX8_work_39
  obtain ⟨k90, e96, h⟩ := jn2_some h
  have hk90 : ∀ (y92 : Option pm_A) (m91 : pm_M), k90 y92 m91 = some (r, m') → AW_ cX8_work RX8 (some (.int), "work", 22, 4, m0, m', (.inl (some (vI_ r))), G, l, [], true) m91 29 [(0, vR_ (some t)), (1, vI_ i0)] [vR_ y92] := by
    intro y92 m91 h
    have h := (e96 y92 m91).symm.trans h
    refine a_iconst (v := 0) dX8_work_29 (by decide) ?_
    exact hk3 _ _ _ h
  refine a_if_lt (tgt := 29) dX8_work_7 (by decide) (fun c93 => ?_) (fun c93 => ?_)
  · replace h := ifp_ c93 h
    exact hk90 _ _ h
  · replace h := ifn_ c93 h
    refine a_iload_n 1 dX8_work_10 rfl rfl ?_
    refine a_aload_n 0 dX8_work_11 rfl rfl ?_
    refine a_getI kc_8 2 (by decide) rfl ht q1556 dX8_work_12 ?_
    refine a_icmp_gt (tgt := 29) dX8_work_15 (by decide) (fun c94 => ?_) (fun c94 => ?_)
    · replace h := ifp_ c94 h
      exact hk90 _ _ h
    · replace h := ifn_ c94 h
      refine a_iload_n 1 dX8_work_18 rfl rfl ?_
      refine a_sipush (v := 150) dX8_work_19 (by decide) ?_
      refine a_icmp_gt (tgt := 29) dX8_work_22 (by decide) (fun c95 => ?_) (fun c95 => ?_)
      · replace h := ifp_ c95 h
        exact hk90 _ _ h
      · replace h := ifn_ c95 h
        refine a_iconst (v := 1) dX8_work_25 (by decide) ?_
        refine a_goto (tgt := 30) dX8_work_26 (by decide) ?_
        exact hk3 _ _ _ h
