/-! PRINTED BY dec.py: X8_sets X8_init X8_feed X8_fault X8_may X8_begins X8_fine X8_here X8_isMore X8_isSmall X8_standsHere X8_word X8_of X8_isRow -/
set_option maxRecDepth 100000
def f_X8_sets_L109 (F : Nat)  (p43 : pm_A) (k45 : pm_M → Option (Unit × pm_M)) : Nat → Int32 → pm_M → Option (Unit × pm_M)
  | 0, _, _ => none
  | n47 + 1, x49, m48 =>
    if 8 ≤ x49 then
      k45 m48
    else
      gd_ 100 (gR_ m48 p43 37) fun a51 =>
      iz_ (!(ib_ (8 + x49) a51.2.1)) <|
      lt_ (pI_ m48 a51 ((8 + x49).toNatClampNeg) ((-1))) fun m55 =>
      gd_ 100 (gR_ m55 p43 37) fun a57 =>
      iz_ (!(ib_ (48 + x49) a57.2.1)) <|
      lt_ (pI_ m55 a57 ((48 + x49).toNatClampNeg) ((-1))) fun m61 =>
      if (gI_ m61 p43 18) ≤ x49 then
        gd_ 100 (gR_ m61 p43 37) fun a64 =>
        iz_ (!(ib_ (56 + x49) a64.2.1)) <|
        lt_ (pI_ m61 a64 ((56 + x49).toNatClampNeg) 0) fun m68 =>
        (f_X8_sets_L109 F p43 k45 n47) (x49 + 1) m68
      else
        gd_ 100 (gR_ m61 p43 12) fun a70 =>
        iz_ (!(ib_ ((4 * x49) + 3) a70.2.1)) <|
        gd_ 100 (gR_ m61 p43 37) fun a74 =>
        iz_ (!(ib_ (56 + x49) a74.2.1)) <|
        lt_ (pI_ m61 a74 ((56 + x49).toNatClampNeg) (gI_ m61 a70 ((4 * x49) + 3).toNatClampNeg)) fun m78 =>
        (f_X8_sets_L109 F p43 k45 n47) (x49 + 1) m78
set_option maxHeartbeats 4000000 in
theorem w_X8_sets_L109 {G : xg_T} {l : Launch} (hl : l.stackTraces = false) {F : Nat}    (p43 : pm_A) (k45 : pm_M → Option (Unit × pm_M)) {m0 m' : pm_M} {r : Unit} (hf44 : p43.1 = 8) (hk45 : ∀ (m46 : pm_M), k45 m46 = some (r, m') → AW_ cX8_sets RX8 (none, "sets", 3, 2, m0, m', (.inl none), G, l, [], true) m46 172 [(0, vR_ (some p43))] []) : ∀ (n : Nat) (x49 : Int32) (m48 : pm_M), f_X8_sets_L109 F p43 k45 n x49 m48 = some (r, m') → AW_ cX8_sets RX8 (none, "sets", 3, 2, m0, m', (.inl none), G, l, [], true) m48 109 [(0, vR_ (some p43)), (1, vI_ x49)] [] := by
  intro n
  induction n with
  | zero => intro x49 m48 h; cases h
  | succ n47 ih =>
    intro x49 m48 h
    rw [f_X8_sets_L109] at h
    refine a_iload_n 1 dX8_sets_109 rfl rfl ?_
    refine a_bipush (v := 8) dX8_sets_110 (by decide) ?_
    refine a_icmp_ge (tgt := 172) dX8_sets_112 (by decide) (fun c50 => ?_) (fun c50 => ?_)
    · replace h := ifp_ c50 h
      refine aw_pick [0] rfl ?_
      exact hk45 _ h
    · replace h := ifn_ c50 h
      refine a_aload_n 0 dX8_sets_115 rfl rfl ?_
      refine a_getR kc_8 37 (by decide) rfl hf44 q1591 dX8_sets_116 ?_
      refine a_bipush (v := 8) dX8_sets_119 (by decide) ?_
      refine a_iload_n 1 dX8_sets_121 rfl rfl ?_
      refine a_iadd dX8_sets_122 ?_
      refine a_iconst (v := (-1)) dX8_sets_123 (by decide) ?_
      obtain ⟨a51, e52, f53, h⟩ := gd_some h
      rw [e52]
      obtain ⟨c54, h⟩ := iz_some h
      obtain ⟨m55, e56, h⟩ := lt_some h
      refine a_iast f53 (bn_ c54) dX8_sets_124 ?_
      rw [← e56]
      refine a_aload_n 0 dX8_sets_125 rfl rfl ?_
      refine a_getR kc_8 37 (by decide) rfl hf44 q1591 dX8_sets_126 ?_
      refine a_bipush (v := 48) dX8_sets_129 (by decide) ?_
      refine a_iload_n 1 dX8_sets_131 rfl rfl ?_
      refine a_iadd dX8_sets_132 ?_
      refine a_iconst (v := (-1)) dX8_sets_133 (by decide) ?_
      obtain ⟨a57, e58, f59, h⟩ := gd_some h
      rw [e58]
      obtain ⟨c60, h⟩ := iz_some h
      obtain ⟨m61, e62, h⟩ := lt_some h
      refine a_iast f59 (bn_ c60) dX8_sets_134 ?_
      rw [← e62]
      refine a_aload_n 0 dX8_sets_135 rfl rfl ?_
      refine a_getR kc_8 37 (by decide) rfl hf44 q1591 dX8_sets_136 ?_
      refine a_bipush (v := 56) dX8_sets_139 (by decide) ?_
      refine a_iload_n 1 dX8_sets_141 rfl rfl ?_
      refine a_iadd dX8_sets_142 ?_
      refine a_iload_n 1 dX8_sets_143 rfl rfl ?_
      refine a_aload_n 0 dX8_sets_144 rfl rfl ?_
      refine a_getI kc_8 18 (by decide) rfl hf44 q1572 dX8_sets_145 ?_
      refine a_icmp_ge (tgt := 164) dX8_sets_148 (by decide) (fun c63 => ?_) (fun c63 => ?_)
      · replace h := ifp_ c63 h
        refine a_iconst (v := 0) dX8_sets_164 (by decide) ?_
        obtain ⟨a64, e65, f66, h⟩ := gd_some h
        rw [e65]
        obtain ⟨c67, h⟩ := iz_some h
        obtain ⟨m68, e69, h⟩ := lt_some h
        refine a_iast f66 (bn_ c67) dX8_sets_165 ?_
        rw [← e69]
        refine a_iinc (v := x49 + 1) (ls' := [(1, vI_ (x49 + 1)), (0, vR_ (some p43))]) 1 dX8_sets_166 rfl rfl (Nat.le_of_ble_eq_true rfl) rfl ?_
        refine a_goto (tgt := 109) dX8_sets_169 (by decide) ?_
        refine aw_pick [1, 0] rfl ?_
        exact ih _ _ h
      · replace h := ifn_ c63 h
        refine a_aload_n 0 dX8_sets_151 rfl rfl ?_
        refine a_getR kc_8 12 (by decide) rfl hf44 q1566 dX8_sets_152 ?_
        refine a_iconst (v := 4) dX8_sets_155 (by decide) ?_
        refine a_iload_n 1 dX8_sets_156 rfl rfl ?_
        refine a_imul dX8_sets_157 ?_
        refine a_iconst (v := 3) dX8_sets_158 (by decide) ?_
        refine a_iadd dX8_sets_159 ?_
        obtain ⟨a70, e71, f72, h⟩ := gd_some h
        rw [e71]
        obtain ⟨c73, h⟩ := iz_some h
        refine a_iald f72 (bn_ c73) dX8_sets_160 ?_
        refine a_goto (tgt := 165) dX8_sets_161 (by decide) ?_
        obtain ⟨a74, e75, f76, h⟩ := gd_some h
        rw [e75]
        obtain ⟨c77, h⟩ := iz_some h
        obtain ⟨m78, e79, h⟩ := lt_some h
        refine a_iast f76 (bn_ c77) dX8_sets_165 ?_
        rw [← e79]
        refine a_iinc (v := x49 + 1) (ls' := [(1, vI_ (x49 + 1)), (0, vR_ (some p43))]) 1 dX8_sets_166 rfl rfl (Nat.le_of_ble_eq_true rfl) rfl ?_
        refine a_goto (tgt := 109) dX8_sets_169 (by decide) ?_
        refine aw_pick [1, 0] rfl ?_
        exact ih _ _ h
def f_X8_sets_L88 (F : Nat)  (p81 : pm_A) (k83 : pm_M → Option (Unit × pm_M)) : Nat → Int32 → pm_M → Option (Unit × pm_M)
  | 0, _, _ => none
  | n85 + 1, x87, m86 =>
    if 66 ≤ x87 then
      k83 m86
    else
      gd_ 100 (gR_ m86 p81 37) fun a89 =>
      iz_ (!(ib_ x87 a89.2.1)) <|
      lt_ (pI_ m86 a89 x87.toNatClampNeg 0) fun m93 =>
      (f_X8_sets_L88 F p81 k83 n85) (x87 + 1) m93
set_option maxHeartbeats 4000000 in
theorem w_X8_sets_L88 {G : xg_T} {l : Launch} (hl : l.stackTraces = false) {F : Nat}    (p81 : pm_A) (k83 : pm_M → Option (Unit × pm_M)) {m0 m' : pm_M} {r : Unit} (hf82 : p81.1 = 8) (hk83 : ∀ (m84 : pm_M), k83 m84 = some (r, m') → AW_ cX8_sets RX8 (none, "sets", 3, 2, m0, m', (.inl none), G, l, [], true) m84 107 [(0, vR_ (some p81))] []) : ∀ (n : Nat) (x87 : Int32) (m86 : pm_M), f_X8_sets_L88 F p81 k83 n x87 m86 = some (r, m') → AW_ cX8_sets RX8 (none, "sets", 3, 2, m0, m', (.inl none), G, l, [], true) m86 88 [(0, vR_ (some p81)), (1, vI_ x87)] [] := by
  intro n
  induction n with
  | zero => intro x87 m86 h; cases h
  | succ n85 ih =>
    intro x87 m86 h
    rw [f_X8_sets_L88] at h
    refine a_iload_n 1 dX8_sets_88 rfl rfl ?_
    refine a_bipush (v := 66) dX8_sets_89 (by decide) ?_
    refine a_icmp_ge (tgt := 107) dX8_sets_91 (by decide) (fun c88 => ?_) (fun c88 => ?_)
    · replace h := ifp_ c88 h
      refine aw_pick [0] rfl ?_
      exact hk83 _ h
    · replace h := ifn_ c88 h
      refine a_aload_n 0 dX8_sets_94 rfl rfl ?_
      refine a_getR kc_8 37 (by decide) rfl hf82 q1591 dX8_sets_95 ?_
      refine a_iload_n 1 dX8_sets_98 rfl rfl ?_
      refine a_iconst (v := 0) dX8_sets_99 (by decide) ?_
      obtain ⟨a89, e90, f91, h⟩ := gd_some h
      rw [e90]
      obtain ⟨c92, h⟩ := iz_some h
      obtain ⟨m93, e94, h⟩ := lt_some h
      refine a_iast f91 (bn_ c92) dX8_sets_100 ?_
      rw [← e94]
      refine a_iinc (v := x87 + 1) (ls' := [(1, vI_ (x87 + 1)), (0, vR_ (some p81))]) 1 dX8_sets_101 rfl rfl (Nat.le_of_ble_eq_true rfl) rfl ?_
      refine a_goto (tgt := 88) dX8_sets_104 (by decide) ?_
      refine aw_pick [1, 0] rfl ?_
      exact ih _ _ h
def f_X8_sets (F : Nat)  (t : pm_A) (m : pm_M) : Option (Unit × pm_M) :=
  lt_ (pI_ m t 18 (gI_ m t 14)) fun m1 =>
  lt_ (pI_ m1 t 19 (gI_ m1 t 15)) fun m3 =>
  lt_ (pI_ m3 t 20 (gI_ m3 t 17)) fun m5 =>
  bm_ (f_X8_copies F t (gR_ m5 t 10) (gR_ m5 t 12) 32 m5) fun v9 m7 =>
  bm_ (f_X8_copies F t (gR_ m7 t 11) (gR_ m7 t 13) 15 m7) fun v12 m10 =>
  gd_ 100 (gR_ m10 t 25) fun a13 =>
  iz_ (!(ib_ 0 a13.2.1)) <|
  lt_ (pI_ m10 a13 ((0 : Int32).toNatClampNeg) 0) fun m17 =>
  gd_ 100 (gR_ m17 t 25) fun a19 =>
  iz_ (!(ib_ 1 a19.2.1)) <|
  lt_ (pI_ m17 a19 ((1 : Int32).toNatClampNeg) 0) fun m23 =>
  lt_ (pI_ m23 t 45 0) fun m25 =>
  lt_ (pI_ m25 t 32 0) fun m27 =>
  lt_ (pI_ m27 t 58 0) fun m29 =>
  lt_ (pI_ m29 t 33 0) fun m31 =>
  jn_ (fun  (m34 : pm_M) =>
    jn_ (fun  (m36 : pm_M) =>
      gd_ 100 (gR_ m36 t 37) fun a37 =>
      iz_ (!(ib_ 65 a37.2.1)) <|
      lt_ (pI_ m36 a37 ((65 : Int32).toNatClampNeg) (gI_ m36 t 16)) fun m41 =>
      some ((), m41)
    ) fun k35 =>
    f_X8_sets_L109 F t k35 F 0 m34
  ) fun k33 =>
  f_X8_sets_L88 F t k33 F 0 m31
set_option maxHeartbeats 4000000 in
theorem e_X8_sets {G : xg_T} {l : Launch} (hl : l.stackTraces = false) {F : Nat}    {t : pm_A} {m0 m' : pm_M} {r : Unit} (ht : t.1 = 8) (h : f_X8_sets F t m0 = some (r, m')) : Cal_ G l yX8_sets (ws_ yX8_sets cX8_sets 2 none) 3 [vR_ (some t)] m0 (.inl none) m' := by
  refine cal_of (by decide +kernel) (Nat.le_of_ble_eq_true rfl) ?_
  unfold f_X8_sets at h
  show AW_ cX8_sets RX8 (none, "sets", 3, 2, m0, m', (.inl none), G, l, [], true) m0 0 [(0, vR_ (some t))] []
  refine a_aload_n 0 dX8_sets_0 rfl rfl ?_
  refine a_aload_n 0 dX8_sets_1 rfl rfl ?_
  refine a_getI kc_8 14 (by decide) rfl ht q1568 dX8_sets_2 ?_
  obtain ⟨m1, e2, h⟩ := lt_some h
  refine a_putI kc_8 18 (by decide) rfl ht q1572 rfl rfl rfl dX8_sets_5 ?_
  rw [← e2]
  refine a_aload_n 0 dX8_sets_8 rfl rfl ?_
  refine a_aload_n 0 dX8_sets_9 rfl rfl ?_
  refine a_getI kc_8 15 (by decide) rfl ht q1569 dX8_sets_10 ?_
  obtain ⟨m3, e4, h⟩ := lt_some h
  refine a_putI kc_8 19 (by decide) rfl ht q1573 rfl rfl rfl dX8_sets_13 ?_
  rw [← e4]
  refine a_aload_n 0 dX8_sets_16 rfl rfl ?_
  refine a_aload_n 0 dX8_sets_17 rfl rfl ?_
  refine a_getI kc_8 17 (by decide) rfl ht q1571 dX8_sets_18 ?_
  obtain ⟨m5, e6, h⟩ := lt_some h
  refine a_putI kc_8 20 (by decide) rfl ht q1574 rfl rfl rfl dX8_sets_21 ?_
  rw [← e6]
  refine a_aload_n 0 dX8_sets_24 rfl rfl ?_
  refine a_aload_n 0 dX8_sets_25 rfl rfl ?_
  refine a_getR kc_8 10 (by decide) rfl ht q1564 dX8_sets_26 ?_
  refine a_aload_n 0 dX8_sets_29 rfl rfl ?_
  refine a_getR kc_8 12 (by decide) rfl ht q1566 dX8_sets_30 ?_
  refine a_bipush (v := 32) dX8_sets_33 (by decide) ?_
  obtain ⟨v9, m7, e8, h⟩ := bm_some h
  have he8 := e_X8_copies (G := G) hl ht e8
  refine c_V he8.1 (rn_V (n := 3) (As := [vR_ (gR_ m5 t 10), vR_ (gR_ m5 t 12), vI_ 32]) kc_8 ht he8 (lw_V q1550 q1552 qs31 q97 q1553) (by decide +kernel) rfl (Nat.le_of_ble_eq_true rfl) (Nat.le_of_ble_eq_true rfl) (Nat.le_of_ble_eq_true rfl) dX8_sets_35) (fun z => (os_av (As := [vR_ (gR_ m5 t 10), vR_ (gR_ m5 t 12), vI_ 32]) z).2.1) ?_
  refine a_aload_n 0 dX8_sets_38 rfl rfl ?_
  refine a_aload_n 0 dX8_sets_39 rfl rfl ?_
  refine a_getR kc_8 11 (by decide) rfl ht q1565 dX8_sets_40 ?_
  refine a_aload_n 0 dX8_sets_43 rfl rfl ?_
  refine a_getR kc_8 13 (by decide) rfl ht q1567 dX8_sets_44 ?_
  refine a_bipush (v := 15) dX8_sets_47 (by decide) ?_
  obtain ⟨v12, m10, e11, h⟩ := bm_some h
  have he11 := e_X8_copies (G := G) hl ht e11
  refine c_V he11.1 (rn_V (n := 3) (As := [vR_ (gR_ m7 t 11), vR_ (gR_ m7 t 13), vI_ 15]) kc_8 ht he11 (lw_V q1550 q1552 qs31 q97 q1553) (by decide +kernel) rfl (Nat.le_of_ble_eq_true rfl) (Nat.le_of_ble_eq_true rfl) (Nat.le_of_ble_eq_true rfl) dX8_sets_49) (fun z => (os_av (As := [vR_ (gR_ m7 t 11), vR_ (gR_ m7 t 13), vI_ 15]) z).2.1) ?_
  refine a_aload_n 0 dX8_sets_52 rfl rfl ?_
  refine a_getR kc_8 25 (by decide) rfl ht q1579 dX8_sets_53 ?_
  refine a_iconst (v := 0) dX8_sets_56 (by decide) ?_
  refine a_iconst (v := 0) dX8_sets_57 (by decide) ?_
  obtain ⟨a13, e14, f15, h⟩ := gd_some h
  rw [e14]
  obtain ⟨c16, h⟩ := iz_some h
  obtain ⟨m17, e18, h⟩ := lt_some h
  refine a_iast f15 (bn_ c16) dX8_sets_58 ?_
  rw [← e18]
  refine a_aload_n 0 dX8_sets_59 rfl rfl ?_
  refine a_getR kc_8 25 (by decide) rfl ht q1579 dX8_sets_60 ?_
  refine a_iconst (v := 1) dX8_sets_63 (by decide) ?_
  refine a_iconst (v := 0) dX8_sets_64 (by decide) ?_
  obtain ⟨a19, e20, f21, h⟩ := gd_some h
  rw [e20]
  obtain ⟨c22, h⟩ := iz_some h
  obtain ⟨m23, e24, h⟩ := lt_some h
  refine a_iast f21 (bn_ c22) dX8_sets_65 ?_
  rw [← e24]
  refine a_aload_n 0 dX8_sets_66 rfl rfl ?_
  refine a_iconst (v := 0) dX8_sets_67 (by decide) ?_
  obtain ⟨m25, e26, h⟩ := lt_some h
  refine a_putI kc_8 45 (by decide) rfl ht q1599 rfl rfl rfl dX8_sets_68 ?_
  rw [← e26]
  refine a_aload_n 0 dX8_sets_71 rfl rfl ?_
  refine a_iconst (v := 0) dX8_sets_72 (by decide) ?_
  obtain ⟨m27, e28, h⟩ := lt_some h
  refine a_putI kc_8 32 (by decide) rfl ht q1586 rfl rfl rfl dX8_sets_73 ?_
  rw [← e28]
  refine a_aload_n 0 dX8_sets_76 rfl rfl ?_
  refine a_iconst (v := 0) dX8_sets_77 (by decide) ?_
  obtain ⟨m29, e30, h⟩ := lt_some h
  refine a_putI kc_8 58 (by decide) rfl ht q1612 rfl rfl rfl dX8_sets_78 ?_
  rw [← e30]
  refine a_aload_n 0 dX8_sets_81 rfl rfl ?_
  refine a_iconst (v := 0) dX8_sets_82 (by decide) ?_
  obtain ⟨m31, e32, h⟩ := lt_some h
  refine a_putI kc_8 33 (by decide) rfl ht q1587 rfl rfl rfl dX8_sets_83 ?_
  rw [← e32]
  refine a_iconst (v := 0) dX8_sets_86 (by decide) ?_
  refine a_istore_n (ls' := [(1, vI_ 0), (0, vR_ (some t))]) dX8_sets_87 rfl (Nat.le_of_ble_eq_true rfl) rfl ?_
  obtain ⟨k33, e95, h⟩ := jn1_some h
  have hk33 : ∀  (m34 : pm_M), k33 m34 = some (r, m') → AW_ cX8_sets RX8 (none, "sets", 3, 2, m0, m', (.inl none), G, l, [], true) m34 107 [(0, vR_ (some t))] [] := by
    intro m34 h
    have h := (e95 m34).symm.trans h
    refine a_iconst (v := 0) dX8_sets_107 (by decide) ?_
    refine a_istore_n (ls' := [(1, vI_ 0), (0, vR_ (some t))]) dX8_sets_108 rfl (Nat.le_of_ble_eq_true rfl) rfl ?_
    obtain ⟨k35, e80, h⟩ := jn1_some h
    have hk35 : ∀  (m36 : pm_M), k35 m36 = some (r, m') → AW_ cX8_sets RX8 (none, "sets", 3, 2, m0, m', (.inl none), G, l, [], true) m36 172 [(0, vR_ (some t))] [] := by
      intro m36 h
      have h := (e80 m36).symm.trans h
      refine a_aload_n 0 dX8_sets_172 rfl rfl ?_
      refine a_getR kc_8 37 (by decide) rfl ht q1591 dX8_sets_173 ?_
      refine a_bipush (v := 65) dX8_sets_176 (by decide) ?_
      refine a_aload_n 0 dX8_sets_178 rfl rfl ?_
      refine a_getI kc_8 16 (by decide) rfl ht q1570 dX8_sets_179 ?_
      obtain ⟨a37, e38, f39, h⟩ := gd_some h
      rw [e38]
      obtain ⟨c40, h⟩ := iz_some h
      obtain ⟨m41, e42, h⟩ := lt_some h
      refine a_iast f39 (bn_ c40) dX8_sets_182 ?_
      rw [← e42]
      cases h
      exact a_return rfl rfl rfl rfl dX8_sets_183
    refine aw_pick [1, 0] rfl ?_
    exact w_X8_sets_L109 hl _ _ ht hk35 _ _ _ h
  refine aw_pick [1, 0] rfl ?_
  exact w_X8_sets_L88 hl _ _ ht hk33 _ _ _ h
def f_X8_init (F : Nat)  (t : pm_A) (m : pm_M) : Option (Unit × pm_M) :=
  lt_ (pN_ m 100 2 2) fun m1 =>
  lt_ (pR_ m1 t 1 (some ((100, 2, gN_ m)))) fun m3 =>
  lt_ (pI_ m3 t 8 ((-1))) fun m5 =>
  lt_ (pN_ m5 100 600 600) fun m7 =>
  lt_ (pR_ m7 t 9 (some ((100, 600, gN_ m5)))) fun m9 =>
  lt_ (pN_ m9 100 32 32) fun m11 =>
  lt_ (pR_ m11 t 10 (some ((100, 32, gN_ m9)))) fun m13 =>
  lt_ (pN_ m13 100 15 15) fun m15 =>
  lt_ (pR_ m15 t 11 (some ((100, 15, gN_ m13)))) fun m17 =>
  lt_ (pN_ m17 100 32 32) fun m19 =>
  lt_ (pR_ m19 t 12 (some ((100, 32, gN_ m17)))) fun m21 =>
  lt_ (pN_ m21 100 15 15) fun m23 =>
  lt_ (pR_ m23 t 13 (some ((100, 15, gN_ m21)))) fun m25 =>
  lt_ (pN_ m25 100 150 150) fun m27 =>
  lt_ (pR_ m27 t 21 (some ((100, 150, gN_ m25)))) fun m29 =>
  lt_ (pN_ m29 100 150 150) fun m31 =>
  lt_ (pR_ m31 t 22 (some ((100, 150, gN_ m29)))) fun m33 =>
  lt_ (pN_ m33 100 300 300) fun m35 =>
  lt_ (pR_ m35 t 23 (some ((100, 300, gN_ m33)))) fun m37 =>
  lt_ (pN_ m37 100 300 300) fun m39 =>
  lt_ (pR_ m39 t 24 (some ((100, 300, gN_ m37)))) fun m41 =>
  lt_ (pN_ m41 100 2 2) fun m43 =>
  lt_ (pR_ m43 t 25 (some ((100, 2, gN_ m41)))) fun m45 =>
  lt_ (pN_ m45 100 150 150) fun m47 =>
  lt_ (pR_ m47 t 26 (some ((100, 150, gN_ m45)))) fun m49 =>
  lt_ (pN_ m49 100 8 8) fun m51 =>
  lt_ (pR_ m51 t 28 (some ((100, 8, gN_ m49)))) fun m53 =>
  lt_ (pN_ m53 100 150 150) fun m55 =>
  lt_ (pR_ m55 t 29 (some ((100, 150, gN_ m53)))) fun m57 =>
  lt_ (pN_ m57 100 150 150) fun m59 =>
  lt_ (pR_ m59 t 30 (some ((100, 150, gN_ m57)))) fun m61 =>
  lt_ (pN_ m61 100 66 66) fun m63 =>
  lt_ (pR_ m63 t 37 (some ((100, 66, gN_ m61)))) fun m65 =>
  lt_ (pN_ m65 100 66 66) fun m67 =>
  lt_ (pR_ m67 t 38 (some ((100, 66, gN_ m65)))) fun m69 =>
  lt_ (pN_ m69 100 1056 1056) fun m71 =>
  lt_ (pR_ m71 t 39 (some ((100, 1056, gN_ m69)))) fun m73 =>
  lt_ (pN_ m73 100 16 16) fun m75 =>
  lt_ (pR_ m75 t 43 (some ((100, 16, gN_ m73)))) fun m77 =>
  lt_ (pN_ m77 100 16 16) fun m79 =>
  lt_ (pR_ m79 t 44 (some ((100, 16, gN_ m77)))) fun m81 =>
  lt_ (pN_ m81 100 40 40) fun m83 =>
  lt_ (pR_ m83 t 46 (some ((100, 40, gN_ m81)))) fun m85 =>
  lt_ (pN_ m85 100 5 5) fun m87 =>
  lt_ (pR_ m87 t 47 (some ((100, 5, gN_ m85)))) fun m89 =>
  lt_ (pN_ m89 100 8 8) fun m91 =>
  lt_ (pR_ m91 t 48 (some ((100, 8, gN_ m89)))) fun m93 =>
  lt_ (pN_ m93 100 8 8) fun m95 =>
  lt_ (pR_ m95 t 49 (some ((100, 8, gN_ m93)))) fun m97 =>
  lt_ (pN_ m97 102 225 225) fun m99 =>
  lt_ (pR_ m99 t 51 (some ((102, 225, gN_ m97)))) fun m101 =>
  lt_ (pN_ m101 100 225 225) fun m103 =>
  lt_ (pR_ m103 t 52 (some ((100, 225, gN_ m101)))) fun m105 =>
  lt_ (pN_ m105 100 1000 1000) fun m107 =>
  lt_ (pR_ m107 t 53 (some ((100, 1000, gN_ m105)))) fun m109 =>
  lt_ (pN_ m109 100 5 5) fun m111 =>
  lt_ (pR_ m111 t 54 (some ((100, 5, gN_ m109)))) fun m113 =>
  lt_ (pN_ m113 100 3369 3369) fun m115 =>
  lt_ (pR_ m115 t 57 (some ((100, 3369, gN_ m113)))) fun m117 =>
  bm_ (f_X8_clears F t m117) fun v121 m119 =>
  bm_ (f_X8_sets F t m119) fun v124 m122 =>
  some ((), m122)
set_option maxHeartbeats 4000000 in
theorem e_X8_init {G : xg_T} {l : Launch} (hl : l.stackTraces = false) {F : Nat}    {t : pm_A} {m0 m' : pm_M} {r : Unit} (ht : t.1 = 8) (h : f_X8_init F t m0 = some (r, m')) : Cal_ G l yX8_init (ws_ yX8_init cX8_init 1 none) 4 [vR_ (some t)] m0 (.inl none) m' := by
  refine cal_of (by decide +kernel) (Nat.le_of_ble_eq_true rfl) ?_
  unfold f_X8_init at h
  show AW_ cX8_init RX8 (none, "<init>", 4, 1, m0, m', (.inl none), G, l, [], true) m0 0 [(0, vR_ (some t))] []
  refine a_aload_n 0 dX8_init_0 rfl rfl ?_
  refine a_obj q1541 q132 q133 (Nat.le_of_ble_eq_true rfl) (Nat.le_of_ble_eq_true rfl) dX8_init_1 ?_
  refine a_aload_n 0 dX8_init_4 rfl rfl ?_
  refine a_iconst (v := 2) dX8_init_5 (by decide) ?_
  obtain ⟨m1, e2, h⟩ := lt_some h
  refine a_newI (N := 2) q208 (by decide) rfl (by decide) dX8_init_6 ?_
  rw [← e2]
  obtain ⟨m3, e4, h⟩ := lt_some h
  refine a_putRF kc_8 1 (by decide) rfl ht q1555 rfl rfl rfl na_arr dX8_init_8 ?_
  rw [← e4]
  refine a_aload_n 0 dX8_init_11 rfl rfl ?_
  refine a_iconst (v := (-1)) dX8_init_12 (by decide) ?_
  obtain ⟨m5, e6, h⟩ := lt_some h
  refine a_putI kc_8 8 (by decide) rfl ht q1562 rfl rfl rfl dX8_init_13 ?_
  rw [← e6]
  refine a_aload_n 0 dX8_init_16 rfl rfl ?_
  refine a_sipush (v := 600) dX8_init_17 (by decide) ?_
  obtain ⟨m7, e8, h⟩ := lt_some h
  refine a_newI (N := 600) q208 (by decide) rfl (by decide) dX8_init_20 ?_
  rw [← e8]
  obtain ⟨m9, e10, h⟩ := lt_some h
  refine a_putRF kc_8 9 (by decide) rfl ht q1563 rfl rfl rfl na_arr dX8_init_22 ?_
  rw [← e10]
  refine a_aload_n 0 dX8_init_25 rfl rfl ?_
  refine a_bipush (v := 32) dX8_init_26 (by decide) ?_
  obtain ⟨m11, e12, h⟩ := lt_some h
  refine a_newI (N := 32) q208 (by decide) rfl (by decide) dX8_init_28 ?_
  rw [← e12]
  obtain ⟨m13, e14, h⟩ := lt_some h
  refine a_putRF kc_8 10 (by decide) rfl ht q1564 rfl rfl rfl na_arr dX8_init_30 ?_
  rw [← e14]
  refine a_aload_n 0 dX8_init_33 rfl rfl ?_
  refine a_bipush (v := 15) dX8_init_34 (by decide) ?_
  obtain ⟨m15, e16, h⟩ := lt_some h
  refine a_newI (N := 15) q208 (by decide) rfl (by decide) dX8_init_36 ?_
  rw [← e16]
  obtain ⟨m17, e18, h⟩ := lt_some h
  refine a_putRF kc_8 11 (by decide) rfl ht q1565 rfl rfl rfl na_arr dX8_init_38 ?_
  rw [← e18]
  refine a_aload_n 0 dX8_init_41 rfl rfl ?_
  refine a_bipush (v := 32) dX8_init_42 (by decide) ?_
  obtain ⟨m19, e20, h⟩ := lt_some h
  refine a_newI (N := 32) q208 (by decide) rfl (by decide) dX8_init_44 ?_
  rw [← e20]
  obtain ⟨m21, e22, h⟩ := lt_some h
  refine a_putRF kc_8 12 (by decide) rfl ht q1566 rfl rfl rfl na_arr dX8_init_46 ?_
  rw [← e22]
  refine a_aload_n 0 dX8_init_49 rfl rfl ?_
  refine a_bipush (v := 15) dX8_init_50 (by decide) ?_
  obtain ⟨m23, e24, h⟩ := lt_some h
  refine a_newI (N := 15) q208 (by decide) rfl (by decide) dX8_init_52 ?_
  rw [← e24]
  obtain ⟨m25, e26, h⟩ := lt_some h
  refine a_putRF kc_8 13 (by decide) rfl ht q1567 rfl rfl rfl na_arr dX8_init_54 ?_
  rw [← e26]
  refine a_aload_n 0 dX8_init_57 rfl rfl ?_
  refine a_sipush (v := 150) dX8_init_58 (by decide) ?_
  obtain ⟨m27, e28, h⟩ := lt_some h
  refine a_newI (N := 150) q208 (by decide) rfl (by decide) dX8_init_61 ?_
  rw [← e28]
  obtain ⟨m29, e30, h⟩ := lt_some h
  refine a_putRF kc_8 21 (by decide) rfl ht q1575 rfl rfl rfl na_arr dX8_init_63 ?_
  rw [← e30]
  refine a_aload_n 0 dX8_init_66 rfl rfl ?_
  refine a_sipush (v := 150) dX8_init_67 (by decide) ?_
  obtain ⟨m31, e32, h⟩ := lt_some h
  refine a_newI (N := 150) q208 (by decide) rfl (by decide) dX8_init_70 ?_
  rw [← e32]
  obtain ⟨m33, e34, h⟩ := lt_some h
  refine a_putRF kc_8 22 (by decide) rfl ht q1576 rfl rfl rfl na_arr dX8_init_72 ?_
  rw [← e34]
  refine a_aload_n 0 dX8_init_75 rfl rfl ?_
  refine a_sipush (v := 300) dX8_init_76 (by decide) ?_
  obtain ⟨m35, e36, h⟩ := lt_some h
  refine a_newI (N := 300) q208 (by decide) rfl (by decide) dX8_init_79 ?_
  rw [← e36]
  obtain ⟨m37, e38, h⟩ := lt_some h
  refine a_putRF kc_8 23 (by decide) rfl ht q1577 rfl rfl rfl na_arr dX8_init_81 ?_
  rw [← e38]
  refine a_aload_n 0 dX8_init_84 rfl rfl ?_
  refine a_sipush (v := 300) dX8_init_85 (by decide) ?_
  obtain ⟨m39, e40, h⟩ := lt_some h
  refine a_newI (N := 300) q208 (by decide) rfl (by decide) dX8_init_88 ?_
  rw [← e40]
  obtain ⟨m41, e42, h⟩ := lt_some h
  refine a_putRF kc_8 24 (by decide) rfl ht q1578 rfl rfl rfl na_arr dX8_init_90 ?_
  rw [← e42]
  refine a_aload_n 0 dX8_init_93 rfl rfl ?_
  refine a_iconst (v := 2) dX8_init_94 (by decide) ?_
  obtain ⟨m43, e44, h⟩ := lt_some h
  refine a_newI (N := 2) q208 (by decide) rfl (by decide) dX8_init_95 ?_
  rw [← e44]
  obtain ⟨m45, e46, h⟩ := lt_some h
  refine a_putRF kc_8 25 (by decide) rfl ht q1579 rfl rfl rfl na_arr dX8_init_97 ?_
  rw [← e46]
  refine a_aload_n 0 dX8_init_100 rfl rfl ?_
  refine a_sipush (v := 150) dX8_init_101 (by decide) ?_
  obtain ⟨m47, e48, h⟩ := lt_some h
  refine a_newI (N := 150) q208 (by decide) rfl (by decide) dX8_init_104 ?_
  rw [← e48]
  obtain ⟨m49, e50, h⟩ := lt_some h
  refine a_putRF kc_8 26 (by decide) rfl ht q1580 rfl rfl rfl na_arr dX8_init_106 ?_
  rw [← e50]
  refine a_aload_n 0 dX8_init_109 rfl rfl ?_
  refine a_bipush (v := 8) dX8_init_110 (by decide) ?_
  obtain ⟨m51, e52, h⟩ := lt_some h
  refine a_newI (N := 8) q208 (by decide) rfl (by decide) dX8_init_112 ?_
  rw [← e52]
  obtain ⟨m53, e54, h⟩ := lt_some h
  refine a_putRF kc_8 28 (by decide) rfl ht q1582 rfl rfl rfl na_arr dX8_init_114 ?_
  rw [← e54]
  refine a_aload_n 0 dX8_init_117 rfl rfl ?_
  refine a_sipush (v := 150) dX8_init_118 (by decide) ?_
  obtain ⟨m55, e56, h⟩ := lt_some h
  refine a_newI (N := 150) q208 (by decide) rfl (by decide) dX8_init_121 ?_
  rw [← e56]
  obtain ⟨m57, e58, h⟩ := lt_some h
  refine a_putRF kc_8 29 (by decide) rfl ht q1583 rfl rfl rfl na_arr dX8_init_123 ?_
  rw [← e58]
  refine a_aload_n 0 dX8_init_126 rfl rfl ?_
  refine a_sipush (v := 150) dX8_init_127 (by decide) ?_
  obtain ⟨m59, e60, h⟩ := lt_some h
  refine a_newI (N := 150) q208 (by decide) rfl (by decide) dX8_init_130 ?_
  rw [← e60]
  obtain ⟨m61, e62, h⟩ := lt_some h
  refine a_putRF kc_8 30 (by decide) rfl ht q1584 rfl rfl rfl na_arr dX8_init_132 ?_
  rw [← e62]
  refine a_aload_n 0 dX8_init_135 rfl rfl ?_
  refine a_bipush (v := 66) dX8_init_136 (by decide) ?_
  obtain ⟨m63, e64, h⟩ := lt_some h
  refine a_newI (N := 66) q208 (by decide) rfl (by decide) dX8_init_138 ?_
  rw [← e64]
  obtain ⟨m65, e66, h⟩ := lt_some h
  refine a_putRF kc_8 37 (by decide) rfl ht q1591 rfl rfl rfl na_arr dX8_init_140 ?_
  rw [← e66]
  refine a_aload_n 0 dX8_init_143 rfl rfl ?_
  refine a_bipush (v := 66) dX8_init_144 (by decide) ?_
  obtain ⟨m67, e68, h⟩ := lt_some h
  refine a_newI (N := 66) q208 (by decide) rfl (by decide) dX8_init_146 ?_
  rw [← e68]
  obtain ⟨m69, e70, h⟩ := lt_some h
  refine a_putRF kc_8 38 (by decide) rfl ht q1592 rfl rfl rfl na_arr dX8_init_148 ?_
  rw [← e70]
  refine a_aload_n 0 dX8_init_151 rfl rfl ?_
  refine a_sipush (v := 1056) dX8_init_152 (by decide) ?_
  obtain ⟨m71, e72, h⟩ := lt_some h
  refine a_newI (N := 1056) q208 (by decide) rfl (by decide) dX8_init_155 ?_
  rw [← e72]
  obtain ⟨m73, e74, h⟩ := lt_some h
  refine a_putRF kc_8 39 (by decide) rfl ht q1593 rfl rfl rfl na_arr dX8_init_157 ?_
  rw [← e74]
  refine a_aload_n 0 dX8_init_160 rfl rfl ?_
  refine a_bipush (v := 16) dX8_init_161 (by decide) ?_
  obtain ⟨m75, e76, h⟩ := lt_some h
  refine a_newI (N := 16) q208 (by decide) rfl (by decide) dX8_init_163 ?_
  rw [← e76]
  obtain ⟨m77, e78, h⟩ := lt_some h
  refine a_putRF kc_8 43 (by decide) rfl ht q1597 rfl rfl rfl na_arr dX8_init_165 ?_
  rw [← e78]
  refine a_aload_n 0 dX8_init_168 rfl rfl ?_
  refine a_bipush (v := 16) dX8_init_169 (by decide) ?_
  obtain ⟨m79, e80, h⟩ := lt_some h
  refine a_newI (N := 16) q208 (by decide) rfl (by decide) dX8_init_171 ?_
  rw [← e80]
  obtain ⟨m81, e82, h⟩ := lt_some h
  refine a_putRF kc_8 44 (by decide) rfl ht q1598 rfl rfl rfl na_arr dX8_init_173 ?_
  rw [← e82]
  refine a_aload_n 0 dX8_init_176 rfl rfl ?_
  refine a_bipush (v := 40) dX8_init_177 (by decide) ?_
  obtain ⟨m83, e84, h⟩ := lt_some h
  refine a_newI (N := 40) q208 (by decide) rfl (by decide) dX8_init_179 ?_
  rw [← e84]
  obtain ⟨m85, e86, h⟩ := lt_some h
  refine a_putRF kc_8 46 (by decide) rfl ht q1600 rfl rfl rfl na_arr dX8_init_181 ?_
  rw [← e86]
  refine a_aload_n 0 dX8_init_184 rfl rfl ?_
  refine a_iconst (v := 5) dX8_init_185 (by decide) ?_
  obtain ⟨m87, e88, h⟩ := lt_some h
  refine a_newI (N := 5) q208 (by decide) rfl (by decide) dX8_init_186 ?_
  rw [← e88]
  obtain ⟨m89, e90, h⟩ := lt_some h
  refine a_putRF kc_8 47 (by decide) rfl ht q1601 rfl rfl rfl na_arr dX8_init_188 ?_
  rw [← e90]
  refine a_aload_n 0 dX8_init_191 rfl rfl ?_
  refine a_bipush (v := 8) dX8_init_192 (by decide) ?_
  obtain ⟨m91, e92, h⟩ := lt_some h
  refine a_newI (N := 8) q208 (by decide) rfl (by decide) dX8_init_194 ?_
  rw [← e92]
  obtain ⟨m93, e94, h⟩ := lt_some h
  refine a_putRF kc_8 48 (by decide) rfl ht q1602 rfl rfl rfl na_arr dX8_init_196 ?_
  rw [← e94]
  refine a_aload_n 0 dX8_init_199 rfl rfl ?_
  refine a_bipush (v := 8) dX8_init_200 (by decide) ?_
  obtain ⟨m95, e96, h⟩ := lt_some h
  refine a_newI (N := 8) q208 (by decide) rfl (by decide) dX8_init_202 ?_
  rw [← e96]
  obtain ⟨m97, e98, h⟩ := lt_some h
  refine a_putRF kc_8 49 (by decide) rfl ht q1603 rfl rfl rfl na_arr dX8_init_204 ?_
  rw [← e98]
  refine a_aload_n 0 dX8_init_207 rfl rfl ?_
  refine a_sipush (v := 225) dX8_init_208 (by decide) ?_
  obtain ⟨m99, e100, h⟩ := lt_some h
  refine a_newZ (N := 225) q209 (by decide) rfl (by decide) dX8_init_211 ?_
  rw [← e100]
  obtain ⟨m101, e102, h⟩ := lt_some h
  refine a_putRF kc_8 51 (by decide) rfl ht q1605 rfl rfl rfl na_arr dX8_init_213 ?_
  rw [← e102]
  refine a_aload_n 0 dX8_init_216 rfl rfl ?_
  refine a_sipush (v := 225) dX8_init_217 (by decide) ?_
  obtain ⟨m103, e104, h⟩ := lt_some h
  refine a_newI (N := 225) q208 (by decide) rfl (by decide) dX8_init_220 ?_
  rw [← e104]
  obtain ⟨m105, e106, h⟩ := lt_some h
  refine a_putRF kc_8 52 (by decide) rfl ht q1606 rfl rfl rfl na_arr dX8_init_222 ?_
  rw [← e106]
  refine a_aload_n 0 dX8_init_225 rfl rfl ?_
  refine a_sipush (v := 1000) dX8_init_226 (by decide) ?_
  obtain ⟨m107, e108, h⟩ := lt_some h
  refine a_newI (N := 1000) q208 (by decide) rfl (by decide) dX8_init_229 ?_
  rw [← e108]
  obtain ⟨m109, e110, h⟩ := lt_some h
  refine a_putRF kc_8 53 (by decide) rfl ht q1607 rfl rfl rfl na_arr dX8_init_231 ?_
  rw [← e110]
  refine a_aload_n 0 dX8_init_234 rfl rfl ?_
  refine a_iconst (v := 5) dX8_init_235 (by decide) ?_
  obtain ⟨m111, e112, h⟩ := lt_some h
  refine a_newI (N := 5) q208 (by decide) rfl (by decide) dX8_init_236 ?_
  rw [← e112]
  obtain ⟨m113, e114, h⟩ := lt_some h
  refine a_putRF kc_8 54 (by decide) rfl ht q1608 rfl rfl rfl na_arr dX8_init_238 ?_
  rw [← e114]
  refine a_aload_n 0 dX8_init_241 rfl rfl ?_
  refine a_sipush (v := 3369) dX8_init_242 (by decide) ?_
  obtain ⟨m115, e116, h⟩ := lt_some h
  refine a_newI (N := 3369) q208 (by decide) rfl (by decide) dX8_init_245 ?_
  rw [← e116]
  obtain ⟨m117, e118, h⟩ := lt_some h
  refine a_putRF kc_8 57 (by decide) rfl ht q1611 rfl rfl rfl na_arr dX8_init_247 ?_
  rw [← e118]
  refine a_aload_n 0 dX8_init_250 rfl rfl ?_
  obtain ⟨v121, m119, e120, h⟩ := bm_some h
  have he120 := e_X8_clears (G := G) hl ht e120
  refine c_V he120.1 (rn_V (n := 0) (As := []) kc_8 ht he120 (lw_V q1542 q1544 qs29 q97 q1545) (by decide +kernel) rfl (Nat.le_of_ble_eq_true rfl) (Nat.le_of_ble_eq_true rfl) (Nat.le_of_ble_eq_true rfl) dX8_init_251) (fun z => (os_av (As := []) z).2.1) ?_
  refine a_aload_n 0 dX8_init_254 rfl rfl ?_
  obtain ⟨v124, m122, e123, h⟩ := bm_some h
  have he123 := e_X8_sets (G := G) hl ht e123
  refine c_V he123.1 (rn_V (n := 0) (As := []) kc_8 ht he123 (lw_V q1546 q1548 qs30 q97 q1549) (by decide +kernel) rfl (Nat.le_of_ble_eq_true rfl) (Nat.le_of_ble_eq_true rfl) (Nat.le_of_ble_eq_true rfl) dX8_init_255) (fun z => (os_av (As := []) z).2.1) ?_
  cases h
  exact a_return rfl rfl rfl rfl dX8_init_258
def f_X8_feed_L23 (F : Nat)  (p4 : pm_A) (p6 : Int32) (p7 : Int32) (p8 : Int32) (p9 : Int32) (p10 : Int32) : Nat → Int32 → pm_M → Option (Int32 × pm_M)
  | 0, _, _ => none
  | n11 + 1, x13, m12 =>
    if 20 ≤ x13 then
      some ((gI_ m12 p4 2), m12)
    else
      jn_ (fun (y17 : Int32) (m16 : pm_M) =>
        gd_ 100 (gR_ m16 p4 9) fun a18 =>
        iz_ (!(ib_ (gI_ m16 p4 2) a18.2.1)) <|
        lt_ (pI_ m16 a18 ((gI_ m16 p4 2).toNatClampNeg) ((y17 >>> ((24 - (8 * (x13 - x13 / 4 * 4))) &&& 31)) &&& 255)) fun m22 =>
        lt_ (pI_ m22 p4 2 ((gI_ m22 p4 2) + 1)) fun m24 =>
        (f_X8_feed_L23 F p4 p6 p7 p8 p9 p10 n11) (x13 + 1) m24
      ) fun k15 =>
      if 4 ≤ x13 then
        if 8 ≤ x13 then
          if 12 ≤ x13 then
            if 16 ≤ x13 then
              k15 p10 m12
            else
              k15 p9 m12
          else
            k15 p8 m12
        else
          k15 p7 m12
      else
        k15 p6 m12
set_option maxHeartbeats 4000000 in
theorem w_X8_feed_L23 {G : xg_T} {l : Launch} (hl : l.stackTraces = false) {F : Nat}    (p4 : pm_A) (p6 : Int32) (p7 : Int32) (p8 : Int32) (p9 : Int32) (p10 : Int32) {m0 m' : pm_M} {r : Int32} (hf5 : p4.1 = 8)  : ∀ (n : Nat) (x13 : Int32) (m12 : pm_M), f_X8_feed_L23 F p4 p6 p7 p8 p9 p10 n x13 m12 = some (r, m') → AW_ cX8_feed RX8 (some (.int), "feed", 2, 8, m0, m', (.inl (some (vI_ r))), G, l, [], true) m12 23 [(0, vR_ (some p4)), (1, vI_ p6), (2, vI_ p7), (3, vI_ p8), (4, vI_ p9), (5, vI_ p10), (6, vI_ x13)] [] := by
  intro n
  induction n with
  | zero => intro x13 m12 h; cases h
  | succ n11 ih =>
    intro x13 m12 h
    rw [f_X8_feed_L23] at h
    refine a_iload 6 dX8_feed_23 rfl ?_
    refine a_bipush (v := 20) dX8_feed_25 (by decide) ?_
    refine a_icmp_ge (tgt := 120) dX8_feed_27 (by decide) (fun c14 => ?_) (fun c14 => ?_)
    · replace h := ifp_ c14 h
      refine a_aload_n 0 dX8_feed_120 rfl rfl ?_
      refine a_getI kc_8 2 (by decide) rfl hf5 q1556 dX8_feed_121 ?_
      cases h
      exact a_ireturn rfl rfl rfl rfl rfl dX8_feed_124
    · replace h := ifn_ c14 h
      refine a_iload 6 dX8_feed_30 rfl ?_
      refine a_iconst (v := 4) dX8_feed_32 (by decide) ?_
      obtain ⟨k15, e30, h⟩ := jn2_some h
      have hk15 : ∀ (y17 : Int32) (m16 : pm_M), k15 y17 m16 = some (r, m') → AW_ cX8_feed RX8 (some (.int), "feed", 2, 8, m0, m', (.inl (some (vI_ r))), G, l, [], true) m16 76 [(0, vR_ (some p4)), (1, vI_ p6), (2, vI_ p7), (3, vI_ p8), (4, vI_ p9), (5, vI_ p10), (6, vI_ x13)] [vI_ y17] := by
        intro y17 m16 h
        have h := (e30 y17 m16).symm.trans h
        refine a_istore (ls' := [(7, vI_ y17), (0, vR_ (some p4)), (1, vI_ p6), (2, vI_ p7), (3, vI_ p8), (4, vI_ p9), (5, vI_ p10), (6, vI_ x13)]) dX8_feed_76 (Nat.le_of_ble_eq_true rfl) rfl ?_
        refine a_aload_n 1 dX8_feed_78 rfl rfl ?_
        refine a_getR kc_8 9 (by decide) rfl hf5 q1563 dX8_feed_79 ?_
        refine a_aload_n 1 dX8_feed_82 rfl rfl ?_
        refine a_getI kc_8 2 (by decide) rfl hf5 q1556 dX8_feed_83 ?_
        refine a_iload 0 dX8_feed_86 rfl ?_
        refine a_bipush (v := 24) dX8_feed_88 (by decide) ?_
        refine a_bipush (v := 8) dX8_feed_90 (by decide) ?_
        refine a_iload 7 dX8_feed_92 rfl ?_
        refine a_iconst (v := 4) dX8_feed_94 (by decide) ?_
        refine a_irem dX8_feed_95 (by decide) ?_
        refine a_imul dX8_feed_96 ?_
        refine a_isub dX8_feed_97 ?_
        refine a_ishr dX8_feed_98 ?_
        refine a_sipush (v := 255) dX8_feed_99 (by decide) ?_
        refine a_iand dX8_feed_102 ?_
        obtain ⟨a18, e19, f20, h⟩ := gd_some h
        rw [e19]
        obtain ⟨c21, h⟩ := iz_some h
        obtain ⟨m22, e23, h⟩ := lt_some h
        refine a_iast f20 (bn_ c21) dX8_feed_103 ?_
        rw [← e23]
        refine a_aload_n 1 dX8_feed_104 rfl rfl ?_
        refine a_dup dX8_feed_105 rfl ?_
        refine a_getI kc_8 2 (by decide) rfl hf5 q1556 dX8_feed_106 ?_
        refine a_iconst (v := 1) dX8_feed_109 (by decide) ?_
        refine a_iadd dX8_feed_110 ?_
        obtain ⟨m24, e25, h⟩ := lt_some h
        refine a_putI kc_8 2 (by decide) rfl hf5 q1556 rfl rfl rfl dX8_feed_111 ?_
        rw [← e25]
        refine a_iinc (v := x13 + 1) (ls' := [(6, vI_ (x13 + 1)), (7, vI_ y17), (0, vR_ (some p4)), (1, vI_ p6), (2, vI_ p7), (3, vI_ p8), (4, vI_ p9), (5, vI_ p10)]) 7 dX8_feed_114 rfl rfl (Nat.le_of_ble_eq_true rfl) rfl ?_
        refine a_goto (tgt := 23) dX8_feed_117 (by decide) ?_
        refine aw_pick [2, 3, 4, 5, 6, 7, 0] rfl ?_
        exact ih _ _ h
      refine a_icmp_ge (tgt := 40) dX8_feed_33 (by decide) (fun c26 => ?_) (fun c26 => ?_)
      · replace h := ifp_ c26 h
        refine a_iload 6 dX8_feed_40 rfl ?_
        refine a_bipush (v := 8) dX8_feed_42 (by decide) ?_
        refine a_icmp_ge (tgt := 51) dX8_feed_44 (by decide) (fun c27 => ?_) (fun c27 => ?_)
        · replace h := ifp_ c27 h
          refine a_iload 6 dX8_feed_51 rfl ?_
          refine a_bipush (v := 12) dX8_feed_53 (by decide) ?_
          refine a_icmp_ge (tgt := 62) dX8_feed_55 (by decide) (fun c28 => ?_) (fun c28 => ?_)
          · replace h := ifp_ c28 h
            refine a_iload 6 dX8_feed_62 rfl ?_
            refine a_bipush (v := 16) dX8_feed_64 (by decide) ?_
            refine a_icmp_ge (tgt := 74) dX8_feed_66 (by decide) (fun c29 => ?_) (fun c29 => ?_)
            · replace h := ifp_ c29 h
              refine a_iload 5 dX8_feed_74 rfl ?_
              exact hk15 _ _ h
            · replace h := ifn_ c29 h
              refine a_iload 4 dX8_feed_69 rfl ?_
              refine a_goto (tgt := 76) dX8_feed_71 (by decide) ?_
              exact hk15 _ _ h
          · replace h := ifn_ c28 h
            refine a_iload_n 3 dX8_feed_58 rfl rfl ?_
            refine a_goto (tgt := 76) dX8_feed_59 (by decide) ?_
            exact hk15 _ _ h
        · replace h := ifn_ c27 h
          refine a_iload_n 2 dX8_feed_47 rfl rfl ?_
          refine a_goto (tgt := 76) dX8_feed_48 (by decide) ?_
          exact hk15 _ _ h
      · replace h := ifn_ c26 h
        refine a_iload_n 1 dX8_feed_36 rfl rfl ?_
        refine a_goto (tgt := 76) dX8_feed_37 (by decide) ?_
        exact hk15 _ _ h
def f_X8_feed (F : Nat)  (t : pm_A) (i0 : Int32) (i1 : Int32) (i2 : Int32) (i3 : Int32) (i4 : Int32) (m : pm_M) : Option (Int32 × pm_M) :=
  lt_ (pI_ m t 0 0) fun m1 =>
  if ((gI_ m1 t 2) + 20) ≤ 600 then
    f_X8_feed_L23 F t i0 i1 i2 i3 i4 F 0 m1
  else
    some (((-1)), m1)
set_option maxHeartbeats 4000000 in
theorem e_X8_feed {G : xg_T} {l : Launch} (hl : l.stackTraces = false) {F : Nat}    {t : pm_A} {i0 : Int32} {i1 : Int32} {i2 : Int32} {i3 : Int32} {i4 : Int32} {m0 m' : pm_M} {r : Int32} (ht : t.1 = 8) (h : f_X8_feed F t i0 i1 i2 i3 i4 m0 = some (r, m')) : Cal_ G l yX8_feed (ws_ yX8_feed cX8_feed 8 (some .int)) 2 [vR_ (some t), vI_ i0, vI_ i1, vI_ i2, vI_ i3, vI_ i4] m0 (.inl (some (vI_ r))) m' := by
  refine cal_of (by decide +kernel) (Nat.le_of_ble_eq_true rfl) ?_
  unfold f_X8_feed at h
  show AW_ cX8_feed RX8 (some (.int), "feed", 2, 8, m0, m', (.inl (some (vI_ r))), G, l, [], true) m0 0 [(0, vR_ (some t)), (1, vI_ i0), (2, vI_ i1), (3, vI_ i2), (4, vI_ i3), (5, vI_ i4)] []
  refine a_aload_n 0 dX8_feed_0 rfl rfl ?_
  refine a_iconst (v := 0) dX8_feed_1 (by decide) ?_
  obtain ⟨m1, e2, h⟩ := lt_some h
  refine a_putI kc_8 0 (by decide) rfl ht q1554 rfl rfl rfl dX8_feed_2 ?_
  rw [← e2]
  refine a_aload_n 0 dX8_feed_5 rfl rfl ?_
  refine a_getI kc_8 2 (by decide) rfl ht q1556 dX8_feed_6 ?_
  refine a_bipush (v := 20) dX8_feed_9 (by decide) ?_
  refine a_iadd dX8_feed_11 ?_
  refine a_sipush (v := 600) dX8_feed_12 (by decide) ?_
  refine a_icmp_le (tgt := 20) dX8_feed_15 (by decide) (fun c3 => ?_) (fun c3 => ?_)
  · replace h := ifp_ c3 h
    refine a_iconst (v := 0) dX8_feed_20 (by decide) ?_
    refine a_istore (ls' := [(6, vI_ 0), (0, vR_ (some t)), (1, vI_ i0), (2, vI_ i1), (3, vI_ i2), (4, vI_ i3), (5, vI_ i4)]) dX8_feed_21 (Nat.le_of_ble_eq_true rfl) rfl ?_
    refine aw_pick [1, 2, 3, 4, 5, 6, 0] rfl ?_
    exact w_X8_feed_L23 hl _ _ _ _ _ _ ht _ _ _ h
  · replace h := ifn_ c3 h
    refine a_iconst (v := (-1)) dX8_feed_18 (by decide) ?_
    cases h
    exact a_ireturn rfl rfl rfl rfl rfl dX8_feed_19
def f_X8_fault (F : Nat)  (t : pm_A) (m : pm_M) : Option (Int32 × pm_M) :=
  lt_ (pI_ m t 0 0) fun m1 =>
  some ((gI_ m1 t 8), m1)
set_option maxHeartbeats 4000000 in
theorem e_X8_fault {G : xg_T} {l : Launch} (hl : l.stackTraces = false) {F : Nat}    {t : pm_A} {m0 m' : pm_M} {r : Int32} (ht : t.1 = 8) (h : f_X8_fault F t m0 = some (r, m')) : Cal_ G l yX8_fault (ws_ yX8_fault cX8_fault 1 (some .int)) 2 [vR_ (some t)] m0 (.inl (some (vI_ r))) m' := by
  refine cal_of (by decide +kernel) (Nat.le_of_ble_eq_true rfl) ?_
  unfold f_X8_fault at h
  show AW_ cX8_fault RX8 (some (.int), "fault", 2, 1, m0, m', (.inl (some (vI_ r))), G, l, [], true) m0 0 [(0, vR_ (some t))] []
  refine a_aload_n 0 dX8_fault_0 rfl rfl ?_
  refine a_iconst (v := 0) dX8_fault_1 (by decide) ?_
  obtain ⟨m1, e2, h⟩ := lt_some h
  refine a_putI kc_8 0 (by decide) rfl ht q1554 rfl rfl rfl dX8_fault_2 ?_
  rw [← e2]
  refine a_aload_n 0 dX8_fault_5 rfl rfl ?_
  refine a_getI kc_8 8 (by decide) rfl ht q1562 dX8_fault_6 ?_
  cases h
  exact a_ireturn rfl rfl rfl rfl rfl dX8_fault_9
def f_X8_may (F : Nat)  (t : pm_A) (i0 : Int32) (i1 : Int32) (i2 : Int32) (m : pm_M) : Option (Int32 × pm_M) :=
  jn_ (fun  (m2 : pm_M) =>
    if (gI_ m2 t 0) = 0 then
      some (1, m2)
    else
      some (0, m2)
  ) fun k1 =>
  if i0 = 0 then
    if (gI_ m t 0) = 0 then
      lt_ (pI_ m t 0 i1) fun m6 =>
      gd_ 100 (gR_ m6 t 1) fun a8 =>
      iz_ (!(ib_ i2 a8.2.1)) <|
      iz_ (!(ib_ i2 a8.2.1)) <|
      lt_ (pI_ m6 a8 i2.toNatClampNeg ((gI_ m6 a8 i2.toNatClampNeg) + 1)) fun m13 =>
      k1 m13
    else
      k1 m
  else
    k1 m
set_option maxHeartbeats 4000000 in
theorem e_X8_may {G : xg_T} {l : Launch} (hl : l.stackTraces = false) {F : Nat}    {t : pm_A} {i0 : Int32} {i1 : Int32} {i2 : Int32} {m0 m' : pm_M} {r : Int32} (ht : t.1 = 8) (h : f_X8_may F t i0 i1 i2 m0 = some (r, m')) : Cal_ G l yX8_may (ws_ yX8_may cX8_may 4 (some .boolean)) 2 [vR_ (some t), vI_ i0, vI_ i1, vI_ i2] m0 (.inl (some (vI_ r))) m' := by
  refine cal_of (by decide +kernel) (Nat.le_of_ble_eq_true rfl) ?_
  unfold f_X8_may at h
  show AW_ cX8_may RX8 (some (.boolean), "may", 2, 4, m0, m', (.inl (some (vI_ r))), G, l, [], true) m0 0 [(0, vR_ (some t)), (1, vI_ i0), (2, vI_ i1), (3, vI_ i2)] []
  refine a_iload_n 1 dX8_may_0 rfl rfl ?_
  obtain ⟨k1, e15, h⟩ := jn1_some h
  have hk1 : ∀  (m2 : pm_M), k1 m2 = some (r, m') → AW_ cX8_may RX8 (some (.boolean), "may", 2, 4, m0, m', (.inl (some (vI_ r))), G, l, [], true) m2 26 [(0, vR_ (some t))] [] := by
    intro m2 h
    have h := (e15 m2).symm.trans h
    refine a_aload_n 0 dX8_may_26 rfl rfl ?_
    refine a_getI kc_8 0 (by decide) rfl ht q1554 dX8_may_27 ?_
    refine a_if_ne (tgt := 37) dX8_may_30 (by decide) (fun c3 => ?_) (fun c3 => ?_)
    · replace h := ifn_ c3 h
      refine a_iconst (v := 0) dX8_may_37 (by decide) ?_
      cases h
      exact a_ireturn rfl rfl rfl rfl rfl dX8_may_38
    · replace h := ifp_ c3 h
      refine a_iconst (v := 1) dX8_may_33 (by decide) ?_
      refine a_goto (tgt := 38) dX8_may_34 (by decide) ?_
      cases h
      exact a_ireturn rfl rfl rfl rfl rfl dX8_may_38
  refine a_if_ne (tgt := 26) dX8_may_1 (by decide) (fun c4 => ?_) (fun c4 => ?_)
  · replace h := ifn_ c4 h
    refine aw_pick [0] rfl ?_
    exact hk1 _ h
  · replace h := ifp_ c4 h
    refine a_aload_n 0 dX8_may_4 rfl rfl ?_
    refine a_getI kc_8 0 (by decide) rfl ht q1554 dX8_may_5 ?_
    refine a_if_ne (tgt := 26) dX8_may_8 (by decide) (fun c5 => ?_) (fun c5 => ?_)
    · replace h := ifn_ c5 h
      refine aw_pick [0] rfl ?_
      exact hk1 _ h
    · replace h := ifp_ c5 h
      refine a_aload_n 0 dX8_may_11 rfl rfl ?_
      refine a_iload_n 2 dX8_may_12 rfl rfl ?_
      obtain ⟨m6, e7, h⟩ := lt_some h
      refine a_putI kc_8 0 (by decide) rfl ht q1554 rfl rfl rfl dX8_may_13 ?_
      rw [← e7]
      refine a_aload_n 0 dX8_may_16 rfl rfl ?_
      refine a_getR kc_8 1 (by decide) rfl ht q1555 dX8_may_17 ?_
      refine a_iload_n 3 dX8_may_20 rfl rfl ?_
      refine a_dup2 dX8_may_21 rfl rfl ?_
      obtain ⟨a8, e9, f10, h⟩ := gd_some h
      rw [e9]
      obtain ⟨c11, h⟩ := iz_some h
      refine a_iald f10 (bn_ c11) dX8_may_22 ?_
      refine a_iconst (v := 1) dX8_may_23 (by decide) ?_
      refine a_iadd dX8_may_24 ?_
      obtain ⟨c12, h⟩ := iz_some h
      obtain ⟨m13, e14, h⟩ := lt_some h
      refine a_iast f10 (bn_ c12) dX8_may_25 ?_
      rw [← e14]
      refine aw_pick [0] rfl ?_
      exact hk1 _ h
def f_X8_begins (F : Nat)  (t : pm_A) (i0 : Int32) (m : pm_M) : Option (Unit × pm_M) :=
  lt_ (pI_ m t 2 0) fun m1 =>
  lt_ (pI_ m1 t 8 ((-1))) fun m3 =>
  lt_ (pI_ m3 t 3 i0) fun m5 =>
  lt_ (pI_ m5 t 4 0) fun m7 =>
  lt_ (pI_ m7 t 5 ((-1))) fun m9 =>
  lt_ (pI_ m9 t 7 0) fun m11 =>
  some ((), m11)
set_option maxHeartbeats 4000000 in
theorem e_X8_begins {G : xg_T} {l : Launch} (hl : l.stackTraces = false) {F : Nat}    {t : pm_A} {i0 : Int32} {m0 m' : pm_M} {r : Unit} (ht : t.1 = 8) (h : f_X8_begins F t i0 m0 = some (r, m')) : Cal_ G l yX8_begins (ws_ yX8_begins cX8_begins 2 none) 2 [vR_ (some t), vI_ i0] m0 (.inl none) m' := by
  refine cal_of (by decide +kernel) (Nat.le_of_ble_eq_true rfl) ?_
  unfold f_X8_begins at h
  show AW_ cX8_begins RX8 (none, "begins", 2, 2, m0, m', (.inl none), G, l, [], true) m0 0 [(0, vR_ (some t)), (1, vI_ i0)] []
  refine a_aload_n 0 dX8_begins_0 rfl rfl ?_
  refine a_iconst (v := 0) dX8_begins_1 (by decide) ?_
  obtain ⟨m1, e2, h⟩ := lt_some h
  refine a_putI kc_8 2 (by decide) rfl ht q1556 rfl rfl rfl dX8_begins_2 ?_
  rw [← e2]
  refine a_aload_n 0 dX8_begins_5 rfl rfl ?_
  refine a_iconst (v := (-1)) dX8_begins_6 (by decide) ?_
  obtain ⟨m3, e4, h⟩ := lt_some h
  refine a_putI kc_8 8 (by decide) rfl ht q1562 rfl rfl rfl dX8_begins_7 ?_
  rw [← e4]
  refine a_aload_n 0 dX8_begins_10 rfl rfl ?_
  refine a_iload_n 1 dX8_begins_11 rfl rfl ?_
  obtain ⟨m5, e6, h⟩ := lt_some h
  refine a_putI kc_8 3 (by decide) rfl ht q1557 rfl rfl rfl dX8_begins_12 ?_
  rw [← e6]
  refine a_aload_n 0 dX8_begins_15 rfl rfl ?_
  refine a_iconst (v := 0) dX8_begins_16 (by decide) ?_
  obtain ⟨m7, e8, h⟩ := lt_some h
  refine a_putI kc_8 4 (by decide) rfl ht q1558 rfl rfl rfl dX8_begins_17 ?_
  rw [← e8]
  refine a_aload_n 0 dX8_begins_20 rfl rfl ?_
  refine a_iconst (v := (-1)) dX8_begins_21 (by decide) ?_
  obtain ⟨m9, e10, h⟩ := lt_some h
  refine a_putI kc_8 5 (by decide) rfl ht q1559 rfl rfl rfl dX8_begins_22 ?_
  rw [← e10]
  refine a_aload_n 0 dX8_begins_25 rfl rfl ?_
  refine a_iconst (v := 0) dX8_begins_26 (by decide) ?_
  obtain ⟨m11, e12, h⟩ := lt_some h
  refine a_putI kc_8 7 (by decide) rfl ht q1561 rfl rfl rfl dX8_begins_27 ?_
  rw [← e12]
  cases h
  exact a_return rfl rfl rfl rfl dX8_begins_30
def f_X8_fine (F : Nat)  (t : pm_A) (m : pm_M) : Option (Int32 × pm_M) :=
  if (gI_ m t 5) = ((-1)) then
    some (1, m)
  else
    some (0, m)
set_option maxHeartbeats 4000000 in
theorem e_X8_fine {G : xg_T} {l : Launch} (hl : l.stackTraces = false) {F : Nat}    {t : pm_A} {m0 m' : pm_M} {r : Int32} (ht : t.1 = 8) (h : f_X8_fine F t m0 = some (r, m')) : Cal_ G l yX8_fine (ws_ yX8_fine cX8_fine 1 (some .boolean)) 2 [vR_ (some t)] m0 (.inl (some (vI_ r))) m' := by
  refine cal_of (by decide +kernel) (Nat.le_of_ble_eq_true rfl) ?_
  unfold f_X8_fine at h
  show AW_ cX8_fine RX8 (some (.boolean), "fine", 2, 1, m0, m', (.inl (some (vI_ r))), G, l, [], true) m0 0 [(0, vR_ (some t))] []
  refine a_aload_n 0 dX8_fine_0 rfl rfl ?_
  refine a_getI kc_8 5 (by decide) rfl ht q1559 dX8_fine_1 ?_
  refine a_iconst (v := (-1)) dX8_fine_4 (by decide) ?_
  refine a_icmp_ne (tgt := 12) dX8_fine_5 (by decide) (fun c1 => ?_) (fun c1 => ?_)
  · replace h := ifn_ c1 h
    refine a_iconst (v := 0) dX8_fine_12 (by decide) ?_
    cases h
    exact a_ireturn rfl rfl rfl rfl rfl dX8_fine_13
  · replace h := ifp_ c1 h
    refine a_iconst (v := 1) dX8_fine_8 (by decide) ?_
    refine a_goto (tgt := 13) dX8_fine_9 (by decide) ?_
    cases h
    exact a_ireturn rfl rfl rfl rfl rfl dX8_fine_13
def f_X8_here_L0 (F : Nat)  (p8 : pm_A) (k10 : pm_M → Option (Int32 × pm_M)) : Nat → pm_M → Option (Int32 × pm_M)
  | 0, _ => none
  | n12 + 1, m13 =>
    if (gI_ m13 p8 3) ≤ (gI_ m13 p8 4) then
      k10 m13
    else
      gd_ 100 (gR_ m13 p8 9) fun a15 =>
      iz_ (!(ib_ (gI_ m13 p8 4) a15.2.1)) <|
      if (gI_ m13 a15 (gI_ m13 p8 4).toNatClampNeg) = 32 then
        lt_ (pI_ m13 p8 4 ((gI_ m13 p8 4) + 1)) fun m20 =>
        (f_X8_here_L0 F p8 k10 n12) m20
      else
        k10 m13
set_option maxHeartbeats 4000000 in
theorem w_X8_here_L0 {G : xg_T} {l : Launch} (hl : l.stackTraces = false) {F : Nat}    (p8 : pm_A) (k10 : pm_M → Option (Int32 × pm_M)) {m0 m' : pm_M} {r : Int32} (hf9 : p8.1 = 8) (hk10 : ∀ (m11 : pm_M), k10 m11 = some (r, m') → AW_ cX8_here RX8 (some (.int), "here", 2, 1, m0, m', (.inl (some (vI_ r))), G, l, [], true) m11 38 [(0, vR_ (some p8))] []) : ∀ (n : Nat) (m13 : pm_M), f_X8_here_L0 F p8 k10 n m13 = some (r, m') → AW_ cX8_here RX8 (some (.int), "here", 2, 1, m0, m', (.inl (some (vI_ r))), G, l, [], true) m13 0 [(0, vR_ (some p8))] [] := by
  intro n
  induction n with
  | zero => intro m13 h; cases h
  | succ n12 ih =>
    intro m13 h
    rw [f_X8_here_L0] at h
    refine a_aload_n 0 dX8_here_0 rfl rfl ?_
    refine a_getI kc_8 4 (by decide) rfl hf9 q1558 dX8_here_1 ?_
    refine a_aload_n 0 dX8_here_4 rfl rfl ?_
    refine a_getI kc_8 3 (by decide) rfl hf9 q1557 dX8_here_5 ?_
    refine a_icmp_ge (tgt := 38) dX8_here_8 (by decide) (fun c14 => ?_) (fun c14 => ?_)
    · replace h := ifp_ c14 h
      exact hk10 _ h
    · replace h := ifn_ c14 h
      refine a_aload_n 0 dX8_here_11 rfl rfl ?_
      refine a_getR kc_8 9 (by decide) rfl hf9 q1563 dX8_here_12 ?_
      refine a_aload_n 0 dX8_here_15 rfl rfl ?_
      refine a_getI kc_8 4 (by decide) rfl hf9 q1558 dX8_here_16 ?_
      obtain ⟨a15, e16, f17, h⟩ := gd_some h
      rw [e16]
      obtain ⟨c18, h⟩ := iz_some h
      refine a_iald f17 (bn_ c18) dX8_here_19 ?_
      refine a_bipush (v := 32) dX8_here_20 (by decide) ?_
      refine a_icmp_ne (tgt := 38) dX8_here_22 (by decide) (fun c19 => ?_) (fun c19 => ?_)
      · replace h := ifn_ c19 h
        exact hk10 _ h
      · replace h := ifp_ c19 h
        refine a_aload_n 0 dX8_here_25 rfl rfl ?_
        refine a_dup dX8_here_26 rfl ?_
        refine a_getI kc_8 4 (by decide) rfl hf9 q1558 dX8_here_27 ?_
        refine a_iconst (v := 1) dX8_here_30 (by decide) ?_
        refine a_iadd dX8_here_31 ?_
        obtain ⟨m20, e21, h⟩ := lt_some h
        refine a_putI kc_8 4 (by decide) rfl hf9 q1558 rfl rfl rfl dX8_here_32 ?_
        rw [← e21]
        refine a_goto (tgt := 0) dX8_here_35 (by decide) ?_
        exact ih _ h
def f_X8_here (F : Nat)  (t : pm_A) (m : pm_M) : Option (Int32 × pm_M) :=
  jn_ (fun  (m2 : pm_M) =>
    if (gI_ m2 t 3) ≤ (gI_ m2 t 4) then
      some (0, m2)
    else
      gd_ 100 (gR_ m2 t 9) fun a4 =>
      iz_ (!(ib_ (gI_ m2 t 4) a4.2.1)) <|
      some ((gI_ m2 a4 (gI_ m2 t 4).toNatClampNeg), m2)
  ) fun k1 =>
  f_X8_here_L0 F t k1 F m
set_option maxHeartbeats 4000000 in
theorem e_X8_here {G : xg_T} {l : Launch} (hl : l.stackTraces = false) {F : Nat}    {t : pm_A} {m0 m' : pm_M} {r : Int32} (ht : t.1 = 8) (h : f_X8_here F t m0 = some (r, m')) : Cal_ G l yX8_here (ws_ yX8_here cX8_here 1 (some .int)) 2 [vR_ (some t)] m0 (.inl (some (vI_ r))) m' := by
  refine cal_of (by decide +kernel) (Nat.le_of_ble_eq_true rfl) ?_
  unfold f_X8_here at h
  show AW_ cX8_here RX8 (some (.int), "here", 2, 1, m0, m', (.inl (some (vI_ r))), G, l, [], true) m0 0 [(0, vR_ (some t))] []
  obtain ⟨k1, e22, h⟩ := jn1_some h
  have hk1 : ∀  (m2 : pm_M), k1 m2 = some (r, m') → AW_ cX8_here RX8 (some (.int), "here", 2, 1, m0, m', (.inl (some (vI_ r))), G, l, [], true) m2 38 [(0, vR_ (some t))] [] := by
    intro m2 h
    have h := (e22 m2).symm.trans h
    refine a_aload_n 0 dX8_here_38 rfl rfl ?_
    refine a_getI kc_8 4 (by decide) rfl ht q1558 dX8_here_39 ?_
    refine a_aload_n 0 dX8_here_42 rfl rfl ?_
    refine a_getI kc_8 3 (by decide) rfl ht q1557 dX8_here_43 ?_
    refine a_icmp_ge (tgt := 61) dX8_here_46 (by decide) (fun c3 => ?_) (fun c3 => ?_)
    · replace h := ifp_ c3 h
      refine a_iconst (v := 0) dX8_here_61 (by decide) ?_
      cases h
      exact a_ireturn rfl rfl rfl rfl rfl dX8_here_62
    · replace h := ifn_ c3 h
      refine a_aload_n 0 dX8_here_49 rfl rfl ?_
      refine a_getR kc_8 9 (by decide) rfl ht q1563 dX8_here_50 ?_
      refine a_aload_n 0 dX8_here_53 rfl rfl ?_
      refine a_getI kc_8 4 (by decide) rfl ht q1558 dX8_here_54 ?_
      obtain ⟨a4, e5, f6, h⟩ := gd_some h
      rw [e5]
      obtain ⟨c7, h⟩ := iz_some h
      refine a_iald f6 (bn_ c7) dX8_here_57 ?_
      refine a_goto (tgt := 62) dX8_here_58 (by decide) ?_
      cases h
      exact a_ireturn rfl rfl rfl rfl rfl dX8_here_62
  exact w_X8_here_L0 hl _ _ ht hk1 _ _ h
def f_X8_isMore (F : Nat)  (t : pm_A) (m : pm_M) : Option (Int32 × pm_M) :=
  bm_ (f_X8_here F t m) fun v3 m1 =>
  if (gI_ m1 t 3) ≤ (gI_ m1 t 4) then
    some (0, m1)
  else
    some (1, m1)
set_option maxHeartbeats 4000000 in
theorem e_X8_isMore {G : xg_T} {l : Launch} (hl : l.stackTraces = false) {F : Nat}    {t : pm_A} {m0 m' : pm_M} {r : Int32} (ht : t.1 = 8) (h : f_X8_isMore F t m0 = some (r, m')) : Cal_ G l yX8_isMore (ws_ yX8_isMore cX8_isMore 1 (some .boolean)) 3 [vR_ (some t)] m0 (.inl (some (vI_ r))) m' := by
  refine cal_of (by decide +kernel) (Nat.le_of_ble_eq_true rfl) ?_
  unfold f_X8_isMore at h
  show AW_ cX8_isMore RX8 (some (.boolean), "isMore", 3, 1, m0, m', (.inl (some (vI_ r))), G, l, [], true) m0 0 [(0, vR_ (some t))] []
  refine a_aload_n 0 dX8_isMore_0 rfl rfl ?_
  obtain ⟨v3, m1, e2, h⟩ := bm_some h
  have he2 := e_X8_here (G := G) hl ht e2
  refine c_I he2.1 (rn_V (n := 0) (As := []) kc_8 ht he2 (lw_V q1760 q1762 qs36 q97 q1763) (by decide +kernel) rfl (Nat.le_of_ble_eq_true rfl) (Nat.le_of_ble_eq_true rfl) (Nat.le_of_ble_eq_true rfl) dX8_isMore_1) (fun z => (os_av (As := []) z).2.1) ?_
  refine a_pop dX8_isMore_4 rfl ?_
  refine a_aload_n 0 dX8_isMore_5 rfl rfl ?_
  refine a_getI kc_8 4 (by decide) rfl ht q1558 dX8_isMore_6 ?_
  refine a_aload_n 0 dX8_isMore_9 rfl rfl ?_
  refine a_getI kc_8 3 (by decide) rfl ht q1557 dX8_isMore_10 ?_
  refine a_icmp_ge (tgt := 20) dX8_isMore_13 (by decide) (fun c4 => ?_) (fun c4 => ?_)
  · replace h := ifp_ c4 h
    refine a_iconst (v := 0) dX8_isMore_20 (by decide) ?_
    cases h
    exact a_ireturn rfl rfl rfl rfl rfl dX8_isMore_21
  · replace h := ifn_ c4 h
    refine a_iconst (v := 1) dX8_isMore_16 (by decide) ?_
    refine a_goto (tgt := 21) dX8_isMore_17 (by decide) ?_
    cases h
    exact a_ireturn rfl rfl rfl rfl rfl dX8_isMore_21
def f_X8_isSmall (F : Nat)  (i0 : Int32) (m : pm_M) : Option (Int32 × pm_M) :=
  if i0 < 97 then
    some (0, m)
  else
    if 122 < i0 then
      some (0, m)
    else
      some (1, m)
set_option maxHeartbeats 4000000 in
theorem e_X8_isSmall {G : xg_T} {l : Launch} (hl : l.stackTraces = false) {F : Nat}    {i0 : Int32} {m0 m' : pm_M} {r : Int32} (h : f_X8_isSmall F i0 m0 = some (r, m')) : Cal_ G l yX8_isSmall (ws_ yX8_isSmall cX8_isSmall 1 (some .boolean)) 2 [vI_ i0] m0 (.inl (some (vI_ r))) m' := by
  refine cal_of (by decide +kernel) (Nat.le_of_ble_eq_true rfl) ?_
  unfold f_X8_isSmall at h
  show AW_ cX8_isSmall RX8 (some (.boolean), "isSmall", 2, 1, m0, m', (.inl (some (vI_ r))), G, l, [], true) m0 0 [(0, vI_ i0)] []
  refine a_iload_n 0 dX8_isSmall_0 rfl rfl ?_
  refine a_bipush (v := 97) dX8_isSmall_1 (by decide) ?_
  refine a_icmp_lt (tgt := 16) dX8_isSmall_3 (by decide) (fun c1 => ?_) (fun c1 => ?_)
  · replace h := ifp_ c1 h
    refine a_iconst (v := 0) dX8_isSmall_16 (by decide) ?_
    cases h
    exact a_ireturn rfl rfl rfl rfl rfl dX8_isSmall_17
  · replace h := ifn_ c1 h
    refine a_iload_n 0 dX8_isSmall_6 rfl rfl ?_
    refine a_bipush (v := 122) dX8_isSmall_7 (by decide) ?_
    refine a_icmp_gt (tgt := 16) dX8_isSmall_9 (by decide) (fun c2 => ?_) (fun c2 => ?_)
    · replace h := ifp_ c2 h
      refine a_iconst (v := 0) dX8_isSmall_16 (by decide) ?_
      cases h
      exact a_ireturn rfl rfl rfl rfl rfl dX8_isSmall_17
    · replace h := ifn_ c2 h
      refine a_iconst (v := 1) dX8_isSmall_12 (by decide) ?_
      refine a_goto (tgt := 17) dX8_isSmall_13 (by decide) ?_
      cases h
      exact a_ireturn rfl rfl rfl rfl rfl dX8_isSmall_17
def f_X8_standsHere_L7 (F : Nat)  (p24 : pm_A) (p26 : Option pm_A) (k27 : pm_M → Option (Int32 × pm_M)) : Nat → Int32 → pm_M → Option (Int32 × pm_M)
  | 0, _, _ => none
  | n29 + 1, x31, m30 =>
    gd_ 200 p26 fun a32 =>
    bm_ (f_J4_length F a32 m30) fun v37 m35 =>
    if v37 ≤ x31 then
      k27 m35
    else
      if (gI_ m35 p24 3) ≤ ((gI_ m35 p24 4) + x31) then
        some (0, m35)
      else
        gd_ 100 (gR_ m35 p24 9) fun a41 =>
        iz_ (!(ib_ ((gI_ m35 p24 4) + x31) a41.2.1)) <|
        bm_ (f_J4_charAt F a32 x31 m35) fun v47 m45 =>
        if (gI_ m35 a41 ((gI_ m35 p24 4) + x31).toNatClampNeg) = v47 then
          (f_X8_standsHere_L7 F p24 p26 k27 n29) (x31 + 1) m45
        else
          some (0, m45)
set_option maxHeartbeats 4000000 in
theorem w_X8_standsHere_L7 {G : xg_T} {l : Launch} (hl : l.stackTraces = false) {F : Nat}    (p24 : pm_A) (p26 : Option pm_A) (k27 : pm_M → Option (Int32 × pm_M)) {m0 m' : pm_M} {r : Int32} (hf25 : p24.1 = 8) (hk27 : ∀ (m28 : pm_M), k27 m28 = some (r, m') → AW_ cX8_standsHere RX8 (some (.boolean), "standsHere", 6, 3, m0, m', (.inl (some (vI_ r))), G, l, [], true) m28 55 [(0, vR_ (some p24)), (1, vR_ p26)] []) : ∀ (n : Nat) (x31 : Int32) (m30 : pm_M), f_X8_standsHere_L7 F p24 p26 k27 n x31 m30 = some (r, m') → AW_ cX8_standsHere RX8 (some (.boolean), "standsHere", 6, 3, m0, m', (.inl (some (vI_ r))), G, l, [], true) m30 7 [(0, vR_ (some p24)), (1, vR_ p26), (2, vI_ x31)] [] := by
  intro n
  induction n with
  | zero => intro x31 m30 h; cases h
  | succ n29 ih =>
    intro x31 m30 h
    rw [f_X8_standsHere_L7] at h
    refine a_iload_n 2 dX8_standsHere_7 rfl rfl ?_
    refine a_aload_n 1 dX8_standsHere_8 rfl rfl ?_
    obtain ⟨a32, e33, f34, h⟩ := gd_some h
    rw [e33]
    obtain ⟨v37, m35, e36, h⟩ := bm_some h
    have he36 := e_J4_length (G := G) hl f34 e36
    refine c_I he36.1 (rn_VT (n := 0) (As := []) f34 he36 (lw_V q1769 q734 q735 q104 q736) (by decide +kernel) rfl (Nat.le_of_ble_eq_true rfl) (Nat.le_of_ble_eq_true rfl) (Nat.le_of_ble_eq_true rfl) dX8_standsHere_9) (fun z => (os_av (As := []) z).2.1) ?_
    refine a_icmp_ge (tgt := 55) dX8_standsHere_12 (by decide) (fun c38 => ?_) (fun c38 => ?_)
    · replace h := ifp_ c38 h
      refine aw_pick [0, 1] rfl ?_
      have q39 := hk27 _ h
      rw [e33] at q39
      exact q39
    · replace h := ifn_ c38 h
      refine a_aload_n 0 dX8_standsHere_15 rfl rfl ?_
      refine a_getI kc_8 4 (by decide) rfl hf25 q1558 dX8_standsHere_16 ?_
      refine a_iload_n 2 dX8_standsHere_19 rfl rfl ?_
      refine a_iadd dX8_standsHere_20 ?_
      refine a_aload_n 0 dX8_standsHere_21 rfl rfl ?_
      refine a_getI kc_8 3 (by decide) rfl hf25 q1557 dX8_standsHere_22 ?_
      refine a_icmp_ge (tgt := 47) dX8_standsHere_25 (by decide) (fun c40 => ?_) (fun c40 => ?_)
      · replace h := ifp_ c40 h
        refine a_iconst (v := 0) dX8_standsHere_47 (by decide) ?_
        cases h
        exact a_ireturn rfl rfl rfl rfl rfl dX8_standsHere_48
      · replace h := ifn_ c40 h
        refine a_aload_n 0 dX8_standsHere_28 rfl rfl ?_
        refine a_getR kc_8 9 (by decide) rfl hf25 q1563 dX8_standsHere_29 ?_
        refine a_aload_n 0 dX8_standsHere_32 rfl rfl ?_
        refine a_getI kc_8 4 (by decide) rfl hf25 q1558 dX8_standsHere_33 ?_
        refine a_iload_n 2 dX8_standsHere_36 rfl rfl ?_
        refine a_iadd dX8_standsHere_37 ?_
        obtain ⟨a41, e42, f43, h⟩ := gd_some h
        rw [e42]
        obtain ⟨c44, h⟩ := iz_some h
        refine a_iald f43 (bn_ c44) dX8_standsHere_38 ?_
        refine a_aload_n 1 dX8_standsHere_39 rfl rfl ?_
        refine a_iload_n 2 dX8_standsHere_40 rfl rfl ?_
        obtain ⟨v47, m45, e46, h⟩ := bm_some h
        have he46 := e_J4_charAt (G := G) hl f34 e46
        refine c_I he46.1 (rn_VT (n := 1) (As := [vI_ x31]) f34 he46 (lw_V q1770 q744 q745 q104 q746) (by decide +kernel) rfl (Nat.le_of_ble_eq_true rfl) (Nat.le_of_ble_eq_true rfl) (Nat.le_of_ble_eq_true rfl) dX8_standsHere_41) (fun z => (os_av (As := [vI_ x31]) z).2.1) ?_
        refine a_icmp_eq (tgt := 49) dX8_standsHere_44 (by decide) (fun c48 => ?_) (fun c48 => ?_)
        · replace h := ifp_ c48 h
          refine a_iinc (v := x31 + 1) (ls' := [(2, vI_ (x31 + 1)), (0, vR_ (some p24)), (1, vR_ (some a32))]) 2 dX8_standsHere_49 rfl rfl (Nat.le_of_ble_eq_true rfl) rfl ?_
          refine a_goto (tgt := 7) dX8_standsHere_52 (by decide) ?_
          refine aw_pick [1, 2, 0] rfl ?_
          have q49 := ih _ _ h
          rw [e33] at q49
          exact q49
        · replace h := ifn_ c48 h
          refine a_iconst (v := 0) dX8_standsHere_47 (by decide) ?_
          cases h
          exact a_ireturn rfl rfl rfl rfl rfl dX8_standsHere_48
def f_X8_standsHere (F : Nat)  (t : pm_A) (i0 : Option pm_A) (m : pm_M) : Option (Int32 × pm_M) :=
  bm_ (f_X8_here F t m) fun v3 m1 =>
  jn_ (fun  (m5 : pm_M) =>
    gd_ 200 i0 fun a6 =>
    bm_ (f_J4_length F a6 m5) fun v11 m9 =>
    if (gI_ m9 t 3) ≤ ((gI_ m5 t 4) + v11) then
      some (1, m9)
    else
      bm_ (f_J4_length F a6 m9) fun v15 m13 =>
      gd_ 100 (gR_ m9 t 9) fun a16 =>
      iz_ (!(ib_ ((gI_ m9 t 4) + v15) a16.2.1)) <|
      bm_ (f_X8_isSmall F (gI_ m13 a16 ((gI_ m9 t 4) + v15).toNatClampNeg) m13) fun v22 m20 =>
      if v22 = 0 then
        some (1, m20)
      else
        some (0, m20)
  ) fun k4 =>
  f_X8_standsHere_L7 F t i0 k4 F 0 m1
set_option maxHeartbeats 4000000 in
theorem e_X8_standsHere {G : xg_T} {l : Launch} (hl : l.stackTraces = false) {F : Nat}    {t : pm_A} {i0 : Option pm_A} {m0 m' : pm_M} {r : Int32} (ht : t.1 = 8) (h : f_X8_standsHere F t i0 m0 = some (r, m')) : Cal_ G l yX8_standsHere (ws_ yX8_standsHere cX8_standsHere 3 (some .boolean)) 6 [vR_ (some t), vR_ i0] m0 (.inl (some (vI_ r))) m' := by
  refine cal_of (by decide +kernel) (Nat.le_of_ble_eq_true rfl) ?_
  unfold f_X8_standsHere at h
  show AW_ cX8_standsHere RX8 (some (.boolean), "standsHere", 6, 3, m0, m', (.inl (some (vI_ r))), G, l, [], true) m0 0 [(0, vR_ (some t)), (1, vR_ i0)] []
  refine a_aload_n 0 dX8_standsHere_0 rfl rfl ?_
  obtain ⟨v3, m1, e2, h⟩ := bm_some h
  have he2 := e_X8_here (G := G) hl ht e2
  refine c_I he2.1 (rn_V (n := 0) (As := []) kc_8 ht he2 (lw_V q1760 q1762 qs36 q97 q1763) (by decide +kernel) rfl (Nat.le_of_ble_eq_true rfl) (Nat.le_of_ble_eq_true rfl) (Nat.le_of_ble_eq_true rfl) dX8_standsHere_1) (fun z => (os_av (As := []) z).2.1) ?_
  refine a_pop dX8_standsHere_4 rfl ?_
  refine a_iconst (v := 0) dX8_standsHere_5 (by decide) ?_
  refine a_istore_n (ls' := [(2, vI_ 0), (0, vR_ (some t)), (1, vR_ i0)]) dX8_standsHere_6 rfl (Nat.le_of_ble_eq_true rfl) rfl ?_
  obtain ⟨k4, e50, h⟩ := jn1_some h
  have hk4 : ∀  (m5 : pm_M), k4 m5 = some (r, m') → AW_ cX8_standsHere RX8 (some (.boolean), "standsHere", 6, 3, m0, m', (.inl (some (vI_ r))), G, l, [], true) m5 55 [(0, vR_ (some t)), (1, vR_ i0)] [] := by
    intro m5 h
    have h := (e50 m5).symm.trans h
    refine a_aload_n 0 dX8_standsHere_55 rfl rfl ?_
    refine a_getI kc_8 4 (by decide) rfl ht q1558 dX8_standsHere_56 ?_
    refine a_aload_n 1 dX8_standsHere_59 rfl rfl ?_
    obtain ⟨a6, e7, f8, h⟩ := gd_some h
    rw [e7]
    obtain ⟨v11, m9, e10, h⟩ := bm_some h
    have he10 := e_J4_length (G := G) hl f8 e10
    refine c_I he10.1 (rn_VT (n := 0) (As := []) f8 he10 (lw_V q1769 q734 q735 q104 q736) (by decide +kernel) rfl (Nat.le_of_ble_eq_true rfl) (Nat.le_of_ble_eq_true rfl) (Nat.le_of_ble_eq_true rfl) dX8_standsHere_60) (fun z => (os_av (As := []) z).2.1) ?_
    refine a_iadd dX8_standsHere_63 ?_
    refine a_aload_n 0 dX8_standsHere_64 rfl rfl ?_
    refine a_getI kc_8 3 (by decide) rfl ht q1557 dX8_standsHere_65 ?_
    refine a_icmp_ge (tgt := 91) dX8_standsHere_68 (by decide) (fun c12 => ?_) (fun c12 => ?_)
    · replace h := ifp_ c12 h
      refine a_iconst (v := 1) dX8_standsHere_91 (by decide) ?_
      refine a_goto (tgt := 96) dX8_standsHere_92 (by decide) ?_
      cases h
      exact a_ireturn rfl rfl rfl rfl rfl dX8_standsHere_96
    · replace h := ifn_ c12 h
      refine a_aload_n 0 dX8_standsHere_71 rfl rfl ?_
      refine a_getR kc_8 9 (by decide) rfl ht q1563 dX8_standsHere_72 ?_
      refine a_aload_n 0 dX8_standsHere_75 rfl rfl ?_
      refine a_getI kc_8 4 (by decide) rfl ht q1558 dX8_standsHere_76 ?_
      refine a_aload_n 1 dX8_standsHere_79 rfl rfl ?_
      obtain ⟨v15, m13, e14, h⟩ := bm_some h
      have he14 := e_J4_length (G := G) hl f8 e14
      refine c_I he14.1 (rn_VT (n := 0) (As := []) f8 he14 (lw_V q1769 q734 q735 q104 q736) (by decide +kernel) rfl (Nat.le_of_ble_eq_true rfl) (Nat.le_of_ble_eq_true rfl) (Nat.le_of_ble_eq_true rfl) dX8_standsHere_80) (fun z => (os_av (As := []) z).2.1) ?_
      refine a_iadd dX8_standsHere_83 ?_
      obtain ⟨a16, e17, f18, h⟩ := gd_some h
      rw [e17]
      obtain ⟨c19, h⟩ := iz_some h
      refine a_iald f18 (bn_ c19) dX8_standsHere_84 ?_
      obtain ⟨v22, m20, e21, h⟩ := bm_some h
      have he21 := e_X8_isSmall (G := G) hl e21
      refine c_I he21.1 (rn_S (n := 1) (As := [vI_ (gI_ m13 a16 ((gI_ m9 t 4) + v15).toNatClampNeg)]) he21 (lw_S q1771 q1772 q97 q1773) (by decide +kernel) rfl (Nat.le_of_ble_eq_true rfl) (Nat.le_of_ble_eq_true rfl) (Nat.le_of_ble_eq_true rfl) dX8_standsHere_85) (fun z => (os_aS (As := [vI_ (gI_ m13 a16 ((gI_ m9 t 4) + v15).toNatClampNeg)]) z).2) ?_
      refine a_if_ne (tgt := 95) dX8_standsHere_88 (by decide) (fun c23 => ?_) (fun c23 => ?_)
      · replace h := ifn_ c23 h
        refine a_iconst (v := 0) dX8_standsHere_95 (by decide) ?_
        cases h
        exact a_ireturn rfl rfl rfl rfl rfl dX8_standsHere_96
      · replace h := ifp_ c23 h
        refine a_iconst (v := 1) dX8_standsHere_91 (by decide) ?_
        refine a_goto (tgt := 96) dX8_standsHere_92 (by decide) ?_
        cases h
        exact a_ireturn rfl rfl rfl rfl rfl dX8_standsHere_96
  refine aw_pick [1, 2, 0] rfl ?_
  exact w_X8_standsHere_L7 hl _ _ _ ht hk4 _ _ _ h
def f_X8_word_L14 (F : Nat)  (p9 : pm_A) (k11 : Int32 → Int32 → pm_M → Option (Int32 × pm_M)) : Nat → Int32 → Int32 → Int32 → pm_M → Option (Int32 × pm_M)
  | 0, _, _, _, _ => none
  | n15 + 1, x17, x18, x19, m16 =>
    if (gI_ m16 p9 3) ≤ x19 then
      k11 x17 x18 m16
    else
      gd_ 100 (gR_ m16 p9 9) fun a21 =>
      iz_ (!(ib_ x19 a21.2.1)) <|
      bm_ (f_X8_isSmall F (gI_ m16 a21 x19.toNatClampNeg) m16) fun v27 m25 =>
      if v27 = 0 then
        k11 x17 x18 m25
      else
        if 6 ≤ x18 then
          (f_X8_word_L14 F p9 k11 n15) 0 (x18 + 1) (x19 + 1) m25
        else
          gd_ 100 (gR_ m25 p9 9) fun a30 =>
          iz_ (!(ib_ x19 a30.2.1)) <|
          (f_X8_word_L14 F p9 k11 n15) ((x17 <<< ((5 : Int32) &&& 31)) ||| ((gI_ m25 a30 x19.toNatClampNeg) - 96)) (x18 + 1) (x19 + 1) m25
set_option maxHeartbeats 4000000 in
theorem w_X8_word_L14 {G : xg_T} {l : Launch} (hl : l.stackTraces = false) {F : Nat}    (p9 : pm_A) (k11 : Int32 → Int32 → pm_M → Option (Int32 × pm_M)) {m0 m' : pm_M} {r : Int32} (hf10 : p9.1 = 8) (hk11 : ∀ (x12 : Int32) (x13 : Int32) (m14 : pm_M), k11 x12 x13 m14 = some (r, m') → AW_ cX8_word RX8 (some (.int), "word", 3, 4, m0, m', (.inl (some (vI_ r))), G, l, [], true) m14 67 [(1, vI_ x12), (2, vI_ x13)] []) : ∀ (n : Nat) (x17 : Int32) (x18 : Int32) (x19 : Int32) (m16 : pm_M), f_X8_word_L14 F p9 k11 n x17 x18 x19 m16 = some (r, m') → AW_ cX8_word RX8 (some (.int), "word", 3, 4, m0, m', (.inl (some (vI_ r))), G, l, [], true) m16 14 [(0, vR_ (some p9)), (1, vI_ x17), (2, vI_ x18), (3, vI_ x19)] [] := by
  intro n
  induction n with
  | zero => intro x17 x18 x19 m16 h; cases h
  | succ n15 ih =>
    intro x17 x18 x19 m16 h
    rw [f_X8_word_L14] at h
    refine a_iload_n 3 dX8_word_14 rfl rfl ?_
    refine a_aload_n 0 dX8_word_15 rfl rfl ?_
    refine a_getI kc_8 3 (by decide) rfl hf10 q1557 dX8_word_16 ?_
    refine a_icmp_ge (tgt := 67) dX8_word_19 (by decide) (fun c20 => ?_) (fun c20 => ?_)
    · replace h := ifp_ c20 h
      refine aw_pick [1, 2] rfl ?_
      exact hk11 _ _ _ h
    · replace h := ifn_ c20 h
      refine a_aload_n 0 dX8_word_22 rfl rfl ?_
      refine a_getR kc_8 9 (by decide) rfl hf10 q1563 dX8_word_23 ?_
      refine a_iload_n 3 dX8_word_26 rfl rfl ?_
      obtain ⟨a21, e22, f23, h⟩ := gd_some h
      rw [e22]
      obtain ⟨c24, h⟩ := iz_some h
      refine a_iald f23 (bn_ c24) dX8_word_27 ?_
      obtain ⟨v27, m25, e26, h⟩ := bm_some h
      have he26 := e_X8_isSmall (G := G) hl e26
      refine c_I he26.1 (rn_S (n := 1) (As := [vI_ (gI_ m16 a21 x19.toNatClampNeg)]) he26 (lw_S q1771 q1772 q97 q1773) (by decide +kernel) rfl (Nat.le_of_ble_eq_true rfl) (Nat.le_of_ble_eq_true rfl) (Nat.le_of_ble_eq_true rfl) dX8_word_28) (fun z => (os_aS (As := [vI_ (gI_ m16 a21 x19.toNatClampNeg)]) z).2) ?_
      refine a_if_eq (tgt := 67) dX8_word_31 (by decide) (fun c28 => ?_) (fun c28 => ?_)
      · replace h := ifp_ c28 h
        refine aw_pick [1, 2] rfl ?_
        exact hk11 _ _ _ h
      · replace h := ifn_ c28 h
        refine a_iload_n 2 dX8_word_34 rfl rfl ?_
        refine a_bipush (v := 6) dX8_word_35 (by decide) ?_
        refine a_icmp_ge (tgt := 56) dX8_word_37 (by decide) (fun c29 => ?_) (fun c29 => ?_)
        · replace h := ifp_ c29 h
          refine a_iconst (v := 0) dX8_word_56 (by decide) ?_
          refine a_istore_n (ls' := [(1, vI_ 0), (0, vR_ (some p9)), (2, vI_ x18), (3, vI_ x19)]) dX8_word_57 rfl (Nat.le_of_ble_eq_true rfl) rfl ?_
          refine a_iinc (v := x18 + 1) (ls' := [(2, vI_ (x18 + 1)), (1, vI_ 0), (0, vR_ (some p9)), (3, vI_ x19)]) 2 dX8_word_58 rfl rfl (Nat.le_of_ble_eq_true rfl) rfl ?_
          refine a_iinc (v := x19 + 1) (ls' := [(3, vI_ (x19 + 1)), (2, vI_ (x18 + 1)), (1, vI_ 0), (0, vR_ (some p9))]) 3 dX8_word_61 rfl rfl (Nat.le_of_ble_eq_true rfl) rfl ?_
          refine a_goto (tgt := 14) dX8_word_64 (by decide) ?_
          refine aw_pick [3, 2, 1, 0] rfl ?_
          exact ih _ _ _ _ h
        · replace h := ifn_ c29 h
          refine a_iload_n 1 dX8_word_40 rfl rfl ?_
          refine a_iconst (v := 5) dX8_word_41 (by decide) ?_
          refine a_ishl dX8_word_42 ?_
          refine a_aload_n 0 dX8_word_43 rfl rfl ?_
          refine a_getR kc_8 9 (by decide) rfl hf10 q1563 dX8_word_44 ?_
          refine a_iload_n 3 dX8_word_47 rfl rfl ?_
          obtain ⟨a30, e31, f32, h⟩ := gd_some h
          rw [e31]
          obtain ⟨c33, h⟩ := iz_some h
          refine a_iald f32 (bn_ c33) dX8_word_48 ?_
          refine a_bipush (v := 96) dX8_word_49 (by decide) ?_
          refine a_isub dX8_word_51 ?_
          refine a_ior dX8_word_52 ?_
          refine a_goto (tgt := 57) dX8_word_53 (by decide) ?_
          refine a_istore_n (ls' := [(1, vI_ ((x17 <<< ((5 : Int32) &&& 31)) ||| ((gI_ m25 a30 x19.toNatClampNeg) - 96))), (0, vR_ (some p9)), (2, vI_ x18), (3, vI_ x19)]) dX8_word_57 rfl (Nat.le_of_ble_eq_true rfl) rfl ?_
          refine a_iinc (v := x18 + 1) (ls' := [(2, vI_ (x18 + 1)), (1, vI_ ((x17 <<< ((5 : Int32) &&& 31)) ||| ((gI_ m25 a30 x19.toNatClampNeg) - 96))), (0, vR_ (some p9)), (3, vI_ x19)]) 2 dX8_word_58 rfl rfl (Nat.le_of_ble_eq_true rfl) rfl ?_
          refine a_iinc (v := x19 + 1) (ls' := [(3, vI_ (x19 + 1)), (2, vI_ (x18 + 1)), (1, vI_ ((x17 <<< ((5 : Int32) &&& 31)) ||| ((gI_ m25 a30 x19.toNatClampNeg) - 96))), (0, vR_ (some p9))]) 3 dX8_word_61 rfl rfl (Nat.le_of_ble_eq_true rfl) rfl ?_
          refine a_goto (tgt := 14) dX8_word_64 (by decide) ?_
          refine aw_pick [3, 2, 1, 0] rfl ?_
          exact ih _ _ _ _ h
def f_X8_word (F : Nat)  (t : pm_A) (m : pm_M) : Option (Int32 × pm_M) :=
  bm_ (f_X8_here F t m) fun v3 m1 =>
  jn_ (fun (x6 : Int32) (x7 : Int32) (m5 : pm_M) =>
    if x7 ≤ 6 then
      some (x6, m5)
    else
      some (0, m5)
  ) fun k4 =>
  f_X8_word_L14 F t k4 F 0 0 (gI_ m1 t 4) m1
set_option maxHeartbeats 4000000 in
theorem e_X8_word {G : xg_T} {l : Launch} (hl : l.stackTraces = false) {F : Nat}    {t : pm_A} {m0 m' : pm_M} {r : Int32} (ht : t.1 = 8) (h : f_X8_word F t m0 = some (r, m')) : Cal_ G l yX8_word (ws_ yX8_word cX8_word 4 (some .int)) 3 [vR_ (some t)] m0 (.inl (some (vI_ r))) m' := by
  refine cal_of (by decide +kernel) (Nat.le_of_ble_eq_true rfl) ?_
  unfold f_X8_word at h
  show AW_ cX8_word RX8 (some (.int), "word", 3, 4, m0, m', (.inl (some (vI_ r))), G, l, [], true) m0 0 [(0, vR_ (some t))] []
  refine a_aload_n 0 dX8_word_0 rfl rfl ?_
  obtain ⟨v3, m1, e2, h⟩ := bm_some h
  have he2 := e_X8_here (G := G) hl ht e2
  refine c_I he2.1 (rn_V (n := 0) (As := []) kc_8 ht he2 (lw_V q1760 q1762 qs36 q97 q1763) (by decide +kernel) rfl (Nat.le_of_ble_eq_true rfl) (Nat.le_of_ble_eq_true rfl) (Nat.le_of_ble_eq_true rfl) dX8_word_1) (fun z => (os_av (As := []) z).2.1) ?_
  refine a_pop dX8_word_4 rfl ?_
  refine a_iconst (v := 0) dX8_word_5 (by decide) ?_
  refine a_istore_n (ls' := [(1, vI_ 0), (0, vR_ (some t))]) dX8_word_6 rfl (Nat.le_of_ble_eq_true rfl) rfl ?_
  refine a_iconst (v := 0) dX8_word_7 (by decide) ?_
  refine a_istore_n (ls' := [(2, vI_ 0), (1, vI_ 0), (0, vR_ (some t))]) dX8_word_8 rfl (Nat.le_of_ble_eq_true rfl) rfl ?_
  refine a_aload_n 2 dX8_word_9 rfl rfl ?_
  refine a_getI kc_8 4 (by decide) rfl ht q1558 dX8_word_10 ?_
  refine a_istore_n (ls' := [(3, vI_ (gI_ m1 t 4)), (2, vI_ 0), (1, vI_ 0), (0, vR_ (some t))]) dX8_word_13 rfl (Nat.le_of_ble_eq_true rfl) rfl ?_
  obtain ⟨k4, e34, h⟩ := jn3_some h
  have hk4 : ∀ (x6 : Int32) (x7 : Int32) (m5 : pm_M), k4 x6 x7 m5 = some (r, m') → AW_ cX8_word RX8 (some (.int), "word", 3, 4, m0, m', (.inl (some (vI_ r))), G, l, [], true) m5 67 [(1, vI_ x6), (2, vI_ x7)] [] := by
    intro x6 x7 m5 h
    have h := (e34 x6 x7 m5).symm.trans h
    refine a_iload_n 1 dX8_word_67 rfl rfl ?_
    refine a_bipush (v := 6) dX8_word_68 (by decide) ?_
    refine a_icmp_le (tgt := 77) dX8_word_70 (by decide) (fun c8 => ?_) (fun c8 => ?_)
    · replace h := ifp_ c8 h
      refine a_iload_n 0 dX8_word_77 rfl rfl ?_
      cases h
      exact a_ireturn rfl rfl rfl rfl rfl dX8_word_78
    · replace h := ifn_ c8 h
      refine a_iconst (v := 0) dX8_word_73 (by decide) ?_
      refine a_goto (tgt := 78) dX8_word_74 (by decide) ?_
      cases h
      exact a_ireturn rfl rfl rfl rfl rfl dX8_word_78
  refine aw_pick [3, 2, 1, 0] rfl ?_
  exact w_X8_word_L14 hl _ _ ht hk4 _ _ _ _ _ h
def f_X8_of_L4 (F : Nat)  (p1 : Option pm_A) : Nat → Int32 → Int32 → pm_M → Option (Int32 × pm_M)
  | 0, _, _, _ => none
  | n2 + 1, x4, x5, m3 =>
    gd_ 200 p1 fun a6 =>
    bm_ (f_J4_length F a6 m3) fun v11 m9 =>
    if v11 ≤ x5 then
      some (x4, m9)
    else
      bm_ (f_J4_charAt F a6 x5 m9) fun v15 m13 =>
      (f_X8_of_L4 F p1 n2) ((x4 <<< ((5 : Int32) &&& 31)) ||| (v15 - 96)) (x5 + 1) m13
set_option maxHeartbeats 4000000 in
theorem w_X8_of_L4 {G : xg_T} {l : Launch} (hl : l.stackTraces = false) {F : Nat}    (p1 : Option pm_A) {m0 m' : pm_M} {r : Int32}   : ∀ (n : Nat) (x4 : Int32) (x5 : Int32) (m3 : pm_M), f_X8_of_L4 F p1 n x4 x5 m3 = some (r, m') → AW_ cX8_of RX8 (some (.int), "of", 6, 3, m0, m', (.inl (some (vI_ r))), G, l, [], true) m3 4 [(0, vR_ p1), (1, vI_ x4), (2, vI_ x5)] [] := by
  intro n
  induction n with
  | zero => intro x4 x5 m3 h; cases h
  | succ n2 ih =>
    intro x4 x5 m3 h
    rw [f_X8_of_L4] at h
    refine a_iload_n 2 dX8_of_4 rfl rfl ?_
    refine a_aload_n 0 dX8_of_5 rfl rfl ?_
    obtain ⟨a6, e7, f8, h⟩ := gd_some h
    rw [e7]
    obtain ⟨v11, m9, e10, h⟩ := bm_some h
    have he10 := e_J4_length (G := G) hl f8 e10
    refine c_I he10.1 (rn_VT (n := 0) (As := []) f8 he10 (lw_V q1769 q734 q735 q104 q736) (by decide +kernel) rfl (Nat.le_of_ble_eq_true rfl) (Nat.le_of_ble_eq_true rfl) (Nat.le_of_ble_eq_true rfl) dX8_of_6) (fun z => (os_av (As := []) z).2.1) ?_
    refine a_icmp_ge (tgt := 31) dX8_of_9 (by decide) (fun c12 => ?_) (fun c12 => ?_)
    · replace h := ifp_ c12 h
      refine a_iload_n 1 dX8_of_31 rfl rfl ?_
      cases h
      exact a_ireturn rfl rfl rfl rfl rfl dX8_of_32
    · replace h := ifn_ c12 h
      refine a_iload_n 1 dX8_of_12 rfl rfl ?_
      refine a_iconst (v := 5) dX8_of_13 (by decide) ?_
      refine a_ishl dX8_of_14 ?_
      refine a_aload_n 0 dX8_of_15 rfl rfl ?_
      refine a_iload_n 2 dX8_of_16 rfl rfl ?_
      obtain ⟨v15, m13, e14, h⟩ := bm_some h
      have he14 := e_J4_charAt (G := G) hl f8 e14
      refine c_I he14.1 (rn_VT (n := 1) (As := [vI_ x5]) f8 he14 (lw_V q1770 q744 q745 q104 q746) (by decide +kernel) rfl (Nat.le_of_ble_eq_true rfl) (Nat.le_of_ble_eq_true rfl) (Nat.le_of_ble_eq_true rfl) dX8_of_17) (fun z => (os_av (As := [vI_ x5]) z).2.1) ?_
      refine a_bipush (v := 96) dX8_of_20 (by decide) ?_
      refine a_isub dX8_of_22 ?_
      refine a_ior dX8_of_23 ?_
      refine a_istore_n (ls' := [(1, vI_ ((x4 <<< ((5 : Int32) &&& 31)) ||| (v15 - 96))), (0, vR_ (some a6)), (2, vI_ x5)]) dX8_of_24 rfl (Nat.le_of_ble_eq_true rfl) rfl ?_
      refine a_iinc (v := x5 + 1) (ls' := [(2, vI_ (x5 + 1)), (1, vI_ ((x4 <<< ((5 : Int32) &&& 31)) ||| (v15 - 96))), (0, vR_ (some a6))]) 2 dX8_of_25 rfl rfl (Nat.le_of_ble_eq_true rfl) rfl ?_
      refine a_goto (tgt := 4) dX8_of_28 (by decide) ?_
      refine aw_pick [2, 1, 0] rfl ?_
      have q16 := ih _ _ _ h
      rw [e7] at q16
      exact q16
def f_X8_of (F : Nat)  (i0 : Option pm_A) (m : pm_M) : Option (Int32 × pm_M) :=
  f_X8_of_L4 F i0 F 0 0 m
set_option maxHeartbeats 4000000 in
theorem e_X8_of {G : xg_T} {l : Launch} (hl : l.stackTraces = false) {F : Nat}    {i0 : Option pm_A} {m0 m' : pm_M} {r : Int32} (h : f_X8_of F i0 m0 = some (r, m')) : Cal_ G l yX8_of (ws_ yX8_of cX8_of 3 (some .int)) 6 [vR_ i0] m0 (.inl (some (vI_ r))) m' := by
  refine cal_of (by decide +kernel) (Nat.le_of_ble_eq_true rfl) ?_
  unfold f_X8_of at h
  show AW_ cX8_of RX8 (some (.int), "of", 6, 3, m0, m', (.inl (some (vI_ r))), G, l, [], true) m0 0 [(0, vR_ i0)] []
  refine a_iconst (v := 0) dX8_of_0 (by decide) ?_
  refine a_istore_n (ls' := [(1, vI_ 0), (0, vR_ i0)]) dX8_of_1 rfl (Nat.le_of_ble_eq_true rfl) rfl ?_
  refine a_iconst (v := 0) dX8_of_2 (by decide) ?_
  refine a_istore_n (ls' := [(2, vI_ 0), (1, vI_ 0), (0, vR_ i0)]) dX8_of_3 rfl (Nat.le_of_ble_eq_true rfl) rfl ?_
  refine aw_pick [2, 1, 0] rfl ?_
  exact w_X8_of_L4 hl _ _ _ _ _ h
def f_X8_isRow (F : Nat)  (i0 : Int32) (m : pm_M) : Option (Int32 × pm_M) :=
  bm_ (f_X8_of F (some ((200, 0, 15))) m) fun v3 m1 =>
  if i0 = v3 then
    some (1, m1)
  else
    bm_ (f_X8_of F (some ((200, 0, 18))) m1) fun v7 m5 =>
    if i0 = v7 then
      some (1, m5)
    else
      bm_ (f_X8_of F (some ((200, 0, 16))) m5) fun v11 m9 =>
      if i0 = v11 then
        some (1, m9)
      else
        bm_ (f_X8_of F (some ((200, 0, 20))) m9) fun v15 m13 =>
        if i0 = v15 then
          some (1, m13)
        else
          some (0, m13)
set_option maxHeartbeats 4000000 in
theorem e_X8_isRow {G : xg_T} {l : Launch} (hl : l.stackTraces = false) {F : Nat}    {i0 : Int32} {m0 m' : pm_M} {r : Int32} (h : f_X8_isRow F i0 m0 = some (r, m')) : Cal_ G l yX8_isRow (ws_ yX8_isRow cX8_isRow 1 (some .boolean)) 7 [vI_ i0] m0 (.inl (some (vI_ r))) m' := by
  refine cal_of (by decide +kernel) (Nat.le_of_ble_eq_true rfl) ?_
  unfold f_X8_isRow at h
  show AW_ cX8_isRow RX8 (some (.boolean), "isRow", 7, 1, m0, m', (.inl (some (vI_ r))), G, l, [], true) m0 0 [(0, vI_ i0)] []
  refine a_iload_n 0 dX8_isRow_0 rfl rfl ?_
  refine a_ldcS (n := 15) (tx := "signer") (by decide +kernel) (by decide) dX8_isRow_1 ?_
  obtain ⟨v3, m1, e2, h⟩ := bm_some h
  have he2 := e_X8_of (G := G) hl e2
  refine c_I he2.1 (rn_S (n := 1) (As := [vR_ (some ((200, 0, 15)))]) he2 (lw_S q1782 q1783 q97 q1784) (by decide +kernel) rfl (Nat.le_of_ble_eq_true rfl) (Nat.le_of_ble_eq_true rfl) (Nat.le_of_ble_eq_true rfl) dX8_isRow_3) (fun z => (os_aS (As := [vR_ (some ((200, 0, 15)))]) z).2) ?_
  refine a_icmp_eq (tgt := 36) dX8_isRow_6 (by decide) (fun c4 => ?_) (fun c4 => ?_)
  · replace h := ifp_ c4 h
    refine a_iconst (v := 1) dX8_isRow_36 (by decide) ?_
    refine a_goto (tgt := 41) dX8_isRow_37 (by decide) ?_
    cases h
    exact a_ireturn rfl rfl rfl rfl rfl dX8_isRow_41
  · replace h := ifn_ c4 h
    refine a_iload_n 0 dX8_isRow_9 rfl rfl ?_
    refine a_ldcS (n := 18) (tx := "taker") (by decide +kernel) (by decide) dX8_isRow_10 ?_
    obtain ⟨v7, m5, e6, h⟩ := bm_some h
    have he6 := e_X8_of (G := G) hl e6
    refine c_I he6.1 (rn_S (n := 1) (As := [vR_ (some ((200, 0, 18)))]) he6 (lw_S q1782 q1783 q97 q1784) (by decide +kernel) rfl (Nat.le_of_ble_eq_true rfl) (Nat.le_of_ble_eq_true rfl) (Nat.le_of_ble_eq_true rfl) dX8_isRow_12) (fun z => (os_aS (As := [vR_ (some ((200, 0, 18)))]) z).2) ?_
    refine a_icmp_eq (tgt := 36) dX8_isRow_15 (by decide) (fun c8 => ?_) (fun c8 => ?_)
    · replace h := ifp_ c8 h
      refine a_iconst (v := 1) dX8_isRow_36 (by decide) ?_
      refine a_goto (tgt := 41) dX8_isRow_37 (by decide) ?_
      cases h
      exact a_ireturn rfl rfl rfl rfl rfl dX8_isRow_41
    · replace h := ifn_ c8 h
      refine a_iload_n 0 dX8_isRow_18 rfl rfl ?_
      refine a_ldcS (n := 16) (tx := "stores") (by decide +kernel) (by decide) dX8_isRow_19 ?_
      obtain ⟨v11, m9, e10, h⟩ := bm_some h
      have he10 := e_X8_of (G := G) hl e10
      refine c_I he10.1 (rn_S (n := 1) (As := [vR_ (some ((200, 0, 16)))]) he10 (lw_S q1782 q1783 q97 q1784) (by decide +kernel) rfl (Nat.le_of_ble_eq_true rfl) (Nat.le_of_ble_eq_true rfl) (Nat.le_of_ble_eq_true rfl) dX8_isRow_21) (fun z => (os_aS (As := [vR_ (some ((200, 0, 16)))]) z).2) ?_
      refine a_icmp_eq (tgt := 36) dX8_isRow_24 (by decide) (fun c12 => ?_) (fun c12 => ?_)
      · replace h := ifp_ c12 h
        refine a_iconst (v := 1) dX8_isRow_36 (by decide) ?_
        refine a_goto (tgt := 41) dX8_isRow_37 (by decide) ?_
        cases h
        exact a_ireturn rfl rfl rfl rfl rfl dX8_isRow_41
      · replace h := ifn_ c12 h
        refine a_iload_n 0 dX8_isRow_27 rfl rfl ?_
        refine a_ldcS (n := 20) (tx := "voyage") (by decide +kernel) (by decide) dX8_isRow_28 ?_
        obtain ⟨v15, m13, e14, h⟩ := bm_some h
        have he14 := e_X8_of (G := G) hl e14
        refine c_I he14.1 (rn_S (n := 1) (As := [vR_ (some ((200, 0, 20)))]) he14 (lw_S q1782 q1783 q97 q1784) (by decide +kernel) rfl (Nat.le_of_ble_eq_true rfl) (Nat.le_of_ble_eq_true rfl) (Nat.le_of_ble_eq_true rfl) dX8_isRow_30) (fun z => (os_aS (As := [vR_ (some ((200, 0, 20)))]) z).2) ?_
        refine a_icmp_ne (tgt := 40) dX8_isRow_33 (by decide) (fun c16 => ?_) (fun c16 => ?_)
        · replace h := ifn_ c16 h
          refine a_iconst (v := 0) dX8_isRow_40 (by decide) ?_
          cases h
          exact a_ireturn rfl rfl rfl rfl rfl dX8_isRow_41
        · replace h := ifp_ c16 h
          refine a_iconst (v := 1) dX8_isRow_36 (by decide) ?_
          refine a_goto (tgt := 41) dX8_isRow_37 (by decide) ?_
          cases h
          exact a_ireturn rfl rfl rfl rfl rfl dX8_isRow_41
