/-! PRINTED BY dec.py: X1_land X0_land X1_hasBy X1_isBest X1_bids X0_bids X1_has X0_has X1_voyageOf X1_sails X1_hungrier X1_voyage X0_voyage X1_span X0_span X2_init X5_init -/
set_option maxRecDepth 100000
def f_X1_land_L69 (F : Nat)  (p50 : pm_A) (p52 : Int32) (p53 : Int32) (p54 : pm_A) (p56 : Int32) (k57 : Int32 → pm_M → Option ((Int32 ⊕ pm_A) × pm_M)) : Nat → Int32 → Int32 → pm_M → Option ((Int32 ⊕ pm_A) × pm_M)
  | 0, _, _, _ => none
  | n60 + 1, x62, x63, m61 =>
    gd_ 6 (gR_ m61 p50 12) fun a64 =>
    if (gI_ m61 a64 8) ≤ x63 then
      k57 x62 m61
    else
      bm_ (f_X4_boundTo F p54 x63 m61) fun v70 m68 =>
      gd_ 100 (gR_ m68 p50 10) fun a71 =>
      iz_ (!(ib_ x62 a71.2.1)) <|
      bm_ (f_X4_boundTo F p54 x62 m68) fun v77 m75 =>
      gd_ 100 (gR_ m75 p50 10) fun a78 =>
      iz_ (!(ib_ x63 a78.2.1)) <|
      if (v70 * (1 + (gI_ m68 a71 x62.toNatClampNeg))) ≤ (v77 * (1 + (gI_ m75 a78 x63.toNatClampNeg))) then
        (f_X1_land_L69 F p50 p52 p53 p54 p56 k57 n60) x62 (x63 + 1) m75
      else
        (f_X1_land_L69 F p50 p52 p53 p54 p56 k57 n60) x63 (x63 + 1) m75
set_option maxHeartbeats 4000000 in
theorem w_X1_land_L69 {G : xg_T} {l : Launch} (hl : l.stackTraces = false) {F : Nat}    (p50 : pm_A) (p52 : Int32) (p53 : Int32) (p54 : pm_A) (p56 : Int32) (k57 : Int32 → pm_M → Option ((Int32 ⊕ pm_A) × pm_M)) {m0 m' : pm_M} {r : (Int32 ⊕ pm_A)} (hf51 : p50.1 = 1) (hf55 : p54.1 = 4) (hk57 : ∀ (x58 : Int32) (m59 : pm_M), k57 x58 m59 = some (r, m') → AW_ cX1_land RX1 (some (.int), "land", 7, 7, m0, m', (oI_ r), G, l, [], true) m59 126 [(0, vR_ (some p50)), (1, vI_ p52), (2, vI_ p53), (3, vR_ (some p54)), (4, vI_ p56), (5, vI_ x58)] []) : ∀ (n : Nat) (x62 : Int32) (x63 : Int32) (m61 : pm_M), f_X1_land_L69 F p50 p52 p53 p54 p56 k57 n x62 x63 m61 = some (r, m') → AW_ cX1_land RX1 (some (.int), "land", 7, 7, m0, m', (oI_ r), G, l, [], true) m61 69 [(0, vR_ (some p50)), (1, vI_ p52), (2, vI_ p53), (3, vR_ (some p54)), (4, vI_ p56), (5, vI_ x62), (6, vI_ x63)] [] := by
  intro n
  induction n with
  | zero => intro x62 x63 m61 h; cases h
  | succ n60 ih =>
    intro x62 x63 m61 h
    rw [f_X1_land_L69] at h
    refine a_iload 6 dX1_land_69 rfl ?_
    refine a_aload_n 0 dX1_land_71 rfl rfl ?_
    refine a_getR kc_1 12 (by decide) rfl hf51 q400 dX1_land_72 ?_
    obtain ⟨a64, e65, f66, h⟩ := gd_some h
    rw [e65]
    refine a_getIN kc_6 8 (by decide) rfl f66 q250 dX1_land_75 ?_
    refine a_icmp_ge (tgt := 126) dX1_land_78 (by decide) (fun c67 => ?_) (fun c67 => ?_)
    · replace h := ifp_ c67 h
      refine aw_pick [0, 1, 2, 3, 4, 5] rfl ?_
      exact hk57 _ _ h
    · replace h := ifn_ c67 h
      refine a_aload_n 3 dX1_land_81 rfl rfl ?_
      refine a_iload 6 dX1_land_82 rfl ?_
      obtain ⟨v70, m68, e69, h⟩ := bm_some h
      have he69 := e_X4_boundTo (G := G) hl hf55 e69
      refine c_I he69.1 (rn_V (n := 1) (As := [vI_ x63]) kc_4 hf55 he69 (lw_V q1264 q1189 q1190 q93 q1191) (by decide +kernel) rfl (Nat.le_of_ble_eq_true rfl) (Nat.le_of_ble_eq_true rfl) (Nat.le_of_ble_eq_true rfl) dX1_land_84) (fun z => (os_av (As := [vI_ x63]) z).2.1) ?_
      refine a_iconst (v := 1) dX1_land_87 (by decide) ?_
      refine a_aload_n 0 dX1_land_88 rfl rfl ?_
      refine a_getR kc_1 10 (by decide) rfl hf51 q398 dX1_land_89 ?_
      refine a_iload 5 dX1_land_92 rfl ?_
      obtain ⟨a71, e72, f73, h⟩ := gd_some h
      rw [e72]
      obtain ⟨c74, h⟩ := iz_some h
      refine a_iald f73 (bn_ c74) dX1_land_94 ?_
      refine a_iadd dX1_land_95 ?_
      refine a_imul dX1_land_96 ?_
      refine a_aload_n 3 dX1_land_97 rfl rfl ?_
      refine a_iload 5 dX1_land_98 rfl ?_
      obtain ⟨v77, m75, e76, h⟩ := bm_some h
      have he76 := e_X4_boundTo (G := G) hl hf55 e76
      refine c_I he76.1 (rn_V (n := 1) (As := [vI_ x62]) kc_4 hf55 he76 (lw_V q1264 q1189 q1190 q93 q1191) (by decide +kernel) rfl (Nat.le_of_ble_eq_true rfl) (Nat.le_of_ble_eq_true rfl) (Nat.le_of_ble_eq_true rfl) dX1_land_100) (fun z => (os_av (As := [vI_ x62]) z).2.1) ?_
      refine a_iconst (v := 1) dX1_land_103 (by decide) ?_
      refine a_aload_n 0 dX1_land_104 rfl rfl ?_
      refine a_getR kc_1 10 (by decide) rfl hf51 q398 dX1_land_105 ?_
      refine a_iload 6 dX1_land_108 rfl ?_
      obtain ⟨a78, e79, f80, h⟩ := gd_some h
      rw [e79]
      obtain ⟨c81, h⟩ := iz_some h
      refine a_iald f80 (bn_ c81) dX1_land_110 ?_
      refine a_iadd dX1_land_111 ?_
      refine a_imul dX1_land_112 ?_
      refine a_icmp_le (tgt := 120) dX1_land_113 (by decide) (fun c82 => ?_) (fun c82 => ?_)
      · replace h := ifp_ c82 h
        refine a_iinc (v := x63 + 1) (ls' := [(6, vI_ (x63 + 1)), (0, vR_ (some p50)), (1, vI_ p52), (2, vI_ p53), (3, vR_ (some p54)), (4, vI_ p56), (5, vI_ x62)]) 6 dX1_land_120 rfl rfl (Nat.le_of_ble_eq_true rfl) rfl ?_
        refine a_goto (tgt := 69) dX1_land_123 (by decide) ?_
        refine aw_pick [1, 2, 3, 4, 5, 6, 0] rfl ?_
        exact ih _ _ _ h
      · replace h := ifn_ c82 h
        refine a_iload 6 dX1_land_116 rfl ?_
        refine a_istore (ls' := [(5, vI_ x63), (0, vR_ (some p50)), (1, vI_ p52), (2, vI_ p53), (3, vR_ (some p54)), (4, vI_ p56), (6, vI_ x63)]) dX1_land_118 (Nat.le_of_ble_eq_true rfl) rfl ?_
        refine a_iinc (v := x63 + 1) (ls' := [(6, vI_ (x63 + 1)), (5, vI_ x63), (0, vR_ (some p50)), (1, vI_ p52), (2, vI_ p53), (3, vR_ (some p54)), (4, vI_ p56)]) 6 dX1_land_120 rfl rfl (Nat.le_of_ble_eq_true rfl) rfl ?_
        refine a_goto (tgt := 69) dX1_land_123 (by decide) ?_
        refine aw_pick [2, 3, 4, 5, 6, 1, 0] rfl ?_
        exact ih _ _ _ h
def f_X1_land_L57 (F : Nat)  (p26 : pm_A) (p28 : Int32) (p29 : Int32) (p30 : pm_A) : Nat → Int32 → pm_M → Option ((Int32 ⊕ pm_A) × pm_M)
  | 0, _, _ => none
  | n32 + 1, x34, m33 =>
    if p29 ≤ x34 then
      gd_ 100 (gR_ m33 p26 10) fun a36 =>
      iz_ (!(ib_ p28 a36.2.1)) <|
      some (.inl (gI_ m33 a36 p28.toNatClampNeg), m33)
    else
      jn_ (fun (x42 : Int32) (m41 : pm_M) =>
        gd_ 100 (gR_ m41 p26 10) fun a43 =>
        iz_ (!(ib_ x42 a43.2.1)) <|
        iz_ (!(ib_ x42 a43.2.1)) <|
        lt_ (pI_ m41 a43 x42.toNatClampNeg ((gI_ m41 a43 x42.toNatClampNeg) + 1)) fun m48 =>
        (f_X1_land_L57 F p26 p28 p29 p30 n32) (x34 + 1) m48
      ) fun k40 =>
      f_X1_land_L69 F p26 p28 p29 p30 x34 k40 F 0 1 m33
set_option maxHeartbeats 4000000 in
theorem w_X1_land_L57 {G : xg_T} {l : Launch} (hl : l.stackTraces = false) {F : Nat}    (p26 : pm_A) (p28 : Int32) (p29 : Int32) (p30 : pm_A) {m0 m' : pm_M} {r : (Int32 ⊕ pm_A)} (hf27 : p26.1 = 1) (hf31 : p30.1 = 4)  : ∀ (n : Nat) (x34 : Int32) (m33 : pm_M), f_X1_land_L57 F p26 p28 p29 p30 n x34 m33 = some (r, m') → AW_ cX1_land RX1 (some (.int), "land", 7, 7, m0, m', (oI_ r), G, l, [], true) m33 57 [(0, vR_ (some p26)), (1, vI_ p28), (2, vI_ p29), (3, vR_ (some p30)), (4, vI_ x34)] [] := by
  intro n
  induction n with
  | zero => intro x34 m33 h; cases h
  | succ n32 ih =>
    intro x34 m33 h
    rw [f_X1_land_L57] at h
    refine a_iload 4 dX1_land_57 rfl ?_
    refine a_iload_n 2 dX1_land_59 rfl rfl ?_
    refine a_icmp_ge (tgt := 143) dX1_land_60 (by decide) (fun c35 => ?_) (fun c35 => ?_)
    · replace h := ifp_ c35 h
      refine a_aload_n 0 dX1_land_143 rfl rfl ?_
      refine a_getR kc_1 10 (by decide) rfl hf27 q398 dX1_land_144 ?_
      refine a_iload_n 1 dX1_land_147 rfl rfl ?_
      obtain ⟨a36, e37, f38, h⟩ := gd_some h
      rw [e37]
      obtain ⟨c39, h⟩ := iz_some h
      refine a_iald f38 (bn_ c39) dX1_land_148 ?_
      cases h
      exact a_ireturn rfl rfl rfl rfl rfl dX1_land_149
    · replace h := ifn_ c35 h
      refine a_iconst (v := 0) dX1_land_63 (by decide) ?_
      refine a_istore (ls' := [(5, vI_ 0), (0, vR_ (some p26)), (1, vI_ p28), (2, vI_ p29), (3, vR_ (some p30)), (4, vI_ x34)]) dX1_land_64 (Nat.le_of_ble_eq_true rfl) rfl ?_
      refine a_iconst (v := 1) dX1_land_66 (by decide) ?_
      refine a_istore (ls' := [(6, vI_ 1), (5, vI_ 0), (0, vR_ (some p26)), (1, vI_ p28), (2, vI_ p29), (3, vR_ (some p30)), (4, vI_ x34)]) dX1_land_67 (Nat.le_of_ble_eq_true rfl) rfl ?_
      obtain ⟨k40, e83, h⟩ := jn2_some h
      have hk40 : ∀ (x42 : Int32) (m41 : pm_M), k40 x42 m41 = some (r, m') → AW_ cX1_land RX1 (some (.int), "land", 7, 7, m0, m', (oI_ r), G, l, [], true) m41 126 [(0, vR_ (some p26)), (1, vI_ p28), (2, vI_ p29), (3, vR_ (some p30)), (4, vI_ x34), (5, vI_ x42)] [] := by
        intro x42 m41 h
        have h := (e83 x42 m41).symm.trans h
        refine a_aload_n 0 dX1_land_126 rfl rfl ?_
        refine a_getR kc_1 10 (by decide) rfl hf27 q398 dX1_land_127 ?_
        refine a_iload 5 dX1_land_130 rfl ?_
        refine a_dup2 dX1_land_132 rfl rfl ?_
        obtain ⟨a43, e44, f45, h⟩ := gd_some h
        rw [e44]
        obtain ⟨c46, h⟩ := iz_some h
        refine a_iald f45 (bn_ c46) dX1_land_133 ?_
        refine a_iconst (v := 1) dX1_land_134 (by decide) ?_
        refine a_iadd dX1_land_135 ?_
        obtain ⟨c47, h⟩ := iz_some h
        obtain ⟨m48, e49, h⟩ := lt_some h
        refine a_iast f45 (bn_ c47) dX1_land_136 ?_
        rw [← e49]
        refine a_iinc (v := x34 + 1) (ls' := [(4, vI_ (x34 + 1)), (0, vR_ (some p26)), (1, vI_ p28), (2, vI_ p29), (3, vR_ (some p30)), (5, vI_ x42)]) 4 dX1_land_137 rfl rfl (Nat.le_of_ble_eq_true rfl) rfl ?_
        refine a_goto (tgt := 57) dX1_land_140 (by decide) ?_
        refine aw_pick [1, 2, 3, 4, 0] rfl ?_
        exact ih _ _ h
      refine aw_pick [2, 3, 4, 5, 6, 1, 0] rfl ?_
      exact w_X1_land_L69 hl _ _ _ _ _ _ hf27 hf31 hk40 _ _ _ _ h
def f_X1_land_L24 (F : Nat)  (p84 : pm_A) (p86 : Int32) (p87 : Int32) (p88 : Option pm_A) (k89 : pm_M → Option ((Int32 ⊕ pm_A) × pm_M)) : Nat → Int32 → pm_M → Option ((Int32 ⊕ pm_A) × pm_M)
  | 0, _, _ => none
  | n91 + 1, x93, m92 =>
    if 5 ≤ x93 then
      k89 m92
    else
      gd_ 100 (gR_ m92 p84 10) fun a95 =>
      iz_ (!(ib_ x93 a95.2.1)) <|
      lt_ (pI_ m92 a95 x93.toNatClampNeg 0) fun m99 =>
      (f_X1_land_L24 F p84 p86 p87 p88 k89 n91) (x93 + 1) m99
set_option maxHeartbeats 4000000 in
theorem w_X1_land_L24 {G : xg_T} {l : Launch} (hl : l.stackTraces = false) {F : Nat}    (p84 : pm_A) (p86 : Int32) (p87 : Int32) (p88 : Option pm_A) (k89 : pm_M → Option ((Int32 ⊕ pm_A) × pm_M)) {m0 m' : pm_M} {r : (Int32 ⊕ pm_A)} (hf85 : p84.1 = 1) (hk89 : ∀ (m90 : pm_M), k89 m90 = some (r, m') → AW_ cX1_land RX1 (some (.int), "land", 7, 7, m0, m', (oI_ r), G, l, [], true) m90 44 [(0, vR_ (some p84)), (1, vI_ p86), (2, vI_ p87), (3, vR_ p88)] []) : ∀ (n : Nat) (x93 : Int32) (m92 : pm_M), f_X1_land_L24 F p84 p86 p87 p88 k89 n x93 m92 = some (r, m') → AW_ cX1_land RX1 (some (.int), "land", 7, 7, m0, m', (oI_ r), G, l, [], true) m92 24 [(0, vR_ (some p84)), (1, vI_ p86), (2, vI_ p87), (3, vR_ p88), (4, vI_ x93)] [] := by
  intro n
  induction n with
  | zero => intro x93 m92 h; cases h
  | succ n91 ih =>
    intro x93 m92 h
    rw [f_X1_land_L24] at h
    refine a_iload 4 dX1_land_24 rfl ?_
    refine a_iconst (v := 5) dX1_land_26 (by decide) ?_
    refine a_icmp_ge (tgt := 44) dX1_land_27 (by decide) (fun c94 => ?_) (fun c94 => ?_)
    · replace h := ifp_ c94 h
      refine aw_pick [0, 1, 2, 3] rfl ?_
      exact hk89 _ h
    · replace h := ifn_ c94 h
      refine a_aload_n 0 dX1_land_30 rfl rfl ?_
      refine a_getR kc_1 10 (by decide) rfl hf85 q398 dX1_land_31 ?_
      refine a_iload 4 dX1_land_34 rfl ?_
      refine a_iconst (v := 0) dX1_land_36 (by decide) ?_
      obtain ⟨a95, e96, f97, h⟩ := gd_some h
      rw [e96]
      obtain ⟨c98, h⟩ := iz_some h
      obtain ⟨m99, e100, h⟩ := lt_some h
      refine a_iast f97 (bn_ c98) dX1_land_37 ?_
      rw [← e100]
      refine a_iinc (v := x93 + 1) (ls' := [(4, vI_ (x93 + 1)), (0, vR_ (some p84)), (1, vI_ p86), (2, vI_ p87), (3, vR_ p88)]) 4 dX1_land_38 rfl rfl (Nat.le_of_ble_eq_true rfl) rfl ?_
      refine a_goto (tgt := 24) dX1_land_41 (by decide) ?_
      refine aw_pick [1, 2, 3, 4, 0] rfl ?_
      exact ih _ _ h
def f_X1_land (F : Nat)  (t : pm_A) (i0 : Int32) (i1 : Int32) (m : pm_M) : Option ((Int32 ⊕ pm_A) × pm_M) :=
  bt_ (f_X1_takerOf F t i0 m) (fun v3 m1 =>
    bt_ (f_X1_within F t i1 0 99 m1) (fun v8 m6 =>
      gd_ 3 (gR_ m6 t 2) fun a11 =>
      bm_ (f_X3_now F a11 m6) fun v16 m14 =>
      jn_ (fun  (m18 : pm_M) =>
        gd_ 4 v16 fun a19 =>
        bm_ (f_X4_many F a19 2 m18) fun v24 m22 =>
        if v24 = 0 then
          some (.inl 0, m22)
        else
          f_X1_land_L57 F t i0 i1 a19 F 0 m22
      ) fun k17 =>
      f_X1_land_L24 F t i0 i1 v16 k17 F 0 m14
    ) fun b10 m9 =>
      some (.inr b10, m9)
  ) fun b5 m4 =>
    some (.inr b5, m4)
set_option maxHeartbeats 4000000 in
theorem e_X1_land {G : xg_T} {l : Launch} (hl : l.stackTraces = false) {F : Nat}    {t : pm_A} {i0 : Int32} {i1 : Int32} {m0 m' : pm_M} {r : (Int32 ⊕ pm_A)} (ht : t.1 = 1) (h : f_X1_land F t i0 i1 m0 = some (r, m')) : Cal_ G l yX1_land (ws_ yX1_land cX1_land 7 (some .int)) 7 [vR_ (some t), vI_ i0, vI_ i1] m0 (oI_ r) m' := by
  refine cal_of (by decide +kernel) (Nat.le_of_ble_eq_true rfl) ?_
  unfold f_X1_land at h
  show AW_ cX1_land RX1 (some (.int), "land", 7, 7, m0, m', (oI_ r), G, l, [], true) m0 0 [(0, vR_ (some t)), (1, vI_ i0), (2, vI_ i1)] []
  refine a_aload_n 0 dX1_land_0 rfl rfl ?_
  refine a_iload_n 1 dX1_land_1 rfl rfl ?_
  rcases bt_some h with ⟨v3, m1, e2, h⟩ | ⟨b5, m4, e2, h⟩
  · have he2 := e_X1_takerOf (G := G) hl ht e2
    refine c_V he2.1 (rn_V (n := 1) (As := [vI_ i0]) kc_1 ht he2 (lw_V q1260 q1262 qs16 q90 q1263) (by decide +kernel) rfl (Nat.le_of_ble_eq_true rfl) (Nat.le_of_ble_eq_true rfl) (Nat.le_of_ble_eq_true rfl) dX1_land_2) (fun z => (os_av (As := [vI_ i0]) z).2.1) ?_
    refine a_aload_n 0 dX1_land_5 rfl rfl ?_
    refine a_iload_n 2 dX1_land_6 rfl rfl ?_
    refine a_iconst (v := 0) dX1_land_7 (by decide) ?_
    refine a_bipush (v := 99) dX1_land_8 (by decide) ?_
    rcases bt_some h with ⟨v8, m6, e7, h⟩ | ⟨b10, m9, e7, h⟩
    · have he7 := e_X1_within (G := G) hl ht e7
      refine c_V he7.1 (rn_V (n := 3) (As := [vI_ i1, vI_ 0, vI_ 99]) kc_1 ht he7 (lw_V q581 q583 qs0 q90 q584) (by decide +kernel) rfl (Nat.le_of_ble_eq_true rfl) (Nat.le_of_ble_eq_true rfl) (Nat.le_of_ble_eq_true rfl) dX1_land_10) (fun z => (os_av (As := [vI_ i1, vI_ 0, vI_ 99]) z).2.1) ?_
      refine a_aload_n 0 dX1_land_13 rfl rfl ?_
      refine a_getR kc_1 2 (by decide) rfl ht q390 dX1_land_14 ?_
      obtain ⟨a11, e12, f13, h⟩ := gd_some h
      rw [e12]
      obtain ⟨v16, m14, e15, h⟩ := bm_some h
      have he15 := e_X3_now (G := G) hl f13 e15
      refine c_R he15.1 (rn_V (n := 0) (As := []) kc_3 f13 he15 (lw_V q380 q381 q382 q92 q383) (by decide +kernel) rfl (Nat.le_of_ble_eq_true rfl) (Nat.le_of_ble_eq_true rfl) (Nat.le_of_ble_eq_true rfl) dX1_land_17) (fun z => (os_av (As := []) z).2.1) ?_
      refine a_astore_n (ls' := [(3, vR_ v16), (0, vR_ (some t)), (1, vI_ i0), (2, vI_ i1)]) dX1_land_20 rfl (Nat.le_of_ble_eq_true rfl) rfl ?_
      refine a_iconst (v := 0) dX1_land_21 (by decide) ?_
      refine a_istore (ls' := [(4, vI_ 0), (3, vR_ v16), (0, vR_ (some t)), (1, vI_ i0), (2, vI_ i1)]) dX1_land_22 (Nat.le_of_ble_eq_true rfl) rfl ?_
      obtain ⟨k17, e101, h⟩ := jn1_some h
      have hk17 : ∀  (m18 : pm_M), k17 m18 = some (r, m') → AW_ cX1_land RX1 (some (.int), "land", 7, 7, m0, m', (oI_ r), G, l, [], true) m18 44 [(0, vR_ (some t)), (1, vI_ i0), (2, vI_ i1), (3, vR_ v16)] [] := by
        intro m18 h
        have h := (e101 m18).symm.trans h
        refine a_aload_n 3 dX1_land_44 rfl rfl ?_
        refine a_iconst (v := 2) dX1_land_45 (by decide) ?_
        obtain ⟨a19, e20, f21, h⟩ := gd_some h
        rw [e20]
        obtain ⟨v24, m22, e23, h⟩ := bm_some h
        have he23 := e_X4_many (G := G) hl f21 e23
        refine c_I he23.1 (rn_V (n := 1) (As := [vI_ 2]) kc_4 f21 he23 (lw_V q538 q539 q540 q93 q541) (by decide +kernel) rfl (Nat.le_of_ble_eq_true rfl) (Nat.le_of_ble_eq_true rfl) (Nat.le_of_ble_eq_true rfl) dX1_land_46) (fun z => (os_av (As := [vI_ 2]) z).2.1) ?_
        refine a_if_ne (tgt := 54) dX1_land_49 (by decide) (fun c25 => ?_) (fun c25 => ?_)
        · replace h := ifn_ c25 h
          refine a_iconst (v := 0) dX1_land_54 (by decide) ?_
          refine a_istore (ls' := [(4, vI_ 0), (0, vR_ (some t)), (1, vI_ i0), (2, vI_ i1), (3, vR_ (some a19))]) dX1_land_55 (Nat.le_of_ble_eq_true rfl) rfl ?_
          refine aw_pick [1, 2, 3, 4, 0] rfl ?_
          exact w_X1_land_L57 hl _ _ _ _ ht f21 _ _ _ h
        · replace h := ifp_ c25 h
          refine a_iconst (v := 0) dX1_land_52 (by decide) ?_
          cases h
          exact a_ireturn rfl rfl rfl rfl rfl dX1_land_53
      refine aw_pick [2, 3, 4, 1, 0] rfl ?_
      exact w_X1_land_L24 hl _ _ _ _ _ ht hk17 _ _ _ h
    · have he7 := e_X1_within (G := G) hl ht e7
      refine c_X (b := b10) he7.1 (rn_V (n := 3) (As := [vI_ i1, vI_ 0, vI_ 99]) kc_1 ht he7 (lw_V q581 q583 qs0 q90 q584) (by decide +kernel) rfl (Nat.le_of_ble_eq_true rfl) (Nat.le_of_ble_eq_true rfl) (Nat.le_of_ble_eq_true rfl) dX1_land_10) ?_
      cases h
      exact a_out rfl rfl rfl rfl
  · have he2 := e_X1_takerOf (G := G) hl ht e2
    refine c_X (b := b5) he2.1 (rn_V (n := 1) (As := [vI_ i0]) kc_1 ht he2 (lw_V q1260 q1262 qs16 q90 q1263) (by decide +kernel) rfl (Nat.le_of_ble_eq_true rfl) (Nat.le_of_ble_eq_true rfl) (Nat.le_of_ble_eq_true rfl) dX1_land_2) ?_
    cases h
    exact a_out rfl rfl rfl rfl
def f_X0_land (F : Nat)  (i0 : Option pm_A) (i1 : Int32) (i2 : Int32) (i3 : Option pm_A) (m : pm_M) : Option (Int32 × pm_M) :=
  gd_ 1 i0 fun a1 =>
  bt_ (f_X1_land F a1 i1 i2 m) (fun v6 m4 =>
    gd_ 103 i3 fun a9 =>
    iz_ (!(ib_ 0 a9.2.1)) <|
    lt_ (pL_ m4 a9 ((0 : Int32).toNatClampNeg) v6.toInt64) fun m13 =>
    some (0, m13)
  ) fun b8 m7 =>
    if b8.1 = 26 then
      some (1, m7)
    else
    if b8.1 = 25 then
      some (2, m7)
    else
    none
set_option maxHeartbeats 4000000 in
theorem e_X0_land {G : xg_T} {l : Launch} (hl : l.stackTraces = false) {F : Nat}    {i0 : Option pm_A} {i1 : Int32} {i2 : Int32} {i3 : Option pm_A} {m0 m' : pm_M} {r : Int32} (h : f_X0_land F i0 i1 i2 i3 m0 = some (r, m')) : Cal_ G l yX0_land (wsW_ yX0_land cX0_land 5 (some .int) [(0, 10, 13, 31), (0, 10, 17, 13)]) 8 [vR_ i0, vI_ i1, vI_ i2, vR_ i3] m0 (.inl (some (vI_ r))) m' := by
  refine cal_ofH (by decide +kernel) (Nat.le_of_ble_eq_true rfl) ?_
  unfold f_X0_land at h
  show AW_ cX0_land RX0 (some (.int), "land", 8, 5, m0, m', (.inl (some (vI_ r))), G, l, [(0, 10, 13, 31), (0, 10, 17, 13)], true) m0 0 [(0, vR_ i0), (1, vI_ i1), (2, vI_ i2), (3, vR_ i3)] []
  refine a_aload_n 3 dX0_land_0 rfl rfl ?_
  refine a_iconst (v := 0) dX0_land_1 (by decide) ?_
  refine a_aload_n 0 dX0_land_2 rfl rfl ?_
  refine a_iload_n 1 dX0_land_3 rfl rfl ?_
  refine a_iload_n 2 dX0_land_4 rfl rfl ?_
  obtain ⟨a1, e2, f3, h⟩ := gd_some h
  rw [e2]
  rcases bt_some h with ⟨v6, m4, e5, h⟩ | ⟨b8, m7, e5, h⟩
  · have he5 := e_X1_land (G := G) hl f3 e5
    refine c_I (v := v6) he5.1 (rn_V (n := 2) (As := [vI_ i1, vI_ i2]) kc_1 f3 he5 (lw_V q1481 q1482 q1483 q90 q1484) (by decide +kernel) rfl (Nat.le_of_ble_eq_true rfl) (Nat.le_of_ble_eq_true rfl) (Nat.le_of_ble_eq_true rfl) dX0_land_5) (fun z => (os_av (As := [vI_ i1, vI_ i2]) z).2.1) ?_
    refine a_i2l dX0_land_8 ?_
    obtain ⟨a9, e10, f11, h⟩ := gd_some h
    rw [e10]
    obtain ⟨c12, h⟩ := iz_some h
    obtain ⟨m13, e14, h⟩ := lt_some h
    refine a_last f11 (bn_ c12) dX0_land_9 ?_
    rw [← e14]
    refine a_goto (tgt := 21) dX0_land_10 (by decide) ?_
    refine a_iconst (v := 0) dX0_land_21 (by decide) ?_
    cases h
    exact a_ireturn rfl rfl rfl rfl rfl dX0_land_22
  · have he5 := e_X1_land (G := G) hl f3 e5
    refine c_X (b := b8) he5.1 (rn_V (n := 2) (As := [vI_ i1, vI_ i2]) kc_1 f3 he5 (lw_V q1481 q1482 q1483 q90 q1484) (by decide +kernel) rfl (Nat.le_of_ble_eq_true rfl) (Nat.le_of_ble_eq_true rfl) (Nat.le_of_ble_eq_true rfl) dX0_land_5) ?_
    by_cases c15 : b8.1 = 26
    · replace h := ifp_ c15 h
      refine a_catch [] ⟨0, 10, 13, 31⟩ [⟨0, 10, 17, 13⟩] rfl (fun z hz => nomatch hz) rfl (by decide) q1229 (by rw [c15]; exact q1240) ?_
      refine a_astore (ls' := [(4, vR_ (some b8)), (0, vR_ (some a1)), (1, vI_ i1), (2, vI_ i2), (3, vR_ i3)]) dX0_land_13 (Nat.le_of_ble_eq_true rfl) rfl ?_
      refine a_iconst (v := 1) dX0_land_15 (by decide) ?_
      cases h
      exact a_ireturn rfl rfl rfl rfl rfl dX0_land_16
    replace h := ifn_ c15 h
    by_cases c16 : b8.1 = 25
    · replace h := ifp_ c16 h
      refine a_catch [⟨0, 10, 13, 31⟩] ⟨0, 10, 17, 13⟩ [] rfl (fun z hz => Or.inr (by rw [List.mem_singleton.mp hz]; exact ⟨by decide, _, q1229, by rw [c16]; rfl, rfl⟩)) rfl (by decide) q575 (by rw [c16]; exact q587) ?_
      refine a_astore (ls' := [(4, vR_ (some b8)), (0, vR_ (some a1)), (1, vI_ i1), (2, vI_ i2), (3, vR_ i3)]) dX0_land_17 (Nat.le_of_ble_eq_true rfl) rfl ?_
      refine a_iconst (v := 2) dX0_land_19 (by decide) ?_
      cases h
      exact a_ireturn rfl rfl rfl rfl rfl dX0_land_20
    replace h := ifn_ c16 h
    cases h
def f_X1_hasBy (F : Nat)  (i0 : Int32) (i1 : Int32) (i2 : Int32) (m : pm_M) : Option (Int32 × pm_M) :=
  if i0 ≤ i1 then
    if i0 = i1 then
      some (((i2 - i0) / 2), m)
    else
      some (0, m)
  else
    some ((i2 - i0), m)
set_option maxHeartbeats 4000000 in
theorem e_X1_hasBy {G : xg_T} {l : Launch} (hl : l.stackTraces = false) {F : Nat}    {i0 : Int32} {i1 : Int32} {i2 : Int32} {m0 m' : pm_M} {r : Int32} (h : f_X1_hasBy F i0 i1 i2 m0 = some (r, m')) : Cal_ G l yX1_hasBy (ws_ yX1_hasBy cX1_hasBy 3 (some .int)) 2 [vI_ i0, vI_ i1, vI_ i2] m0 (.inl (some (vI_ r))) m' := by
  refine cal_of (by decide +kernel) (Nat.le_of_ble_eq_true rfl) ?_
  unfold f_X1_hasBy at h
  show AW_ cX1_hasBy RX1 (some (.int), "hasBy", 2, 3, m0, m', (.inl (some (vI_ r))), G, l, [], true) m0 0 [(0, vI_ i0), (1, vI_ i1), (2, vI_ i2)] []
  refine a_iload_n 0 dX1_hasBy_0 rfl rfl ?_
  refine a_iload_n 1 dX1_hasBy_1 rfl rfl ?_
  refine a_icmp_le (tgt := 11) dX1_hasBy_2 (by decide) (fun c1 => ?_) (fun c1 => ?_)
  · replace h := ifp_ c1 h
    refine a_iload_n 0 dX1_hasBy_11 rfl rfl ?_
    refine a_iload_n 1 dX1_hasBy_12 rfl rfl ?_
    refine a_icmp_ne (tgt := 24) dX1_hasBy_13 (by decide) (fun c2 => ?_) (fun c2 => ?_)
    · replace h := ifn_ c2 h
      refine a_iconst (v := 0) dX1_hasBy_24 (by decide) ?_
      cases h
      exact a_ireturn rfl rfl rfl rfl rfl dX1_hasBy_25
    · replace h := ifp_ c2 h
      refine a_iload_n 2 dX1_hasBy_16 rfl rfl ?_
      refine a_iload_n 0 dX1_hasBy_17 rfl rfl ?_
      refine a_isub dX1_hasBy_18 ?_
      refine a_iconst (v := 2) dX1_hasBy_19 (by decide) ?_
      refine a_idiv dX1_hasBy_20 (by decide) ?_
      refine a_goto (tgt := 25) dX1_hasBy_21 (by decide) ?_
      cases h
      exact a_ireturn rfl rfl rfl rfl rfl dX1_hasBy_25
  · replace h := ifn_ c1 h
    refine a_iload_n 2 dX1_hasBy_5 rfl rfl ?_
    refine a_iload_n 0 dX1_hasBy_6 rfl rfl ?_
    refine a_isub dX1_hasBy_7 ?_
    refine a_goto (tgt := 25) dX1_hasBy_8 (by decide) ?_
    cases h
    exact a_ireturn rfl rfl rfl rfl rfl dX1_hasBy_25
def f_X1_isBest_L3 (F : Nat)  (p1 : Int32) (p2 : Int32) (p3 : Int32) (p4 : Int32) : Nat → Int32 → pm_M → Option (Int32 × pm_M)
  | 0, _, _ => none
  | n5 + 1, x7, m6 =>
    if p4 < x7 then
      some (1, m6)
    else
      bm_ (f_X1_hasBy F x7 p2 p3 m6) fun v11 m9 =>
      bm_ (f_X1_hasBy F p1 p2 p3 m9) fun v14 m12 =>
      if v11 ≤ v14 then
        (f_X1_isBest_L3 F p1 p2 p3 p4 n5) (x7 + 1) m12
      else
        some (0, m12)
set_option maxHeartbeats 4000000 in
theorem w_X1_isBest_L3 {G : xg_T} {l : Launch} (hl : l.stackTraces = false) {F : Nat}    (p1 : Int32) (p2 : Int32) (p3 : Int32) (p4 : Int32) {m0 m' : pm_M} {r : Int32}   : ∀ (n : Nat) (x7 : Int32) (m6 : pm_M), f_X1_isBest_L3 F p1 p2 p3 p4 n x7 m6 = some (r, m') → AW_ cX1_isBest RX1 (some (.boolean), "isBest", 3, 5, m0, m', (.inl (some (vI_ r))), G, l, [], true) m6 3 [(0, vI_ p1), (1, vI_ p2), (2, vI_ p3), (3, vI_ p4), (4, vI_ x7)] [] := by
  intro n
  induction n with
  | zero => intro x7 m6 h; cases h
  | succ n5 ih =>
    intro x7 m6 h
    rw [f_X1_isBest_L3] at h
    refine a_iload 4 dX1_isBest_3 rfl ?_
    refine a_iload_n 3 dX1_isBest_5 rfl rfl ?_
    refine a_icmp_gt (tgt := 33) dX1_isBest_6 (by decide) (fun c8 => ?_) (fun c8 => ?_)
    · replace h := ifp_ c8 h
      refine a_iconst (v := 1) dX1_isBest_33 (by decide) ?_
      cases h
      exact a_ireturn rfl rfl rfl rfl rfl dX1_isBest_34
    · replace h := ifn_ c8 h
      refine a_iload 4 dX1_isBest_9 rfl ?_
      refine a_iload_n 1 dX1_isBest_11 rfl rfl ?_
      refine a_iload_n 2 dX1_isBest_12 rfl rfl ?_
      obtain ⟨v11, m9, e10, h⟩ := bm_some h
      have he10 := e_X1_hasBy (G := G) hl e10
      refine c_I he10.1 (rn_S (n := 3) (As := [vI_ x7, vI_ p2, vI_ p3]) he10 (lw_S q1495 q1496 q90 q1497) (by decide +kernel) rfl (Nat.le_of_ble_eq_true rfl) (Nat.le_of_ble_eq_true rfl) (Nat.le_of_ble_eq_true rfl) dX1_isBest_13) (fun z => (os_aS (As := [vI_ x7, vI_ p2, vI_ p3]) z).2) ?_
      refine a_iload_n 0 dX1_isBest_16 rfl rfl ?_
      refine a_iload_n 1 dX1_isBest_17 rfl rfl ?_
      refine a_iload_n 2 dX1_isBest_18 rfl rfl ?_
      obtain ⟨v14, m12, e13, h⟩ := bm_some h
      have he13 := e_X1_hasBy (G := G) hl e13
      refine c_I he13.1 (rn_S (n := 3) (As := [vI_ p1, vI_ p2, vI_ p3]) he13 (lw_S q1495 q1496 q90 q1497) (by decide +kernel) rfl (Nat.le_of_ble_eq_true rfl) (Nat.le_of_ble_eq_true rfl) (Nat.le_of_ble_eq_true rfl) dX1_isBest_19) (fun z => (os_aS (As := [vI_ p1, vI_ p2, vI_ p3]) z).2) ?_
      refine a_icmp_le (tgt := 27) dX1_isBest_22 (by decide) (fun c15 => ?_) (fun c15 => ?_)
      · replace h := ifp_ c15 h
        refine a_iinc (v := x7 + 1) (ls' := [(4, vI_ (x7 + 1)), (0, vI_ p1), (1, vI_ p2), (2, vI_ p3), (3, vI_ p4)]) 4 dX1_isBest_27 rfl rfl (Nat.le_of_ble_eq_true rfl) rfl ?_
        refine a_goto (tgt := 3) dX1_isBest_30 (by decide) ?_
        refine aw_pick [1, 2, 3, 4, 0] rfl ?_
        exact ih _ _ h
      · replace h := ifn_ c15 h
        refine a_iconst (v := 0) dX1_isBest_25 (by decide) ?_
        cases h
        exact a_ireturn rfl rfl rfl rfl rfl dX1_isBest_26
def f_X1_isBest (F : Nat)  (i0 : Int32) (i1 : Int32) (i2 : Int32) (i3 : Int32) (m : pm_M) : Option (Int32 × pm_M) :=
  f_X1_isBest_L3 F i0 i1 i2 i3 F 0 m
set_option maxHeartbeats 4000000 in
theorem e_X1_isBest {G : xg_T} {l : Launch} (hl : l.stackTraces = false) {F : Nat}    {i0 : Int32} {i1 : Int32} {i2 : Int32} {i3 : Int32} {m0 m' : pm_M} {r : Int32} (h : f_X1_isBest F i0 i1 i2 i3 m0 = some (r, m')) : Cal_ G l yX1_isBest (ws_ yX1_isBest cX1_isBest 5 (some .boolean)) 3 [vI_ i0, vI_ i1, vI_ i2, vI_ i3] m0 (.inl (some (vI_ r))) m' := by
  refine cal_of (by decide +kernel) (Nat.le_of_ble_eq_true rfl) ?_
  unfold f_X1_isBest at h
  show AW_ cX1_isBest RX1 (some (.boolean), "isBest", 3, 5, m0, m', (.inl (some (vI_ r))), G, l, [], true) m0 0 [(0, vI_ i0), (1, vI_ i1), (2, vI_ i2), (3, vI_ i3)] []
  refine a_iconst (v := 0) dX1_isBest_0 (by decide) ?_
  refine a_istore (ls' := [(4, vI_ 0), (0, vI_ i0), (1, vI_ i1), (2, vI_ i2), (3, vI_ i3)]) dX1_isBest_1 (Nat.le_of_ble_eq_true rfl) rfl ?_
  refine aw_pick [1, 2, 3, 4, 0] rfl ?_
  exact w_X1_isBest_L3 hl _ _ _ _ _ _ _ h
def f_X1_bids_L52 (F : Nat)  (p49 : Int32) (p50 : Int32) (p51 : Int32) (p52 : Int32) (p53 : Int32) (k54 : Int32 → Int32 → Int32 → pm_M → Option ((Int32 ⊕ pm_A) × pm_M)) : Nat → Int32 → Int32 → Int32 → Int32 → pm_M → Option ((Int32 ⊕ pm_A) × pm_M)
  | 0, _, _, _, _, _ => none
  | n59 + 1, x61, x62, x63, x64, m60 =>
    if x64 < 0 then
      k54 x61 x62 x63 m60
    else
      bm_ (f_X1_isBest F p53 x64 p50 p49 m60) fun v68 m66 =>
      if v68 = 0 then
        (f_X1_bids_L52 F p49 p50 p51 p52 p53 k54 n59) x61 x62 x63 (x64 + (-1)) m66
      else
        bm_ (f_X1_isBest F x64 p53 p51 p49 m66) fun v72 m70 =>
        if v72 = 0 then
          (f_X1_bids_L52 F p49 p50 p51 p52 p53 k54 n59) x61 x62 x63 (x64 + (-1)) m70
        else
          bm_ (f_X1_hasBy F p53 x64 p50 m70) fun v76 m74 =>
          bm_ (f_X1_hasBy F x64 p53 p51 m74) fun v79 m77 =>
          (f_X1_bids_L52 F p49 p50 p51 p52 p53 k54 n59) (x61 + 1) ((100 * p53) + x64) (v76 + v79) (x64 + (-1)) m77
set_option maxHeartbeats 4000000 in
theorem w_X1_bids_L52 {G : xg_T} {l : Launch} (hl : l.stackTraces = false) {F : Nat}    (p49 : Int32) (p50 : Int32) (p51 : Int32) (p52 : Int32) (p53 : Int32) (k54 : Int32 → Int32 → Int32 → pm_M → Option ((Int32 ⊕ pm_A) × pm_M)) {m0 m' : pm_M} {r : (Int32 ⊕ pm_A)}  (hk54 : ∀ (x55 : Int32) (x56 : Int32) (x57 : Int32) (m58 : pm_M), k54 x55 x56 x57 m58 = some (r, m') → AW_ cX1_bids RX1 (some (.int), "bids", 7, 10, m0, m', (oI_ r), G, l, [], true) m58 122 [(1, vI_ p49), (2, vI_ p50), (3, vI_ p51), (4, vI_ p52), (5, vI_ x55), (6, vI_ x56), (7, vI_ x57), (8, vI_ p53)] []) : ∀ (n : Nat) (x61 : Int32) (x62 : Int32) (x63 : Int32) (x64 : Int32) (m60 : pm_M), f_X1_bids_L52 F p49 p50 p51 p52 p53 k54 n x61 x62 x63 x64 m60 = some (r, m') → AW_ cX1_bids RX1 (some (.int), "bids", 7, 10, m0, m', (oI_ r), G, l, [], true) m60 52 [(1, vI_ p49), (2, vI_ p50), (3, vI_ p51), (4, vI_ p52), (5, vI_ x61), (6, vI_ x62), (7, vI_ x63), (8, vI_ p53), (9, vI_ x64)] [] := by
  intro n
  induction n with
  | zero => intro x61 x62 x63 x64 m60 h; cases h
  | succ n59 ih =>
    intro x61 x62 x63 x64 m60 h
    rw [f_X1_bids_L52] at h
    refine a_iload 8 dX1_bids_52 rfl ?_
    refine a_if_lt (tgt := 122) dX1_bids_54 (by decide) (fun c65 => ?_) (fun c65 => ?_)
    · replace h := ifp_ c65 h
      refine aw_pick [0, 1, 2, 3, 4, 5, 6, 7] rfl ?_
      exact hk54 _ _ _ _ h
    · replace h := ifn_ c65 h
      refine a_iload 7 dX1_bids_57 rfl ?_
      refine a_iload 8 dX1_bids_59 rfl ?_
      refine a_iload_n 1 dX1_bids_61 rfl rfl ?_
      refine a_iload_n 0 dX1_bids_62 rfl rfl ?_
      obtain ⟨v68, m66, e67, h⟩ := bm_some h
      have he67 := e_X1_isBest (G := G) hl e67
      refine c_I he67.1 (rn_S (n := 4) (As := [vI_ p53, vI_ x64, vI_ p50, vI_ p49]) he67 (lw_S q1492 q1493 q90 q1494) (by decide +kernel) rfl (Nat.le_of_ble_eq_true rfl) (Nat.le_of_ble_eq_true rfl) (Nat.le_of_ble_eq_true rfl) dX1_bids_63) (fun z => (os_aS (As := [vI_ p53, vI_ x64, vI_ p50, vI_ p49]) z).2) ?_
      refine a_if_eq (tgt := 116) dX1_bids_66 (by decide) (fun c69 => ?_) (fun c69 => ?_)
      · replace h := ifp_ c69 h
        refine a_iinc (v := x64 + (-1)) (ls' := [(9, vI_ (x64 + (-1))), (1, vI_ p49), (2, vI_ p50), (3, vI_ p51), (4, vI_ p52), (5, vI_ x61), (6, vI_ x62), (7, vI_ x63), (8, vI_ p53)]) 8 dX1_bids_116 rfl rfl (Nat.le_of_ble_eq_true rfl) rfl ?_
        refine a_goto (tgt := 52) dX1_bids_119 (by decide) ?_
        refine aw_pick [1, 2, 3, 4, 5, 6, 7, 8, 0] rfl ?_
        exact ih _ _ _ _ _ h
      · replace h := ifn_ c69 h
        refine a_iload 8 dX1_bids_69 rfl ?_
        refine a_iload 7 dX1_bids_71 rfl ?_
        refine a_iload_n 2 dX1_bids_73 rfl rfl ?_
        refine a_iload_n 0 dX1_bids_74 rfl rfl ?_
        obtain ⟨v72, m70, e71, h⟩ := bm_some h
        have he71 := e_X1_isBest (G := G) hl e71
        refine c_I he71.1 (rn_S (n := 4) (As := [vI_ x64, vI_ p53, vI_ p51, vI_ p49]) he71 (lw_S q1492 q1493 q90 q1494) (by decide +kernel) rfl (Nat.le_of_ble_eq_true rfl) (Nat.le_of_ble_eq_true rfl) (Nat.le_of_ble_eq_true rfl) dX1_bids_75) (fun z => (os_aS (As := [vI_ x64, vI_ p53, vI_ p51, vI_ p49]) z).2) ?_
        refine a_if_ne (tgt := 84) dX1_bids_78 (by decide) (fun c73 => ?_) (fun c73 => ?_)
        · replace h := ifn_ c73 h
          refine a_iinc (v := x61 + 1) (ls' := [(5, vI_ (x61 + 1)), (1, vI_ p49), (2, vI_ p50), (3, vI_ p51), (4, vI_ p52), (6, vI_ x62), (7, vI_ x63), (8, vI_ p53), (9, vI_ x64)]) 4 dX1_bids_84 rfl rfl (Nat.le_of_ble_eq_true rfl) rfl ?_
          refine a_bipush (v := 100) dX1_bids_87 (by decide) ?_
          refine a_iload 7 dX1_bids_89 rfl ?_
          refine a_imul dX1_bids_91 ?_
          refine a_iload 8 dX1_bids_92 rfl ?_
          refine a_iadd dX1_bids_94 ?_
          refine a_istore (ls' := [(6, vI_ ((100 * p53) + x64)), (5, vI_ (x61 + 1)), (1, vI_ p49), (2, vI_ p50), (3, vI_ p51), (4, vI_ p52), (7, vI_ x63), (8, vI_ p53), (9, vI_ x64)]) dX1_bids_95 (Nat.le_of_ble_eq_true rfl) rfl ?_
          refine a_iload 7 dX1_bids_97 rfl ?_
          refine a_iload 8 dX1_bids_99 rfl ?_
          refine a_iload_n 3 dX1_bids_101 rfl rfl ?_
          obtain ⟨v76, m74, e75, h⟩ := bm_some h
          have he75 := e_X1_hasBy (G := G) hl e75
          refine c_I he75.1 (rn_S (n := 3) (As := [vI_ p53, vI_ x64, vI_ p50]) he75 (lw_S q1495 q1496 q90 q1497) (by decide +kernel) rfl (Nat.le_of_ble_eq_true rfl) (Nat.le_of_ble_eq_true rfl) (Nat.le_of_ble_eq_true rfl) dX1_bids_102) (fun z => (os_aS (As := [vI_ p53, vI_ x64, vI_ p50]) z).2) ?_
          refine a_iload 8 dX1_bids_105 rfl ?_
          refine a_iload 7 dX1_bids_107 rfl ?_
          refine a_iload_n 4 dX1_bids_109 rfl rfl ?_
          obtain ⟨v79, m77, e78, h⟩ := bm_some h
          have he78 := e_X1_hasBy (G := G) hl e78
          refine c_I he78.1 (rn_S (n := 3) (As := [vI_ x64, vI_ p53, vI_ p51]) he78 (lw_S q1495 q1496 q90 q1497) (by decide +kernel) rfl (Nat.le_of_ble_eq_true rfl) (Nat.le_of_ble_eq_true rfl) (Nat.le_of_ble_eq_true rfl) dX1_bids_110) (fun z => (os_aS (As := [vI_ x64, vI_ p53, vI_ p51]) z).2) ?_
          refine a_iadd dX1_bids_113 ?_
          refine a_istore (ls' := [(7, vI_ (v76 + v79)), (6, vI_ ((100 * p53) + x64)), (5, vI_ (x61 + 1)), (1, vI_ p49), (2, vI_ p50), (3, vI_ p51), (4, vI_ p52), (8, vI_ p53), (9, vI_ x64)]) dX1_bids_114 (Nat.le_of_ble_eq_true rfl) rfl ?_
          refine a_iinc (v := x64 + (-1)) (ls' := [(9, vI_ (x64 + (-1))), (7, vI_ (v76 + v79)), (6, vI_ ((100 * p53) + x64)), (5, vI_ (x61 + 1)), (1, vI_ p49), (2, vI_ p50), (3, vI_ p51), (4, vI_ p52), (8, vI_ p53)]) 8 dX1_bids_116 rfl rfl (Nat.le_of_ble_eq_true rfl) rfl ?_
          refine a_goto (tgt := 52) dX1_bids_119 (by decide) ?_
          refine aw_pick [4, 5, 6, 7, 3, 2, 1, 8, 0] rfl ?_
          exact ih _ _ _ _ _ h
        · replace h := ifp_ c73 h
          refine a_goto (tgt := 116) dX1_bids_81 (by decide) ?_
          refine a_iinc (v := x64 + (-1)) (ls' := [(9, vI_ (x64 + (-1))), (1, vI_ p49), (2, vI_ p50), (3, vI_ p51), (4, vI_ p52), (5, vI_ x61), (6, vI_ x62), (7, vI_ x63), (8, vI_ p53)]) 8 dX1_bids_116 rfl rfl (Nat.le_of_ble_eq_true rfl) rfl ?_
          refine a_goto (tgt := 52) dX1_bids_119 (by decide) ?_
          refine aw_pick [1, 2, 3, 4, 5, 6, 7, 8, 0] rfl ?_
          exact ih _ _ _ _ _ h
def f_X1_bids_L44 (F : Nat)  (p28 : Int32) (p29 : Int32) (p30 : Int32) (p31 : Int32) (k32 : Int32 → Int32 → Int32 → pm_M → Option ((Int32 ⊕ pm_A) × pm_M)) : Nat → Int32 → Int32 → Int32 → Int32 → pm_M → Option ((Int32 ⊕ pm_A) × pm_M)
  | 0, _, _, _, _, _ => none
  | n37 + 1, x39, x40, x41, x42, m38 =>
    if x42 < 0 then
      k32 x39 x40 x41 m38
    else
      jn_ (fun (x46 : Int32) (x47 : Int32) (x48 : Int32) (m45 : pm_M) =>
        (f_X1_bids_L44 F p28 p29 p30 p31 k32 n37) x46 x47 x48 (x42 + (-1)) m45
      ) fun k44 =>
      f_X1_bids_L52 F p28 p29 p30 p31 x42 k44 F x39 x40 x41 p28 m38
set_option maxHeartbeats 4000000 in
theorem w_X1_bids_L44 {G : xg_T} {l : Launch} (hl : l.stackTraces = false) {F : Nat}    (p28 : Int32) (p29 : Int32) (p30 : Int32) (p31 : Int32) (k32 : Int32 → Int32 → Int32 → pm_M → Option ((Int32 ⊕ pm_A) × pm_M)) {m0 m' : pm_M} {r : (Int32 ⊕ pm_A)}  (hk32 : ∀ (x33 : Int32) (x34 : Int32) (x35 : Int32) (m36 : pm_M), k32 x33 x34 x35 m36 = some (r, m') → AW_ cX1_bids RX1 (some (.int), "bids", 7, 10, m0, m', (oI_ r), G, l, [], true) m36 128 [(4, vI_ p31), (5, vI_ x33), (6, vI_ x34), (7, vI_ x35)] []) : ∀ (n : Nat) (x39 : Int32) (x40 : Int32) (x41 : Int32) (x42 : Int32) (m38 : pm_M), f_X1_bids_L44 F p28 p29 p30 p31 k32 n x39 x40 x41 x42 m38 = some (r, m') → AW_ cX1_bids RX1 (some (.int), "bids", 7, 10, m0, m', (oI_ r), G, l, [], true) m38 44 [(1, vI_ p28), (2, vI_ p29), (3, vI_ p30), (4, vI_ p31), (5, vI_ x39), (6, vI_ x40), (7, vI_ x41), (8, vI_ x42)] [] := by
  intro n
  induction n with
  | zero => intro x39 x40 x41 x42 m38 h; cases h
  | succ n37 ih =>
    intro x39 x40 x41 x42 m38 h
    rw [f_X1_bids_L44] at h
    refine a_iload 7 dX1_bids_44 rfl ?_
    refine a_if_lt (tgt := 128) dX1_bids_46 (by decide) (fun c43 => ?_) (fun c43 => ?_)
    · replace h := ifp_ c43 h
      refine aw_pick [3, 4, 5, 6] rfl ?_
      exact hk32 _ _ _ _ h
    · replace h := ifn_ c43 h
      refine a_iload_n 0 dX1_bids_49 rfl rfl ?_
      refine a_istore (ls' := [(9, vI_ p28), (1, vI_ p28), (2, vI_ p29), (3, vI_ p30), (4, vI_ p31), (5, vI_ x39), (6, vI_ x40), (7, vI_ x41), (8, vI_ x42)]) dX1_bids_50 (Nat.le_of_ble_eq_true rfl) rfl ?_
      obtain ⟨k44, e80, h⟩ := jn4_some h
      have hk44 : ∀ (x46 : Int32) (x47 : Int32) (x48 : Int32) (m45 : pm_M), k44 x46 x47 x48 m45 = some (r, m') → AW_ cX1_bids RX1 (some (.int), "bids", 7, 10, m0, m', (oI_ r), G, l, [], true) m45 122 [(1, vI_ p28), (2, vI_ p29), (3, vI_ p30), (4, vI_ p31), (5, vI_ x46), (6, vI_ x47), (7, vI_ x48), (8, vI_ x42)] [] := by
        intro x46 x47 x48 m45 h
        have h := (e80 x46 x47 x48 m45).symm.trans h
        refine a_iinc (v := x42 + (-1)) (ls' := [(8, vI_ (x42 + (-1))), (1, vI_ p28), (2, vI_ p29), (3, vI_ p30), (4, vI_ p31), (5, vI_ x46), (6, vI_ x47), (7, vI_ x48)]) 7 dX1_bids_122 rfl rfl (Nat.le_of_ble_eq_true rfl) rfl ?_
        refine a_goto (tgt := 44) dX1_bids_125 (by decide) ?_
        refine aw_pick [1, 2, 3, 4, 5, 6, 7, 0] rfl ?_
        exact ih _ _ _ _ _ h
      refine aw_pick [1, 2, 3, 4, 5, 6, 7, 8, 0] rfl ?_
      exact w_X1_bids_L52 hl _ _ _ _ _ _ hk44 _ _ _ _ _ _ h
def f_X1_bids (F : Nat)  (t : pm_A) (i0 : Int32) (i1 : Int32) (i2 : Int32) (i3 : Int32) (m : pm_M) : Option ((Int32 ⊕ pm_A) × pm_M) :=
  bt_ (f_X1_within F t i0 0 20 m) (fun v3 m1 =>
    bt_ (f_X1_within F t i1 0 99 m1) (fun v8 m6 =>
      bt_ (f_X1_within F t i2 0 99 m6) (fun v13 m11 =>
        bt_ (f_X1_within F t i3 0 2 m11) (fun v18 m16 =>
          jn_ (fun (x23 : Int32) (x24 : Int32) (x25 : Int32) (m22 : pm_M) =>
            if i3 = 0 then
              some (.inl x23, m22)
            else
              if i3 = 1 then
                some (.inl x24, m22)
              else
                some (.inl x25, m22)
          ) fun k21 =>
          f_X1_bids_L44 F i0 i1 i2 i3 k21 F 0 ((-1)) 0 i0 m16
        ) fun b20 m19 =>
          some (.inr b20, m19)
      ) fun b15 m14 =>
        some (.inr b15, m14)
    ) fun b10 m9 =>
      some (.inr b10, m9)
  ) fun b5 m4 =>
    some (.inr b5, m4)
set_option maxHeartbeats 4000000 in
theorem e_X1_bids {G : xg_T} {l : Launch} (hl : l.stackTraces = false) {F : Nat}    {t : pm_A} {i0 : Int32} {i1 : Int32} {i2 : Int32} {i3 : Int32} {m0 m' : pm_M} {r : (Int32 ⊕ pm_A)} (ht : t.1 = 1) (h : f_X1_bids F t i0 i1 i2 i3 m0 = some (r, m')) : Cal_ G l yX1_bids (ws_ yX1_bids cX1_bids 10 (some .int)) 7 [vR_ (some t), vI_ i0, vI_ i1, vI_ i2, vI_ i3] m0 (oI_ r) m' := by
  refine cal_of (by decide +kernel) (Nat.le_of_ble_eq_true rfl) ?_
  unfold f_X1_bids at h
  show AW_ cX1_bids RX1 (some (.int), "bids", 7, 10, m0, m', (oI_ r), G, l, [], true) m0 0 [(0, vR_ (some t)), (1, vI_ i0), (2, vI_ i1), (3, vI_ i2), (4, vI_ i3)] []
  refine a_aload_n 0 dX1_bids_0 rfl rfl ?_
  refine a_iload_n 1 dX1_bids_1 rfl rfl ?_
  refine a_iconst (v := 0) dX1_bids_2 (by decide) ?_
  refine a_bipush (v := 20) dX1_bids_3 (by decide) ?_
  rcases bt_some h with ⟨v3, m1, e2, h⟩ | ⟨b5, m4, e2, h⟩
  · have he2 := e_X1_within (G := G) hl ht e2
    refine c_V he2.1 (rn_V (n := 3) (As := [vI_ i0, vI_ 0, vI_ 20]) kc_1 ht he2 (lw_V q581 q583 qs0 q90 q584) (by decide +kernel) rfl (Nat.le_of_ble_eq_true rfl) (Nat.le_of_ble_eq_true rfl) (Nat.le_of_ble_eq_true rfl) dX1_bids_5) (fun z => (os_av (As := [vI_ i0, vI_ 0, vI_ 20]) z).2.1) ?_
    refine a_aload_n 0 dX1_bids_8 rfl rfl ?_
    refine a_iload_n 2 dX1_bids_9 rfl rfl ?_
    refine a_iconst (v := 0) dX1_bids_10 (by decide) ?_
    refine a_bipush (v := 99) dX1_bids_11 (by decide) ?_
    rcases bt_some h with ⟨v8, m6, e7, h⟩ | ⟨b10, m9, e7, h⟩
    · have he7 := e_X1_within (G := G) hl ht e7
      refine c_V he7.1 (rn_V (n := 3) (As := [vI_ i1, vI_ 0, vI_ 99]) kc_1 ht he7 (lw_V q581 q583 qs0 q90 q584) (by decide +kernel) rfl (Nat.le_of_ble_eq_true rfl) (Nat.le_of_ble_eq_true rfl) (Nat.le_of_ble_eq_true rfl) dX1_bids_13) (fun z => (os_av (As := [vI_ i1, vI_ 0, vI_ 99]) z).2.1) ?_
      refine a_aload_n 0 dX1_bids_16 rfl rfl ?_
      refine a_iload_n 3 dX1_bids_17 rfl rfl ?_
      refine a_iconst (v := 0) dX1_bids_18 (by decide) ?_
      refine a_bipush (v := 99) dX1_bids_19 (by decide) ?_
      rcases bt_some h with ⟨v13, m11, e12, h⟩ | ⟨b15, m14, e12, h⟩
      · have he12 := e_X1_within (G := G) hl ht e12
        refine c_V he12.1 (rn_V (n := 3) (As := [vI_ i2, vI_ 0, vI_ 99]) kc_1 ht he12 (lw_V q581 q583 qs0 q90 q584) (by decide +kernel) rfl (Nat.le_of_ble_eq_true rfl) (Nat.le_of_ble_eq_true rfl) (Nat.le_of_ble_eq_true rfl) dX1_bids_21) (fun z => (os_av (As := [vI_ i2, vI_ 0, vI_ 99]) z).2.1) ?_
        refine a_aload_n 0 dX1_bids_24 rfl rfl ?_
        refine a_iload 4 dX1_bids_25 rfl ?_
        refine a_iconst (v := 0) dX1_bids_27 (by decide) ?_
        refine a_iconst (v := 2) dX1_bids_28 (by decide) ?_
        rcases bt_some h with ⟨v18, m16, e17, h⟩ | ⟨b20, m19, e17, h⟩
        · have he17 := e_X1_within (G := G) hl ht e17
          refine c_V he17.1 (rn_V (n := 3) (As := [vI_ i3, vI_ 0, vI_ 2]) kc_1 ht he17 (lw_V q581 q583 qs0 q90 q584) (by decide +kernel) rfl (Nat.le_of_ble_eq_true rfl) (Nat.le_of_ble_eq_true rfl) (Nat.le_of_ble_eq_true rfl) dX1_bids_29) (fun z => (os_av (As := [vI_ i3, vI_ 0, vI_ 2]) z).2.1) ?_
          refine a_iconst (v := 0) dX1_bids_32 (by decide) ?_
          refine a_istore (ls' := [(5, vI_ 0), (0, vR_ (some t)), (1, vI_ i0), (2, vI_ i1), (3, vI_ i2), (4, vI_ i3)]) dX1_bids_33 (Nat.le_of_ble_eq_true rfl) rfl ?_
          refine a_iconst (v := (-1)) dX1_bids_35 (by decide) ?_
          refine a_istore (ls' := [(6, vI_ ((-1))), (5, vI_ 0), (0, vR_ (some t)), (1, vI_ i0), (2, vI_ i1), (3, vI_ i2), (4, vI_ i3)]) dX1_bids_36 (Nat.le_of_ble_eq_true rfl) rfl ?_
          refine a_iconst (v := 0) dX1_bids_38 (by decide) ?_
          refine a_istore (ls' := [(7, vI_ 0), (6, vI_ ((-1))), (5, vI_ 0), (0, vR_ (some t)), (1, vI_ i0), (2, vI_ i1), (3, vI_ i2), (4, vI_ i3)]) dX1_bids_39 (Nat.le_of_ble_eq_true rfl) rfl ?_
          refine a_iload_n 4 dX1_bids_41 rfl rfl ?_
          refine a_istore (ls' := [(8, vI_ i0), (7, vI_ 0), (6, vI_ ((-1))), (5, vI_ 0), (0, vR_ (some t)), (1, vI_ i0), (2, vI_ i1), (3, vI_ i2), (4, vI_ i3)]) dX1_bids_42 (Nat.le_of_ble_eq_true rfl) rfl ?_
          obtain ⟨k21, e81, h⟩ := jn4_some h
          have hk21 : ∀ (x23 : Int32) (x24 : Int32) (x25 : Int32) (m22 : pm_M), k21 x23 x24 x25 m22 = some (r, m') → AW_ cX1_bids RX1 (some (.int), "bids", 7, 10, m0, m', (oI_ r), G, l, [], true) m22 128 [(4, vI_ i3), (5, vI_ x23), (6, vI_ x24), (7, vI_ x25)] [] := by
            intro x23 x24 x25 m22 h
            have h := (e81 x23 x24 x25 m22).symm.trans h
            refine a_iload 0 dX1_bids_128 rfl ?_
            refine a_if_ne (tgt := 138) dX1_bids_130 (by decide) (fun c26 => ?_) (fun c26 => ?_)
            · replace h := ifn_ c26 h
              refine a_iload 0 dX1_bids_138 rfl ?_
              refine a_iconst (v := 1) dX1_bids_140 (by decide) ?_
              refine a_icmp_ne (tgt := 149) dX1_bids_141 (by decide) (fun c27 => ?_) (fun c27 => ?_)
              · replace h := ifn_ c27 h
                refine a_iload 3 dX1_bids_149 rfl ?_
                cases h
                exact a_ireturn rfl rfl rfl rfl rfl dX1_bids_151
              · replace h := ifp_ c27 h
                refine a_iload 2 dX1_bids_144 rfl ?_
                refine a_goto (tgt := 151) dX1_bids_146 (by decide) ?_
                cases h
                exact a_ireturn rfl rfl rfl rfl rfl dX1_bids_151
            · replace h := ifp_ c26 h
              refine a_iload 1 dX1_bids_133 rfl ?_
              refine a_goto (tgt := 151) dX1_bids_135 (by decide) ?_
              cases h
              exact a_ireturn rfl rfl rfl rfl rfl dX1_bids_151
          refine aw_pick [5, 6, 7, 8, 3, 2, 1, 0] rfl ?_
          exact w_X1_bids_L44 hl _ _ _ _ _ hk21 _ _ _ _ _ _ h
        · have he17 := e_X1_within (G := G) hl ht e17
          refine c_X (b := b20) he17.1 (rn_V (n := 3) (As := [vI_ i3, vI_ 0, vI_ 2]) kc_1 ht he17 (lw_V q581 q583 qs0 q90 q584) (by decide +kernel) rfl (Nat.le_of_ble_eq_true rfl) (Nat.le_of_ble_eq_true rfl) (Nat.le_of_ble_eq_true rfl) dX1_bids_29) ?_
          cases h
          exact a_out rfl rfl rfl rfl
      · have he12 := e_X1_within (G := G) hl ht e12
        refine c_X (b := b15) he12.1 (rn_V (n := 3) (As := [vI_ i2, vI_ 0, vI_ 99]) kc_1 ht he12 (lw_V q581 q583 qs0 q90 q584) (by decide +kernel) rfl (Nat.le_of_ble_eq_true rfl) (Nat.le_of_ble_eq_true rfl) (Nat.le_of_ble_eq_true rfl) dX1_bids_21) ?_
        cases h
        exact a_out rfl rfl rfl rfl
    · have he7 := e_X1_within (G := G) hl ht e7
      refine c_X (b := b10) he7.1 (rn_V (n := 3) (As := [vI_ i1, vI_ 0, vI_ 99]) kc_1 ht he7 (lw_V q581 q583 qs0 q90 q584) (by decide +kernel) rfl (Nat.le_of_ble_eq_true rfl) (Nat.le_of_ble_eq_true rfl) (Nat.le_of_ble_eq_true rfl) dX1_bids_13) ?_
      cases h
      exact a_out rfl rfl rfl rfl
  · have he2 := e_X1_within (G := G) hl ht e2
    refine c_X (b := b5) he2.1 (rn_V (n := 3) (As := [vI_ i0, vI_ 0, vI_ 20]) kc_1 ht he2 (lw_V q581 q583 qs0 q90 q584) (by decide +kernel) rfl (Nat.le_of_ble_eq_true rfl) (Nat.le_of_ble_eq_true rfl) (Nat.le_of_ble_eq_true rfl) dX1_bids_5) ?_
    cases h
    exact a_out rfl rfl rfl rfl
def f_X0_bids (F : Nat)  (i0 : Option pm_A) (i1 : Int32) (i2 : Int32) (i3 : Int32) (i4 : Int32) (i5 : Option pm_A) (m : pm_M) : Option (Int32 × pm_M) :=
  gd_ 1 i0 fun a1 =>
  bt_ (f_X1_bids F a1 i1 i2 i3 i4 m) (fun v6 m4 =>
    gd_ 103 i5 fun a9 =>
    iz_ (!(ib_ 0 a9.2.1)) <|
    lt_ (pL_ m4 a9 ((0 : Int32).toNatClampNeg) v6.toInt64) fun m13 =>
    some (0, m13)
  ) fun b8 m7 =>
    if b8.1 = 25 then
      some (1, m7)
    else
    none
set_option maxHeartbeats 4000000 in
theorem e_X0_bids {G : xg_T} {l : Launch} (hl : l.stackTraces = false) {F : Nat}    {i0 : Option pm_A} {i1 : Int32} {i2 : Int32} {i3 : Int32} {i4 : Int32} {i5 : Option pm_A} {m0 m' : pm_M} {r : Int32} (h : f_X0_bids F i0 i1 i2 i3 i4 i5 m0 = some (r, m')) : Cal_ G l yX0_bids (wsW_ yX0_bids cX0_bids 7 (some .int) [(0, 14, 17, 13)]) 8 [vR_ i0, vI_ i1, vI_ i2, vI_ i3, vI_ i4, vR_ i5] m0 (.inl (some (vI_ r))) m' := by
  refine cal_ofH (by decide +kernel) (Nat.le_of_ble_eq_true rfl) ?_
  unfold f_X0_bids at h
  show AW_ cX0_bids RX0 (some (.int), "bids", 8, 7, m0, m', (.inl (some (vI_ r))), G, l, [(0, 14, 17, 13)], true) m0 0 [(0, vR_ i0), (1, vI_ i1), (2, vI_ i2), (3, vI_ i3), (4, vI_ i4), (5, vR_ i5)] []
  refine a_aload 5 dX0_bids_0 rfl ?_
  refine a_iconst (v := 0) dX0_bids_2 (by decide) ?_
  refine a_aload_n 0 dX0_bids_3 rfl rfl ?_
  refine a_iload_n 1 dX0_bids_4 rfl rfl ?_
  refine a_iload_n 2 dX0_bids_5 rfl rfl ?_
  refine a_iload_n 3 dX0_bids_6 rfl rfl ?_
  refine a_iload 4 dX0_bids_7 rfl ?_
  obtain ⟨a1, e2, f3, h⟩ := gd_some h
  rw [e2]
  rcases bt_some h with ⟨v6, m4, e5, h⟩ | ⟨b8, m7, e5, h⟩
  · have he5 := e_X1_bids (G := G) hl f3 e5
    refine c_I (v := v6) he5.1 (rn_V (n := 4) (As := [vI_ i1, vI_ i2, vI_ i3, vI_ i4]) kc_1 f3 he5 (lw_V q1488 q1489 q1490 q90 q1491) (by decide +kernel) rfl (Nat.le_of_ble_eq_true rfl) (Nat.le_of_ble_eq_true rfl) (Nat.le_of_ble_eq_true rfl) dX0_bids_9) (fun z => (os_av (As := [vI_ i1, vI_ i2, vI_ i3, vI_ i4]) z).2.1) ?_
    refine a_i2l dX0_bids_12 ?_
    obtain ⟨a9, e10, f11, h⟩ := gd_some h
    rw [e10]
    obtain ⟨c12, h⟩ := iz_some h
    obtain ⟨m13, e14, h⟩ := lt_some h
    refine a_last f11 (bn_ c12) dX0_bids_13 ?_
    rw [← e14]
    refine a_goto (tgt := 21) dX0_bids_14 (by decide) ?_
    refine a_iconst (v := 0) dX0_bids_21 (by decide) ?_
    cases h
    exact a_ireturn rfl rfl rfl rfl rfl dX0_bids_22
  · have he5 := e_X1_bids (G := G) hl f3 e5
    refine c_X (b := b8) he5.1 (rn_V (n := 4) (As := [vI_ i1, vI_ i2, vI_ i3, vI_ i4]) kc_1 f3 he5 (lw_V q1488 q1489 q1490 q90 q1491) (by decide +kernel) rfl (Nat.le_of_ble_eq_true rfl) (Nat.le_of_ble_eq_true rfl) (Nat.le_of_ble_eq_true rfl) dX0_bids_9) ?_
    by_cases c15 : b8.1 = 25
    · replace h := ifp_ c15 h
      refine a_catch [] ⟨0, 14, 17, 13⟩ [] rfl (fun z hz => nomatch hz) rfl (by decide) q575 (by rw [c15]; exact q587) ?_
      refine a_astore (ls' := [(6, vR_ (some b8)), (0, vR_ (some a1)), (1, vI_ i1), (2, vI_ i2), (3, vI_ i3), (4, vI_ i4), (5, vR_ i5)]) dX0_bids_17 (Nat.le_of_ble_eq_true rfl) rfl ?_
      refine a_iconst (v := 1) dX0_bids_19 (by decide) ?_
      cases h
      exact a_ireturn rfl rfl rfl rfl rfl dX0_bids_20
    replace h := ifn_ c15 h
    cases h
def f_X1_has (F : Nat)  (t : pm_A) (i0 : Int32) (i1 : Int32) (i2 : Int32) (m : pm_M) : Option ((Int32 ⊕ pm_A) × pm_M) :=
  bt_ (f_X1_within F t i0 0 99 m) (fun v3 m1 =>
    bt_ (f_X1_within F t i1 0 99 m1) (fun v8 m6 =>
      bt_ (f_X1_within F t i2 0 99 m6) (fun v13 m11 =>
        bm_ (f_X1_hasBy F i0 i1 i2 m11) fun v18 m16 =>
        some (.inl v18, m16)
      ) fun b15 m14 =>
        some (.inr b15, m14)
    ) fun b10 m9 =>
      some (.inr b10, m9)
  ) fun b5 m4 =>
    some (.inr b5, m4)
set_option maxHeartbeats 4000000 in
theorem e_X1_has {G : xg_T} {l : Launch} (hl : l.stackTraces = false) {F : Nat}    {t : pm_A} {i0 : Int32} {i1 : Int32} {i2 : Int32} {m0 m' : pm_M} {r : (Int32 ⊕ pm_A)} (ht : t.1 = 1) (h : f_X1_has F t i0 i1 i2 m0 = some (r, m')) : Cal_ G l yX1_has (ws_ yX1_has cX1_has 4 (some .int)) 7 [vR_ (some t), vI_ i0, vI_ i1, vI_ i2] m0 (oI_ r) m' := by
  refine cal_of (by decide +kernel) (Nat.le_of_ble_eq_true rfl) ?_
  unfold f_X1_has at h
  show AW_ cX1_has RX1 (some (.int), "has", 7, 4, m0, m', (oI_ r), G, l, [], true) m0 0 [(0, vR_ (some t)), (1, vI_ i0), (2, vI_ i1), (3, vI_ i2)] []
  refine a_aload_n 0 dX1_has_0 rfl rfl ?_
  refine a_iload_n 1 dX1_has_1 rfl rfl ?_
  refine a_iconst (v := 0) dX1_has_2 (by decide) ?_
  refine a_bipush (v := 99) dX1_has_3 (by decide) ?_
  rcases bt_some h with ⟨v3, m1, e2, h⟩ | ⟨b5, m4, e2, h⟩
  · have he2 := e_X1_within (G := G) hl ht e2
    refine c_V he2.1 (rn_V (n := 3) (As := [vI_ i0, vI_ 0, vI_ 99]) kc_1 ht he2 (lw_V q581 q583 qs0 q90 q584) (by decide +kernel) rfl (Nat.le_of_ble_eq_true rfl) (Nat.le_of_ble_eq_true rfl) (Nat.le_of_ble_eq_true rfl) dX1_has_5) (fun z => (os_av (As := [vI_ i0, vI_ 0, vI_ 99]) z).2.1) ?_
    refine a_aload_n 0 dX1_has_8 rfl rfl ?_
    refine a_iload_n 2 dX1_has_9 rfl rfl ?_
    refine a_iconst (v := 0) dX1_has_10 (by decide) ?_
    refine a_bipush (v := 99) dX1_has_11 (by decide) ?_
    rcases bt_some h with ⟨v8, m6, e7, h⟩ | ⟨b10, m9, e7, h⟩
    · have he7 := e_X1_within (G := G) hl ht e7
      refine c_V he7.1 (rn_V (n := 3) (As := [vI_ i1, vI_ 0, vI_ 99]) kc_1 ht he7 (lw_V q581 q583 qs0 q90 q584) (by decide +kernel) rfl (Nat.le_of_ble_eq_true rfl) (Nat.le_of_ble_eq_true rfl) (Nat.le_of_ble_eq_true rfl) dX1_has_13) (fun z => (os_av (As := [vI_ i1, vI_ 0, vI_ 99]) z).2.1) ?_
      refine a_aload_n 0 dX1_has_16 rfl rfl ?_
      refine a_iload_n 3 dX1_has_17 rfl rfl ?_
      refine a_iconst (v := 0) dX1_has_18 (by decide) ?_
      refine a_bipush (v := 99) dX1_has_19 (by decide) ?_
      rcases bt_some h with ⟨v13, m11, e12, h⟩ | ⟨b15, m14, e12, h⟩
      · have he12 := e_X1_within (G := G) hl ht e12
        refine c_V he12.1 (rn_V (n := 3) (As := [vI_ i2, vI_ 0, vI_ 99]) kc_1 ht he12 (lw_V q581 q583 qs0 q90 q584) (by decide +kernel) rfl (Nat.le_of_ble_eq_true rfl) (Nat.le_of_ble_eq_true rfl) (Nat.le_of_ble_eq_true rfl) dX1_has_21) (fun z => (os_av (As := [vI_ i2, vI_ 0, vI_ 99]) z).2.1) ?_
        refine a_iload_n 1 dX1_has_24 rfl rfl ?_
        refine a_iload_n 2 dX1_has_25 rfl rfl ?_
        refine a_iload_n 3 dX1_has_26 rfl rfl ?_
        obtain ⟨v18, m16, e17, h⟩ := bm_some h
        have he17 := e_X1_hasBy (G := G) hl e17
        refine c_I he17.1 (rn_S (n := 3) (As := [vI_ i0, vI_ i1, vI_ i2]) he17 (lw_S q1495 q1496 q90 q1497) (by decide +kernel) rfl (Nat.le_of_ble_eq_true rfl) (Nat.le_of_ble_eq_true rfl) (Nat.le_of_ble_eq_true rfl) dX1_has_27) (fun z => (os_aS (As := [vI_ i0, vI_ i1, vI_ i2]) z).2) ?_
        cases h
        exact a_ireturn rfl rfl rfl rfl rfl dX1_has_30
      · have he12 := e_X1_within (G := G) hl ht e12
        refine c_X (b := b15) he12.1 (rn_V (n := 3) (As := [vI_ i2, vI_ 0, vI_ 99]) kc_1 ht he12 (lw_V q581 q583 qs0 q90 q584) (by decide +kernel) rfl (Nat.le_of_ble_eq_true rfl) (Nat.le_of_ble_eq_true rfl) (Nat.le_of_ble_eq_true rfl) dX1_has_21) ?_
        cases h
        exact a_out rfl rfl rfl rfl
    · have he7 := e_X1_within (G := G) hl ht e7
      refine c_X (b := b10) he7.1 (rn_V (n := 3) (As := [vI_ i1, vI_ 0, vI_ 99]) kc_1 ht he7 (lw_V q581 q583 qs0 q90 q584) (by decide +kernel) rfl (Nat.le_of_ble_eq_true rfl) (Nat.le_of_ble_eq_true rfl) (Nat.le_of_ble_eq_true rfl) dX1_has_13) ?_
      cases h
      exact a_out rfl rfl rfl rfl
  · have he2 := e_X1_within (G := G) hl ht e2
    refine c_X (b := b5) he2.1 (rn_V (n := 3) (As := [vI_ i0, vI_ 0, vI_ 99]) kc_1 ht he2 (lw_V q581 q583 qs0 q90 q584) (by decide +kernel) rfl (Nat.le_of_ble_eq_true rfl) (Nat.le_of_ble_eq_true rfl) (Nat.le_of_ble_eq_true rfl) dX1_has_5) ?_
    cases h
    exact a_out rfl rfl rfl rfl
def f_X0_has (F : Nat)  (i0 : Option pm_A) (i1 : Int32) (i2 : Int32) (i3 : Int32) (i4 : Option pm_A) (m : pm_M) : Option (Int32 × pm_M) :=
  gd_ 1 i0 fun a1 =>
  bt_ (f_X1_has F a1 i1 i2 i3 m) (fun v6 m4 =>
    gd_ 103 i4 fun a9 =>
    iz_ (!(ib_ 0 a9.2.1)) <|
    lt_ (pL_ m4 a9 ((0 : Int32).toNatClampNeg) v6.toInt64) fun m13 =>
    some (0, m13)
  ) fun b8 m7 =>
    if b8.1 = 25 then
      some (1, m7)
    else
    none
set_option maxHeartbeats 4000000 in
theorem e_X0_has {G : xg_T} {l : Launch} (hl : l.stackTraces = false) {F : Nat}    {i0 : Option pm_A} {i1 : Int32} {i2 : Int32} {i3 : Int32} {i4 : Option pm_A} {m0 m' : pm_M} {r : Int32} (h : f_X0_has F i0 i1 i2 i3 i4 m0 = some (r, m')) : Cal_ G l yX0_has (wsW_ yX0_has cX0_has 6 (some .int) [(0, 12, 15, 13)]) 8 [vR_ i0, vI_ i1, vI_ i2, vI_ i3, vR_ i4] m0 (.inl (some (vI_ r))) m' := by
  refine cal_ofH (by decide +kernel) (Nat.le_of_ble_eq_true rfl) ?_
  unfold f_X0_has at h
  show AW_ cX0_has RX0 (some (.int), "has", 8, 6, m0, m', (.inl (some (vI_ r))), G, l, [(0, 12, 15, 13)], true) m0 0 [(0, vR_ i0), (1, vI_ i1), (2, vI_ i2), (3, vI_ i3), (4, vR_ i4)] []
  refine a_aload 4 dX0_has_0 rfl ?_
  refine a_iconst (v := 0) dX0_has_2 (by decide) ?_
  refine a_aload_n 0 dX0_has_3 rfl rfl ?_
  refine a_iload_n 1 dX0_has_4 rfl rfl ?_
  refine a_iload_n 2 dX0_has_5 rfl rfl ?_
  refine a_iload_n 3 dX0_has_6 rfl rfl ?_
  obtain ⟨a1, e2, f3, h⟩ := gd_some h
  rw [e2]
  rcases bt_some h with ⟨v6, m4, e5, h⟩ | ⟨b8, m7, e5, h⟩
  · have he5 := e_X1_has (G := G) hl f3 e5
    refine c_I (v := v6) he5.1 (rn_V (n := 3) (As := [vI_ i1, vI_ i2, vI_ i3]) kc_1 f3 he5 (lw_V q1501 q1502 q1503 q90 q1504) (by decide +kernel) rfl (Nat.le_of_ble_eq_true rfl) (Nat.le_of_ble_eq_true rfl) (Nat.le_of_ble_eq_true rfl) dX0_has_7) (fun z => (os_av (As := [vI_ i1, vI_ i2, vI_ i3]) z).2.1) ?_
    refine a_i2l dX0_has_10 ?_
    obtain ⟨a9, e10, f11, h⟩ := gd_some h
    rw [e10]
    obtain ⟨c12, h⟩ := iz_some h
    obtain ⟨m13, e14, h⟩ := lt_some h
    refine a_last f11 (bn_ c12) dX0_has_11 ?_
    rw [← e14]
    refine a_goto (tgt := 19) dX0_has_12 (by decide) ?_
    refine a_iconst (v := 0) dX0_has_19 (by decide) ?_
    cases h
    exact a_ireturn rfl rfl rfl rfl rfl dX0_has_20
  · have he5 := e_X1_has (G := G) hl f3 e5
    refine c_X (b := b8) he5.1 (rn_V (n := 3) (As := [vI_ i1, vI_ i2, vI_ i3]) kc_1 f3 he5 (lw_V q1501 q1502 q1503 q90 q1504) (by decide +kernel) rfl (Nat.le_of_ble_eq_true rfl) (Nat.le_of_ble_eq_true rfl) (Nat.le_of_ble_eq_true rfl) dX0_has_7) ?_
    by_cases c15 : b8.1 = 25
    · replace h := ifp_ c15 h
      refine a_catch [] ⟨0, 12, 15, 13⟩ [] rfl (fun z hz => nomatch hz) rfl (by decide) q575 (by rw [c15]; exact q587) ?_
      refine a_astore (ls' := [(5, vR_ (some b8)), (0, vR_ (some a1)), (1, vI_ i1), (2, vI_ i2), (3, vI_ i3), (4, vR_ i4)]) dX0_has_15 (Nat.le_of_ble_eq_true rfl) rfl ?_
      refine a_iconst (v := 1) dX0_has_17 (by decide) ?_
      cases h
      exact a_ireturn rfl rfl rfl rfl rfl dX0_has_18
    replace h := ifn_ c15 h
    cases h
def f_X1_voyageOf (F : Nat)  (t : pm_A) (i0 : Int32) (i1 : Int32) (i2 : Int32) (m : pm_M) : Option ((Unit ⊕ pm_A) × pm_M) :=
  bt_ (f_X1_within F t i0 0 16 m) (fun v3 m1 =>
    bt_ (f_X1_within F t i1 0 40 m1) (fun v8 m6 =>
      bt_ (f_X1_within F t i2 1 99 m6) (fun v13 m11 =>
        some (.inl (), m11)
      ) fun b15 m14 =>
        some (.inr b15, m14)
    ) fun b10 m9 =>
      some (.inr b10, m9)
  ) fun b5 m4 =>
    some (.inr b5, m4)
set_option maxHeartbeats 4000000 in
theorem e_X1_voyageOf {G : xg_T} {l : Launch} (hl : l.stackTraces = false) {F : Nat}    {t : pm_A} {i0 : Int32} {i1 : Int32} {i2 : Int32} {m0 m' : pm_M} {r : (Unit ⊕ pm_A)} (ht : t.1 = 1) (h : f_X1_voyageOf F t i0 i1 i2 m0 = some (r, m')) : Cal_ G l yX1_voyageOf (ws_ yX1_voyageOf cX1_voyageOf 4 none) 7 [vR_ (some t), vI_ i0, vI_ i1, vI_ i2] m0 (oV_ r) m' := by
  refine cal_of (by decide +kernel) (Nat.le_of_ble_eq_true rfl) ?_
  unfold f_X1_voyageOf at h
  show AW_ cX1_voyageOf RX1 (none, "voyageOf", 7, 4, m0, m', (oV_ r), G, l, [], true) m0 0 [(0, vR_ (some t)), (1, vI_ i0), (2, vI_ i1), (3, vI_ i2)] []
  refine a_aload_n 0 dX1_voyageOf_0 rfl rfl ?_
  refine a_iload_n 1 dX1_voyageOf_1 rfl rfl ?_
  refine a_iconst (v := 0) dX1_voyageOf_2 (by decide) ?_
  refine a_bipush (v := 16) dX1_voyageOf_3 (by decide) ?_
  rcases bt_some h with ⟨v3, m1, e2, h⟩ | ⟨b5, m4, e2, h⟩
  · have he2 := e_X1_within (G := G) hl ht e2
    refine c_V he2.1 (rn_V (n := 3) (As := [vI_ i0, vI_ 0, vI_ 16]) kc_1 ht he2 (lw_V q581 q583 qs0 q90 q584) (by decide +kernel) rfl (Nat.le_of_ble_eq_true rfl) (Nat.le_of_ble_eq_true rfl) (Nat.le_of_ble_eq_true rfl) dX1_voyageOf_5) (fun z => (os_av (As := [vI_ i0, vI_ 0, vI_ 16]) z).2.1) ?_
    refine a_aload_n 0 dX1_voyageOf_8 rfl rfl ?_
    refine a_iload_n 2 dX1_voyageOf_9 rfl rfl ?_
    refine a_iconst (v := 0) dX1_voyageOf_10 (by decide) ?_
    refine a_bipush (v := 40) dX1_voyageOf_11 (by decide) ?_
    rcases bt_some h with ⟨v8, m6, e7, h⟩ | ⟨b10, m9, e7, h⟩
    · have he7 := e_X1_within (G := G) hl ht e7
      refine c_V he7.1 (rn_V (n := 3) (As := [vI_ i1, vI_ 0, vI_ 40]) kc_1 ht he7 (lw_V q581 q583 qs0 q90 q584) (by decide +kernel) rfl (Nat.le_of_ble_eq_true rfl) (Nat.le_of_ble_eq_true rfl) (Nat.le_of_ble_eq_true rfl) dX1_voyageOf_13) (fun z => (os_av (As := [vI_ i1, vI_ 0, vI_ 40]) z).2.1) ?_
      refine a_aload_n 0 dX1_voyageOf_16 rfl rfl ?_
      refine a_iload_n 3 dX1_voyageOf_17 rfl rfl ?_
      refine a_iconst (v := 1) dX1_voyageOf_18 (by decide) ?_
      refine a_bipush (v := 99) dX1_voyageOf_19 (by decide) ?_
      rcases bt_some h with ⟨v13, m11, e12, h⟩ | ⟨b15, m14, e12, h⟩
      · have he12 := e_X1_within (G := G) hl ht e12
        refine c_V he12.1 (rn_V (n := 3) (As := [vI_ i2, vI_ 1, vI_ 99]) kc_1 ht he12 (lw_V q581 q583 qs0 q90 q584) (by decide +kernel) rfl (Nat.le_of_ble_eq_true rfl) (Nat.le_of_ble_eq_true rfl) (Nat.le_of_ble_eq_true rfl) dX1_voyageOf_21) (fun z => (os_av (As := [vI_ i2, vI_ 1, vI_ 99]) z).2.1) ?_
        cases h
        exact a_return rfl rfl rfl rfl dX1_voyageOf_24
      · have he12 := e_X1_within (G := G) hl ht e12
        refine c_X (b := b15) he12.1 (rn_V (n := 3) (As := [vI_ i2, vI_ 1, vI_ 99]) kc_1 ht he12 (lw_V q581 q583 qs0 q90 q584) (by decide +kernel) rfl (Nat.le_of_ble_eq_true rfl) (Nat.le_of_ble_eq_true rfl) (Nat.le_of_ble_eq_true rfl) dX1_voyageOf_21) ?_
        cases h
        exact a_out rfl rfl rfl rfl
    · have he7 := e_X1_within (G := G) hl ht e7
      refine c_X (b := b10) he7.1 (rn_V (n := 3) (As := [vI_ i1, vI_ 0, vI_ 40]) kc_1 ht he7 (lw_V q581 q583 qs0 q90 q584) (by decide +kernel) rfl (Nat.le_of_ble_eq_true rfl) (Nat.le_of_ble_eq_true rfl) (Nat.le_of_ble_eq_true rfl) dX1_voyageOf_13) ?_
      cases h
      exact a_out rfl rfl rfl rfl
  · have he2 := e_X1_within (G := G) hl ht e2
    refine c_X (b := b5) he2.1 (rn_V (n := 3) (As := [vI_ i0, vI_ 0, vI_ 16]) kc_1 ht he2 (lw_V q581 q583 qs0 q90 q584) (by decide +kernel) rfl (Nat.le_of_ble_eq_true rfl) (Nat.le_of_ble_eq_true rfl) (Nat.le_of_ble_eq_true rfl) dX1_voyageOf_5) ?_
    cases h
    exact a_out rfl rfl rfl rfl
def f_X1_sails_L16 (F : Nat)  (p6 : pm_A) (p8 : Int32) (p9 : Int32) (p10 : Int32) : Nat → Int32 → Int32 → pm_M → Option (Option pm_A × pm_M)
  | 0, _, _, _ => none
  | n11 + 1, x13, x14, m12 =>
    if p10 ≤ x14 then
      some ((gR_ m12 p6 4), m12)
    else
      jn_ (fun  (m17 : pm_M) =>
        gd_ 4 (gR_ m17 p6 4) fun a18 =>
        bm_ (f_X4_passes F a18 m17) fun v23 m21 =>
        (f_X1_sails_L16 F p6 p8 p9 p10 n11) ((x13 * 1103515245) + 12345) (x14 + 1) m21
      ) fun k16 =>
      if p8 ≤ (((((x13 * 1103515245) + 12345) >>> ((16 : Int32) &&& 31)) &&& 32767) - ((((x13 * 1103515245) + 12345) >>> ((16 : Int32) &&& 31)) &&& 32767) / 16 * 16) then
        k16 m12
      else
        lt_ (pI_ m12 p6 18 ((gI_ m12 p6 18) + 1)) fun m25 =>
        gd_ 4 (gR_ m25 p6 4) fun a27 =>
        bm_ (f_J8_max F 0 ((gI_ m25 a27 12) - p9) m25) fun v32 m30 =>
        lt_ (pI_ m30 a27 12 v32) fun m33 =>
        k16 m33
set_option maxHeartbeats 4000000 in
theorem w_X1_sails_L16 {G : xg_T} {l : Launch} (hl : l.stackTraces = false) {F : Nat}    (p6 : pm_A) (p8 : Int32) (p9 : Int32) (p10 : Int32) {m0 m' : pm_M} {r : Option pm_A} (hf7 : p6.1 = 1)  : ∀ (n : Nat) (x13 : Int32) (x14 : Int32) (m12 : pm_M), f_X1_sails_L16 F p6 p8 p9 p10 n x13 x14 m12 = some (r, m') → AW_ cX1_sails RX1 (some (.object "PassagePapers$State"), "sails", 170, 7, m0, m', (.inl (some (vR_ r))), G, l, [], true) m12 16 [(0, vR_ (some p6)), (2, vI_ p8), (3, vI_ p9), (4, vI_ p10), (5, vI_ x13), (6, vI_ x14)] [] := by
  intro n
  induction n with
  | zero => intro x13 x14 m12 h; cases h
  | succ n11 ih =>
    intro x13 x14 m12 h
    rw [f_X1_sails_L16] at h
    refine a_iload 5 dX1_sails_16 rfl ?_
    refine a_iload 3 dX1_sails_18 rfl ?_
    refine a_icmp_ge (tgt := 94) dX1_sails_20 (by decide) (fun c15 => ?_) (fun c15 => ?_)
    · replace h := ifp_ c15 h
      refine a_aload_n 0 dX1_sails_94 rfl rfl ?_
      refine a_getR kc_1 4 (by decide) rfl hf7 q392 dX1_sails_95 ?_
      cases h
      exact a_areturn rfl (Or.inl ⟨_, rfl⟩) rfl rfl rfl dX1_sails_98
    · replace h := ifn_ c15 h
      refine a_iload 4 dX1_sails_23 rfl ?_
      refine a_ldcw (v := 1103515245) q1520 dX1_sails_25 ?_
      refine a_imul dX1_sails_28 ?_
      refine a_sipush (v := 12345) dX1_sails_29 (by decide) ?_
      refine a_iadd dX1_sails_32 ?_
      refine a_istore (ls' := [(5, vI_ ((x13 * 1103515245) + 12345)), (0, vR_ (some p6)), (2, vI_ p8), (3, vI_ p9), (4, vI_ p10), (6, vI_ x14)]) dX1_sails_33 (Nat.le_of_ble_eq_true rfl) rfl ?_
      refine a_iload 0 dX1_sails_35 rfl ?_
      refine a_bipush (v := 16) dX1_sails_37 (by decide) ?_
      refine a_ishr dX1_sails_39 ?_
      refine a_sipush (v := 32767) dX1_sails_40 (by decide) ?_
      refine a_iand dX1_sails_43 ?_
      refine a_bipush (v := 16) dX1_sails_44 (by decide) ?_
      refine a_irem dX1_sails_46 (by decide) ?_
      refine a_iload_n 2 dX1_sails_47 rfl rfl ?_
      obtain ⟨k16, e35, h⟩ := jn1_some h
      have hk16 : ∀  (m17 : pm_M), k16 m17 = some (r, m') → AW_ cX1_sails RX1 (some (.object "PassagePapers$State"), "sails", 170, 7, m0, m', (.inl (some (vR_ r))), G, l, [], true) m17 81 [(0, vR_ (some p6)), (2, vI_ p8), (3, vI_ p9), (4, vI_ p10), (5, vI_ ((x13 * 1103515245) + 12345)), (6, vI_ x14)] [] := by
        intro m17 h
        have h := (e35 m17).symm.trans h
        refine a_aload_n 0 dX1_sails_81 rfl rfl ?_
        refine a_getR kc_1 4 (by decide) rfl hf7 q392 dX1_sails_82 ?_
        obtain ⟨a18, e19, f20, h⟩ := gd_some h
        rw [e19]
        obtain ⟨v23, m21, e22, h⟩ := bm_some h
        have he22 := e_X4_passes (G := G) hl f20 e22
        refine c_V he22.1 (rn_V (n := 0) (As := []) kc_4 f20 he22 (lw_V q1304 q1202 q1203 q93 q1204) (by decide +kernel) rfl (Nat.le_of_ble_eq_true rfl) (Nat.le_of_ble_eq_true rfl) (Nat.le_of_ble_eq_true rfl) dX1_sails_85) (fun z => (os_av (As := []) z).2.1) ?_
        refine a_iinc (v := x14 + 1) (ls' := [(6, vI_ (x14 + 1)), (0, vR_ (some p6)), (2, vI_ p8), (3, vI_ p9), (4, vI_ p10), (5, vI_ ((x13 * 1103515245) + 12345))]) 5 dX1_sails_88 rfl rfl (Nat.le_of_ble_eq_true rfl) rfl ?_
        refine a_goto (tgt := 16) dX1_sails_91 (by decide) ?_
        refine aw_pick [1, 2, 3, 4, 5, 0] rfl ?_
        exact ih _ _ _ h
      refine a_icmp_ge (tgt := 81) dX1_sails_48 (by decide) (fun c24 => ?_) (fun c24 => ?_)
      · replace h := ifp_ c24 h
        refine aw_pick [1, 2, 3, 4, 0, 5] rfl ?_
        exact hk16 _ h
      · replace h := ifn_ c24 h
        refine a_aload_n 1 dX1_sails_51 rfl rfl ?_
        refine a_dup dX1_sails_52 rfl ?_
        refine a_getI kc_1 18 (by decide) rfl hf7 q406 dX1_sails_53 ?_
        refine a_iconst (v := 1) dX1_sails_56 (by decide) ?_
        refine a_iadd dX1_sails_57 ?_
        obtain ⟨m25, e26, h⟩ := lt_some h
        refine a_putI kc_1 18 (by decide) rfl hf7 q406 rfl rfl rfl dX1_sails_58 ?_
        rw [← e26]
        refine a_aload_n 1 dX1_sails_61 rfl rfl ?_
        refine a_getR kc_1 4 (by decide) rfl hf7 q392 dX1_sails_62 ?_
        refine a_iconst (v := 0) dX1_sails_65 (by decide) ?_
        refine a_aload_n 1 dX1_sails_66 rfl rfl ?_
        refine a_getR kc_1 4 (by decide) rfl hf7 q392 dX1_sails_67 ?_
        obtain ⟨a27, e28, f29, h⟩ := gd_some h
        rw [e28]
        refine a_getIN kc_4 12 (by decide) rfl f29 q306 dX1_sails_70 ?_
        refine a_iload_n 3 dX1_sails_73 rfl rfl ?_
        refine a_isub dX1_sails_74 ?_
        obtain ⟨v32, m30, e31, h⟩ := bm_some h
        have he31 := e_J8_max (G := G) hl e31
        refine c_I he31.1 (rn_S (n := 2) (As := [vI_ 0, vI_ ((gI_ m25 a27 12) - p9)]) he31 (lw_S q1425 q524 q109 q525) (by decide +kernel) rfl (Nat.le_of_ble_eq_true rfl) (Nat.le_of_ble_eq_true rfl) (Nat.le_of_ble_eq_true rfl) dX1_sails_75) (fun z => (os_aS (As := [vI_ 0, vI_ ((gI_ m25 a27 12) - p9)]) z).2) ?_
        obtain ⟨m33, e34, h⟩ := lt_some h
        refine a_putIN kc_4 12 (by decide) rfl f29 q306 rfl rfl rfl dX1_sails_78 ?_
        rw [← e34]
        refine aw_pick [1, 2, 3, 4, 0, 5] rfl ?_
        exact hk16 _ h
def f_X1_sails (F : Nat)  (t : pm_A) (i0 : Int32) (i1 : Int32) (i2 : Int32) (i3 : Int32) (m : pm_M) : Option (Option pm_A × pm_M) :=
  bm_ (f_X1_tried F t m) fun v3 m1 =>
  lt_ (pI_ m1 t 18 0) fun m4 =>
  f_X1_sails_L16 F t i1 i2 i3 F i0 0 m4
set_option maxHeartbeats 4000000 in
theorem e_X1_sails {G : xg_T} {l : Launch} (hl : l.stackTraces = false) {F : Nat}    {t : pm_A} {i0 : Int32} {i1 : Int32} {i2 : Int32} {i3 : Int32} {m0 m' : pm_M} {r : Option pm_A} (ht : t.1 = 1) (h : f_X1_sails F t i0 i1 i2 i3 m0 = some (r, m')) : Cal_ G l yX1_sails (ws_ yX1_sails cX1_sails 7 (some (.object "PassagePapers$State"))) 170 [vR_ (some t), vI_ i0, vI_ i1, vI_ i2, vI_ i3] m0 (.inl (some (vR_ r))) m' := by
  refine cal_of (by decide +kernel) (Nat.le_of_ble_eq_true rfl) ?_
  unfold f_X1_sails at h
  show AW_ cX1_sails RX1 (some (.object "PassagePapers$State"), "sails", 170, 7, m0, m', (.inl (some (vR_ r))), G, l, [], true) m0 0 [(0, vR_ (some t)), (1, vI_ i0), (2, vI_ i1), (3, vI_ i2), (4, vI_ i3)] []
  refine a_iload_n 1 dX1_sails_0 rfl rfl ?_
  refine a_istore (ls' := [(5, vI_ i0), (0, vR_ (some t)), (1, vI_ i0), (2, vI_ i1), (3, vI_ i2), (4, vI_ i3)]) dX1_sails_1 (Nat.le_of_ble_eq_true rfl) rfl ?_
  refine a_aload_n 1 dX1_sails_3 rfl rfl ?_
  obtain ⟨v3, m1, e2, h⟩ := bm_some h
  have he2 := e_X1_tried (G := G) hl ht e2
  refine c_R he2.1 (rn_V (n := 0) (As := []) kc_1 ht he2 (lw_V q1300 q1302 qs18 q90 q1303) (by decide +kernel) rfl (Nat.le_of_ble_eq_true rfl) (Nat.le_of_ble_eq_true rfl) (Nat.le_of_ble_eq_true rfl) dX1_sails_4) (fun z => (os_av (As := []) z).2.1) ?_
  refine a_pop dX1_sails_7 rfl ?_
  refine a_aload_n 1 dX1_sails_8 rfl rfl ?_
  refine a_iconst (v := 0) dX1_sails_9 (by decide) ?_
  obtain ⟨m4, e5, h⟩ := lt_some h
  refine a_putI kc_1 18 (by decide) rfl ht q406 rfl rfl rfl dX1_sails_10 ?_
  rw [← e5]
  refine a_iconst (v := 0) dX1_sails_13 (by decide) ?_
  refine a_istore (ls' := [(6, vI_ 0), (5, vI_ i0), (0, vR_ (some t)), (1, vI_ i0), (2, vI_ i1), (3, vI_ i2), (4, vI_ i3)]) dX1_sails_14 (Nat.le_of_ble_eq_true rfl) rfl ?_
  refine aw_pick [2, 4, 5, 6, 1, 0] rfl ?_
  exact w_X1_sails_L16 hl _ _ _ _ ht _ _ _ _ h
def f_X1_hungrier (F : Nat)  (t : pm_A) (i0 : Option pm_A) (m : pm_M) : Option (Int32 × pm_M) :=
  gd_ 4 i0 fun a1 =>
  bm_ (f_X4_sum F (gR_ m a1 4) m) fun v6 m4 =>
  gd_ 3 (gR_ m4 t 2) fun a7 =>
  bm_ (f_X3_now F a7 m4) fun v12 m10 =>
  gd_ 4 v12 fun a13 =>
  bm_ (f_X4_sum F (gR_ m10 a13 4) m10) fun v18 m16 =>
  some ((v6 - v18), m16)
set_option maxHeartbeats 4000000 in
theorem e_X1_hungrier {G : xg_T} {l : Launch} (hl : l.stackTraces = false) {F : Nat}    {t : pm_A} {i0 : Option pm_A} {m0 m' : pm_M} {r : Int32} (ht : t.1 = 1) (h : f_X1_hungrier F t i0 m0 = some (r, m')) : Cal_ G l yX1_hungrier (ws_ yX1_hungrier cX1_hungrier 2 (some .int)) 3 [vR_ (some t), vR_ i0] m0 (.inl (some (vI_ r))) m' := by
  refine cal_of (by decide +kernel) (Nat.le_of_ble_eq_true rfl) ?_
  unfold f_X1_hungrier at h
  show AW_ cX1_hungrier RX1 (some (.int), "hungrier", 3, 2, m0, m', (.inl (some (vI_ r))), G, l, [], true) m0 0 [(0, vR_ (some t)), (1, vR_ i0)] []
  refine a_aload_n 1 dX1_hungrier_0 rfl rfl ?_
  obtain ⟨a1, e2, f3, h⟩ := gd_some h
  rw [e2]
  refine a_getRN kc_4 4 (by decide) rfl f3 q293 dX1_hungrier_1 ?_
  obtain ⟨v6, m4, e5, h⟩ := bm_some h
  have he5 := e_X4_sum (G := G) hl e5
  refine c_I he5.1 (rn_S (n := 1) (As := [vR_ (gR_ m0 a1 4)]) he5 (lw_S q1323 q1324 q93 q1325) (by decide +kernel) rfl (Nat.le_of_ble_eq_true rfl) (Nat.le_of_ble_eq_true rfl) (Nat.le_of_ble_eq_true rfl) dX1_hungrier_4) (fun z => (os_aS (As := [vR_ (gR_ m0 a1 4)]) z).2) ?_
  refine a_aload_n 0 dX1_hungrier_7 rfl rfl ?_
  refine a_getR kc_1 2 (by decide) rfl ht q390 dX1_hungrier_8 ?_
  obtain ⟨a7, e8, f9, h⟩ := gd_some h
  rw [e8]
  obtain ⟨v12, m10, e11, h⟩ := bm_some h
  have he11 := e_X3_now (G := G) hl f9 e11
  refine c_R he11.1 (rn_V (n := 0) (As := []) kc_3 f9 he11 (lw_V q380 q381 q382 q92 q383) (by decide +kernel) rfl (Nat.le_of_ble_eq_true rfl) (Nat.le_of_ble_eq_true rfl) (Nat.le_of_ble_eq_true rfl) dX1_hungrier_11) (fun z => (os_av (As := []) z).2.1) ?_
  obtain ⟨a13, e14, f15, h⟩ := gd_some h
  rw [e14]
  refine a_getRN kc_4 4 (by decide) rfl f15 q293 dX1_hungrier_14 ?_
  obtain ⟨v18, m16, e17, h⟩ := bm_some h
  have he17 := e_X4_sum (G := G) hl e17
  refine c_I he17.1 (rn_S (n := 1) (As := [vR_ (gR_ m10 a13 4)]) he17 (lw_S q1323 q1324 q93 q1325) (by decide +kernel) rfl (Nat.le_of_ble_eq_true rfl) (Nat.le_of_ble_eq_true rfl) (Nat.le_of_ble_eq_true rfl) dX1_hungrier_17) (fun z => (os_aS (As := [vR_ (gR_ m10 a13 4)]) z).2) ?_
  refine a_isub dX1_hungrier_20 ?_
  cases h
  exact a_ireturn rfl rfl rfl rfl rfl dX1_hungrier_21
def f_X1_voyage (F : Nat)  (t : pm_A) (i0 : Int32) (i1 : Int32) (i2 : Int32) (i3 : Int32) (i4 : Int32) (m : pm_M) : Option ((Int32 ⊕ pm_A) × pm_M) :=
  bt_ (f_X1_voyageOf F t i1 i2 i3 m) (fun v3 m1 =>
    bt_ (f_X1_within F t i4 0 3 m1) (fun v8 m6 =>
      bm_ (f_X1_sails F t i0 i1 i2 i3 m6) fun v13 m11 =>
      if i4 = 0 then
        bm_ (f_X1_hungrier F t v13 m11) fun v28 m26 =>
        some (.inl v28, m26)
      else
        if i4 = 1 then
          gd_ 4 v13 fun a23 =>
          some (.inl (gI_ m11 a23 12), m11)
        else
          if i4 = 2 then
            some (.inl (gI_ m11 t 18), m11)
          else
            gd_ 4 v13 fun a17 =>
            bm_ (f_X4_many F a17 3 m11) fun v22 m20 =>
            some (.inl v22, m20)
    ) fun b10 m9 =>
      some (.inr b10, m9)
  ) fun b5 m4 =>
    some (.inr b5, m4)
set_option maxHeartbeats 4000000 in
theorem e_X1_voyage {G : xg_T} {l : Launch} (hl : l.stackTraces = false) {F : Nat}    {t : pm_A} {i0 : Int32} {i1 : Int32} {i2 : Int32} {i3 : Int32} {i4 : Int32} {m0 m' : pm_M} {r : (Int32 ⊕ pm_A)} (ht : t.1 = 1) (h : f_X1_voyage F t i0 i1 i2 i3 i4 m0 = some (r, m')) : Cal_ G l yX1_voyage (ws_ yX1_voyage cX1_voyage 7 (some .int)) 171 [vR_ (some t), vI_ i0, vI_ i1, vI_ i2, vI_ i3, vI_ i4] m0 (oI_ r) m' := by
  refine cal_of (by decide +kernel) (Nat.le_of_ble_eq_true rfl) ?_
  unfold f_X1_voyage at h
  show AW_ cX1_voyage RX1 (some (.int), "voyage", 171, 7, m0, m', (oI_ r), G, l, [], true) m0 0 [(0, vR_ (some t)), (1, vI_ i0), (2, vI_ i1), (3, vI_ i2), (4, vI_ i3), (5, vI_ i4)] []
  refine a_aload_n 0 dX1_voyage_0 rfl rfl ?_
  refine a_iload_n 2 dX1_voyage_1 rfl rfl ?_
  refine a_iload_n 3 dX1_voyage_2 rfl rfl ?_
  refine a_iload 4 dX1_voyage_3 rfl ?_
  rcases bt_some h with ⟨v3, m1, e2, h⟩ | ⟨b5, m4, e2, h⟩
  · have he2 := e_X1_voyageOf (G := G) hl ht e2
    refine c_V he2.1 (rn_V (n := 3) (As := [vI_ i1, vI_ i2, vI_ i3]) kc_1 ht he2 (lw_V q1512 q1514 qs26 q90 q1515) (by decide +kernel) rfl (Nat.le_of_ble_eq_true rfl) (Nat.le_of_ble_eq_true rfl) (Nat.le_of_ble_eq_true rfl) dX1_voyage_5) (fun z => (os_av (As := [vI_ i1, vI_ i2, vI_ i3]) z).2.1) ?_
    refine a_aload_n 0 dX1_voyage_8 rfl rfl ?_
    refine a_iload 5 dX1_voyage_9 rfl ?_
    refine a_iconst (v := 0) dX1_voyage_11 (by decide) ?_
    refine a_iconst (v := 3) dX1_voyage_12 (by decide) ?_
    rcases bt_some h with ⟨v8, m6, e7, h⟩ | ⟨b10, m9, e7, h⟩
    · have he7 := e_X1_within (G := G) hl ht e7
      refine c_V he7.1 (rn_V (n := 3) (As := [vI_ i4, vI_ 0, vI_ 3]) kc_1 ht he7 (lw_V q581 q583 qs0 q90 q584) (by decide +kernel) rfl (Nat.le_of_ble_eq_true rfl) (Nat.le_of_ble_eq_true rfl) (Nat.le_of_ble_eq_true rfl) dX1_voyage_13) (fun z => (os_av (As := [vI_ i4, vI_ 0, vI_ 3]) z).2.1) ?_
      refine a_aload_n 0 dX1_voyage_16 rfl rfl ?_
      refine a_iload_n 1 dX1_voyage_17 rfl rfl ?_
      refine a_iload_n 2 dX1_voyage_18 rfl rfl ?_
      refine a_iload_n 3 dX1_voyage_19 rfl rfl ?_
      refine a_iload 4 dX1_voyage_20 rfl ?_
      obtain ⟨v13, m11, e12, h⟩ := bm_some h
      have he12 := e_X1_sails (G := G) hl ht e12
      refine c_R he12.1 (rn_V (n := 4) (As := [vI_ i0, vI_ i1, vI_ i2, vI_ i3]) kc_1 ht he12 (lw_V q1516 q1518 qs27 q90 q1519) (by decide +kernel) rfl (Nat.le_of_ble_eq_true rfl) (Nat.le_of_ble_eq_true rfl) (Nat.le_of_ble_eq_true rfl) dX1_voyage_22) (fun z => (os_av (As := [vI_ i0, vI_ i1, vI_ i2, vI_ i3]) z).2.1) ?_
      refine a_astore (ls' := [(6, vR_ v13), (0, vR_ (some t)), (1, vI_ i0), (2, vI_ i1), (3, vI_ i2), (4, vI_ i3), (5, vI_ i4)]) dX1_voyage_25 (Nat.le_of_ble_eq_true rfl) rfl ?_
      refine a_iload 6 dX1_voyage_27 rfl ?_
      refine a_if_ne (tgt := 41) dX1_voyage_29 (by decide) (fun c14 => ?_) (fun c14 => ?_)
      · replace h := ifn_ c14 h
        refine a_iload 6 dX1_voyage_41 rfl ?_
        refine a_iconst (v := 1) dX1_voyage_43 (by decide) ?_
        refine a_icmp_ne (tgt := 55) dX1_voyage_44 (by decide) (fun c15 => ?_) (fun c15 => ?_)
        · replace h := ifn_ c15 h
          refine a_iload 6 dX1_voyage_55 rfl ?_
          refine a_iconst (v := 2) dX1_voyage_57 (by decide) ?_
          refine a_icmp_ne (tgt := 68) dX1_voyage_58 (by decide) (fun c16 => ?_) (fun c16 => ?_)
          · replace h := ifn_ c16 h
            refine a_aload 0 dX1_voyage_68 rfl ?_
            refine a_iconst (v := 3) dX1_voyage_70 (by decide) ?_
            obtain ⟨a17, e18, f19, h⟩ := gd_some h
            rw [e18]
            obtain ⟨v22, m20, e21, h⟩ := bm_some h
            have he21 := e_X4_many (G := G) hl f19 e21
            refine c_I he21.1 (rn_V (n := 1) (As := [vI_ 3]) kc_4 f19 he21 (lw_V q538 q539 q540 q93 q541) (by decide +kernel) rfl (Nat.le_of_ble_eq_true rfl) (Nat.le_of_ble_eq_true rfl) (Nat.le_of_ble_eq_true rfl) dX1_voyage_71) (fun z => (os_av (As := [vI_ 3]) z).2.1) ?_
            cases h
            exact a_ireturn rfl rfl rfl rfl rfl dX1_voyage_74
          · replace h := ifp_ c16 h
            refine a_aload_n 1 dX1_voyage_61 rfl rfl ?_
            refine a_getI kc_1 18 (by decide) rfl ht q406 dX1_voyage_62 ?_
            refine a_goto (tgt := 74) dX1_voyage_65 (by decide) ?_
            cases h
            exact a_ireturn rfl rfl rfl rfl rfl dX1_voyage_74
        · replace h := ifp_ c15 h
          refine a_aload 0 dX1_voyage_47 rfl ?_
          obtain ⟨a23, e24, f25, h⟩ := gd_some h
          rw [e24]
          refine a_getIN kc_4 12 (by decide) rfl f25 q306 dX1_voyage_49 ?_
          refine a_goto (tgt := 74) dX1_voyage_52 (by decide) ?_
          cases h
          exact a_ireturn rfl rfl rfl rfl rfl dX1_voyage_74
      · replace h := ifp_ c14 h
        refine a_aload_n 1 dX1_voyage_32 rfl rfl ?_
        refine a_aload 0 dX1_voyage_33 rfl ?_
        obtain ⟨v28, m26, e27, h⟩ := bm_some h
        have he27 := e_X1_hungrier (G := G) hl ht e27
        refine c_I he27.1 (rn_V (n := 1) (As := [vR_ v13]) kc_1 ht he27 (lw_V q1521 q1523 qs28 q90 q1524) (by decide +kernel) rfl (Nat.le_of_ble_eq_true rfl) (Nat.le_of_ble_eq_true rfl) (Nat.le_of_ble_eq_true rfl) dX1_voyage_35) (fun z => (os_av (As := [vR_ v13]) z).2.1) ?_
        refine a_goto (tgt := 74) dX1_voyage_38 (by decide) ?_
        cases h
        exact a_ireturn rfl rfl rfl rfl rfl dX1_voyage_74
    · have he7 := e_X1_within (G := G) hl ht e7
      refine c_X (b := b10) he7.1 (rn_V (n := 3) (As := [vI_ i4, vI_ 0, vI_ 3]) kc_1 ht he7 (lw_V q581 q583 qs0 q90 q584) (by decide +kernel) rfl (Nat.le_of_ble_eq_true rfl) (Nat.le_of_ble_eq_true rfl) (Nat.le_of_ble_eq_true rfl) dX1_voyage_13) ?_
      cases h
      exact a_out rfl rfl rfl rfl
  · have he2 := e_X1_voyageOf (G := G) hl ht e2
    refine c_X (b := b5) he2.1 (rn_V (n := 3) (As := [vI_ i1, vI_ i2, vI_ i3]) kc_1 ht he2 (lw_V q1512 q1514 qs26 q90 q1515) (by decide +kernel) rfl (Nat.le_of_ble_eq_true rfl) (Nat.le_of_ble_eq_true rfl) (Nat.le_of_ble_eq_true rfl) dX1_voyage_5) ?_
    cases h
    exact a_out rfl rfl rfl rfl
def f_X0_voyage (F : Nat)  (i0 : Option pm_A) (i1 : Int32) (i2 : Int32) (i3 : Int32) (i4 : Int32) (i5 : Int32) (i6 : Option pm_A) (m : pm_M) : Option (Int32 × pm_M) :=
  gd_ 1 i0 fun a1 =>
  bt_ (f_X1_voyage F a1 i1 i2 i3 i4 i5 m) (fun v6 m4 =>
    gd_ 103 i6 fun a9 =>
    iz_ (!(ib_ 0 a9.2.1)) <|
    lt_ (pL_ m4 a9 ((0 : Int32).toNatClampNeg) v6.toInt64) fun m13 =>
    some (0, m13)
  ) fun b8 m7 =>
    if b8.1 = 25 then
      some (1, m7)
    else
    none
set_option maxHeartbeats 4000000 in
theorem e_X0_voyage {G : xg_T} {l : Launch} (hl : l.stackTraces = false) {F : Nat}    {i0 : Option pm_A} {i1 : Int32} {i2 : Int32} {i3 : Int32} {i4 : Int32} {i5 : Int32} {i6 : Option pm_A} {m0 m' : pm_M} {r : Int32} (h : f_X0_voyage F i0 i1 i2 i3 i4 i5 i6 m0 = some (r, m')) : Cal_ G l yX0_voyage (wsW_ yX0_voyage cX0_voyage 8 (some .int) [(0, 16, 19, 13)]) 172 [vR_ i0, vI_ i1, vI_ i2, vI_ i3, vI_ i4, vI_ i5, vR_ i6] m0 (.inl (some (vI_ r))) m' := by
  refine cal_ofH (by decide +kernel) (Nat.le_of_ble_eq_true rfl) ?_
  unfold f_X0_voyage at h
  show AW_ cX0_voyage RX0 (some (.int), "voyage", 172, 8, m0, m', (.inl (some (vI_ r))), G, l, [(0, 16, 19, 13)], true) m0 0 [(0, vR_ i0), (1, vI_ i1), (2, vI_ i2), (3, vI_ i3), (4, vI_ i4), (5, vI_ i5), (6, vR_ i6)] []
  refine a_aload 6 dX0_voyage_0 rfl ?_
  refine a_iconst (v := 0) dX0_voyage_2 (by decide) ?_
  refine a_aload_n 0 dX0_voyage_3 rfl rfl ?_
  refine a_iload_n 1 dX0_voyage_4 rfl rfl ?_
  refine a_iload_n 2 dX0_voyage_5 rfl rfl ?_
  refine a_iload_n 3 dX0_voyage_6 rfl rfl ?_
  refine a_iload 4 dX0_voyage_7 rfl ?_
  refine a_iload 5 dX0_voyage_9 rfl ?_
  obtain ⟨a1, e2, f3, h⟩ := gd_some h
  rw [e2]
  rcases bt_some h with ⟨v6, m4, e5, h⟩ | ⟨b8, m7, e5, h⟩
  · have he5 := e_X1_voyage (G := G) hl f3 e5
    refine c_I (v := v6) he5.1 (rn_V (n := 5) (As := [vI_ i1, vI_ i2, vI_ i3, vI_ i4, vI_ i5]) kc_1 f3 he5 (lw_V q1508 q1509 q1510 q90 q1511) (by decide +kernel) rfl (Nat.le_of_ble_eq_true rfl) (Nat.le_of_ble_eq_true rfl) (Nat.le_of_ble_eq_true rfl) dX0_voyage_11) (fun z => (os_av (As := [vI_ i1, vI_ i2, vI_ i3, vI_ i4, vI_ i5]) z).2.1) ?_
    refine a_i2l dX0_voyage_14 ?_
    obtain ⟨a9, e10, f11, h⟩ := gd_some h
    rw [e10]
    obtain ⟨c12, h⟩ := iz_some h
    obtain ⟨m13, e14, h⟩ := lt_some h
    refine a_last f11 (bn_ c12) dX0_voyage_15 ?_
    rw [← e14]
    refine a_goto (tgt := 23) dX0_voyage_16 (by decide) ?_
    refine a_iconst (v := 0) dX0_voyage_23 (by decide) ?_
    cases h
    exact a_ireturn rfl rfl rfl rfl rfl dX0_voyage_24
  · have he5 := e_X1_voyage (G := G) hl f3 e5
    refine c_X (b := b8) he5.1 (rn_V (n := 5) (As := [vI_ i1, vI_ i2, vI_ i3, vI_ i4, vI_ i5]) kc_1 f3 he5 (lw_V q1508 q1509 q1510 q90 q1511) (by decide +kernel) rfl (Nat.le_of_ble_eq_true rfl) (Nat.le_of_ble_eq_true rfl) (Nat.le_of_ble_eq_true rfl) dX0_voyage_11) ?_
    by_cases c15 : b8.1 = 25
    · replace h := ifp_ c15 h
      refine a_catch [] ⟨0, 16, 19, 13⟩ [] rfl (fun z hz => nomatch hz) rfl (by decide) q575 (by rw [c15]; exact q587) ?_
      refine a_astore (ls' := [(7, vR_ (some b8)), (0, vR_ (some a1)), (1, vI_ i1), (2, vI_ i2), (3, vI_ i3), (4, vI_ i4), (5, vI_ i5), (6, vR_ i6)]) dX0_voyage_19 (Nat.le_of_ble_eq_true rfl) rfl ?_
      refine a_iconst (v := 1) dX0_voyage_21 (by decide) ?_
      cases h
      exact a_ireturn rfl rfl rfl rfl rfl dX0_voyage_22
    replace h := ifn_ c15 h
    cases h
def f_X1_span_L37 (F : Nat)  (p23 : pm_A) (p25 : Int32) (p26 : Int32) (p27 : Int32) (p28 : Int32) (p29 : Int32) (p30 : Int32) (k31 : Int32 → Int32 → Int32 → pm_M → Option ((Int32 ⊕ pm_A) × pm_M)) : Nat → Int32 → Int32 → Int32 → Int32 → pm_M → Option ((Int32 ⊕ pm_A) × pm_M)
  | 0, _, _, _, _, _ => none
  | n36 + 1, x38, x39, x40, x41, m37 =>
    if p26 ≤ x41 then
      k31 x38 x39 x40 m37
    else
      bm_ (f_X1_sails F p23 (p25 + x41) p27 p28 p29 m37) fun v45 m43 =>
      bm_ (f_X1_hungrier F p23 v45 m43) fun v48 m46 =>
      jn_ (fun (y51 : Int32) (m50 : pm_M) =>
        bm_ (f_J8_max F x39 v48 m50) fun v54 m52 =>
        if v48 = 0 then
          (f_X1_span_L37 F p23 p25 p26 p27 p28 p29 p30 k31 n36) y51 v54 (x40 + 1) (x41 + 1) m52
        else
          (f_X1_span_L37 F p23 p25 p26 p27 p28 p29 p30 k31 n36) y51 v54 x40 (x41 + 1) m52
      ) fun k49 =>
      if x41 = 0 then
        k49 v48 m46
      else
        bm_ (f_J8_min F x38 v48 m46) fun v59 m57 =>
        k49 v59 m57
set_option maxHeartbeats 4000000 in
theorem w_X1_span_L37 {G : xg_T} {l : Launch} (hl : l.stackTraces = false) {F : Nat}    (p23 : pm_A) (p25 : Int32) (p26 : Int32) (p27 : Int32) (p28 : Int32) (p29 : Int32) (p30 : Int32) (k31 : Int32 → Int32 → Int32 → pm_M → Option ((Int32 ⊕ pm_A) × pm_M)) {m0 m' : pm_M} {r : (Int32 ⊕ pm_A)} (hf24 : p23.1 = 1) (hk31 : ∀ (x32 : Int32) (x33 : Int32) (x34 : Int32) (m35 : pm_M), k31 x32 x33 x34 m35 = some (r, m') → AW_ cX1_span RX1 (some (.int), "span", 171, 12, m0, m', (oI_ r), G, l, [], true) m35 104 [(6, vI_ p30), (7, vI_ x32), (8, vI_ x33), (9, vI_ x34)] []) : ∀ (n : Nat) (x38 : Int32) (x39 : Int32) (x40 : Int32) (x41 : Int32) (m37 : pm_M), f_X1_span_L37 F p23 p25 p26 p27 p28 p29 p30 k31 n x38 x39 x40 x41 m37 = some (r, m') → AW_ cX1_span RX1 (some (.int), "span", 171, 12, m0, m', (oI_ r), G, l, [], true) m37 37 [(0, vR_ (some p23)), (1, vI_ p25), (2, vI_ p26), (3, vI_ p27), (4, vI_ p28), (5, vI_ p29), (6, vI_ p30), (7, vI_ x38), (8, vI_ x39), (9, vI_ x40), (10, vI_ x41)] [] := by
  intro n
  induction n with
  | zero => intro x38 x39 x40 x41 m37 h; cases h
  | succ n36 ih =>
    intro x38 x39 x40 x41 m37 h
    rw [f_X1_span_L37] at h
    refine a_iload 10 dX1_span_37 rfl ?_
    refine a_iload_n 2 dX1_span_39 rfl rfl ?_
    refine a_icmp_ge (tgt := 104) dX1_span_40 (by decide) (fun c42 => ?_) (fun c42 => ?_)
    · replace h := ifp_ c42 h
      refine aw_pick [6, 7, 8, 9] rfl ?_
      exact hk31 _ _ _ _ h
    · replace h := ifn_ c42 h
      refine a_aload_n 0 dX1_span_43 rfl rfl ?_
      refine a_aload_n 0 dX1_span_44 rfl rfl ?_
      refine a_iload_n 1 dX1_span_45 rfl rfl ?_
      refine a_iload 10 dX1_span_46 rfl ?_
      refine a_iadd dX1_span_48 ?_
      refine a_iload_n 3 dX1_span_49 rfl rfl ?_
      refine a_iload 4 dX1_span_50 rfl ?_
      refine a_iload 5 dX1_span_52 rfl ?_
      obtain ⟨v45, m43, e44, h⟩ := bm_some h
      have he44 := e_X1_sails (G := G) hl hf24 e44
      refine c_R he44.1 (rn_V (n := 4) (As := [vI_ (p25 + x41), vI_ p27, vI_ p28, vI_ p29]) kc_1 hf24 he44 (lw_V q1516 q1518 qs27 q90 q1519) (by decide +kernel) rfl (Nat.le_of_ble_eq_true rfl) (Nat.le_of_ble_eq_true rfl) (Nat.le_of_ble_eq_true rfl) dX1_span_54) (fun z => (os_av (As := [vI_ (p25 + x41), vI_ p27, vI_ p28, vI_ p29]) z).2.1) ?_
      obtain ⟨v48, m46, e47, h⟩ := bm_some h
      have he47 := e_X1_hungrier (G := G) hl hf24 e47
      refine c_I he47.1 (rn_V (n := 1) (As := [vR_ v45]) kc_1 hf24 he47 (lw_V q1521 q1523 qs28 q90 q1524) (by decide +kernel) rfl (Nat.le_of_ble_eq_true rfl) (Nat.le_of_ble_eq_true rfl) (Nat.le_of_ble_eq_true rfl) dX1_span_57) (fun z => (os_av (As := [vR_ v45]) z).2.1) ?_
      refine a_istore (ls' := [(11, vI_ v48), (0, vR_ (some p23)), (1, vI_ p25), (2, vI_ p26), (3, vI_ p27), (4, vI_ p28), (5, vI_ p29), (6, vI_ p30), (7, vI_ x38), (8, vI_ x39), (9, vI_ x40), (10, vI_ x41)]) dX1_span_60 (Nat.le_of_ble_eq_true rfl) rfl ?_
      refine a_iload 11 dX1_span_62 rfl ?_
      obtain ⟨k49, e60, h⟩ := jn2_some h
      have hk49 : ∀ (y51 : Int32) (m50 : pm_M), k49 y51 m50 = some (r, m') → AW_ cX1_span RX1 (some (.int), "span", 171, 12, m0, m', (oI_ r), G, l, [], true) m50 79 [(0, vR_ (some p23)), (1, vI_ p25), (2, vI_ p26), (3, vI_ p27), (4, vI_ p28), (5, vI_ p29), (6, vI_ p30), (8, vI_ x39), (9, vI_ x40), (10, vI_ x41), (11, vI_ v48)] [vI_ y51] := by
        intro y51 m50 h
        have h := (e60 y51 m50).symm.trans h
        refine a_istore (ls' := [(7, vI_ y51), (0, vR_ (some p23)), (1, vI_ p25), (2, vI_ p26), (3, vI_ p27), (4, vI_ p28), (5, vI_ p29), (6, vI_ p30), (8, vI_ x39), (9, vI_ x40), (10, vI_ x41), (11, vI_ v48)]) dX1_span_79 (Nat.le_of_ble_eq_true rfl) rfl ?_
        refine a_iload 8 dX1_span_81 rfl ?_
        refine a_iload 11 dX1_span_83 rfl ?_
        obtain ⟨v54, m52, e53, h⟩ := bm_some h
        have he53 := e_J8_max (G := G) hl e53
        refine c_I he53.1 (rn_S (n := 2) (As := [vI_ x39, vI_ v48]) he53 (lw_S q1425 q524 q109 q525) (by decide +kernel) rfl (Nat.le_of_ble_eq_true rfl) (Nat.le_of_ble_eq_true rfl) (Nat.le_of_ble_eq_true rfl) dX1_span_85) (fun z => (os_aS (As := [vI_ x39, vI_ v48]) z).2) ?_
        refine a_istore (ls' := [(8, vI_ v54), (7, vI_ y51), (0, vR_ (some p23)), (1, vI_ p25), (2, vI_ p26), (3, vI_ p27), (4, vI_ p28), (5, vI_ p29), (6, vI_ p30), (9, vI_ x40), (10, vI_ x41), (11, vI_ v48)]) dX1_span_88 (Nat.le_of_ble_eq_true rfl) rfl ?_
        refine a_iload 11 dX1_span_90 rfl ?_
        refine a_if_ne (tgt := 98) dX1_span_92 (by decide) (fun c55 => ?_) (fun c55 => ?_)
        · replace h := ifn_ c55 h
          refine a_iinc (v := x41 + 1) (ls' := [(10, vI_ (x41 + 1)), (8, vI_ v54), (7, vI_ y51), (0, vR_ (some p23)), (1, vI_ p25), (2, vI_ p26), (3, vI_ p27), (4, vI_ p28), (5, vI_ p29), (6, vI_ p30), (9, vI_ x40), (11, vI_ v48)]) 10 dX1_span_98 rfl rfl (Nat.le_of_ble_eq_true rfl) rfl ?_
          refine a_goto (tgt := 37) dX1_span_101 (by decide) ?_
          refine aw_pick [3, 4, 5, 6, 7, 8, 9, 2, 1, 10, 0] rfl ?_
          exact ih _ _ _ _ _ h
        · replace h := ifp_ c55 h
          refine a_iinc (v := x40 + 1) (ls' := [(9, vI_ (x40 + 1)), (8, vI_ v54), (7, vI_ y51), (0, vR_ (some p23)), (1, vI_ p25), (2, vI_ p26), (3, vI_ p27), (4, vI_ p28), (5, vI_ p29), (6, vI_ p30), (10, vI_ x41), (11, vI_ v48)]) 9 dX1_span_95 rfl rfl (Nat.le_of_ble_eq_true rfl) rfl ?_
          refine a_iinc (v := x41 + 1) (ls' := [(10, vI_ (x41 + 1)), (9, vI_ (x40 + 1)), (8, vI_ v54), (7, vI_ y51), (0, vR_ (some p23)), (1, vI_ p25), (2, vI_ p26), (3, vI_ p27), (4, vI_ p28), (5, vI_ p29), (6, vI_ p30), (11, vI_ v48)]) 10 dX1_span_98 rfl rfl (Nat.le_of_ble_eq_true rfl) rfl ?_
          refine a_goto (tgt := 37) dX1_span_101 (by decide) ?_
          refine aw_pick [4, 5, 6, 7, 8, 9, 10, 3, 2, 1, 0] rfl ?_
          exact ih _ _ _ _ _ h
      refine a_if_ne (tgt := 72) dX1_span_64 (by decide) (fun c56 => ?_) (fun c56 => ?_)
      · replace h := ifn_ c56 h
        refine a_iload 8 dX1_span_72 rfl ?_
        refine a_iload 0 dX1_span_74 rfl ?_
        obtain ⟨v59, m57, e58, h⟩ := bm_some h
        have he58 := e_J8_min (G := G) hl e58
        refine c_I he58.1 (rn_S (n := 2) (As := [vI_ x38, vI_ v48]) he58 (lw_S q847 q521 q109 q522) (by decide +kernel) rfl (Nat.le_of_ble_eq_true rfl) (Nat.le_of_ble_eq_true rfl) (Nat.le_of_ble_eq_true rfl) dX1_span_76) (fun z => (os_aS (As := [vI_ x38, vI_ v48]) z).2) ?_
        refine aw_pick [1, 2, 3, 4, 5, 6, 7, 9, 10, 11, 0] rfl ?_
        exact hk49 _ _ h
      · replace h := ifp_ c56 h
        refine a_iload 0 dX1_span_67 rfl ?_
        refine a_goto (tgt := 79) dX1_span_69 (by decide) ?_
        refine aw_pick [1, 2, 3, 4, 5, 6, 7, 9, 10, 11, 0] rfl ?_
        exact hk49 _ _ h
def f_X1_span (F : Nat)  (t : pm_A) (i0 : Int32) (i1 : Int32) (i2 : Int32) (i3 : Int32) (i4 : Int32) (i5 : Int32) (m : pm_M) : Option ((Int32 ⊕ pm_A) × pm_M) :=
  bt_ (f_X1_within F t i1 1 20 m) (fun v3 m1 =>
    bt_ (f_X1_voyageOf F t i2 i3 i4 m1) (fun v8 m6 =>
      bt_ (f_X1_within F t i5 0 2 m6) (fun v13 m11 =>
        jn_ (fun (x18 : Int32) (x19 : Int32) (x20 : Int32) (m17 : pm_M) =>
          if i5 = 0 then
            some (.inl x18, m17)
          else
            if i5 = 1 then
              some (.inl x19, m17)
            else
              some (.inl x20, m17)
        ) fun k16 =>
        f_X1_span_L37 F t i0 i1 i2 i3 i4 i5 k16 F 0 0 0 0 m11
      ) fun b15 m14 =>
        some (.inr b15, m14)
    ) fun b10 m9 =>
      some (.inr b10, m9)
  ) fun b5 m4 =>
    some (.inr b5, m4)
set_option maxHeartbeats 4000000 in
theorem e_X1_span {G : xg_T} {l : Launch} (hl : l.stackTraces = false) {F : Nat}    {t : pm_A} {i0 : Int32} {i1 : Int32} {i2 : Int32} {i3 : Int32} {i4 : Int32} {i5 : Int32} {m0 m' : pm_M} {r : (Int32 ⊕ pm_A)} (ht : t.1 = 1) (h : f_X1_span F t i0 i1 i2 i3 i4 i5 m0 = some (r, m')) : Cal_ G l yX1_span (ws_ yX1_span cX1_span 12 (some .int)) 171 [vR_ (some t), vI_ i0, vI_ i1, vI_ i2, vI_ i3, vI_ i4, vI_ i5] m0 (oI_ r) m' := by
  refine cal_of (by decide +kernel) (Nat.le_of_ble_eq_true rfl) ?_
  unfold f_X1_span at h
  show AW_ cX1_span RX1 (some (.int), "span", 171, 12, m0, m', (oI_ r), G, l, [], true) m0 0 [(0, vR_ (some t)), (1, vI_ i0), (2, vI_ i1), (3, vI_ i2), (4, vI_ i3), (5, vI_ i4), (6, vI_ i5)] []
  refine a_aload_n 0 dX1_span_0 rfl rfl ?_
  refine a_iload_n 2 dX1_span_1 rfl rfl ?_
  refine a_iconst (v := 1) dX1_span_2 (by decide) ?_
  refine a_bipush (v := 20) dX1_span_3 (by decide) ?_
  rcases bt_some h with ⟨v3, m1, e2, h⟩ | ⟨b5, m4, e2, h⟩
  · have he2 := e_X1_within (G := G) hl ht e2
    refine c_V he2.1 (rn_V (n := 3) (As := [vI_ i1, vI_ 1, vI_ 20]) kc_1 ht he2 (lw_V q581 q583 qs0 q90 q584) (by decide +kernel) rfl (Nat.le_of_ble_eq_true rfl) (Nat.le_of_ble_eq_true rfl) (Nat.le_of_ble_eq_true rfl) dX1_span_5) (fun z => (os_av (As := [vI_ i1, vI_ 1, vI_ 20]) z).2.1) ?_
    refine a_aload_n 0 dX1_span_8 rfl rfl ?_
    refine a_iload_n 3 dX1_span_9 rfl rfl ?_
    refine a_iload 4 dX1_span_10 rfl ?_
    refine a_iload 5 dX1_span_12 rfl ?_
    rcases bt_some h with ⟨v8, m6, e7, h⟩ | ⟨b10, m9, e7, h⟩
    · have he7 := e_X1_voyageOf (G := G) hl ht e7
      refine c_V he7.1 (rn_V (n := 3) (As := [vI_ i2, vI_ i3, vI_ i4]) kc_1 ht he7 (lw_V q1512 q1514 qs26 q90 q1515) (by decide +kernel) rfl (Nat.le_of_ble_eq_true rfl) (Nat.le_of_ble_eq_true rfl) (Nat.le_of_ble_eq_true rfl) dX1_span_14) (fun z => (os_av (As := [vI_ i2, vI_ i3, vI_ i4]) z).2.1) ?_
      refine a_aload_n 0 dX1_span_17 rfl rfl ?_
      refine a_iload 6 dX1_span_18 rfl ?_
      refine a_iconst (v := 0) dX1_span_20 (by decide) ?_
      refine a_iconst (v := 2) dX1_span_21 (by decide) ?_
      rcases bt_some h with ⟨v13, m11, e12, h⟩ | ⟨b15, m14, e12, h⟩
      · have he12 := e_X1_within (G := G) hl ht e12
        refine c_V he12.1 (rn_V (n := 3) (As := [vI_ i5, vI_ 0, vI_ 2]) kc_1 ht he12 (lw_V q581 q583 qs0 q90 q584) (by decide +kernel) rfl (Nat.le_of_ble_eq_true rfl) (Nat.le_of_ble_eq_true rfl) (Nat.le_of_ble_eq_true rfl) dX1_span_22) (fun z => (os_av (As := [vI_ i5, vI_ 0, vI_ 2]) z).2.1) ?_
        refine a_iconst (v := 0) dX1_span_25 (by decide) ?_
        refine a_istore (ls' := [(7, vI_ 0), (0, vR_ (some t)), (1, vI_ i0), (2, vI_ i1), (3, vI_ i2), (4, vI_ i3), (5, vI_ i4), (6, vI_ i5)]) dX1_span_26 (Nat.le_of_ble_eq_true rfl) rfl ?_
        refine a_iconst (v := 0) dX1_span_28 (by decide) ?_
        refine a_istore (ls' := [(8, vI_ 0), (7, vI_ 0), (0, vR_ (some t)), (1, vI_ i0), (2, vI_ i1), (3, vI_ i2), (4, vI_ i3), (5, vI_ i4), (6, vI_ i5)]) dX1_span_29 (Nat.le_of_ble_eq_true rfl) rfl ?_
        refine a_iconst (v := 0) dX1_span_31 (by decide) ?_
        refine a_istore (ls' := [(9, vI_ 0), (8, vI_ 0), (7, vI_ 0), (0, vR_ (some t)), (1, vI_ i0), (2, vI_ i1), (3, vI_ i2), (4, vI_ i3), (5, vI_ i4), (6, vI_ i5)]) dX1_span_32 (Nat.le_of_ble_eq_true rfl) rfl ?_
        refine a_iconst (v := 0) dX1_span_34 (by decide) ?_
        refine a_istore (ls' := [(10, vI_ 0), (9, vI_ 0), (8, vI_ 0), (7, vI_ 0), (0, vR_ (some t)), (1, vI_ i0), (2, vI_ i1), (3, vI_ i2), (4, vI_ i3), (5, vI_ i4), (6, vI_ i5)]) dX1_span_35 (Nat.le_of_ble_eq_true rfl) rfl ?_
        obtain ⟨k16, e61, h⟩ := jn4_some h
        have hk16 : ∀ (x18 : Int32) (x19 : Int32) (x20 : Int32) (m17 : pm_M), k16 x18 x19 x20 m17 = some (r, m') → AW_ cX1_span RX1 (some (.int), "span", 171, 12, m0, m', (oI_ r), G, l, [], true) m17 104 [(6, vI_ i5), (7, vI_ x18), (8, vI_ x19), (9, vI_ x20)] [] := by
          intro x18 x19 x20 m17 h
          have h := (e61 x18 x19 x20 m17).symm.trans h
          refine a_iload 0 dX1_span_104 rfl ?_
          refine a_if_ne (tgt := 114) dX1_span_106 (by decide) (fun c21 => ?_) (fun c21 => ?_)
          · replace h := ifn_ c21 h
            refine a_iload 0 dX1_span_114 rfl ?_
            refine a_iconst (v := 1) dX1_span_116 (by decide) ?_
            refine a_icmp_ne (tgt := 125) dX1_span_117 (by decide) (fun c22 => ?_) (fun c22 => ?_)
            · replace h := ifn_ c22 h
              refine a_iload 3 dX1_span_125 rfl ?_
              cases h
              exact a_ireturn rfl rfl rfl rfl rfl dX1_span_127
            · replace h := ifp_ c22 h
              refine a_iload 2 dX1_span_120 rfl ?_
              refine a_goto (tgt := 127) dX1_span_122 (by decide) ?_
              cases h
              exact a_ireturn rfl rfl rfl rfl rfl dX1_span_127
          · replace h := ifp_ c21 h
            refine a_iload 1 dX1_span_109 rfl ?_
            refine a_goto (tgt := 127) dX1_span_111 (by decide) ?_
            cases h
            exact a_ireturn rfl rfl rfl rfl rfl dX1_span_127
        refine aw_pick [4, 5, 6, 7, 8, 9, 10, 3, 2, 1, 0] rfl ?_
        exact w_X1_span_L37 hl _ _ _ _ _ _ _ _ ht hk16 _ _ _ _ _ _ h
      · have he12 := e_X1_within (G := G) hl ht e12
        refine c_X (b := b15) he12.1 (rn_V (n := 3) (As := [vI_ i5, vI_ 0, vI_ 2]) kc_1 ht he12 (lw_V q581 q583 qs0 q90 q584) (by decide +kernel) rfl (Nat.le_of_ble_eq_true rfl) (Nat.le_of_ble_eq_true rfl) (Nat.le_of_ble_eq_true rfl) dX1_span_22) ?_
        cases h
        exact a_out rfl rfl rfl rfl
    · have he7 := e_X1_voyageOf (G := G) hl ht e7
      refine c_X (b := b10) he7.1 (rn_V (n := 3) (As := [vI_ i2, vI_ i3, vI_ i4]) kc_1 ht he7 (lw_V q1512 q1514 qs26 q90 q1515) (by decide +kernel) rfl (Nat.le_of_ble_eq_true rfl) (Nat.le_of_ble_eq_true rfl) (Nat.le_of_ble_eq_true rfl) dX1_span_14) ?_
      cases h
      exact a_out rfl rfl rfl rfl
  · have he2 := e_X1_within (G := G) hl ht e2
    refine c_X (b := b5) he2.1 (rn_V (n := 3) (As := [vI_ i1, vI_ 1, vI_ 20]) kc_1 ht he2 (lw_V q581 q583 qs0 q90 q584) (by decide +kernel) rfl (Nat.le_of_ble_eq_true rfl) (Nat.le_of_ble_eq_true rfl) (Nat.le_of_ble_eq_true rfl) dX1_span_5) ?_
    cases h
    exact a_out rfl rfl rfl rfl
def f_X0_span (F : Nat)  (i0 : Option pm_A) (i1 : Int32) (i2 : Int32) (i3 : Int32) (i4 : Int32) (i5 : Int32) (i6 : Int32) (i7 : Option pm_A) (m : pm_M) : Option (Int32 × pm_M) :=
  gd_ 1 i0 fun a1 =>
  bt_ (f_X1_span F a1 i1 i2 i3 i4 i5 i6 m) (fun v6 m4 =>
    gd_ 103 i7 fun a9 =>
    iz_ (!(ib_ 0 a9.2.1)) <|
    lt_ (pL_ m4 a9 ((0 : Int32).toNatClampNeg) v6.toInt64) fun m13 =>
    some (0, m13)
  ) fun b8 m7 =>
    if b8.1 = 25 then
      some (1, m7)
    else
    none
set_option maxHeartbeats 4000000 in
theorem e_X0_span {G : xg_T} {l : Launch} (hl : l.stackTraces = false) {F : Nat}    {i0 : Option pm_A} {i1 : Int32} {i2 : Int32} {i3 : Int32} {i4 : Int32} {i5 : Int32} {i6 : Int32} {i7 : Option pm_A} {m0 m' : pm_M} {r : Int32} (h : f_X0_span F i0 i1 i2 i3 i4 i5 i6 i7 m0 = some (r, m')) : Cal_ G l yX0_span (wsW_ yX0_span cX0_span 9 (some .int) [(0, 18, 21, 13)]) 172 [vR_ i0, vI_ i1, vI_ i2, vI_ i3, vI_ i4, vI_ i5, vI_ i6, vR_ i7] m0 (.inl (some (vI_ r))) m' := by
  refine cal_ofH (by decide +kernel) (Nat.le_of_ble_eq_true rfl) ?_
  unfold f_X0_span at h
  show AW_ cX0_span RX0 (some (.int), "span", 172, 9, m0, m', (.inl (some (vI_ r))), G, l, [(0, 18, 21, 13)], true) m0 0 [(0, vR_ i0), (1, vI_ i1), (2, vI_ i2), (3, vI_ i3), (4, vI_ i4), (5, vI_ i5), (6, vI_ i6), (7, vR_ i7)] []
  refine a_aload 7 dX0_span_0 rfl ?_
  refine a_iconst (v := 0) dX0_span_2 (by decide) ?_
  refine a_aload_n 0 dX0_span_3 rfl rfl ?_
  refine a_iload_n 1 dX0_span_4 rfl rfl ?_
  refine a_iload_n 2 dX0_span_5 rfl rfl ?_
  refine a_iload_n 3 dX0_span_6 rfl rfl ?_
  refine a_iload 4 dX0_span_7 rfl ?_
  refine a_iload 5 dX0_span_9 rfl ?_
  refine a_iload 6 dX0_span_11 rfl ?_
  obtain ⟨a1, e2, f3, h⟩ := gd_some h
  rw [e2]
  rcases bt_some h with ⟨v6, m4, e5, h⟩ | ⟨b8, m7, e5, h⟩
  · have he5 := e_X1_span (G := G) hl f3 e5
    refine c_I (v := v6) he5.1 (rn_V (n := 6) (As := [vI_ i1, vI_ i2, vI_ i3, vI_ i4, vI_ i5, vI_ i6]) kc_1 f3 he5 (lw_V q1528 q1529 q1530 q90 q1531) (by decide +kernel) rfl (Nat.le_of_ble_eq_true rfl) (Nat.le_of_ble_eq_true rfl) (Nat.le_of_ble_eq_true rfl) dX0_span_13) (fun z => (os_av (As := [vI_ i1, vI_ i2, vI_ i3, vI_ i4, vI_ i5, vI_ i6]) z).2.1) ?_
    refine a_i2l dX0_span_16 ?_
    obtain ⟨a9, e10, f11, h⟩ := gd_some h
    rw [e10]
    obtain ⟨c12, h⟩ := iz_some h
    obtain ⟨m13, e14, h⟩ := lt_some h
    refine a_last f11 (bn_ c12) dX0_span_17 ?_
    rw [← e14]
    refine a_goto (tgt := 25) dX0_span_18 (by decide) ?_
    refine a_iconst (v := 0) dX0_span_25 (by decide) ?_
    cases h
    exact a_ireturn rfl rfl rfl rfl rfl dX0_span_26
  · have he5 := e_X1_span (G := G) hl f3 e5
    refine c_X (b := b8) he5.1 (rn_V (n := 6) (As := [vI_ i1, vI_ i2, vI_ i3, vI_ i4, vI_ i5, vI_ i6]) kc_1 f3 he5 (lw_V q1528 q1529 q1530 q90 q1531) (by decide +kernel) rfl (Nat.le_of_ble_eq_true rfl) (Nat.le_of_ble_eq_true rfl) (Nat.le_of_ble_eq_true rfl) dX0_span_13) ?_
    by_cases c15 : b8.1 = 25
    · replace h := ifp_ c15 h
      refine a_catch [] ⟨0, 18, 21, 13⟩ [] rfl (fun z hz => nomatch hz) rfl (by decide) q575 (by rw [c15]; exact q587) ?_
      refine a_astore (ls' := [(8, vR_ (some b8)), (0, vR_ (some a1)), (1, vI_ i1), (2, vI_ i2), (3, vI_ i3), (4, vI_ i4), (5, vI_ i5), (6, vI_ i6), (7, vR_ i7)]) dX0_span_21 (Nat.le_of_ble_eq_true rfl) rfl ?_
      refine a_iconst (v := 1) dX0_span_23 (by decide) ?_
      cases h
      exact a_ireturn rfl rfl rfl rfl rfl dX0_span_24
    replace h := ifn_ c15 h
    cases h
def f_X2_init (F : Nat)  (t : pm_A) (m : pm_M) : Option (Unit × pm_M) :=
  lt_ (pN_ m 106 2 2) fun m1 =>
  lt_ (pR_ m1 t 0 (some ((106, 2, gN_ m)))) fun m3 =>
  some ((), m3)
set_option maxHeartbeats 4000000 in
theorem e_X2_init {G : xg_T} {l : Launch} (hl : l.stackTraces = false) {F : Nat}    {t : pm_A} {m0 m' : pm_M} {r : Unit} (ht : t.1 = 2) (h : f_X2_init F t m0 = some (r, m')) : Cal_ G l yX2_init (ws_ yX2_init cX2_init 1 none) 2 [vR_ (some t)] m0 (.inl none) m' := by
  refine cal_of (by decide +kernel) (Nat.le_of_ble_eq_true rfl) ?_
  unfold f_X2_init at h
  show AW_ cX2_init RX2 (none, "<init>", 2, 1, m0, m', (.inl none), G, l, [], true) m0 0 [(0, vR_ (some t))] []
  refine a_aload_n 0 dX2_init_0 rfl rfl ?_
  refine a_obj q139 q132 q133 (Nat.le_of_ble_eq_true rfl) (Nat.le_of_ble_eq_true rfl) dX2_init_1 ?_
  refine a_aload_n 0 dX2_init_4 rfl rfl ?_
  refine a_iconst (v := 2) dX2_init_5 (by decide) ?_
  obtain ⟨m1, e2, h⟩ := lt_some h
  refine a_newq (t0 := 6) (C := "PassagePapers$Term") (N := 2) (by decide) (by decide) rfl (by decide +kernel) q140 (by decide) rfl (by decide) dX2_init_6 ?_
  rw [← e2]
  obtain ⟨m3, e4, h⟩ := lt_some h
  refine a_putRF kc_2 0 (by decide) rfl ht q142 rfl rfl rfl na_arr dX2_init_9 ?_
  rw [← e4]
  cases h
  exact a_return rfl rfl rfl rfl dX2_init_12
def f_X5_init (F : Nat)  (t : pm_A) (m : pm_M) : Option (Unit × pm_M) :=
  some ((), m)
set_option maxHeartbeats 4000000 in
theorem e_X5_init {G : xg_T} {l : Launch} (hl : l.stackTraces = false) {F : Nat}    {t : pm_A} {m0 m' : pm_M} {r : Unit} (ht : t.1 = 5) (h : f_X5_init F t m0 = some (r, m')) : Cal_ G l yX5_init (ws_ yX5_init cX5_init 1 none) 2 [vR_ (some t)] m0 (.inl none) m' := by
  refine cal_of (by decide +kernel) (Nat.le_of_ble_eq_true rfl) ?_
  unfold f_X5_init at h
  show AW_ cX5_init RX5 (none, "<init>", 2, 1, m0, m', (.inl none), G, l, [], true) m0 0 [(0, vR_ (some t))] []
  refine a_aload_n 0 dX5_init_0 rfl rfl ?_
  refine a_obj q166 q132 q133 (Nat.le_of_ble_eq_true rfl) (Nat.le_of_ble_eq_true rfl) dX5_init_1 ?_
  cases h
  exact a_return rfl rfl rfl rfl dX5_init_4
