/-! PRINTED BY dec.py: X0_work X1_book X0_book X1_told X0_told X1_signerOf X1_signer X0_signer X1_takerOf X1_taker X0_taker X1_asks X0_asks X1_owes -/
set_option maxRecDepth 100000
def f_X0_work (F : Nat)  (i0 : Option pm_A) (i1 : Int32) (i2 : Option pm_A) (m : pm_M) : Option (Int32 × pm_M) :=
  gd_ 1 i0 fun a1 =>
  bt_ (f_X1_work F a1 i1 m) (fun v6 m4 =>
    gd_ 103 i2 fun a9 =>
    iz_ (!(ib_ 0 a9.2.1)) <|
    lt_ (pL_ m4 a9 ((0 : Int32).toNatClampNeg) v6.toInt64) fun m13 =>
    some (0, m13)
  ) fun b8 m7 =>
    if b8.1 = 25 then
      some (1, m7)
    else
    none
set_option maxHeartbeats 4000000 in
theorem e_X0_work {G : xg_T} {l : Launch} (hl : l.stackTraces = false) {F : Nat}    {i0 : Option pm_A} {i1 : Int32} {i2 : Option pm_A} {m0 m' : pm_M} {r : Int32} (h : f_X0_work F i0 i1 i2 m0 = some (r, m')) : Cal_ G l yX0_work (wsW_ yX0_work cX0_work 4 (some .int) [(0, 9, 12, 13)]) 196 [vR_ i0, vI_ i1, vR_ i2] m0 (.inl (some (vI_ r))) m' := by
  refine cal_ofH (by decide +kernel) (Nat.le_of_ble_eq_true rfl) ?_
  unfold f_X0_work at h
  show AW_ cX0_work RX0 (some (.int), "work", 196, 4, m0, m', (.inl (some (vI_ r))), G, l, [(0, 9, 12, 13)], true) m0 0 [(0, vR_ i0), (1, vI_ i1), (2, vR_ i2)] []
  refine a_aload_n 2 dX0_work_0 rfl rfl ?_
  refine a_iconst (v := 0) dX0_work_1 (by decide) ?_
  refine a_aload_n 0 dX0_work_2 rfl rfl ?_
  refine a_iload_n 1 dX0_work_3 rfl rfl ?_
  obtain ⟨a1, e2, f3, h⟩ := gd_some h
  rw [e2]
  rcases bt_some h with ⟨v6, m4, e5, h⟩ | ⟨b8, m7, e5, h⟩
  · have he5 := e_X1_work (G := G) hl f3 e5
    refine c_I (v := v6) he5.1 (rn_VH (n := 1) (As := [vI_ i1]) kc_1 f3 he5 (lw_VW q949 q950 q951 q90 q952) (by decide +kernel) rfl (Nat.le_of_ble_eq_true rfl) (Nat.le_of_ble_eq_true rfl) (Nat.le_of_ble_eq_true rfl) dX0_work_4) (fun z => (os_av (As := [vI_ i1]) z).2.1) ?_
    refine a_i2l dX0_work_7 ?_
    obtain ⟨a9, e10, f11, h⟩ := gd_some h
    rw [e10]
    obtain ⟨c12, h⟩ := iz_some h
    obtain ⟨m13, e14, h⟩ := lt_some h
    refine a_last f11 (bn_ c12) dX0_work_8 ?_
    rw [← e14]
    refine a_goto (tgt := 15) dX0_work_9 (by decide) ?_
    refine a_iconst (v := 0) dX0_work_15 (by decide) ?_
    cases h
    exact a_ireturn rfl rfl rfl rfl rfl dX0_work_16
  · have he5 := e_X1_work (G := G) hl f3 e5
    refine c_X (b := b8) he5.1 (rn_VH (n := 1) (As := [vI_ i1]) kc_1 f3 he5 (lw_VW q949 q950 q951 q90 q952) (by decide +kernel) rfl (Nat.le_of_ble_eq_true rfl) (Nat.le_of_ble_eq_true rfl) (Nat.le_of_ble_eq_true rfl) dX0_work_4) ?_
    by_cases c15 : b8.1 = 25
    · replace h := ifp_ c15 h
      refine a_catch [] ⟨0, 9, 12, 13⟩ [] rfl (fun z hz => nomatch hz) rfl (by decide) q575 (by rw [c15]; exact q587) ?_
      refine a_astore_n (ls' := [(3, vR_ (some b8)), (0, vR_ (some a1)), (1, vI_ i1), (2, vR_ i2)]) dX0_work_12 rfl (Nat.le_of_ble_eq_true rfl) rfl ?_
      refine a_iconst (v := 1) dX0_work_13 (by decide) ?_
      cases h
      exact a_ireturn rfl rfl rfl rfl rfl dX0_work_14
    replace h := ifn_ c15 h
    cases h
def f_X1_book_L65 (F : Nat)  (p117 : pm_A) (p119 : pm_A) (p121 : pm_A) (p123 : Int32) (p124 : pm_A) (p126 : Int32) (p127 : Int32) (k128 : pm_M → Option ((Int32 ⊕ pm_A) × pm_M)) (k130 : Int32 → pm_M → Option ((Int32 ⊕ pm_A) × pm_M)) : Nat → Int32 → pm_M → Option ((Int32 ⊕ pm_A) × pm_M)
  | 0, _, _ => none
  | n133 + 1, x135, m134 =>
    if p123 ≤ x135 then
      k128 m134
    else
      iz_ (!(ib_ x135 p119.2.1)) <|
      if (gI_ m134 p119 x135.toNatClampNeg) = p127 then
        k130 p126 m134
      else
        (f_X1_book_L65 F p117 p119 p121 p123 p124 p126 p127 k128 k130 n133) (x135 + 1) m134
set_option maxHeartbeats 4000000 in
theorem w_X1_book_L65 {G : xg_T} {l : Launch} (hl : l.stackTraces = false) {F : Nat}    (p117 : pm_A) (p119 : pm_A) (p121 : pm_A) (p123 : Int32) (p124 : pm_A) (p126 : Int32) (p127 : Int32) (k128 : pm_M → Option ((Int32 ⊕ pm_A) × pm_M)) (k130 : Int32 → pm_M → Option ((Int32 ⊕ pm_A) × pm_M)) {m0 m' : pm_M} {r : (Int32 ⊕ pm_A)} (hf118 : p117.1 = 1) (hf120 : p119.1 = 100) (hf122 : p121.1 = 100) (hf125 : p124.1 = 10) (hk128 : ∀ (m129 : pm_M), k128 m129 = some (r, m') → AW_ cX1_book RX1 (some (.int), "book", 7, 9, m0, m', (oI_ r), G, l, [(28, 148, 151, 110)], true) m129 98 [(0, vR_ (some p117)), (2, vR_ (some p119)), (3, vR_ (some p121)), (4, vI_ p123), (5, vR_ (some p124)), (6, vI_ p126), (7, vI_ p127)] []) (hk130 : ∀ (x131 : Int32) (m132 : pm_M), k130 x131 m132 = some (r, m') → AW_ cX1_book RX1 (some (.int), "book", 7, 9, m0, m', (oI_ r), G, l, [(28, 148, 151, 110)], true) m132 81 [(0, vR_ (some p117)), (6, vI_ x131)] []) : ∀ (n : Nat) (x135 : Int32) (m134 : pm_M), f_X1_book_L65 F p117 p119 p121 p123 p124 p126 p127 k128 k130 n x135 m134 = some (r, m') → AW_ cX1_book RX1 (some (.int), "book", 7, 9, m0, m', (oI_ r), G, l, [(28, 148, 151, 110)], true) m134 65 [(0, vR_ (some p117)), (2, vR_ (some p119)), (3, vR_ (some p121)), (4, vI_ p123), (5, vR_ (some p124)), (6, vI_ p126), (7, vI_ p127), (8, vI_ x135)] [] := by
  intro n
  induction n with
  | zero => intro x135 m134 h; cases h
  | succ n133 ih =>
    intro x135 m134 h
    rw [f_X1_book_L65] at h
    refine a_iload 7 dX1_book_65 rfl ?_
    refine a_iload 3 dX1_book_67 rfl ?_
    refine a_icmp_ge (tgt := 98) dX1_book_69 (by decide) (fun c136 => ?_) (fun c136 => ?_)
    · replace h := ifp_ c136 h
      refine aw_pick [0, 1, 2, 3, 4, 5, 6] rfl ?_
      exact hk128 _ h
    · replace h := ifn_ c136 h
      refine a_aload_n 1 dX1_book_72 rfl rfl ?_
      refine a_iload 7 dX1_book_73 rfl ?_
      obtain ⟨c137, h⟩ := iz_some h
      refine a_iald hf120 (bn_ c137) dX1_book_75 ?_
      refine a_iload 6 dX1_book_76 rfl ?_
      refine a_icmp_ne (tgt := 92) dX1_book_78 (by decide) (fun c138 => ?_) (fun c138 => ?_)
      · replace h := ifn_ c138 h
        refine a_iinc (v := x135 + 1) (ls' := [(8, vI_ (x135 + 1)), (0, vR_ (some p117)), (2, vR_ (some p119)), (3, vR_ (some p121)), (4, vI_ p123), (5, vR_ (some p124)), (6, vI_ p126), (7, vI_ p127)]) 7 dX1_book_92 rfl rfl (Nat.le_of_ble_eq_true rfl) rfl ?_
        refine a_goto (tgt := 65) dX1_book_95 (by decide) ?_
        refine aw_pick [1, 2, 3, 4, 5, 6, 7, 0] rfl ?_
        exact ih _ _ h
      · replace h := ifp_ c138 h
        refine aw_pick [0, 5] rfl ?_
        exact hk130 _ _ h
def f_X1_book_L35 (F : Nat)  (p55 : pm_A) (p57 : pm_A) (p59 : pm_A) (p61 : Option pm_A) (k62 : Int32 → pm_M → Option ((Int32 ⊕ pm_A) × pm_M)) (k65 : Int32 → pm_M → Option ((Int32 ⊕ pm_A) × pm_M)) (k68 : Int32 → pm_M → Option ((Int32 ⊕ pm_A) × pm_M)) : Nat → Int32 → pm_M → Option ((Int32 ⊕ pm_A) × pm_M)
  | 0, _, _ => none
  | n71 + 1, x73, m72 =>
    gd_ 10 p61 fun a74 =>
    bm_ (f_X10_now F a74 m72) fun v79 m77 =>
    if v79 = ((-1)) then
      k62 x73 m77
    else
      bm_ (f_X10_place F a74 m77) fun v83 m81 =>
      bt_ (f_X10_number F a74 0 499 m81) (fun v86 m84 =>
        jn_ (fun  (m90 : pm_M) =>
          if x73 = 8 then
            k68 v83 m90
          else
            iz_ (!(ib_ x73 p57.2.1)) <|
            lt_ (pI_ m90 p57 x73.toNatClampNeg v86) fun m93 =>
            bt_ (f_X10_number F a74 0 999 m93) (fun v97 m95 =>
              iz_ (!(ib_ x73 p59.2.1)) <|
              lt_ (pI_ m95 p59 x73.toNatClampNeg v97) fun m101 =>
              bt_ (f_X10_sign F a74 59 m101) (fun v105 m103 =>
                (f_X1_book_L35 F p55 p57 p59 p61 k62 k65 k68 n71) (x73 + 1) m103
              ) fun b107 m106 =>
                if b107.1 = 11 then
                  bm_ (f_X1_faulty F p55 (some b107) m106) fun v112 m110 =>
                  some (.inl v112, m110)
                else
                none
            ) fun b99 m98 =>
              if b99.1 = 11 then
                bm_ (f_X1_faulty F p55 (some b99) m98) fun v116 m114 =>
                some (.inl v116, m114)
              else
              none
        ) fun k89 =>
        f_X1_book_L65 F p55 p57 p59 x73 a74 v83 v86 k89 k65 F 0 m84
      ) fun b88 m87 =>
        if b88.1 = 11 then
          bm_ (f_X1_faulty F p55 (some b88) m87) fun v143 m141 =>
          some (.inl v143, m141)
        else
        none
set_option maxHeartbeats 4000000 in
theorem w_X1_book_L35 {G : xg_T} {l : Launch} (hl : l.stackTraces = false) {F : Nat}    (p55 : pm_A) (p57 : pm_A) (p59 : pm_A) (p61 : Option pm_A) (k62 : Int32 → pm_M → Option ((Int32 ⊕ pm_A) × pm_M)) (k65 : Int32 → pm_M → Option ((Int32 ⊕ pm_A) × pm_M)) (k68 : Int32 → pm_M → Option ((Int32 ⊕ pm_A) × pm_M)) {m0 m' : pm_M} {r : (Int32 ⊕ pm_A)} (hf56 : p55.1 = 1) (hf58 : p57.1 = 100) (hf60 : p59.1 = 100) (hk62 : ∀ (x63 : Int32) (m64 : pm_M), k62 x63 m64 = some (r, m') → AW_ cX1_book RX1 (some (.int), "book", 7, 9, m0, m', (oI_ r), G, l, [(28, 148, 151, 110)], true) m64 148 [(0, vR_ (some p55)), (2, vR_ (some p57)), (3, vR_ (some p59)), (4, vI_ x63)] []) (hk65 : ∀ (x66 : Int32) (m67 : pm_M), k65 x66 m67 = some (r, m') → AW_ cX1_book RX1 (some (.int), "book", 7, 9, m0, m', (oI_ r), G, l, [(28, 148, 151, 110)], true) m67 81 [(0, vR_ (some p55)), (6, vI_ x66)] []) (hk68 : ∀ (x69 : Int32) (m70 : pm_M), k68 x69 m70 = some (r, m') → AW_ cX1_book RX1 (some (.int), "book", 7, 9, m0, m', (oI_ r), G, l, [(28, 148, 151, 110)], true) m70 105 [(0, vR_ (some p55)), (6, vI_ x69)] []) : ∀ (n : Nat) (x73 : Int32) (m72 : pm_M), f_X1_book_L35 F p55 p57 p59 p61 k62 k65 k68 n x73 m72 = some (r, m') → AW_ cX1_book RX1 (some (.int), "book", 7, 9, m0, m', (oI_ r), G, l, [(28, 148, 151, 110)], true) m72 35 [(0, vR_ (some p55)), (2, vR_ (some p57)), (3, vR_ (some p59)), (4, vI_ x73), (5, vR_ p61)] [] := by
  intro n
  induction n with
  | zero => intro x73 m72 h; cases h
  | succ n71 ih =>
    intro x73 m72 h
    rw [f_X1_book_L35] at h
    refine a_aload 4 dX1_book_35 rfl ?_
    obtain ⟨a74, e75, f76, h⟩ := gd_some h
    rw [e75]
    obtain ⟨v79, m77, e78, h⟩ := bm_some h
    have he78 := e_X10_now (G := G) hl f76 e78
    refine c_I he78.1 (rn_V (n := 0) (As := []) kc_10 f76 he78 (lw_V q1213 q705 q706 q103 q707) (by decide +kernel) rfl (Nat.le_of_ble_eq_true rfl) (Nat.le_of_ble_eq_true rfl) (Nat.le_of_ble_eq_true rfl) dX1_book_37) (fun z => (os_av (As := []) z).2.1) ?_
    refine a_iconst (v := (-1)) dX1_book_40 (by decide) ?_
    refine a_icmp_eq (tgt := 148) dX1_book_41 (by decide) (fun c80 => ?_) (fun c80 => ?_)
    · replace h := ifp_ c80 h
      refine aw_pick [0, 1, 2, 3] rfl ?_
      exact hk62 _ _ h
    · replace h := ifn_ c80 h
      refine a_aload 4 dX1_book_44 rfl ?_
      obtain ⟨v83, m81, e82, h⟩ := bm_some h
      have he82 := e_X10_place (G := G) hl f76 e82
      refine c_I he82.1 (rn_V (n := 0) (As := []) kc_10 f76 he82 (lw_V q1214 q717 q718 q103 q719) (by decide +kernel) rfl (Nat.le_of_ble_eq_true rfl) (Nat.le_of_ble_eq_true rfl) (Nat.le_of_ble_eq_true rfl) dX1_book_46) (fun z => (os_av (As := []) z).2.1) ?_
      refine a_istore (ls' := [(6, vI_ v83), (0, vR_ (some p55)), (2, vR_ (some p57)), (3, vR_ (some p59)), (4, vI_ x73), (5, vR_ (some a74))]) dX1_book_49 (Nat.le_of_ble_eq_true rfl) rfl ?_
      refine a_aload 5 dX1_book_51 rfl ?_
      refine a_iconst (v := 0) dX1_book_53 (by decide) ?_
      refine a_sipush (v := 499) dX1_book_54 (by decide) ?_
      rcases bt_some h with ⟨v86, m84, e85, h⟩ | ⟨b88, m87, e85, h⟩
      · have he85 := e_X10_number (G := G) hl f76 e85
        refine c_I (v := v86) he85.1 (rn_V (n := 2) (As := [vI_ 0, vI_ 499]) kc_10 f76 he85 (lw_V q1215 q818 q819 q103 q820) (by decide +kernel) rfl (Nat.le_of_ble_eq_true rfl) (Nat.le_of_ble_eq_true rfl) (Nat.le_of_ble_eq_true rfl) dX1_book_57) (fun z => (os_av (As := [vI_ 0, vI_ 499]) z).2.1) ?_
        refine a_istore (ls' := [(7, vI_ v86), (6, vI_ v83), (0, vR_ (some p55)), (2, vR_ (some p57)), (3, vR_ (some p59)), (4, vI_ x73), (5, vR_ (some a74))]) dX1_book_60 (Nat.le_of_ble_eq_true rfl) rfl ?_
        refine a_iconst (v := 0) dX1_book_62 (by decide) ?_
        refine a_istore (ls' := [(8, vI_ 0), (7, vI_ v86), (6, vI_ v83), (0, vR_ (some p55)), (2, vR_ (some p57)), (3, vR_ (some p59)), (4, vI_ x73), (5, vR_ (some a74))]) dX1_book_63 (Nat.le_of_ble_eq_true rfl) rfl ?_
        obtain ⟨k89, e139, h⟩ := jn1_some h
        have hk89 : ∀  (m90 : pm_M), k89 m90 = some (r, m') → AW_ cX1_book RX1 (some (.int), "book", 7, 9, m0, m', (oI_ r), G, l, [(28, 148, 151, 110)], true) m90 98 [(0, vR_ (some p55)), (2, vR_ (some p57)), (3, vR_ (some p59)), (4, vI_ x73), (5, vR_ (some a74)), (6, vI_ v83), (7, vI_ v86)] [] := by
          intro m90 h
          have h := (e139 m90).symm.trans h
          refine a_iload 3 dX1_book_98 rfl ?_
          refine a_bipush (v := 8) dX1_book_100 (by decide) ?_
          refine a_icmp_ne (tgt := 116) dX1_book_102 (by decide) (fun c91 => ?_) (fun c91 => ?_)
          · replace h := ifn_ c91 h
            refine a_aload_n 1 dX1_book_116 rfl rfl ?_
            refine a_iload 3 dX1_book_117 rfl ?_
            refine a_iload 6 dX1_book_119 rfl ?_
            obtain ⟨c92, h⟩ := iz_some h
            obtain ⟨m93, e94, h⟩ := lt_some h
            refine a_iast hf58 (bn_ c92) dX1_book_121 ?_
            rw [← e94]
            refine a_aload_n 2 dX1_book_122 rfl rfl ?_
            refine a_iload 3 dX1_book_123 rfl ?_
            refine a_aload 4 dX1_book_125 rfl ?_
            refine a_iconst (v := 0) dX1_book_127 (by decide) ?_
            refine a_sipush (v := 999) dX1_book_128 (by decide) ?_
            rcases bt_some h with ⟨v97, m95, e96, h⟩ | ⟨b99, m98, e96, h⟩
            · have he96 := e_X10_number (G := G) hl f76 e96
              refine c_I (v := v97) he96.1 (rn_V (n := 2) (As := [vI_ 0, vI_ 999]) kc_10 f76 he96 (lw_V q1215 q818 q819 q103 q820) (by decide +kernel) rfl (Nat.le_of_ble_eq_true rfl) (Nat.le_of_ble_eq_true rfl) (Nat.le_of_ble_eq_true rfl) dX1_book_131) (fun z => (os_av (As := [vI_ 0, vI_ 999]) z).2.1) ?_
              obtain ⟨c100, h⟩ := iz_some h
              obtain ⟨m101, e102, h⟩ := lt_some h
              refine a_iast hf60 (bn_ c100) dX1_book_134 ?_
              rw [← e102]
              refine a_aload 4 dX1_book_135 rfl ?_
              refine a_bipush (v := 59) dX1_book_137 (by decide) ?_
              rcases bt_some h with ⟨v105, m103, e104, h⟩ | ⟨b107, m106, e104, h⟩
              · have he104 := e_X10_sign (G := G) hl f76 e104
                refine c_V he104.1 (rn_V (n := 1) (As := [vI_ 59]) kc_10 f76 he104 (lw_V q1217 q833 q834 q103 q835) (by decide +kernel) rfl (Nat.le_of_ble_eq_true rfl) (Nat.le_of_ble_eq_true rfl) (Nat.le_of_ble_eq_true rfl) dX1_book_139) (fun z => (os_av (As := [vI_ 59]) z).2.1) ?_
                refine a_iinc (v := x73 + 1) (ls' := [(4, vI_ (x73 + 1)), (0, vR_ (some p55)), (2, vR_ (some p57)), (3, vR_ (some p59)), (5, vR_ (some a74)), (6, vI_ v83), (7, vI_ v86)]) 3 dX1_book_142 rfl rfl (Nat.le_of_ble_eq_true rfl) rfl ?_
                refine a_goto (tgt := 35) dX1_book_145 (by decide) ?_
                refine aw_pick [1, 2, 3, 0, 4] rfl ?_
                have q108 := ih _ _ h
                rw [e75] at q108
                exact q108
              · have he104 := e_X10_sign (G := G) hl f76 e104
                refine c_X (b := b107) he104.1 (rn_V (n := 1) (As := [vI_ 59]) kc_10 f76 he104 (lw_V q1217 q833 q834 q103 q835) (by decide +kernel) rfl (Nat.le_of_ble_eq_true rfl) (Nat.le_of_ble_eq_true rfl) (Nat.le_of_ble_eq_true rfl) dX1_book_139) ?_
                by_cases c109 : b107.1 = 11
                · replace h := ifp_ c109 h
                  refine a_catch [] ⟨28, 148, 151, 110⟩ [] rfl (fun z hz => nomatch hz) rfl (by decide) q580 (by rw [c109]; exact q783) ?_
                  refine a_astore (ls' := [(5, vR_ (some b107)), (0, vR_ (some p55)), (2, vR_ (some p57)), (3, vR_ (some p59)), (4, vI_ x73), (6, vI_ v83), (7, vI_ v86)]) dX1_book_151 (Nat.le_of_ble_eq_true rfl) rfl ?_
                  refine a_aload_n 1 dX1_book_153 rfl rfl ?_
                  refine a_aload 0 dX1_book_154 rfl ?_
                  obtain ⟨v112, m110, e111, h⟩ := bm_some h
                  have he111 := e_X1_faulty (G := G) hl hf56 e111
                  refine c_I he111.1 (rn_V (n := 1) (As := [vR_ (some b107)]) kc_1 hf56 he111 (lw_V q836 q838 qs7 q90 q839) (by decide +kernel) rfl (Nat.le_of_ble_eq_true rfl) (Nat.le_of_ble_eq_true rfl) (Nat.le_of_ble_eq_true rfl) dX1_book_156) (fun z => (os_av (As := [vR_ (some b107)]) z).2.1) ?_
                  cases h
                  exact a_ireturn rfl rfl rfl rfl rfl dX1_book_159
                replace h := ifn_ c109 h
                cases h
            · have he96 := e_X10_number (G := G) hl f76 e96
              refine c_X (b := b99) he96.1 (rn_V (n := 2) (As := [vI_ 0, vI_ 999]) kc_10 f76 he96 (lw_V q1215 q818 q819 q103 q820) (by decide +kernel) rfl (Nat.le_of_ble_eq_true rfl) (Nat.le_of_ble_eq_true rfl) (Nat.le_of_ble_eq_true rfl) dX1_book_131) ?_
              by_cases c113 : b99.1 = 11
              · replace h := ifp_ c113 h
                refine a_catch [] ⟨28, 148, 151, 110⟩ [] rfl (fun z hz => nomatch hz) rfl (by decide) q580 (by rw [c113]; exact q783) ?_
                refine a_astore (ls' := [(5, vR_ (some b99)), (0, vR_ (some p55)), (2, vR_ (some p57)), (3, vR_ (some p59)), (4, vI_ x73), (6, vI_ v83), (7, vI_ v86)]) dX1_book_151 (Nat.le_of_ble_eq_true rfl) rfl ?_
                refine a_aload_n 1 dX1_book_153 rfl rfl ?_
                refine a_aload 0 dX1_book_154 rfl ?_
                obtain ⟨v116, m114, e115, h⟩ := bm_some h
                have he115 := e_X1_faulty (G := G) hl hf56 e115
                refine c_I he115.1 (rn_V (n := 1) (As := [vR_ (some b99)]) kc_1 hf56 he115 (lw_V q836 q838 qs7 q90 q839) (by decide +kernel) rfl (Nat.le_of_ble_eq_true rfl) (Nat.le_of_ble_eq_true rfl) (Nat.le_of_ble_eq_true rfl) dX1_book_156) (fun z => (os_av (As := [vR_ (some b99)]) z).2.1) ?_
                cases h
                exact a_ireturn rfl rfl rfl rfl rfl dX1_book_159
              replace h := ifn_ c113 h
              cases h
          · replace h := ifp_ c91 h
            refine aw_pick [0, 5] rfl ?_
            exact hk68 _ _ h
        refine aw_pick [3, 4, 5, 6, 7, 2, 1, 0] rfl ?_
        exact w_X1_book_L65 hl _ _ _ _ _ _ _ _ _ hf56 hf58 hf60 f76 hk89 hk65 _ _ _ h
      · have he85 := e_X10_number (G := G) hl f76 e85
        refine c_X (b := b88) he85.1 (rn_V (n := 2) (As := [vI_ 0, vI_ 499]) kc_10 f76 he85 (lw_V q1215 q818 q819 q103 q820) (by decide +kernel) rfl (Nat.le_of_ble_eq_true rfl) (Nat.le_of_ble_eq_true rfl) (Nat.le_of_ble_eq_true rfl) dX1_book_57) ?_
        by_cases c140 : b88.1 = 11
        · replace h := ifp_ c140 h
          refine a_catch [] ⟨28, 148, 151, 110⟩ [] rfl (fun z hz => nomatch hz) rfl (by decide) q580 (by rw [c140]; exact q783) ?_
          refine a_astore (ls' := [(5, vR_ (some b88)), (6, vI_ v83), (0, vR_ (some p55)), (2, vR_ (some p57)), (3, vR_ (some p59)), (4, vI_ x73)]) dX1_book_151 (Nat.le_of_ble_eq_true rfl) rfl ?_
          refine a_aload_n 2 dX1_book_153 rfl rfl ?_
          refine a_aload 0 dX1_book_154 rfl ?_
          obtain ⟨v143, m141, e142, h⟩ := bm_some h
          have he142 := e_X1_faulty (G := G) hl hf56 e142
          refine c_I he142.1 (rn_V (n := 1) (As := [vR_ (some b88)]) kc_1 hf56 he142 (lw_V q836 q838 qs7 q90 q839) (by decide +kernel) rfl (Nat.le_of_ble_eq_true rfl) (Nat.le_of_ble_eq_true rfl) (Nat.le_of_ble_eq_true rfl) dX1_book_156) (fun z => (os_av (As := [vR_ (some b88)]) z).2.1) ?_
          cases h
          exact a_ireturn rfl rfl rfl rfl rfl dX1_book_159
        replace h := ifn_ c140 h
        cases h
def f_X1_book (F : Nat)  (t : pm_A) (i0 : Int32) (m : pm_M) : Option ((Int32 ⊕ pm_A) × pm_M) :=
  bm_ (f_J8_min F (gI_ m t 13) 100 m) fun v3 m1 =>
  bt_ (f_X1_within F t i0 0 v3 m1) (fun v6 m4 =>
    lt_ (pN_ m4 100 8 8) fun m9 =>
    lt_ (pN_ m9 100 8 8) fun m11 =>
    bm_ (f_X1_reader F t i0 m11) fun v15 m13 =>
    jn_ (fun (x18 : Int32) (m17 : pm_M) =>
      lt_ (pI_ m17 t 15 x18) fun m19 =>
      gd_ 100 (gR_ m19 t 8) fun a21 =>
      iz_ (!(decide (0 + 8 ≤ ((100, 8, gN_ m4)).2.1) && decide (0 + 8 ≤ a21.2.1))) <|
      lt_ (pC_ m19 ((100, 8, gN_ m4)) 0 a21 0 8) fun m25 =>
      gd_ 100 (gR_ m25 t 9) fun a27 =>
      iz_ (!(decide (0 + 8 ≤ ((100, 8, gN_ m9)).2.1) && decide (0 + 8 ≤ a27.2.1))) <|
      lt_ (pC_ m25 ((100, 8, gN_ m9)) 0 a27 0 8) fun m31 =>
      some (.inl (gI_ m31 t 15), m31)
    ) fun k16 =>
    jn_ (fun (x35 : Int32) (m34 : pm_M) =>
      lt_ (pN_ m34 11 0 8) fun m36 =>
      bm_ (f_X11_init F ((11, 0, gN_ m34)) 3 x35 m36) fun v40 m38 =>
      bm_ (f_X1_faulty F t (some ((11, 0, gN_ m34))) m38) fun v43 m41 =>
      some (.inl v43, m41)
    ) fun k33 =>
    jn_ (fun (x46 : Int32) (m45 : pm_M) =>
      lt_ (pN_ m45 11 0 8) fun m47 =>
      bm_ (f_X11_init F ((11, 0, gN_ m45)) 2 x46 m47) fun v51 m49 =>
      bm_ (f_X1_faulty F t (some ((11, 0, gN_ m45))) m49) fun v54 m52 =>
      some (.inl v54, m52)
    ) fun k44 =>
    f_X1_book_L35 F t ((100, 8, gN_ m4)) ((100, 8, gN_ m9)) v15 k16 k44 k33 F 0 m13
  ) fun b8 m7 =>
    some (.inr b8, m7)
set_option maxHeartbeats 4000000 in
theorem e_X1_book {G : xg_T} {l : Launch} (hl : l.stackTraces = false) {F : Nat}    {t : pm_A} {i0 : Int32} {m0 m' : pm_M} {r : (Int32 ⊕ pm_A)} (ht : t.1 = 1) (h : f_X1_book F t i0 m0 = some (r, m')) : Cal_ G l yX1_book (wsW_ yX1_book cX1_book 9 (some .int) [(28, 148, 151, 110)]) 7 [vR_ (some t), vI_ i0] m0 (oI_ r) m' := by
  refine cal_ofH (by decide +kernel) (Nat.le_of_ble_eq_true rfl) ?_
  unfold f_X1_book at h
  show AW_ cX1_book RX1 (some (.int), "book", 7, 9, m0, m', (oI_ r), G, l, [(28, 148, 151, 110)], true) m0 0 [(0, vR_ (some t)), (1, vI_ i0)] []
  refine a_aload_n 0 dX1_book_0 rfl rfl ?_
  refine a_iload_n 1 dX1_book_1 rfl rfl ?_
  refine a_iconst (v := 0) dX1_book_2 (by decide) ?_
  refine a_aload_n 0 dX1_book_3 rfl rfl ?_
  refine a_getI kc_1 13 (by decide) rfl ht q401 dX1_book_4 ?_
  refine a_bipush (v := 100) dX1_book_7 (by decide) ?_
  obtain ⟨v3, m1, e2, h⟩ := bm_some h
  have he2 := e_J8_min (G := G) hl e2
  refine c_I he2.1 (rn_S (n := 2) (As := [vI_ (gI_ m0 t 13), vI_ 100]) he2 (lw_S q847 q521 q109 q522) (by decide +kernel) rfl (Nat.le_of_ble_eq_true rfl) (Nat.le_of_ble_eq_true rfl) (Nat.le_of_ble_eq_true rfl) dX1_book_9) (fun z => (os_aS (As := [vI_ (gI_ m0 t 13), vI_ 100]) z).2) ?_
  rcases bt_some h with ⟨v6, m4, e5, h⟩ | ⟨b8, m7, e5, h⟩
  · have he5 := e_X1_within (G := G) hl ht e5
    refine c_V he5.1 (rn_V (n := 3) (As := [vI_ i0, vI_ 0, vI_ v3]) kc_1 ht he5 (lw_V q581 q583 qs0 q90 q584) (by decide +kernel) rfl (Nat.le_of_ble_eq_true rfl) (Nat.le_of_ble_eq_true rfl) (Nat.le_of_ble_eq_true rfl) dX1_book_12) (fun z => (os_av (As := [vI_ i0, vI_ 0, vI_ v3]) z).2.1) ?_
    refine a_bipush (v := 8) dX1_book_15 (by decide) ?_
    obtain ⟨m9, e10, h⟩ := lt_some h
    refine a_newI (N := 8) q208 (by decide) rfl (by decide) dX1_book_17 ?_
    rw [← e10]
    refine a_astore_n (ls' := [(2, vR_ (some ((100, 8, gN_ m4)))), (0, vR_ (some t)), (1, vI_ i0)]) dX1_book_19 rfl (Nat.le_of_ble_eq_true rfl) rfl ?_
    refine a_bipush (v := 8) dX1_book_20 (by decide) ?_
    obtain ⟨m11, e12, h⟩ := lt_some h
    refine a_newI (N := 8) q208 (by decide) rfl (by decide) dX1_book_22 ?_
    rw [← e12]
    refine a_astore_n (ls' := [(3, vR_ (some ((100, 8, gN_ m9)))), (2, vR_ (some ((100, 8, gN_ m4)))), (0, vR_ (some t)), (1, vI_ i0)]) dX1_book_24 rfl (Nat.le_of_ble_eq_true rfl) rfl ?_
    refine a_iconst (v := 0) dX1_book_25 (by decide) ?_
    refine a_istore (ls' := [(4, vI_ 0), (3, vR_ (some ((100, 8, gN_ m9)))), (2, vR_ (some ((100, 8, gN_ m4)))), (0, vR_ (some t)), (1, vI_ i0)]) dX1_book_26 (Nat.le_of_ble_eq_true rfl) rfl ?_
    refine a_aload_n 3 dX1_book_28 rfl rfl ?_
    refine a_iload_n 4 dX1_book_29 rfl rfl ?_
    obtain ⟨v15, m13, e14, h⟩ := bm_some h
    have he14 := e_X1_reader (G := G) hl ht e14
    refine c_R he14.1 (rn_V (n := 1) (As := [vI_ i0]) kc_1 ht he14 (lw_V q651 q653 qs2 q90 q654) (by decide +kernel) rfl (Nat.le_of_ble_eq_true rfl) (Nat.le_of_ble_eq_true rfl) (Nat.le_of_ble_eq_true rfl) dX1_book_30) (fun z => (os_av (As := [vI_ i0]) z).2.1) ?_
    refine a_astore (ls' := [(5, vR_ v15), (4, vI_ 0), (3, vR_ (some ((100, 8, gN_ m9)))), (2, vR_ (some ((100, 8, gN_ m4)))), (0, vR_ (some t)), (1, vI_ i0)]) dX1_book_33 (Nat.le_of_ble_eq_true rfl) rfl ?_
    obtain ⟨k16, e146, h⟩ := jn2_some h
    have hk16 : ∀ (x18 : Int32) (m17 : pm_M), k16 x18 m17 = some (r, m') → AW_ cX1_book RX1 (some (.int), "book", 7, 9, m0, m', (oI_ r), G, l, [(28, 148, 151, 110)], true) m17 148 [(0, vR_ (some t)), (2, vR_ (some ((100, 8, gN_ m4)))), (3, vR_ (some ((100, 8, gN_ m9)))), (4, vI_ x18)] [] := by
      intro x18 m17 h
      have h := (e146 x18 m17).symm.trans h
      refine a_goto (tgt := 160) dX1_book_148 (by decide) ?_
      refine a_aload_n 0 dX1_book_160 rfl rfl ?_
      refine a_iload 3 dX1_book_161 rfl ?_
      obtain ⟨m19, e20, h⟩ := lt_some h
      refine a_putI kc_1 15 (by decide) rfl ht q403 rfl rfl rfl dX1_book_163 ?_
      rw [← e20]
      refine a_aload_n 1 dX1_book_166 rfl rfl ?_
      refine a_iconst (v := 0) dX1_book_167 (by decide) ?_
      refine a_aload_n 0 dX1_book_168 rfl rfl ?_
      refine a_getR kc_1 8 (by decide) rfl ht q396 dX1_book_169 ?_
      refine a_iconst (v := 0) dX1_book_172 (by decide) ?_
      refine a_bipush (v := 8) dX1_book_173 (by decide) ?_
      obtain ⟨a21, e22, f23, h⟩ := gd_some h
      rw [e22]
      obtain ⟨c24, h⟩ := iz_some h
      have c24 := da_ok (bn_ c24)
      obtain ⟨m25, e26, h⟩ := lt_some h
      refine a_cpyI q1218 rfl f23 (by decide) (by decide) (by decide) c24.1 c24.2 (Nat.le_of_ble_eq_true rfl) (Nat.le_of_ble_eq_true rfl) dX1_book_175 ?_
      rw [show pC_ _ _ (Int32.toNatClampNeg 0) _ (Int32.toNatClampNeg 0) (Int32.toNatClampNeg 8) = pC_ _ _ 0 _ 0 8 from rfl, ← e26]
      refine a_aload_n 2 dX1_book_178 rfl rfl ?_
      refine a_iconst (v := 0) dX1_book_179 (by decide) ?_
      refine a_aload_n 0 dX1_book_180 rfl rfl ?_
      refine a_getR kc_1 9 (by decide) rfl ht q397 dX1_book_181 ?_
      refine a_iconst (v := 0) dX1_book_184 (by decide) ?_
      refine a_bipush (v := 8) dX1_book_185 (by decide) ?_
      obtain ⟨a27, e28, f29, h⟩ := gd_some h
      rw [e28]
      obtain ⟨c30, h⟩ := iz_some h
      have c30 := da_ok (bn_ c30)
      obtain ⟨m31, e32, h⟩ := lt_some h
      refine a_cpyI q1218 rfl f29 (by decide) (by decide) (by decide) c30.1 c30.2 (Nat.le_of_ble_eq_true rfl) (Nat.le_of_ble_eq_true rfl) dX1_book_187 ?_
      rw [show pC_ _ _ (Int32.toNatClampNeg 0) _ (Int32.toNatClampNeg 0) (Int32.toNatClampNeg 8) = pC_ _ _ 0 _ 0 8 from rfl, ← e32]
      refine a_aload_n 0 dX1_book_190 rfl rfl ?_
      refine a_getI kc_1 15 (by decide) rfl ht q403 dX1_book_191 ?_
      cases h
      exact a_ireturn rfl rfl rfl rfl rfl dX1_book_194
    obtain ⟨k33, e145, h⟩ := jn2_some h
    have hk33 : ∀ (x35 : Int32) (m34 : pm_M), k33 x35 m34 = some (r, m') → AW_ cX1_book RX1 (some (.int), "book", 7, 9, m0, m', (oI_ r), G, l, [(28, 148, 151, 110)], true) m34 105 [(0, vR_ (some t)), (6, vI_ x35)] [] := by
      intro x35 m34 h
      have h := (e145 x35 m34).symm.trans h
      obtain ⟨m36, e37, h⟩ := lt_some h
      refine a_new kc_11 q580 q782 q108 dX1_book_105 ?_
      rw [← e37]
      refine a_dup dX1_book_108 rfl ?_
      refine a_iconst (v := 3) dX1_book_109 (by decide) ?_
      refine a_iload 1 dX1_book_110 rfl ?_
      obtain ⟨v40, m38, e39, h⟩ := bm_some h
      have he39 := e_X11_init (G := G) hl rfl e39
      refine c_V he39.1 (rn_I (n := 2) (As := [vI_ 3, vI_ x35]) he39 q1216 q791 q108 q792 rfl (by decide +kernel) rfl (Nat.le_of_ble_eq_true rfl) (Nat.le_of_ble_eq_true rfl) (Nat.le_of_ble_eq_true rfl) dX1_book_112) (fun z => (os_av (As := [vI_ 3, vI_ x35]) z).2.1) ?_
      refine a_athrow kc_11 rfl dX1_book_115 ?_
      refine a_catch [] ⟨28, 148, 151, 110⟩ [] rfl (fun z hz => nomatch hz) rfl (by decide) q580 q783 ?_
      refine a_astore (ls' := [(5, vR_ (some ((11, 0, gN_ m34)))), (0, vR_ (some t)), (6, vI_ x35)]) dX1_book_151 (Nat.le_of_ble_eq_true rfl) rfl ?_
      refine a_aload_n 1 dX1_book_153 rfl rfl ?_
      refine a_aload 0 dX1_book_154 rfl ?_
      obtain ⟨v43, m41, e42, h⟩ := bm_some h
      have he42 := e_X1_faulty (G := G) hl ht e42
      refine c_I he42.1 (rn_V (n := 1) (As := [vR_ (some ((11, 0, gN_ m34)))]) kc_1 ht he42 (lw_V q836 q838 qs7 q90 q839) (by decide +kernel) rfl (Nat.le_of_ble_eq_true rfl) (Nat.le_of_ble_eq_true rfl) (Nat.le_of_ble_eq_true rfl) dX1_book_156) (fun z => (os_av (As := [vR_ (some ((11, 0, gN_ m34)))]) z).2.1) ?_
      cases h
      exact a_ireturn rfl rfl rfl rfl rfl dX1_book_159
    obtain ⟨k44, e144, h⟩ := jn2_some h
    have hk44 : ∀ (x46 : Int32) (m45 : pm_M), k44 x46 m45 = some (r, m') → AW_ cX1_book RX1 (some (.int), "book", 7, 9, m0, m', (oI_ r), G, l, [(28, 148, 151, 110)], true) m45 81 [(0, vR_ (some t)), (6, vI_ x46)] [] := by
      intro x46 m45 h
      have h := (e144 x46 m45).symm.trans h
      obtain ⟨m47, e48, h⟩ := lt_some h
      refine a_new kc_11 q580 q782 q108 dX1_book_81 ?_
      rw [← e48]
      refine a_dup dX1_book_84 rfl ?_
      refine a_iconst (v := 2) dX1_book_85 (by decide) ?_
      refine a_iload 1 dX1_book_86 rfl ?_
      obtain ⟨v51, m49, e50, h⟩ := bm_some h
      have he50 := e_X11_init (G := G) hl rfl e50
      refine c_V he50.1 (rn_I (n := 2) (As := [vI_ 2, vI_ x46]) he50 q1216 q791 q108 q792 rfl (by decide +kernel) rfl (Nat.le_of_ble_eq_true rfl) (Nat.le_of_ble_eq_true rfl) (Nat.le_of_ble_eq_true rfl) dX1_book_88) (fun z => (os_av (As := [vI_ 2, vI_ x46]) z).2.1) ?_
      refine a_athrow kc_11 rfl dX1_book_91 ?_
      refine a_catch [] ⟨28, 148, 151, 110⟩ [] rfl (fun z hz => nomatch hz) rfl (by decide) q580 q783 ?_
      refine a_astore (ls' := [(5, vR_ (some ((11, 0, gN_ m45)))), (0, vR_ (some t)), (6, vI_ x46)]) dX1_book_151 (Nat.le_of_ble_eq_true rfl) rfl ?_
      refine a_aload_n 1 dX1_book_153 rfl rfl ?_
      refine a_aload 0 dX1_book_154 rfl ?_
      obtain ⟨v54, m52, e53, h⟩ := bm_some h
      have he53 := e_X1_faulty (G := G) hl ht e53
      refine c_I he53.1 (rn_V (n := 1) (As := [vR_ (some ((11, 0, gN_ m45)))]) kc_1 ht he53 (lw_V q836 q838 qs7 q90 q839) (by decide +kernel) rfl (Nat.le_of_ble_eq_true rfl) (Nat.le_of_ble_eq_true rfl) (Nat.le_of_ble_eq_true rfl) dX1_book_156) (fun z => (os_av (As := [vR_ (some ((11, 0, gN_ m45)))]) z).2.1) ?_
      cases h
      exact a_ireturn rfl rfl rfl rfl rfl dX1_book_159
    refine aw_pick [4, 3, 2, 1, 0] rfl ?_
    exact w_X1_book_L35 hl _ _ _ _ _ _ _ ht rfl rfl hk16 hk44 hk33 _ _ _ h
  · have he5 := e_X1_within (G := G) hl ht e5
    refine c_X (b := b8) he5.1 (rn_V (n := 3) (As := [vI_ i0, vI_ 0, vI_ v3]) kc_1 ht he5 (lw_V q581 q583 qs0 q90 q584) (by decide +kernel) rfl (Nat.le_of_ble_eq_true rfl) (Nat.le_of_ble_eq_true rfl) (Nat.le_of_ble_eq_true rfl) dX1_book_12) ?_
    cases h
    exact a_out rfl rfl rfl rfl
def f_X0_book (F : Nat)  (i0 : Option pm_A) (i1 : Int32) (i2 : Option pm_A) (m : pm_M) : Option (Int32 × pm_M) :=
  gd_ 1 i0 fun a1 =>
  bt_ (f_X1_book F a1 i1 m) (fun v6 m4 =>
    gd_ 103 i2 fun a9 =>
    iz_ (!(ib_ 0 a9.2.1)) <|
    lt_ (pL_ m4 a9 ((0 : Int32).toNatClampNeg) v6.toInt64) fun m13 =>
    some (0, m13)
  ) fun b8 m7 =>
    if b8.1 = 25 then
      some (1, m7)
    else
    none
set_option maxHeartbeats 4000000 in
theorem e_X0_book {G : xg_T} {l : Launch} (hl : l.stackTraces = false) {F : Nat}    {i0 : Option pm_A} {i1 : Int32} {i2 : Option pm_A} {m0 m' : pm_M} {r : Int32} (h : f_X0_book F i0 i1 i2 m0 = some (r, m')) : Cal_ G l yX0_book (wsW_ yX0_book cX0_book 4 (some .int) [(0, 9, 12, 13)]) 8 [vR_ i0, vI_ i1, vR_ i2] m0 (.inl (some (vI_ r))) m' := by
  refine cal_ofH (by decide +kernel) (Nat.le_of_ble_eq_true rfl) ?_
  unfold f_X0_book at h
  show AW_ cX0_book RX0 (some (.int), "book", 8, 4, m0, m', (.inl (some (vI_ r))), G, l, [(0, 9, 12, 13)], true) m0 0 [(0, vR_ i0), (1, vI_ i1), (2, vR_ i2)] []
  refine a_aload_n 2 dX0_book_0 rfl rfl ?_
  refine a_iconst (v := 0) dX0_book_1 (by decide) ?_
  refine a_aload_n 0 dX0_book_2 rfl rfl ?_
  refine a_iload_n 1 dX0_book_3 rfl rfl ?_
  obtain ⟨a1, e2, f3, h⟩ := gd_some h
  rw [e2]
  rcases bt_some h with ⟨v6, m4, e5, h⟩ | ⟨b8, m7, e5, h⟩
  · have he5 := e_X1_book (G := G) hl f3 e5
    refine c_I (v := v6) he5.1 (rn_VH (n := 1) (As := [vI_ i1]) kc_1 f3 he5 (lw_VW q1209 q1210 q1211 q90 q1212) (by decide +kernel) rfl (Nat.le_of_ble_eq_true rfl) (Nat.le_of_ble_eq_true rfl) (Nat.le_of_ble_eq_true rfl) dX0_book_4) (fun z => (os_av (As := [vI_ i1]) z).2.1) ?_
    refine a_i2l dX0_book_7 ?_
    obtain ⟨a9, e10, f11, h⟩ := gd_some h
    rw [e10]
    obtain ⟨c12, h⟩ := iz_some h
    obtain ⟨m13, e14, h⟩ := lt_some h
    refine a_last f11 (bn_ c12) dX0_book_8 ?_
    rw [← e14]
    refine a_goto (tgt := 15) dX0_book_9 (by decide) ?_
    refine a_iconst (v := 0) dX0_book_15 (by decide) ?_
    cases h
    exact a_ireturn rfl rfl rfl rfl rfl dX0_book_16
  · have he5 := e_X1_book (G := G) hl f3 e5
    refine c_X (b := b8) he5.1 (rn_VH (n := 1) (As := [vI_ i1]) kc_1 f3 he5 (lw_VW q1209 q1210 q1211 q90 q1212) (by decide +kernel) rfl (Nat.le_of_ble_eq_true rfl) (Nat.le_of_ble_eq_true rfl) (Nat.le_of_ble_eq_true rfl) dX0_book_4) ?_
    by_cases c15 : b8.1 = 25
    · replace h := ifp_ c15 h
      refine a_catch [] ⟨0, 9, 12, 13⟩ [] rfl (fun z hz => nomatch hz) rfl (by decide) q575 (by rw [c15]; exact q587) ?_
      refine a_astore_n (ls' := [(3, vR_ (some b8)), (0, vR_ (some a1)), (1, vI_ i1), (2, vR_ i2)]) dX0_book_12 rfl (Nat.le_of_ble_eq_true rfl) rfl ?_
      refine a_iconst (v := 1) dX0_book_13 (by decide) ?_
      cases h
      exact a_ireturn rfl rfl rfl rfl rfl dX0_book_14
    replace h := ifn_ c15 h
    cases h
def f_X1_told (F : Nat)  (t : pm_A) (i0 : Int32) (m : pm_M) : Option ((Int32 ⊕ pm_A) × pm_M) :=
  bt_ (f_X1_within F t i0 0 10 m) (fun v3 m1 =>
    gd_ 3 (gR_ m1 t 2) fun a6 =>
    bm_ (f_X3_now F a6 m1) fun v11 m9 =>
    jn_ (fun  (m13 : pm_M) =>
      gd_ 4 v11 fun a14 =>
      bm_ (f_X4_many F a14 (i0 - 4) m13) fun v19 m17 =>
      some (.inl v19, m17)
    ) fun k12 =>
    if i0.toInt = 0 then
      gd_ 6 (gR_ m9 t 12) fun a21 =>
      some (.inl (gI_ m9 a21 7), m9)
    else
    if i0.toInt = 1 then
      gd_ 6 (gR_ m9 t 12) fun a25 =>
      some (.inl (gI_ m9 a25 8), m9)
    else
    if i0.toInt = 2 then
      gd_ 4 v11 fun a29 =>
      some (.inl (gI_ m9 a29 11), m9)
    else
    if i0.toInt = 3 then
      gd_ 4 v11 fun a33 =>
      some (.inl (gI_ m9 a33 12), m9)
    else
    if i0.toInt = 4 then
      k12 m9
    else
    if i0.toInt = 5 then
      k12 m9
    else
    if i0.toInt = 6 then
      k12 m9
    else
    if i0.toInt = 7 then
      k12 m9
    else
    if i0.toInt = 8 then
      some (.inl (gI_ m9 t 15), m9)
    else
    if i0.toInt = 9 then
      some (.inl (gI_ m9 t 16), m9)
    else
    if i0.toInt = 10 then
      gd_ 6 (gR_ m9 t 12) fun a43 =>
      some (.inl (gI_ m9 a43 10), m9)
    else
      k12 m9
  ) fun b5 m4 =>
    some (.inr b5, m4)
set_option maxHeartbeats 4000000 in
theorem e_X1_told {G : xg_T} {l : Launch} (hl : l.stackTraces = false) {F : Nat}    {t : pm_A} {i0 : Int32} {m0 m' : pm_M} {r : (Int32 ⊕ pm_A)} (ht : t.1 = 1) (h : f_X1_told F t i0 m0 = some (r, m')) : Cal_ G l yX1_told (ws_ yX1_told cX1_told 3 (some .int)) 7 [vR_ (some t), vI_ i0] m0 (oI_ r) m' := by
  refine cal_of (by decide +kernel) (Nat.le_of_ble_eq_true rfl) ?_
  unfold f_X1_told at h
  show AW_ cX1_told RX1 (some (.int), "told", 7, 3, m0, m', (oI_ r), G, l, [], true) m0 0 [(0, vR_ (some t)), (1, vI_ i0)] []
  refine a_aload_n 0 dX1_told_0 rfl rfl ?_
  refine a_iload_n 1 dX1_told_1 rfl rfl ?_
  refine a_iconst (v := 0) dX1_told_2 (by decide) ?_
  refine a_bipush (v := 10) dX1_told_3 (by decide) ?_
  rcases bt_some h with ⟨v3, m1, e2, h⟩ | ⟨b5, m4, e2, h⟩
  · have he2 := e_X1_within (G := G) hl ht e2
    refine c_V he2.1 (rn_V (n := 3) (As := [vI_ i0, vI_ 0, vI_ 10]) kc_1 ht he2 (lw_V q581 q583 qs0 q90 q584) (by decide +kernel) rfl (Nat.le_of_ble_eq_true rfl) (Nat.le_of_ble_eq_true rfl) (Nat.le_of_ble_eq_true rfl) dX1_told_5) (fun z => (os_av (As := [vI_ i0, vI_ 0, vI_ 10]) z).2.1) ?_
    refine a_aload_n 0 dX1_told_8 rfl rfl ?_
    refine a_getR kc_1 2 (by decide) rfl ht q390 dX1_told_9 ?_
    obtain ⟨a6, e7, f8, h⟩ := gd_some h
    rw [e7]
    obtain ⟨v11, m9, e10, h⟩ := bm_some h
    have he10 := e_X3_now (G := G) hl f8 e10
    refine c_R he10.1 (rn_V (n := 0) (As := []) kc_3 f8 he10 (lw_V q380 q381 q382 q92 q383) (by decide +kernel) rfl (Nat.le_of_ble_eq_true rfl) (Nat.le_of_ble_eq_true rfl) (Nat.le_of_ble_eq_true rfl) dX1_told_12) (fun z => (os_av (As := []) z).2.1) ?_
    refine a_astore_n (ls' := [(2, vR_ v11), (0, vR_ (some t)), (1, vI_ i0)]) dX1_told_15 rfl (Nat.le_of_ble_eq_true rfl) rfl ?_
    refine a_iload_n 2 dX1_told_16 rfl rfl ?_
    obtain ⟨k12, e46, h⟩ := jn1_some h
    have hk12 : ∀  (m13 : pm_M), k12 m13 = some (r, m') → AW_ cX1_told RX1 (some (.int), "told", 7, 3, m0, m', (oI_ r), G, l, [], true) m13 120 [(1, vI_ i0), (2, vR_ v11)] [] := by
      intro m13 h
      have h := (e46 m13).symm.trans h
      refine a_aload_n 1 dX1_told_120 rfl rfl ?_
      refine a_iload_n 0 dX1_told_121 rfl rfl ?_
      refine a_iconst (v := 4) dX1_told_122 (by decide) ?_
      refine a_isub dX1_told_123 ?_
      obtain ⟨a14, e15, f16, h⟩ := gd_some h
      rw [e15]
      obtain ⟨v19, m17, e18, h⟩ := bm_some h
      have he18 := e_X4_many (G := G) hl f16 e18
      refine c_I he18.1 (rn_V (n := 1) (As := [vI_ (i0 - 4)]) kc_4 f16 he18 (lw_V q538 q539 q540 q93 q541) (by decide +kernel) rfl (Nat.le_of_ble_eq_true rfl) (Nat.le_of_ble_eq_true rfl) (Nat.le_of_ble_eq_true rfl) dX1_told_124) (fun z => (os_av (As := [vI_ (i0 - 4)]) z).2.1) ?_
      cases h
      exact a_ireturn rfl rfl rfl rfl rfl dX1_told_127
    by_cases c20 : i0.toInt = 0
    · replace h := ifp_ c20 h
      refine a_tabIn (tgt := 76) dX1_told_17 (by rw [c20]; decide) (by rw [c20]; decide) (by rw [c20]; rfl) (by decide) ?_
      refine a_aload_n 1 dX1_told_76 rfl rfl ?_
      refine a_getR kc_1 12 (by decide) rfl ht q400 dX1_told_77 ?_
      obtain ⟨a21, e22, f23, h⟩ := gd_some h
      rw [e22]
      refine a_getIN kc_6 7 (by decide) rfl f23 q244 dX1_told_80 ?_
      cases h
      exact a_ireturn rfl rfl rfl rfl rfl dX1_told_83
    replace h := ifn_ c20 h
    by_cases c24 : i0.toInt = 1
    · replace h := ifp_ c24 h
      refine a_tabIn (tgt := 84) dX1_told_17 (by rw [c24]; decide) (by rw [c24]; decide) (by rw [c24]; rfl) (by decide) ?_
      refine a_aload_n 1 dX1_told_84 rfl rfl ?_
      refine a_getR kc_1 12 (by decide) rfl ht q400 dX1_told_85 ?_
      obtain ⟨a25, e26, f27, h⟩ := gd_some h
      rw [e26]
      refine a_getIN kc_6 8 (by decide) rfl f27 q250 dX1_told_88 ?_
      cases h
      exact a_ireturn rfl rfl rfl rfl rfl dX1_told_91
    replace h := ifn_ c24 h
    by_cases c28 : i0.toInt = 2
    · replace h := ifp_ c28 h
      refine a_tabIn (tgt := 92) dX1_told_17 (by rw [c28]; decide) (by rw [c28]; decide) (by rw [c28]; rfl) (by decide) ?_
      refine a_aload_n 0 dX1_told_92 rfl rfl ?_
      obtain ⟨a29, e30, f31, h⟩ := gd_some h
      rw [e30]
      refine a_getIN kc_4 11 (by decide) rfl f31 q304 dX1_told_93 ?_
      cases h
      exact a_ireturn rfl rfl rfl rfl rfl dX1_told_96
    replace h := ifn_ c28 h
    by_cases c32 : i0.toInt = 3
    · replace h := ifp_ c32 h
      refine a_tabIn (tgt := 97) dX1_told_17 (by rw [c32]; decide) (by rw [c32]; decide) (by rw [c32]; rfl) (by decide) ?_
      refine a_aload_n 0 dX1_told_97 rfl rfl ?_
      obtain ⟨a33, e34, f35, h⟩ := gd_some h
      rw [e34]
      refine a_getIN kc_4 12 (by decide) rfl f35 q306 dX1_told_98 ?_
      cases h
      exact a_ireturn rfl rfl rfl rfl rfl dX1_told_101
    replace h := ifn_ c32 h
    by_cases c36 : i0.toInt = 4
    · replace h := ifp_ c36 h
      refine a_tabIn (tgt := 120) dX1_told_17 (by rw [c36]; decide) (by rw [c36]; decide) (by rw [c36]; rfl) (by decide) ?_
      refine aw_pick [2, 0] rfl ?_
      exact hk12 _ h
    replace h := ifn_ c36 h
    by_cases c37 : i0.toInt = 5
    · replace h := ifp_ c37 h
      refine a_tabIn (tgt := 120) dX1_told_17 (by rw [c37]; decide) (by rw [c37]; decide) (by rw [c37]; rfl) (by decide) ?_
      refine aw_pick [2, 0] rfl ?_
      exact hk12 _ h
    replace h := ifn_ c37 h
    by_cases c38 : i0.toInt = 6
    · replace h := ifp_ c38 h
      refine a_tabIn (tgt := 120) dX1_told_17 (by rw [c38]; decide) (by rw [c38]; decide) (by rw [c38]; rfl) (by decide) ?_
      refine aw_pick [2, 0] rfl ?_
      exact hk12 _ h
    replace h := ifn_ c38 h
    by_cases c39 : i0.toInt = 7
    · replace h := ifp_ c39 h
      refine a_tabIn (tgt := 120) dX1_told_17 (by rw [c39]; decide) (by rw [c39]; decide) (by rw [c39]; rfl) (by decide) ?_
      refine aw_pick [2, 0] rfl ?_
      exact hk12 _ h
    replace h := ifn_ c39 h
    by_cases c40 : i0.toInt = 8
    · replace h := ifp_ c40 h
      refine a_tabIn (tgt := 102) dX1_told_17 (by rw [c40]; decide) (by rw [c40]; decide) (by rw [c40]; rfl) (by decide) ?_
      refine a_aload_n 1 dX1_told_102 rfl rfl ?_
      refine a_getI kc_1 15 (by decide) rfl ht q403 dX1_told_103 ?_
      cases h
      exact a_ireturn rfl rfl rfl rfl rfl dX1_told_106
    replace h := ifn_ c40 h
    by_cases c41 : i0.toInt = 9
    · replace h := ifp_ c41 h
      refine a_tabIn (tgt := 107) dX1_told_17 (by rw [c41]; decide) (by rw [c41]; decide) (by rw [c41]; rfl) (by decide) ?_
      refine a_aload_n 1 dX1_told_107 rfl rfl ?_
      refine a_getI kc_1 16 (by decide) rfl ht q404 dX1_told_108 ?_
      cases h
      exact a_ireturn rfl rfl rfl rfl rfl dX1_told_111
    replace h := ifn_ c41 h
    by_cases c42 : i0.toInt = 10
    · replace h := ifp_ c42 h
      refine a_tabIn (tgt := 112) dX1_told_17 (by rw [c42]; decide) (by rw [c42]; decide) (by rw [c42]; rfl) (by decide) ?_
      refine a_aload_n 1 dX1_told_112 rfl rfl ?_
      refine a_getR kc_1 12 (by decide) rfl ht q400 dX1_told_113 ?_
      obtain ⟨a43, e44, f45, h⟩ := gd_some h
      rw [e44]
      refine a_getIN kc_6 10 (by decide) rfl f45 q259 dX1_told_116 ?_
      cases h
      exact a_ireturn rfl rfl rfl rfl rfl dX1_told_119
    replace h := ifn_ c42 h
    refine a_tabOut (tgt := 120) dX1_told_17 (by omega) (by decide) ?_
    refine aw_pick [2, 0] rfl ?_
    exact hk12 _ h
  · have he2 := e_X1_within (G := G) hl ht e2
    refine c_X (b := b5) he2.1 (rn_V (n := 3) (As := [vI_ i0, vI_ 0, vI_ 10]) kc_1 ht he2 (lw_V q581 q583 qs0 q90 q584) (by decide +kernel) rfl (Nat.le_of_ble_eq_true rfl) (Nat.le_of_ble_eq_true rfl) (Nat.le_of_ble_eq_true rfl) dX1_told_5) ?_
    cases h
    exact a_out rfl rfl rfl rfl
def f_X0_told (F : Nat)  (i0 : Option pm_A) (i1 : Int32) (i2 : Option pm_A) (m : pm_M) : Option (Int32 × pm_M) :=
  gd_ 1 i0 fun a1 =>
  bt_ (f_X1_told F a1 i1 m) (fun v6 m4 =>
    gd_ 103 i2 fun a9 =>
    iz_ (!(ib_ 0 a9.2.1)) <|
    lt_ (pL_ m4 a9 ((0 : Int32).toNatClampNeg) v6.toInt64) fun m13 =>
    some (0, m13)
  ) fun b8 m7 =>
    if b8.1 = 25 then
      some (1, m7)
    else
    none
set_option maxHeartbeats 4000000 in
theorem e_X0_told {G : xg_T} {l : Launch} (hl : l.stackTraces = false) {F : Nat}    {i0 : Option pm_A} {i1 : Int32} {i2 : Option pm_A} {m0 m' : pm_M} {r : Int32} (h : f_X0_told F i0 i1 i2 m0 = some (r, m')) : Cal_ G l yX0_told (wsW_ yX0_told cX0_told 4 (some .int) [(0, 9, 12, 13)]) 8 [vR_ i0, vI_ i1, vR_ i2] m0 (.inl (some (vI_ r))) m' := by
  refine cal_ofH (by decide +kernel) (Nat.le_of_ble_eq_true rfl) ?_
  unfold f_X0_told at h
  show AW_ cX0_told RX0 (some (.int), "told", 8, 4, m0, m', (.inl (some (vI_ r))), G, l, [(0, 9, 12, 13)], true) m0 0 [(0, vR_ i0), (1, vI_ i1), (2, vR_ i2)] []
  refine a_aload_n 2 dX0_told_0 rfl rfl ?_
  refine a_iconst (v := 0) dX0_told_1 (by decide) ?_
  refine a_aload_n 0 dX0_told_2 rfl rfl ?_
  refine a_iload_n 1 dX0_told_3 rfl rfl ?_
  obtain ⟨a1, e2, f3, h⟩ := gd_some h
  rw [e2]
  rcases bt_some h with ⟨v6, m4, e5, h⟩ | ⟨b8, m7, e5, h⟩
  · have he5 := e_X1_told (G := G) hl f3 e5
    refine c_I (v := v6) he5.1 (rn_V (n := 1) (As := [vI_ i1]) kc_1 f3 he5 (lw_V q1222 q1223 q1224 q90 q1225) (by decide +kernel) rfl (Nat.le_of_ble_eq_true rfl) (Nat.le_of_ble_eq_true rfl) (Nat.le_of_ble_eq_true rfl) dX0_told_4) (fun z => (os_av (As := [vI_ i1]) z).2.1) ?_
    refine a_i2l dX0_told_7 ?_
    obtain ⟨a9, e10, f11, h⟩ := gd_some h
    rw [e10]
    obtain ⟨c12, h⟩ := iz_some h
    obtain ⟨m13, e14, h⟩ := lt_some h
    refine a_last f11 (bn_ c12) dX0_told_8 ?_
    rw [← e14]
    refine a_goto (tgt := 15) dX0_told_9 (by decide) ?_
    refine a_iconst (v := 0) dX0_told_15 (by decide) ?_
    cases h
    exact a_ireturn rfl rfl rfl rfl rfl dX0_told_16
  · have he5 := e_X1_told (G := G) hl f3 e5
    refine c_X (b := b8) he5.1 (rn_V (n := 1) (As := [vI_ i1]) kc_1 f3 he5 (lw_V q1222 q1223 q1224 q90 q1225) (by decide +kernel) rfl (Nat.le_of_ble_eq_true rfl) (Nat.le_of_ble_eq_true rfl) (Nat.le_of_ble_eq_true rfl) dX0_told_4) ?_
    by_cases c15 : b8.1 = 25
    · replace h := ifp_ c15 h
      refine a_catch [] ⟨0, 9, 12, 13⟩ [] rfl (fun z hz => nomatch hz) rfl (by decide) q575 (by rw [c15]; exact q587) ?_
      refine a_astore_n (ls' := [(3, vR_ (some b8)), (0, vR_ (some a1)), (1, vI_ i1), (2, vR_ i2)]) dX0_told_12 rfl (Nat.le_of_ble_eq_true rfl) rfl ?_
      refine a_iconst (v := 1) dX0_told_13 (by decide) ?_
      cases h
      exact a_ireturn rfl rfl rfl rfl rfl dX0_told_14
    replace h := ifn_ c15 h
    cases h
theorem wk_X1_signerOf_26 : wk_ (vx_at0 "PassagePapers" 94 "java/util/NoSuchElementException" ["java/lang/RuntimeException", "java/lang/Exception"]) [98, 607, 616, 620, 623, 625, 608, 609, 132, 133, 610, 615, 621, 638, 597, 639, 599, 640, 601, 611, 613, 603, 1248, 1249, 1250, 630, 588, 630, 631, 632, 633, 590, 633, 634, 635, 608, 592, 1247, 1239, 1240, 1241, 619, 1242, 1243, 1244, 1245, 606, 605, 1246] = true := by decide +kernel
def f_X1_signerOf (F : Nat)  (t : pm_A) (i0 : Int32) (m : pm_M) : Option ((Unit ⊕ pm_A) × pm_M) :=
  jn_ (fun  (m2 : pm_M) =>
    gd_ 100 (gR_ m2 t 7) fun a3 =>
    iz_ (!(ib_ 0 a3.2.1)) <|
    iz_ (!(ib_ 0 a3.2.1)) <|
    lt_ (pI_ m2 a3 ((0 : Int32).toNatClampNeg) ((gI_ m2 a3 (0 : Int32).toNatClampNeg) + 1)) fun m8 =>
    lt_ (pN_ m8 26 0 6) fun m10 =>
    some (.inr ((26, 0, gN_ m8)), m10)
  ) fun k1 =>
  if i0 < 0 then
    k1 m
  else
    gd_ 6 (gR_ m t 12) fun a13 =>
    if (gI_ m a13 7) ≤ i0 then
      k1 m
    else
      some (.inl (), m)
set_option maxHeartbeats 4000000 in
theorem e_X1_signerOf {G : xg_T} {l : Launch} (hl : l.stackTraces = false) {F : Nat}    {t : pm_A} {i0 : Int32} {m0 m' : pm_M} {r : (Unit ⊕ pm_A)} (ht : t.1 = 1) (h : f_X1_signerOf F t i0 m0 = some (r, m')) : Cal_ G l yX1_signerOf (ws_ yX1_signerOf cX1_signerOf 2 none) 6 [vR_ (some t), vI_ i0] m0 (oV_ r) m' := by
  refine cal_of (by decide +kernel) (Nat.le_of_ble_eq_true rfl) ?_
  unfold f_X1_signerOf at h
  show AW_ cX1_signerOf RX1 (none, "signerOf", 6, 2, m0, m', (oV_ r), G, l, [], true) m0 0 [(0, vR_ (some t)), (1, vI_ i0)] []
  refine a_iload_n 1 dX1_signerOf_0 rfl rfl ?_
  obtain ⟨k1, e17, h⟩ := jn1_some h
  have hk1 : ∀  (m2 : pm_M), k1 m2 = some (r, m') → AW_ cX1_signerOf RX1 (none, "signerOf", 6, 2, m0, m', (oV_ r), G, l, [], true) m2 16 [(0, vR_ (some t))] [] := by
    intro m2 h
    have h := (e17 m2).symm.trans h
    refine a_aload_n 0 dX1_signerOf_16 rfl rfl ?_
    refine a_getR kc_1 7 (by decide) rfl ht q395 dX1_signerOf_17 ?_
    refine a_iconst (v := 0) dX1_signerOf_20 (by decide) ?_
    refine a_dup2 dX1_signerOf_21 rfl rfl ?_
    obtain ⟨a3, e4, f5, h⟩ := gd_some h
    rw [e4]
    obtain ⟨c6, h⟩ := iz_some h
    refine a_iald f5 (bn_ c6) dX1_signerOf_22 ?_
    refine a_iconst (v := 1) dX1_signerOf_23 (by decide) ?_
    refine a_iadd dX1_signerOf_24 ?_
    obtain ⟨c7, h⟩ := iz_some h
    obtain ⟨m8, e9, h⟩ := lt_some h
    refine a_iast f5 (bn_ c7) dX1_signerOf_25 ?_
    rw [← e9]
    obtain ⟨m10, e11, h⟩ := lt_some h
    refine a_make0 hl kc_26 (by decide +kernel) q1238 q125 wk_X1_signerOf_26 (by decide +kernel) (by decide +kernel) (Nat.le_of_ble_eq_true rfl) (Nat.le_of_ble_eq_true rfl) dX1_signerOf_26 dX1_signerOf_29 dX1_signerOf_30 ?_
    rw [← e11]
    refine a_athrow kc_26 rfl dX1_signerOf_33 ?_
    cases h
    exact a_out rfl rfl rfl rfl
  refine a_if_lt (tgt := 16) dX1_signerOf_1 (by decide) (fun c12 => ?_) (fun c12 => ?_)
  · replace h := ifp_ c12 h
    refine aw_pick [0] rfl ?_
    exact hk1 _ h
  · replace h := ifn_ c12 h
    refine a_iload_n 1 dX1_signerOf_4 rfl rfl ?_
    refine a_aload_n 0 dX1_signerOf_5 rfl rfl ?_
    refine a_getR kc_1 12 (by decide) rfl ht q400 dX1_signerOf_6 ?_
    obtain ⟨a13, e14, f15, h⟩ := gd_some h
    rw [e14]
    refine a_getIN kc_6 7 (by decide) rfl f15 q244 dX1_signerOf_9 ?_
    refine a_icmp_ge (tgt := 16) dX1_signerOf_12 (by decide) (fun c16 => ?_) (fun c16 => ?_)
    · replace h := ifp_ c16 h
      refine aw_pick [0] rfl ?_
      exact hk1 _ h
    · replace h := ifn_ c16 h
      cases h
      exact a_return rfl rfl rfl rfl dX1_signerOf_15
def f_X1_signer (F : Nat)  (t : pm_A) (i0 : Int32) (i1 : Int32) (m : pm_M) : Option ((Int32 ⊕ pm_A) × pm_M) :=
  bt_ (f_X1_signerOf F t i0 m) (fun v3 m1 =>
    bt_ (f_X1_within F t i1 0 9 m1) (fun v8 m6 =>
      gd_ 3 (gR_ m6 t 2) fun a11 =>
      bm_ (f_X3_now F a11 m6) fun v16 m14 =>
      if i1.toInt = 0 then
        gd_ 6 (gR_ m14 t 12) fun a18 =>
        gd_ 100 (gR_ m14 a18 0) fun a21 =>
        iz_ (!(ib_ i0 a21.2.1)) <|
        some (.inl (gI_ m14 a21 i0.toNatClampNeg), m14)
      else
      if i1.toInt = 1 then
        gd_ 6 (gR_ m14 t 12) fun a26 =>
        gd_ 100 (gR_ m14 a26 1) fun a29 =>
        iz_ (!(ib_ i0 a29.2.1)) <|
        some (.inl (gI_ m14 a29 i0.toNatClampNeg), m14)
      else
      if i1.toInt = 2 then
        gd_ 6 (gR_ m14 t 12) fun a34 =>
        gd_ 100 (gR_ m14 a34 2) fun a37 =>
        iz_ (!(ib_ i0 a37.2.1)) <|
        some (.inl (gI_ m14 a37 i0.toNatClampNeg), m14)
      else
      if i1.toInt = 3 then
        gd_ 4 v16 fun a42 =>
        gd_ 100 (gR_ m14 a42 0) fun a45 =>
        iz_ (!(ib_ i0 a45.2.1)) <|
        some (.inl (gI_ m14 a45 i0.toNatClampNeg), m14)
      else
      if i1.toInt = 4 then
        gd_ 4 v16 fun a50 =>
        gd_ 100 (gR_ m14 a50 1) fun a53 =>
        iz_ (!(ib_ i0 a53.2.1)) <|
        some (.inl (gI_ m14 a53 i0.toNatClampNeg), m14)
      else
      if i1.toInt = 5 then
        gd_ 4 v16 fun a58 =>
        gd_ 100 (gR_ m14 a58 2) fun a61 =>
        iz_ (!(ib_ i0 a61.2.1)) <|
        some (.inl (gI_ m14 a61 i0.toNatClampNeg), m14)
      else
      if i1.toInt = 6 then
        gd_ 4 v16 fun a66 =>
        gd_ 100 (gR_ m14 a66 3) fun a69 =>
        iz_ (!(ib_ i0 a69.2.1)) <|
        some (.inl (gI_ m14 a69 i0.toNatClampNeg), m14)
      else
      if i1.toInt = 7 then
        gd_ 4 v16 fun a74 =>
        gd_ 100 (gR_ m14 a74 4) fun a77 =>
        iz_ (!(ib_ i0 a77.2.1)) <|
        some (.inl (gI_ m14 a77 i0.toNatClampNeg), m14)
      else
      if i1.toInt = 8 then
        gd_ 4 v16 fun a82 =>
        gd_ 102 (gR_ m14 a82 7) fun a85 =>
        iz_ (!(ib_ i0 a85.2.1)) <|
        if (gI_ m14 a85 i0.toNatClampNeg) = 0 then
          some (.inl 0, m14)
        else
          some (.inl 1, m14)
      else
        gd_ 4 v16 fun a90 =>
        gd_ 100 (gR_ m14 a90 6) fun a93 =>
        iz_ (!(ib_ i0 a93.2.1)) <|
        some (.inl (gI_ m14 a93 i0.toNatClampNeg), m14)
    ) fun b10 m9 =>
      some (.inr b10, m9)
  ) fun b5 m4 =>
    some (.inr b5, m4)
set_option maxHeartbeats 4000000 in
theorem e_X1_signer {G : xg_T} {l : Launch} (hl : l.stackTraces = false) {F : Nat}    {t : pm_A} {i0 : Int32} {i1 : Int32} {m0 m' : pm_M} {r : (Int32 ⊕ pm_A)} (ht : t.1 = 1) (h : f_X1_signer F t i0 i1 m0 = some (r, m')) : Cal_ G l yX1_signer (ws_ yX1_signer cX1_signer 4 (some .int)) 7 [vR_ (some t), vI_ i0, vI_ i1] m0 (oI_ r) m' := by
  refine cal_of (by decide +kernel) (Nat.le_of_ble_eq_true rfl) ?_
  unfold f_X1_signer at h
  show AW_ cX1_signer RX1 (some (.int), "signer", 7, 4, m0, m', (oI_ r), G, l, [], true) m0 0 [(0, vR_ (some t)), (1, vI_ i0), (2, vI_ i1)] []
  refine a_aload_n 0 dX1_signer_0 rfl rfl ?_
  refine a_iload_n 1 dX1_signer_1 rfl rfl ?_
  rcases bt_some h with ⟨v3, m1, e2, h⟩ | ⟨b5, m4, e2, h⟩
  · have he2 := e_X1_signerOf (G := G) hl ht e2
    refine c_V he2.1 (rn_V (n := 1) (As := [vI_ i0]) kc_1 ht he2 (lw_V q1234 q1236 qs15 q90 q1237) (by decide +kernel) rfl (Nat.le_of_ble_eq_true rfl) (Nat.le_of_ble_eq_true rfl) (Nat.le_of_ble_eq_true rfl) dX1_signer_2) (fun z => (os_av (As := [vI_ i0]) z).2.1) ?_
    refine a_aload_n 0 dX1_signer_5 rfl rfl ?_
    refine a_iload_n 2 dX1_signer_6 rfl rfl ?_
    refine a_iconst (v := 0) dX1_signer_7 (by decide) ?_
    refine a_bipush (v := 9) dX1_signer_8 (by decide) ?_
    rcases bt_some h with ⟨v8, m6, e7, h⟩ | ⟨b10, m9, e7, h⟩
    · have he7 := e_X1_within (G := G) hl ht e7
      refine c_V he7.1 (rn_V (n := 3) (As := [vI_ i1, vI_ 0, vI_ 9]) kc_1 ht he7 (lw_V q581 q583 qs0 q90 q584) (by decide +kernel) rfl (Nat.le_of_ble_eq_true rfl) (Nat.le_of_ble_eq_true rfl) (Nat.le_of_ble_eq_true rfl) dX1_signer_10) (fun z => (os_av (As := [vI_ i1, vI_ 0, vI_ 9]) z).2.1) ?_
      refine a_aload_n 0 dX1_signer_13 rfl rfl ?_
      refine a_getR kc_1 2 (by decide) rfl ht q390 dX1_signer_14 ?_
      obtain ⟨a11, e12, f13, h⟩ := gd_some h
      rw [e12]
      obtain ⟨v16, m14, e15, h⟩ := bm_some h
      have he15 := e_X3_now (G := G) hl f13 e15
      refine c_R he15.1 (rn_V (n := 0) (As := []) kc_3 f13 he15 (lw_V q380 q381 q382 q92 q383) (by decide +kernel) rfl (Nat.le_of_ble_eq_true rfl) (Nat.le_of_ble_eq_true rfl) (Nat.le_of_ble_eq_true rfl) dX1_signer_17) (fun z => (os_av (As := []) z).2.1) ?_
      refine a_astore_n (ls' := [(3, vR_ v16), (0, vR_ (some t)), (1, vI_ i0), (2, vI_ i1)]) dX1_signer_20 rfl (Nat.le_of_ble_eq_true rfl) rfl ?_
      refine a_iload_n 3 dX1_signer_21 rfl rfl ?_
      by_cases c17 : i1.toInt = 0
      · replace h := ifp_ c17 h
        refine a_tabIn (tgt := 72) dX1_signer_22 (by rw [c17]; decide) (by rw [c17]; decide) (by rw [c17]; rfl) (by decide) ?_
        refine a_aload_n 1 dX1_signer_72 rfl rfl ?_
        refine a_getR kc_1 12 (by decide) rfl ht q400 dX1_signer_73 ?_
        obtain ⟨a18, e19, f20, h⟩ := gd_some h
        rw [e19]
        refine a_getRN kc_6 0 (by decide) rfl f20 q219 dX1_signer_76 ?_
        refine a_iload_n 2 dX1_signer_79 rfl rfl ?_
        obtain ⟨a21, e22, f23, h⟩ := gd_some h
        rw [e22]
        obtain ⟨c24, h⟩ := iz_some h
        refine a_iald f23 (bn_ c24) dX1_signer_80 ?_
        cases h
        exact a_ireturn rfl rfl rfl rfl rfl dX1_signer_81
      replace h := ifn_ c17 h
      by_cases c25 : i1.toInt = 1
      · replace h := ifp_ c25 h
        refine a_tabIn (tgt := 82) dX1_signer_22 (by rw [c25]; decide) (by rw [c25]; decide) (by rw [c25]; rfl) (by decide) ?_
        refine a_aload_n 1 dX1_signer_82 rfl rfl ?_
        refine a_getR kc_1 12 (by decide) rfl ht q400 dX1_signer_83 ?_
        obtain ⟨a26, e27, f28, h⟩ := gd_some h
        rw [e27]
        refine a_getRN kc_6 1 (by decide) rfl f28 q223 dX1_signer_86 ?_
        refine a_iload_n 2 dX1_signer_89 rfl rfl ?_
        obtain ⟨a29, e30, f31, h⟩ := gd_some h
        rw [e30]
        obtain ⟨c32, h⟩ := iz_some h
        refine a_iald f31 (bn_ c32) dX1_signer_90 ?_
        cases h
        exact a_ireturn rfl rfl rfl rfl rfl dX1_signer_91
      replace h := ifn_ c25 h
      by_cases c33 : i1.toInt = 2
      · replace h := ifp_ c33 h
        refine a_tabIn (tgt := 92) dX1_signer_22 (by rw [c33]; decide) (by rw [c33]; decide) (by rw [c33]; rfl) (by decide) ?_
        refine a_aload_n 1 dX1_signer_92 rfl rfl ?_
        refine a_getR kc_1 12 (by decide) rfl ht q400 dX1_signer_93 ?_
        obtain ⟨a34, e35, f36, h⟩ := gd_some h
        rw [e35]
        refine a_getRN kc_6 2 (by decide) rfl f36 q226 dX1_signer_96 ?_
        refine a_iload_n 2 dX1_signer_99 rfl rfl ?_
        obtain ⟨a37, e38, f39, h⟩ := gd_some h
        rw [e38]
        obtain ⟨c40, h⟩ := iz_some h
        refine a_iald f39 (bn_ c40) dX1_signer_100 ?_
        cases h
        exact a_ireturn rfl rfl rfl rfl rfl dX1_signer_101
      replace h := ifn_ c33 h
      by_cases c41 : i1.toInt = 3
      · replace h := ifp_ c41 h
        refine a_tabIn (tgt := 102) dX1_signer_22 (by rw [c41]; decide) (by rw [c41]; decide) (by rw [c41]; rfl) (by decide) ?_
        refine a_aload_n 0 dX1_signer_102 rfl rfl ?_
        obtain ⟨a42, e43, f44, h⟩ := gd_some h
        rw [e43]
        refine a_getRN kc_4 0 (by decide) rfl f44 q285 dX1_signer_103 ?_
        refine a_iload_n 2 dX1_signer_106 rfl rfl ?_
        obtain ⟨a45, e46, f47, h⟩ := gd_some h
        rw [e46]
        obtain ⟨c48, h⟩ := iz_some h
        refine a_iald f47 (bn_ c48) dX1_signer_107 ?_
        cases h
        exact a_ireturn rfl rfl rfl rfl rfl dX1_signer_108
      replace h := ifn_ c41 h
      by_cases c49 : i1.toInt = 4
      · replace h := ifp_ c49 h
        refine a_tabIn (tgt := 109) dX1_signer_22 (by rw [c49]; decide) (by rw [c49]; decide) (by rw [c49]; rfl) (by decide) ?_
        refine a_aload_n 0 dX1_signer_109 rfl rfl ?_
        obtain ⟨a50, e51, f52, h⟩ := gd_some h
        rw [e51]
        refine a_getRN kc_4 1 (by decide) rfl f52 q287 dX1_signer_110 ?_
        refine a_iload_n 2 dX1_signer_113 rfl rfl ?_
        obtain ⟨a53, e54, f55, h⟩ := gd_some h
        rw [e54]
        obtain ⟨c56, h⟩ := iz_some h
        refine a_iald f55 (bn_ c56) dX1_signer_114 ?_
        cases h
        exact a_ireturn rfl rfl rfl rfl rfl dX1_signer_115
      replace h := ifn_ c49 h
      by_cases c57 : i1.toInt = 5
      · replace h := ifp_ c57 h
        refine a_tabIn (tgt := 116) dX1_signer_22 (by rw [c57]; decide) (by rw [c57]; decide) (by rw [c57]; rfl) (by decide) ?_
        refine a_aload_n 0 dX1_signer_116 rfl rfl ?_
        obtain ⟨a58, e59, f60, h⟩ := gd_some h
        rw [e59]
        refine a_getRN kc_4 2 (by decide) rfl f60 q289 dX1_signer_117 ?_
        refine a_iload_n 2 dX1_signer_120 rfl rfl ?_
        obtain ⟨a61, e62, f63, h⟩ := gd_some h
        rw [e62]
        obtain ⟨c64, h⟩ := iz_some h
        refine a_iald f63 (bn_ c64) dX1_signer_121 ?_
        cases h
        exact a_ireturn rfl rfl rfl rfl rfl dX1_signer_122
      replace h := ifn_ c57 h
      by_cases c65 : i1.toInt = 6
      · replace h := ifp_ c65 h
        refine a_tabIn (tgt := 123) dX1_signer_22 (by rw [c65]; decide) (by rw [c65]; decide) (by rw [c65]; rfl) (by decide) ?_
        refine a_aload_n 0 dX1_signer_123 rfl rfl ?_
        obtain ⟨a66, e67, f68, h⟩ := gd_some h
        rw [e67]
        refine a_getRN kc_4 3 (by decide) rfl f68 q291 dX1_signer_124 ?_
        refine a_iload_n 2 dX1_signer_127 rfl rfl ?_
        obtain ⟨a69, e70, f71, h⟩ := gd_some h
        rw [e70]
        obtain ⟨c72, h⟩ := iz_some h
        refine a_iald f71 (bn_ c72) dX1_signer_128 ?_
        cases h
        exact a_ireturn rfl rfl rfl rfl rfl dX1_signer_129
      replace h := ifn_ c65 h
      by_cases c73 : i1.toInt = 7
      · replace h := ifp_ c73 h
        refine a_tabIn (tgt := 130) dX1_signer_22 (by rw [c73]; decide) (by rw [c73]; decide) (by rw [c73]; rfl) (by decide) ?_
        refine a_aload_n 0 dX1_signer_130 rfl rfl ?_
        obtain ⟨a74, e75, f76, h⟩ := gd_some h
        rw [e75]
        refine a_getRN kc_4 4 (by decide) rfl f76 q293 dX1_signer_131 ?_
        refine a_iload_n 2 dX1_signer_134 rfl rfl ?_
        obtain ⟨a77, e78, f79, h⟩ := gd_some h
        rw [e78]
        obtain ⟨c80, h⟩ := iz_some h
        refine a_iald f79 (bn_ c80) dX1_signer_135 ?_
        cases h
        exact a_ireturn rfl rfl rfl rfl rfl dX1_signer_136
      replace h := ifn_ c73 h
      by_cases c81 : i1.toInt = 8
      · replace h := ifp_ c81 h
        refine a_tabIn (tgt := 137) dX1_signer_22 (by rw [c81]; decide) (by rw [c81]; decide) (by rw [c81]; rfl) (by decide) ?_
        refine a_aload_n 0 dX1_signer_137 rfl rfl ?_
        obtain ⟨a82, e83, f84, h⟩ := gd_some h
        rw [e83]
        refine a_getRN kc_4 7 (by decide) rfl f84 q298 dX1_signer_138 ?_
        refine a_iload_n 2 dX1_signer_141 rfl rfl ?_
        obtain ⟨a85, e86, f87, h⟩ := gd_some h
        rw [e86]
        obtain ⟨c88, h⟩ := iz_some h
        refine a_zald f87 (bn_ c88) dX1_signer_142 ?_
        refine a_if_eq (tgt := 150) dX1_signer_143 (by decide) (fun c89 => ?_) (fun c89 => ?_)
        · replace h := ifp_ c89 h
          refine a_iconst (v := 0) dX1_signer_150 (by decide) ?_
          cases h
          exact a_ireturn rfl rfl rfl rfl rfl dX1_signer_151
        · replace h := ifn_ c89 h
          refine a_iconst (v := 1) dX1_signer_146 (by decide) ?_
          refine a_goto (tgt := 151) dX1_signer_147 (by decide) ?_
          cases h
          exact a_ireturn rfl rfl rfl rfl rfl dX1_signer_151
      replace h := ifn_ c81 h
      refine a_tabOut (tgt := 152) dX1_signer_22 (by omega) (by decide) ?_
      refine a_aload_n 0 dX1_signer_152 rfl rfl ?_
      obtain ⟨a90, e91, f92, h⟩ := gd_some h
      rw [e91]
      refine a_getRN kc_4 6 (by decide) rfl f92 q296 dX1_signer_153 ?_
      refine a_iload_n 2 dX1_signer_156 rfl rfl ?_
      obtain ⟨a93, e94, f95, h⟩ := gd_some h
      rw [e94]
      obtain ⟨c96, h⟩ := iz_some h
      refine a_iald f95 (bn_ c96) dX1_signer_157 ?_
      cases h
      exact a_ireturn rfl rfl rfl rfl rfl dX1_signer_158
    · have he7 := e_X1_within (G := G) hl ht e7
      refine c_X (b := b10) he7.1 (rn_V (n := 3) (As := [vI_ i1, vI_ 0, vI_ 9]) kc_1 ht he7 (lw_V q581 q583 qs0 q90 q584) (by decide +kernel) rfl (Nat.le_of_ble_eq_true rfl) (Nat.le_of_ble_eq_true rfl) (Nat.le_of_ble_eq_true rfl) dX1_signer_10) ?_
      cases h
      exact a_out rfl rfl rfl rfl
  · have he2 := e_X1_signerOf (G := G) hl ht e2
    refine c_X (b := b5) he2.1 (rn_V (n := 1) (As := [vI_ i0]) kc_1 ht he2 (lw_V q1234 q1236 qs15 q90 q1237) (by decide +kernel) rfl (Nat.le_of_ble_eq_true rfl) (Nat.le_of_ble_eq_true rfl) (Nat.le_of_ble_eq_true rfl) dX1_signer_2) ?_
    cases h
    exact a_out rfl rfl rfl rfl
def f_X0_signer (F : Nat)  (i0 : Option pm_A) (i1 : Int32) (i2 : Int32) (i3 : Option pm_A) (m : pm_M) : Option (Int32 × pm_M) :=
  gd_ 1 i0 fun a1 =>
  bt_ (f_X1_signer F a1 i1 i2 m) (fun v6 m4 =>
    gd_ 103 i3 fun a9 =>
    iz_ (!(ib_ 0 a9.2.1)) <|
    lt_ (pL_ m4 a9 ((0 : Int32).toNatClampNeg) v6.toInt64) fun m13 =>
    some (0, m13)
  ) fun b8 m7 =>
    if b8.1 = 26 then
      some (1, m7)
    else
    if b8.1 = 25 then
      some (2, m7)
    else
    none
set_option maxHeartbeats 4000000 in
theorem e_X0_signer {G : xg_T} {l : Launch} (hl : l.stackTraces = false) {F : Nat}    {i0 : Option pm_A} {i1 : Int32} {i2 : Int32} {i3 : Option pm_A} {m0 m' : pm_M} {r : Int32} (h : f_X0_signer F i0 i1 i2 i3 m0 = some (r, m')) : Cal_ G l yX0_signer (wsW_ yX0_signer cX0_signer 5 (some .int) [(0, 10, 13, 31), (0, 10, 17, 13)]) 8 [vR_ i0, vI_ i1, vI_ i2, vR_ i3] m0 (.inl (some (vI_ r))) m' := by
  refine cal_ofH (by decide +kernel) (Nat.le_of_ble_eq_true rfl) ?_
  unfold f_X0_signer at h
  show AW_ cX0_signer RX0 (some (.int), "signer", 8, 5, m0, m', (.inl (some (vI_ r))), G, l, [(0, 10, 13, 31), (0, 10, 17, 13)], true) m0 0 [(0, vR_ i0), (1, vI_ i1), (2, vI_ i2), (3, vR_ i3)] []
  refine a_aload_n 3 dX0_signer_0 rfl rfl ?_
  refine a_iconst (v := 0) dX0_signer_1 (by decide) ?_
  refine a_aload_n 0 dX0_signer_2 rfl rfl ?_
  refine a_iload_n 1 dX0_signer_3 rfl rfl ?_
  refine a_iload_n 2 dX0_signer_4 rfl rfl ?_
  obtain ⟨a1, e2, f3, h⟩ := gd_some h
  rw [e2]
  rcases bt_some h with ⟨v6, m4, e5, h⟩ | ⟨b8, m7, e5, h⟩
  · have he5 := e_X1_signer (G := G) hl f3 e5
    refine c_I (v := v6) he5.1 (rn_V (n := 2) (As := [vI_ i1, vI_ i2]) kc_1 f3 he5 (lw_V q1230 q1231 q1232 q90 q1233) (by decide +kernel) rfl (Nat.le_of_ble_eq_true rfl) (Nat.le_of_ble_eq_true rfl) (Nat.le_of_ble_eq_true rfl) dX0_signer_5) (fun z => (os_av (As := [vI_ i1, vI_ i2]) z).2.1) ?_
    refine a_i2l dX0_signer_8 ?_
    obtain ⟨a9, e10, f11, h⟩ := gd_some h
    rw [e10]
    obtain ⟨c12, h⟩ := iz_some h
    obtain ⟨m13, e14, h⟩ := lt_some h
    refine a_last f11 (bn_ c12) dX0_signer_9 ?_
    rw [← e14]
    refine a_goto (tgt := 21) dX0_signer_10 (by decide) ?_
    refine a_iconst (v := 0) dX0_signer_21 (by decide) ?_
    cases h
    exact a_ireturn rfl rfl rfl rfl rfl dX0_signer_22
  · have he5 := e_X1_signer (G := G) hl f3 e5
    refine c_X (b := b8) he5.1 (rn_V (n := 2) (As := [vI_ i1, vI_ i2]) kc_1 f3 he5 (lw_V q1230 q1231 q1232 q90 q1233) (by decide +kernel) rfl (Nat.le_of_ble_eq_true rfl) (Nat.le_of_ble_eq_true rfl) (Nat.le_of_ble_eq_true rfl) dX0_signer_5) ?_
    by_cases c15 : b8.1 = 26
    · replace h := ifp_ c15 h
      refine a_catch [] ⟨0, 10, 13, 31⟩ [⟨0, 10, 17, 13⟩] rfl (fun z hz => nomatch hz) rfl (by decide) q1229 (by rw [c15]; exact q1240) ?_
      refine a_astore (ls' := [(4, vR_ (some b8)), (0, vR_ (some a1)), (1, vI_ i1), (2, vI_ i2), (3, vR_ i3)]) dX0_signer_13 (Nat.le_of_ble_eq_true rfl) rfl ?_
      refine a_iconst (v := 1) dX0_signer_15 (by decide) ?_
      cases h
      exact a_ireturn rfl rfl rfl rfl rfl dX0_signer_16
    replace h := ifn_ c15 h
    by_cases c16 : b8.1 = 25
    · replace h := ifp_ c16 h
      refine a_catch [⟨0, 10, 13, 31⟩] ⟨0, 10, 17, 13⟩ [] rfl (fun z hz => Or.inr (by rw [List.mem_singleton.mp hz]; exact ⟨by decide, _, q1229, by rw [c16]; rfl, rfl⟩)) rfl (by decide) q575 (by rw [c16]; exact q587) ?_
      refine a_astore (ls' := [(4, vR_ (some b8)), (0, vR_ (some a1)), (1, vI_ i1), (2, vI_ i2), (3, vR_ i3)]) dX0_signer_17 (Nat.le_of_ble_eq_true rfl) rfl ?_
      refine a_iconst (v := 2) dX0_signer_19 (by decide) ?_
      cases h
      exact a_ireturn rfl rfl rfl rfl rfl dX0_signer_20
    replace h := ifn_ c16 h
    cases h
theorem wk_X1_takerOf_26 : wk_ (vx_at0 "PassagePapers" 94 "java/util/NoSuchElementException" ["java/lang/RuntimeException", "java/lang/Exception"]) [98, 607, 616, 620, 623, 625, 608, 609, 132, 133, 610, 615, 621, 638, 597, 639, 599, 640, 601, 611, 613, 603, 1248, 1249, 1250, 630, 588, 630, 631, 632, 633, 590, 633, 634, 635, 608, 592, 1247, 1239, 1240, 1241, 619, 1242, 1243, 1244, 1245, 606, 605, 1246] = true := by decide +kernel
def f_X1_takerOf (F : Nat)  (t : pm_A) (i0 : Int32) (m : pm_M) : Option ((Unit ⊕ pm_A) × pm_M) :=
  jn_ (fun  (m2 : pm_M) =>
    gd_ 100 (gR_ m2 t 7) fun a3 =>
    iz_ (!(ib_ 0 a3.2.1)) <|
    iz_ (!(ib_ 0 a3.2.1)) <|
    lt_ (pI_ m2 a3 ((0 : Int32).toNatClampNeg) ((gI_ m2 a3 (0 : Int32).toNatClampNeg) + 1)) fun m8 =>
    lt_ (pN_ m8 26 0 6) fun m10 =>
    some (.inr ((26, 0, gN_ m8)), m10)
  ) fun k1 =>
  if i0 < 0 then
    k1 m
  else
    gd_ 6 (gR_ m t 12) fun a13 =>
    if (gI_ m a13 8) ≤ i0 then
      k1 m
    else
      some (.inl (), m)
set_option maxHeartbeats 4000000 in
theorem e_X1_takerOf {G : xg_T} {l : Launch} (hl : l.stackTraces = false) {F : Nat}    {t : pm_A} {i0 : Int32} {m0 m' : pm_M} {r : (Unit ⊕ pm_A)} (ht : t.1 = 1) (h : f_X1_takerOf F t i0 m0 = some (r, m')) : Cal_ G l yX1_takerOf (ws_ yX1_takerOf cX1_takerOf 2 none) 6 [vR_ (some t), vI_ i0] m0 (oV_ r) m' := by
  refine cal_of (by decide +kernel) (Nat.le_of_ble_eq_true rfl) ?_
  unfold f_X1_takerOf at h
  show AW_ cX1_takerOf RX1 (none, "takerOf", 6, 2, m0, m', (oV_ r), G, l, [], true) m0 0 [(0, vR_ (some t)), (1, vI_ i0)] []
  refine a_iload_n 1 dX1_takerOf_0 rfl rfl ?_
  obtain ⟨k1, e17, h⟩ := jn1_some h
  have hk1 : ∀  (m2 : pm_M), k1 m2 = some (r, m') → AW_ cX1_takerOf RX1 (none, "takerOf", 6, 2, m0, m', (oV_ r), G, l, [], true) m2 16 [(0, vR_ (some t))] [] := by
    intro m2 h
    have h := (e17 m2).symm.trans h
    refine a_aload_n 0 dX1_takerOf_16 rfl rfl ?_
    refine a_getR kc_1 7 (by decide) rfl ht q395 dX1_takerOf_17 ?_
    refine a_iconst (v := 0) dX1_takerOf_20 (by decide) ?_
    refine a_dup2 dX1_takerOf_21 rfl rfl ?_
    obtain ⟨a3, e4, f5, h⟩ := gd_some h
    rw [e4]
    obtain ⟨c6, h⟩ := iz_some h
    refine a_iald f5 (bn_ c6) dX1_takerOf_22 ?_
    refine a_iconst (v := 1) dX1_takerOf_23 (by decide) ?_
    refine a_iadd dX1_takerOf_24 ?_
    obtain ⟨c7, h⟩ := iz_some h
    obtain ⟨m8, e9, h⟩ := lt_some h
    refine a_iast f5 (bn_ c7) dX1_takerOf_25 ?_
    rw [← e9]
    obtain ⟨m10, e11, h⟩ := lt_some h
    refine a_make0 hl kc_26 (by decide +kernel) q1238 q125 wk_X1_takerOf_26 (by decide +kernel) (by decide +kernel) (Nat.le_of_ble_eq_true rfl) (Nat.le_of_ble_eq_true rfl) dX1_takerOf_26 dX1_takerOf_29 dX1_takerOf_30 ?_
    rw [← e11]
    refine a_athrow kc_26 rfl dX1_takerOf_33 ?_
    cases h
    exact a_out rfl rfl rfl rfl
  refine a_if_lt (tgt := 16) dX1_takerOf_1 (by decide) (fun c12 => ?_) (fun c12 => ?_)
  · replace h := ifp_ c12 h
    refine aw_pick [0] rfl ?_
    exact hk1 _ h
  · replace h := ifn_ c12 h
    refine a_iload_n 1 dX1_takerOf_4 rfl rfl ?_
    refine a_aload_n 0 dX1_takerOf_5 rfl rfl ?_
    refine a_getR kc_1 12 (by decide) rfl ht q400 dX1_takerOf_6 ?_
    obtain ⟨a13, e14, f15, h⟩ := gd_some h
    rw [e14]
    refine a_getIN kc_6 8 (by decide) rfl f15 q250 dX1_takerOf_9 ?_
    refine a_icmp_ge (tgt := 16) dX1_takerOf_12 (by decide) (fun c16 => ?_) (fun c16 => ?_)
    · replace h := ifp_ c16 h
      refine aw_pick [0] rfl ?_
      exact hk1 _ h
    · replace h := ifn_ c16 h
      cases h
      exact a_return rfl rfl rfl rfl dX1_takerOf_15
def f_X1_taker (F : Nat)  (t : pm_A) (i0 : Int32) (i1 : Int32) (m : pm_M) : Option ((Int32 ⊕ pm_A) × pm_M) :=
  bt_ (f_X1_takerOf F t i0 m) (fun v3 m1 =>
    bt_ (f_X1_within F t i1 0 3 m1) (fun v8 m6 =>
      if i1 = 0 then
        gd_ 6 (gR_ m6 t 12) fun a40 =>
        gd_ 100 (gR_ m6 a40 4) fun a43 =>
        iz_ (!(ib_ i0 a43.2.1)) <|
        some (.inl (gI_ m6 a43 i0.toNatClampNeg), m6)
      else
        if i1 = 1 then
          gd_ 6 (gR_ m6 t 12) fun a33 =>
          gd_ 100 (gR_ m6 a33 5) fun a36 =>
          iz_ (!(ib_ i0 a36.2.1)) <|
          some (.inl (gI_ m6 a36 i0.toNatClampNeg), m6)
        else
          if i1 = 2 then
            gd_ 6 (gR_ m6 t 12) fun a26 =>
            gd_ 100 (gR_ m6 a26 6) fun a29 =>
            iz_ (!(ib_ i0 a29.2.1)) <|
            some (.inl (gI_ m6 a29 i0.toNatClampNeg), m6)
          else
            gd_ 3 (gR_ m6 t 2) fun a14 =>
            bm_ (f_X3_now F a14 m6) fun v19 m17 =>
            gd_ 4 v19 fun a20 =>
            bm_ (f_X4_boundTo F a20 i0 m17) fun v25 m23 =>
            some (.inl v25, m23)
    ) fun b10 m9 =>
      some (.inr b10, m9)
  ) fun b5 m4 =>
    some (.inr b5, m4)
set_option maxHeartbeats 4000000 in
theorem e_X1_taker {G : xg_T} {l : Launch} (hl : l.stackTraces = false) {F : Nat}    {t : pm_A} {i0 : Int32} {i1 : Int32} {m0 m' : pm_M} {r : (Int32 ⊕ pm_A)} (ht : t.1 = 1) (h : f_X1_taker F t i0 i1 m0 = some (r, m')) : Cal_ G l yX1_taker (ws_ yX1_taker cX1_taker 3 (some .int)) 7 [vR_ (some t), vI_ i0, vI_ i1] m0 (oI_ r) m' := by
  refine cal_of (by decide +kernel) (Nat.le_of_ble_eq_true rfl) ?_
  unfold f_X1_taker at h
  show AW_ cX1_taker RX1 (some (.int), "taker", 7, 3, m0, m', (oI_ r), G, l, [], true) m0 0 [(0, vR_ (some t)), (1, vI_ i0), (2, vI_ i1)] []
  refine a_aload_n 0 dX1_taker_0 rfl rfl ?_
  refine a_iload_n 1 dX1_taker_1 rfl rfl ?_
  rcases bt_some h with ⟨v3, m1, e2, h⟩ | ⟨b5, m4, e2, h⟩
  · have he2 := e_X1_takerOf (G := G) hl ht e2
    refine c_V he2.1 (rn_V (n := 1) (As := [vI_ i0]) kc_1 ht he2 (lw_V q1260 q1262 qs16 q90 q1263) (by decide +kernel) rfl (Nat.le_of_ble_eq_true rfl) (Nat.le_of_ble_eq_true rfl) (Nat.le_of_ble_eq_true rfl) dX1_taker_2) (fun z => (os_av (As := [vI_ i0]) z).2.1) ?_
    refine a_aload_n 0 dX1_taker_5 rfl rfl ?_
    refine a_iload_n 2 dX1_taker_6 rfl rfl ?_
    refine a_iconst (v := 0) dX1_taker_7 (by decide) ?_
    refine a_iconst (v := 3) dX1_taker_8 (by decide) ?_
    rcases bt_some h with ⟨v8, m6, e7, h⟩ | ⟨b10, m9, e7, h⟩
    · have he7 := e_X1_within (G := G) hl ht e7
      refine c_V he7.1 (rn_V (n := 3) (As := [vI_ i1, vI_ 0, vI_ 3]) kc_1 ht he7 (lw_V q581 q583 qs0 q90 q584) (by decide +kernel) rfl (Nat.le_of_ble_eq_true rfl) (Nat.le_of_ble_eq_true rfl) (Nat.le_of_ble_eq_true rfl) dX1_taker_9) (fun z => (os_av (As := [vI_ i1, vI_ 0, vI_ 3]) z).2.1) ?_
      refine a_iload_n 2 dX1_taker_12 rfl rfl ?_
      refine a_if_ne (tgt := 28) dX1_taker_13 (by decide) (fun c11 => ?_) (fun c11 => ?_)
      · replace h := ifn_ c11 h
        refine a_iload_n 2 dX1_taker_28 rfl rfl ?_
        refine a_iconst (v := 1) dX1_taker_29 (by decide) ?_
        refine a_icmp_ne (tgt := 45) dX1_taker_30 (by decide) (fun c12 => ?_) (fun c12 => ?_)
        · replace h := ifn_ c12 h
          refine a_iload_n 2 dX1_taker_45 rfl rfl ?_
          refine a_iconst (v := 2) dX1_taker_46 (by decide) ?_
          refine a_icmp_ne (tgt := 62) dX1_taker_47 (by decide) (fun c13 => ?_) (fun c13 => ?_)
          · replace h := ifn_ c13 h
            refine a_aload_n 0 dX1_taker_62 rfl rfl ?_
            refine a_getR kc_1 2 (by decide) rfl ht q390 dX1_taker_63 ?_
            obtain ⟨a14, e15, f16, h⟩ := gd_some h
            rw [e15]
            obtain ⟨v19, m17, e18, h⟩ := bm_some h
            have he18 := e_X3_now (G := G) hl f16 e18
            refine c_R he18.1 (rn_V (n := 0) (As := []) kc_3 f16 he18 (lw_V q380 q381 q382 q92 q383) (by decide +kernel) rfl (Nat.le_of_ble_eq_true rfl) (Nat.le_of_ble_eq_true rfl) (Nat.le_of_ble_eq_true rfl) dX1_taker_66) (fun z => (os_av (As := []) z).2.1) ?_
            refine a_iload_n 1 dX1_taker_69 rfl rfl ?_
            obtain ⟨a20, e21, f22, h⟩ := gd_some h
            rw [e21]
            obtain ⟨v25, m23, e24, h⟩ := bm_some h
            have he24 := e_X4_boundTo (G := G) hl f22 e24
            refine c_I he24.1 (rn_V (n := 1) (As := [vI_ i0]) kc_4 f22 he24 (lw_V q1264 q1189 q1190 q93 q1191) (by decide +kernel) rfl (Nat.le_of_ble_eq_true rfl) (Nat.le_of_ble_eq_true rfl) (Nat.le_of_ble_eq_true rfl) dX1_taker_70) (fun z => (os_av (As := [vI_ i0]) z).2.1) ?_
            cases h
            exact a_ireturn rfl rfl rfl rfl rfl dX1_taker_73
          · replace h := ifp_ c13 h
            refine a_aload_n 0 dX1_taker_50 rfl rfl ?_
            refine a_getR kc_1 12 (by decide) rfl ht q400 dX1_taker_51 ?_
            obtain ⟨a26, e27, f28, h⟩ := gd_some h
            rw [e27]
            refine a_getRN kc_6 6 (by decide) rfl f28 q242 dX1_taker_54 ?_
            refine a_iload_n 1 dX1_taker_57 rfl rfl ?_
            obtain ⟨a29, e30, f31, h⟩ := gd_some h
            rw [e30]
            obtain ⟨c32, h⟩ := iz_some h
            refine a_iald f31 (bn_ c32) dX1_taker_58 ?_
            refine a_goto (tgt := 73) dX1_taker_59 (by decide) ?_
            cases h
            exact a_ireturn rfl rfl rfl rfl rfl dX1_taker_73
        · replace h := ifp_ c12 h
          refine a_aload_n 0 dX1_taker_33 rfl rfl ?_
          refine a_getR kc_1 12 (by decide) rfl ht q400 dX1_taker_34 ?_
          obtain ⟨a33, e34, f35, h⟩ := gd_some h
          rw [e34]
          refine a_getRN kc_6 5 (by decide) rfl f35 q236 dX1_taker_37 ?_
          refine a_iload_n 1 dX1_taker_40 rfl rfl ?_
          obtain ⟨a36, e37, f38, h⟩ := gd_some h
          rw [e37]
          obtain ⟨c39, h⟩ := iz_some h
          refine a_iald f38 (bn_ c39) dX1_taker_41 ?_
          refine a_goto (tgt := 73) dX1_taker_42 (by decide) ?_
          cases h
          exact a_ireturn rfl rfl rfl rfl rfl dX1_taker_73
      · replace h := ifp_ c11 h
        refine a_aload_n 0 dX1_taker_16 rfl rfl ?_
        refine a_getR kc_1 12 (by decide) rfl ht q400 dX1_taker_17 ?_
        obtain ⟨a40, e41, f42, h⟩ := gd_some h
        rw [e41]
        refine a_getRN kc_6 4 (by decide) rfl f42 q232 dX1_taker_20 ?_
        refine a_iload_n 1 dX1_taker_23 rfl rfl ?_
        obtain ⟨a43, e44, f45, h⟩ := gd_some h
        rw [e44]
        obtain ⟨c46, h⟩ := iz_some h
        refine a_iald f45 (bn_ c46) dX1_taker_24 ?_
        refine a_goto (tgt := 73) dX1_taker_25 (by decide) ?_
        cases h
        exact a_ireturn rfl rfl rfl rfl rfl dX1_taker_73
    · have he7 := e_X1_within (G := G) hl ht e7
      refine c_X (b := b10) he7.1 (rn_V (n := 3) (As := [vI_ i1, vI_ 0, vI_ 3]) kc_1 ht he7 (lw_V q581 q583 qs0 q90 q584) (by decide +kernel) rfl (Nat.le_of_ble_eq_true rfl) (Nat.le_of_ble_eq_true rfl) (Nat.le_of_ble_eq_true rfl) dX1_taker_9) ?_
      cases h
      exact a_out rfl rfl rfl rfl
  · have he2 := e_X1_takerOf (G := G) hl ht e2
    refine c_X (b := b5) he2.1 (rn_V (n := 1) (As := [vI_ i0]) kc_1 ht he2 (lw_V q1260 q1262 qs16 q90 q1263) (by decide +kernel) rfl (Nat.le_of_ble_eq_true rfl) (Nat.le_of_ble_eq_true rfl) (Nat.le_of_ble_eq_true rfl) dX1_taker_2) ?_
    cases h
    exact a_out rfl rfl rfl rfl
def f_X0_taker (F : Nat)  (i0 : Option pm_A) (i1 : Int32) (i2 : Int32) (i3 : Option pm_A) (m : pm_M) : Option (Int32 × pm_M) :=
  gd_ 1 i0 fun a1 =>
  bt_ (f_X1_taker F a1 i1 i2 m) (fun v6 m4 =>
    gd_ 103 i3 fun a9 =>
    iz_ (!(ib_ 0 a9.2.1)) <|
    lt_ (pL_ m4 a9 ((0 : Int32).toNatClampNeg) v6.toInt64) fun m13 =>
    some (0, m13)
  ) fun b8 m7 =>
    if b8.1 = 26 then
      some (1, m7)
    else
    if b8.1 = 25 then
      some (2, m7)
    else
    none
set_option maxHeartbeats 4000000 in
theorem e_X0_taker {G : xg_T} {l : Launch} (hl : l.stackTraces = false) {F : Nat}    {i0 : Option pm_A} {i1 : Int32} {i2 : Int32} {i3 : Option pm_A} {m0 m' : pm_M} {r : Int32} (h : f_X0_taker F i0 i1 i2 i3 m0 = some (r, m')) : Cal_ G l yX0_taker (wsW_ yX0_taker cX0_taker 5 (some .int) [(0, 10, 13, 31), (0, 10, 17, 13)]) 8 [vR_ i0, vI_ i1, vI_ i2, vR_ i3] m0 (.inl (some (vI_ r))) m' := by
  refine cal_ofH (by decide +kernel) (Nat.le_of_ble_eq_true rfl) ?_
  unfold f_X0_taker at h
  show AW_ cX0_taker RX0 (some (.int), "taker", 8, 5, m0, m', (.inl (some (vI_ r))), G, l, [(0, 10, 13, 31), (0, 10, 17, 13)], true) m0 0 [(0, vR_ i0), (1, vI_ i1), (2, vI_ i2), (3, vR_ i3)] []
  refine a_aload_n 3 dX0_taker_0 rfl rfl ?_
  refine a_iconst (v := 0) dX0_taker_1 (by decide) ?_
  refine a_aload_n 0 dX0_taker_2 rfl rfl ?_
  refine a_iload_n 1 dX0_taker_3 rfl rfl ?_
  refine a_iload_n 2 dX0_taker_4 rfl rfl ?_
  obtain ⟨a1, e2, f3, h⟩ := gd_some h
  rw [e2]
  rcases bt_some h with ⟨v6, m4, e5, h⟩ | ⟨b8, m7, e5, h⟩
  · have he5 := e_X1_taker (G := G) hl f3 e5
    refine c_I (v := v6) he5.1 (rn_V (n := 2) (As := [vI_ i1, vI_ i2]) kc_1 f3 he5 (lw_V q1256 q1257 q1258 q90 q1259) (by decide +kernel) rfl (Nat.le_of_ble_eq_true rfl) (Nat.le_of_ble_eq_true rfl) (Nat.le_of_ble_eq_true rfl) dX0_taker_5) (fun z => (os_av (As := [vI_ i1, vI_ i2]) z).2.1) ?_
    refine a_i2l dX0_taker_8 ?_
    obtain ⟨a9, e10, f11, h⟩ := gd_some h
    rw [e10]
    obtain ⟨c12, h⟩ := iz_some h
    obtain ⟨m13, e14, h⟩ := lt_some h
    refine a_last f11 (bn_ c12) dX0_taker_9 ?_
    rw [← e14]
    refine a_goto (tgt := 21) dX0_taker_10 (by decide) ?_
    refine a_iconst (v := 0) dX0_taker_21 (by decide) ?_
    cases h
    exact a_ireturn rfl rfl rfl rfl rfl dX0_taker_22
  · have he5 := e_X1_taker (G := G) hl f3 e5
    refine c_X (b := b8) he5.1 (rn_V (n := 2) (As := [vI_ i1, vI_ i2]) kc_1 f3 he5 (lw_V q1256 q1257 q1258 q90 q1259) (by decide +kernel) rfl (Nat.le_of_ble_eq_true rfl) (Nat.le_of_ble_eq_true rfl) (Nat.le_of_ble_eq_true rfl) dX0_taker_5) ?_
    by_cases c15 : b8.1 = 26
    · replace h := ifp_ c15 h
      refine a_catch [] ⟨0, 10, 13, 31⟩ [⟨0, 10, 17, 13⟩] rfl (fun z hz => nomatch hz) rfl (by decide) q1229 (by rw [c15]; exact q1240) ?_
      refine a_astore (ls' := [(4, vR_ (some b8)), (0, vR_ (some a1)), (1, vI_ i1), (2, vI_ i2), (3, vR_ i3)]) dX0_taker_13 (Nat.le_of_ble_eq_true rfl) rfl ?_
      refine a_iconst (v := 1) dX0_taker_15 (by decide) ?_
      cases h
      exact a_ireturn rfl rfl rfl rfl rfl dX0_taker_16
    replace h := ifn_ c15 h
    by_cases c16 : b8.1 = 25
    · replace h := ifp_ c16 h
      refine a_catch [⟨0, 10, 13, 31⟩] ⟨0, 10, 17, 13⟩ [] rfl (fun z hz => Or.inr (by rw [List.mem_singleton.mp hz]; exact ⟨by decide, _, q1229, by rw [c16]; rfl, rfl⟩)) rfl (by decide) q575 (by rw [c16]; exact q587) ?_
      refine a_astore (ls' := [(4, vR_ (some b8)), (0, vR_ (some a1)), (1, vI_ i1), (2, vI_ i2), (3, vR_ i3)]) dX0_taker_17 (Nat.le_of_ble_eq_true rfl) rfl ?_
      refine a_iconst (v := 2) dX0_taker_19 (by decide) ?_
      cases h
      exact a_ireturn rfl rfl rfl rfl rfl dX0_taker_20
    replace h := ifn_ c16 h
    cases h
def f_X1_asks (F : Nat)  (t : pm_A) (i0 : Int32) (i1 : Int32) (m : pm_M) : Option ((Int32 ⊕ pm_A) × pm_M) :=
  bt_ (f_X1_signerOf F t i0 m) (fun v3 m1 =>
    bt_ (f_X1_within F t i1 0 1 m1) (fun v8 m6 =>
      gd_ 3 (gR_ m6 t 2) fun a11 =>
      bm_ (f_X3_now F a11 m6) fun v16 m14 =>
      gd_ 4 v16 fun a17 =>
      bm_ (f_X4_asks F a17 i0 i1 m14) fun v22 m20 =>
      some (.inl v22, m20)
    ) fun b10 m9 =>
      some (.inr b10, m9)
  ) fun b5 m4 =>
    some (.inr b5, m4)
set_option maxHeartbeats 4000000 in
theorem e_X1_asks {G : xg_T} {l : Launch} (hl : l.stackTraces = false) {F : Nat}    {t : pm_A} {i0 : Int32} {i1 : Int32} {m0 m' : pm_M} {r : (Int32 ⊕ pm_A)} (ht : t.1 = 1) (h : f_X1_asks F t i0 i1 m0 = some (r, m')) : Cal_ G l yX1_asks (ws_ yX1_asks cX1_asks 3 (some .int)) 168 [vR_ (some t), vI_ i0, vI_ i1] m0 (oI_ r) m' := by
  refine cal_of (by decide +kernel) (Nat.le_of_ble_eq_true rfl) ?_
  unfold f_X1_asks at h
  show AW_ cX1_asks RX1 (some (.int), "asks", 168, 3, m0, m', (oI_ r), G, l, [], true) m0 0 [(0, vR_ (some t)), (1, vI_ i0), (2, vI_ i1)] []
  refine a_aload_n 0 dX1_asks_0 rfl rfl ?_
  refine a_iload_n 1 dX1_asks_1 rfl rfl ?_
  rcases bt_some h with ⟨v3, m1, e2, h⟩ | ⟨b5, m4, e2, h⟩
  · have he2 := e_X1_signerOf (G := G) hl ht e2
    refine c_V he2.1 (rn_V (n := 1) (As := [vI_ i0]) kc_1 ht he2 (lw_V q1234 q1236 qs15 q90 q1237) (by decide +kernel) rfl (Nat.le_of_ble_eq_true rfl) (Nat.le_of_ble_eq_true rfl) (Nat.le_of_ble_eq_true rfl) dX1_asks_2) (fun z => (os_av (As := [vI_ i0]) z).2.1) ?_
    refine a_aload_n 0 dX1_asks_5 rfl rfl ?_
    refine a_iload_n 2 dX1_asks_6 rfl rfl ?_
    refine a_iconst (v := 0) dX1_asks_7 (by decide) ?_
    refine a_iconst (v := 1) dX1_asks_8 (by decide) ?_
    rcases bt_some h with ⟨v8, m6, e7, h⟩ | ⟨b10, m9, e7, h⟩
    · have he7 := e_X1_within (G := G) hl ht e7
      refine c_V he7.1 (rn_V (n := 3) (As := [vI_ i1, vI_ 0, vI_ 1]) kc_1 ht he7 (lw_V q581 q583 qs0 q90 q584) (by decide +kernel) rfl (Nat.le_of_ble_eq_true rfl) (Nat.le_of_ble_eq_true rfl) (Nat.le_of_ble_eq_true rfl) dX1_asks_9) (fun z => (os_av (As := [vI_ i1, vI_ 0, vI_ 1]) z).2.1) ?_
      refine a_aload_n 0 dX1_asks_12 rfl rfl ?_
      refine a_getR kc_1 2 (by decide) rfl ht q390 dX1_asks_13 ?_
      obtain ⟨a11, e12, f13, h⟩ := gd_some h
      rw [e12]
      obtain ⟨v16, m14, e15, h⟩ := bm_some h
      have he15 := e_X3_now (G := G) hl f13 e15
      refine c_R he15.1 (rn_V (n := 0) (As := []) kc_3 f13 he15 (lw_V q380 q381 q382 q92 q383) (by decide +kernel) rfl (Nat.le_of_ble_eq_true rfl) (Nat.le_of_ble_eq_true rfl) (Nat.le_of_ble_eq_true rfl) dX1_asks_16) (fun z => (os_av (As := []) z).2.1) ?_
      refine a_iload_n 1 dX1_asks_19 rfl rfl ?_
      refine a_iload_n 2 dX1_asks_20 rfl rfl ?_
      obtain ⟨a17, e18, f19, h⟩ := gd_some h
      rw [e18]
      obtain ⟨v22, m20, e21, h⟩ := bm_some h
      have he21 := e_X4_asks (G := G) hl f19 e21
      refine c_I he21.1 (rn_V (n := 2) (As := [vI_ i0, vI_ i1]) kc_4 f19 he21 (lw_V q1272 q471 q472 q93 q473) (by decide +kernel) rfl (Nat.le_of_ble_eq_true rfl) (Nat.le_of_ble_eq_true rfl) (Nat.le_of_ble_eq_true rfl) dX1_asks_21) (fun z => (os_av (As := [vI_ i0, vI_ i1]) z).2.1) ?_
      cases h
      exact a_ireturn rfl rfl rfl rfl rfl dX1_asks_24
    · have he7 := e_X1_within (G := G) hl ht e7
      refine c_X (b := b10) he7.1 (rn_V (n := 3) (As := [vI_ i1, vI_ 0, vI_ 1]) kc_1 ht he7 (lw_V q581 q583 qs0 q90 q584) (by decide +kernel) rfl (Nat.le_of_ble_eq_true rfl) (Nat.le_of_ble_eq_true rfl) (Nat.le_of_ble_eq_true rfl) dX1_asks_9) ?_
      cases h
      exact a_out rfl rfl rfl rfl
  · have he2 := e_X1_signerOf (G := G) hl ht e2
    refine c_X (b := b5) he2.1 (rn_V (n := 1) (As := [vI_ i0]) kc_1 ht he2 (lw_V q1234 q1236 qs15 q90 q1237) (by decide +kernel) rfl (Nat.le_of_ble_eq_true rfl) (Nat.le_of_ble_eq_true rfl) (Nat.le_of_ble_eq_true rfl) dX1_asks_2) ?_
    cases h
    exact a_out rfl rfl rfl rfl
def f_X0_asks (F : Nat)  (i0 : Option pm_A) (i1 : Int32) (i2 : Int32) (i3 : Option pm_A) (m : pm_M) : Option (Int32 × pm_M) :=
  gd_ 1 i0 fun a1 =>
  bt_ (f_X1_asks F a1 i1 i2 m) (fun v6 m4 =>
    gd_ 103 i3 fun a9 =>
    iz_ (!(ib_ 0 a9.2.1)) <|
    lt_ (pL_ m4 a9 ((0 : Int32).toNatClampNeg) v6.toInt64) fun m13 =>
    some (0, m13)
  ) fun b8 m7 =>
    if b8.1 = 26 then
      some (1, m7)
    else
    if b8.1 = 25 then
      some (2, m7)
    else
    none
set_option maxHeartbeats 4000000 in
theorem e_X0_asks {G : xg_T} {l : Launch} (hl : l.stackTraces = false) {F : Nat}    {i0 : Option pm_A} {i1 : Int32} {i2 : Int32} {i3 : Option pm_A} {m0 m' : pm_M} {r : Int32} (h : f_X0_asks F i0 i1 i2 i3 m0 = some (r, m')) : Cal_ G l yX0_asks (wsW_ yX0_asks cX0_asks 5 (some .int) [(0, 10, 13, 31), (0, 10, 17, 13)]) 169 [vR_ i0, vI_ i1, vI_ i2, vR_ i3] m0 (.inl (some (vI_ r))) m' := by
  refine cal_ofH (by decide +kernel) (Nat.le_of_ble_eq_true rfl) ?_
  unfold f_X0_asks at h
  show AW_ cX0_asks RX0 (some (.int), "asks", 169, 5, m0, m', (.inl (some (vI_ r))), G, l, [(0, 10, 13, 31), (0, 10, 17, 13)], true) m0 0 [(0, vR_ i0), (1, vI_ i1), (2, vI_ i2), (3, vR_ i3)] []
  refine a_aload_n 3 dX0_asks_0 rfl rfl ?_
  refine a_iconst (v := 0) dX0_asks_1 (by decide) ?_
  refine a_aload_n 0 dX0_asks_2 rfl rfl ?_
  refine a_iload_n 1 dX0_asks_3 rfl rfl ?_
  refine a_iload_n 2 dX0_asks_4 rfl rfl ?_
  obtain ⟨a1, e2, f3, h⟩ := gd_some h
  rw [e2]
  rcases bt_some h with ⟨v6, m4, e5, h⟩ | ⟨b8, m7, e5, h⟩
  · have he5 := e_X1_asks (G := G) hl f3 e5
    refine c_I (v := v6) he5.1 (rn_V (n := 2) (As := [vI_ i1, vI_ i2]) kc_1 f3 he5 (lw_V q1268 q1269 q1270 q90 q1271) (by decide +kernel) rfl (Nat.le_of_ble_eq_true rfl) (Nat.le_of_ble_eq_true rfl) (Nat.le_of_ble_eq_true rfl) dX0_asks_5) (fun z => (os_av (As := [vI_ i1, vI_ i2]) z).2.1) ?_
    refine a_i2l dX0_asks_8 ?_
    obtain ⟨a9, e10, f11, h⟩ := gd_some h
    rw [e10]
    obtain ⟨c12, h⟩ := iz_some h
    obtain ⟨m13, e14, h⟩ := lt_some h
    refine a_last f11 (bn_ c12) dX0_asks_9 ?_
    rw [← e14]
    refine a_goto (tgt := 21) dX0_asks_10 (by decide) ?_
    refine a_iconst (v := 0) dX0_asks_21 (by decide) ?_
    cases h
    exact a_ireturn rfl rfl rfl rfl rfl dX0_asks_22
  · have he5 := e_X1_asks (G := G) hl f3 e5
    refine c_X (b := b8) he5.1 (rn_V (n := 2) (As := [vI_ i1, vI_ i2]) kc_1 f3 he5 (lw_V q1268 q1269 q1270 q90 q1271) (by decide +kernel) rfl (Nat.le_of_ble_eq_true rfl) (Nat.le_of_ble_eq_true rfl) (Nat.le_of_ble_eq_true rfl) dX0_asks_5) ?_
    by_cases c15 : b8.1 = 26
    · replace h := ifp_ c15 h
      refine a_catch [] ⟨0, 10, 13, 31⟩ [⟨0, 10, 17, 13⟩] rfl (fun z hz => nomatch hz) rfl (by decide) q1229 (by rw [c15]; exact q1240) ?_
      refine a_astore (ls' := [(4, vR_ (some b8)), (0, vR_ (some a1)), (1, vI_ i1), (2, vI_ i2), (3, vR_ i3)]) dX0_asks_13 (Nat.le_of_ble_eq_true rfl) rfl ?_
      refine a_iconst (v := 1) dX0_asks_15 (by decide) ?_
      cases h
      exact a_ireturn rfl rfl rfl rfl rfl dX0_asks_16
    replace h := ifn_ c15 h
    by_cases c16 : b8.1 = 25
    · replace h := ifp_ c16 h
      refine a_catch [⟨0, 10, 13, 31⟩] ⟨0, 10, 17, 13⟩ [] rfl (fun z hz => Or.inr (by rw [List.mem_singleton.mp hz]; exact ⟨by decide, _, q1229, by rw [c16]; rfl, rfl⟩)) rfl (by decide) q575 (by rw [c16]; exact q587) ?_
      refine a_astore (ls' := [(4, vR_ (some b8)), (0, vR_ (some a1)), (1, vI_ i1), (2, vI_ i2), (3, vR_ i3)]) dX0_asks_17 (Nat.le_of_ble_eq_true rfl) rfl ?_
      refine a_iconst (v := 2) dX0_asks_19 (by decide) ?_
      cases h
      exact a_ireturn rfl rfl rfl rfl rfl dX0_asks_20
    replace h := ifn_ c16 h
    cases h
def f_X1_owes (F : Nat)  (t : pm_A) (i0 : Int32) (m : pm_M) : Option ((Int32 ⊕ pm_A) × pm_M) :=
  bt_ (f_X1_signerOf F t i0 m) (fun v3 m1 =>
    gd_ 3 (gR_ m1 t 2) fun a6 =>
    bm_ (f_X3_now F a6 m1) fun v11 m9 =>
    gd_ 4 v11 fun a12 =>
    bm_ (f_X4_owes F a12 i0 m9) fun v17 m15 =>
    some (.inl v17, m15)
  ) fun b5 m4 =>
    some (.inr b5, m4)
set_option maxHeartbeats 4000000 in
theorem e_X1_owes {G : xg_T} {l : Launch} (hl : l.stackTraces = false) {F : Nat}    {t : pm_A} {i0 : Int32} {m0 m' : pm_M} {r : (Int32 ⊕ pm_A)} (ht : t.1 = 1) (h : f_X1_owes F t i0 m0 = some (r, m')) : Cal_ G l yX1_owes (ws_ yX1_owes cX1_owes 2 (some .int)) 170 [vR_ (some t), vI_ i0] m0 (oI_ r) m' := by
  refine cal_of (by decide +kernel) (Nat.le_of_ble_eq_true rfl) ?_
  unfold f_X1_owes at h
  show AW_ cX1_owes RX1 (some (.int), "owes", 170, 2, m0, m', (oI_ r), G, l, [], true) m0 0 [(0, vR_ (some t)), (1, vI_ i0)] []
  refine a_aload_n 0 dX1_owes_0 rfl rfl ?_
  refine a_iload_n 1 dX1_owes_1 rfl rfl ?_
  rcases bt_some h with ⟨v3, m1, e2, h⟩ | ⟨b5, m4, e2, h⟩
  · have he2 := e_X1_signerOf (G := G) hl ht e2
    refine c_V he2.1 (rn_V (n := 1) (As := [vI_ i0]) kc_1 ht he2 (lw_V q1234 q1236 qs15 q90 q1237) (by decide +kernel) rfl (Nat.le_of_ble_eq_true rfl) (Nat.le_of_ble_eq_true rfl) (Nat.le_of_ble_eq_true rfl) dX1_owes_2) (fun z => (os_av (As := [vI_ i0]) z).2.1) ?_
    refine a_aload_n 0 dX1_owes_5 rfl rfl ?_
    refine a_getR kc_1 2 (by decide) rfl ht q390 dX1_owes_6 ?_
    obtain ⟨a6, e7, f8, h⟩ := gd_some h
    rw [e7]
    obtain ⟨v11, m9, e10, h⟩ := bm_some h
    have he10 := e_X3_now (G := G) hl f8 e10
    refine c_R he10.1 (rn_V (n := 0) (As := []) kc_3 f8 he10 (lw_V q380 q381 q382 q92 q383) (by decide +kernel) rfl (Nat.le_of_ble_eq_true rfl) (Nat.le_of_ble_eq_true rfl) (Nat.le_of_ble_eq_true rfl) dX1_owes_9) (fun z => (os_av (As := []) z).2.1) ?_
    refine a_iload_n 1 dX1_owes_12 rfl rfl ?_
    obtain ⟨a12, e13, f14, h⟩ := gd_some h
    rw [e13]
    obtain ⟨v17, m15, e16, h⟩ := bm_some h
    have he16 := e_X4_owes (G := G) hl f14 e16
    refine c_I he16.1 (rn_V (n := 1) (As := [vI_ i0]) kc_4 f14 he16 (lw_V q1280 q1159 q1160 q93 q1161) (by decide +kernel) rfl (Nat.le_of_ble_eq_true rfl) (Nat.le_of_ble_eq_true rfl) (Nat.le_of_ble_eq_true rfl) dX1_owes_13) (fun z => (os_av (As := [vI_ i0]) z).2.1) ?_
    cases h
    exact a_ireturn rfl rfl rfl rfl rfl dX1_owes_16
  · have he2 := e_X1_signerOf (G := G) hl ht e2
    refine c_X (b := b5) he2.1 (rn_V (n := 1) (As := [vI_ i0]) kc_1 ht he2 (lw_V q1234 q1236 qs15 q90 q1237) (by decide +kernel) rfl (Nat.le_of_ble_eq_true rfl) (Nat.le_of_ble_eq_true rfl) (Nat.le_of_ble_eq_true rfl) dX1_owes_2) ?_
    cases h
    exact a_out rfl rfl rfl rfl
