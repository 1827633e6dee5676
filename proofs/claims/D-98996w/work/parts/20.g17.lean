/-! PRINTED BY dec.py: X8_freeBy X8_freeIn X8_otherwise X8_ahead X8_givesFor X8_gives X8_mayBeWith X8_waysOn X8_findBest X8_best X8_bestFor X8_parted X8_kin -/
set_option maxRecDepth 100000
def f_X8_freeBy_L25 (F : Nat)  (p11 : pm_A) (p13 : Int32) : Nat → Int32 → pm_M → Option (Int32 × pm_M)
  | 0, _, _ => none
  | n14 + 1, x16, m15 =>
    if 600 < x16 then
      some (((-1)), m15)
    else
      bm_ (f_X8_passes F p11 m15) fun v20 m18 =>
      gd_ 100 (gR_ m18 p11 38) fun a21 =>
      iz_ (!(ib_ (0 + p13) a21.2.1)) <|
      if (gI_ m18 a21 (0 + p13).toNatClampNeg) = 3 then
        some (x16, m18)
      else
        (f_X8_freeBy_L25 F p11 p13 n14) (x16 + 1) m18
set_option maxHeartbeats 4000000 in
theorem w_X8_freeBy_L25 {G : xg_T} {l : Launch} (hl : l.stackTraces = false) {F : Nat}    (p11 : pm_A) (p13 : Int32) {m0 m' : pm_M} {r : Int32} (hf12 : p11.1 = 8)  : ∀ (n : Nat) (x16 : Int32) (m15 : pm_M), f_X8_freeBy_L25 F p11 p13 n x16 m15 = some (r, m') → AW_ cX8_freeBy RX8 (some (.int), "freeBy", 9, 4, m0, m', (.inl (some (vI_ r))), G, l, [], true) m15 25 [(0, vR_ (some p11)), (1, vI_ p13), (3, vI_ x16)] [] := by
  intro n
  induction n with
  | zero => intro x16 m15 h; cases h
  | succ n14 ih =>
    intro x16 m15 h
    rw [f_X8_freeBy_L25] at h
    refine a_iload_n 2 dX8_freeBy_25 rfl rfl ?_
    refine a_sipush (v := 600) dX8_freeBy_26 (by decide) ?_
    refine a_icmp_gt (tgt := 56) dX8_freeBy_29 (by decide) (fun c17 => ?_) (fun c17 => ?_)
    · replace h := ifp_ c17 h
      refine a_iconst (v := (-1)) dX8_freeBy_56 (by decide) ?_
      cases h
      exact a_ireturn rfl rfl rfl rfl rfl dX8_freeBy_57
    · replace h := ifn_ c17 h
      refine a_aload_n 0 dX8_freeBy_32 rfl rfl ?_
      obtain ⟨v20, m18, e19, h⟩ := bm_some h
      have he19 := e_X8_passes (G := G) hl hf12 e19
      refine c_V he19.1 (rn_V (n := 0) (As := []) kc_8 hf12 he19 (lw_V q1963 q1965 qs74 q97 q1966) (by decide +kernel) rfl (Nat.le_of_ble_eq_true rfl) (Nat.le_of_ble_eq_true rfl) (Nat.le_of_ble_eq_true rfl) dX8_freeBy_33) (fun z => (os_av (As := []) z).2.1) ?_
      refine a_aload_n 0 dX8_freeBy_36 rfl rfl ?_
      refine a_getR kc_8 38 (by decide) rfl hf12 q1592 dX8_freeBy_37 ?_
      refine a_iconst (v := 0) dX8_freeBy_40 (by decide) ?_
      refine a_iload_n 1 dX8_freeBy_41 rfl rfl ?_
      refine a_iadd dX8_freeBy_42 ?_
      obtain ⟨a21, e22, f23, h⟩ := gd_some h
      rw [e22]
      obtain ⟨c24, h⟩ := iz_some h
      refine a_iald f23 (bn_ c24) dX8_freeBy_43 ?_
      refine a_iconst (v := 3) dX8_freeBy_44 (by decide) ?_
      refine a_icmp_ne (tgt := 50) dX8_freeBy_45 (by decide) (fun c25 => ?_) (fun c25 => ?_)
      · replace h := ifn_ c25 h
        refine a_iinc (v := x16 + 1) (ls' := [(3, vI_ (x16 + 1)), (0, vR_ (some p11)), (1, vI_ p13)]) 2 dX8_freeBy_50 rfl rfl (Nat.le_of_ble_eq_true rfl) rfl ?_
        refine a_goto (tgt := 25) dX8_freeBy_53 (by decide) ?_
        refine aw_pick [1, 2, 0] rfl ?_
        exact ih _ _ h
      · replace h := ifp_ c25 h
        refine a_iload_n 2 dX8_freeBy_48 rfl rfl ?_
        cases h
        exact a_ireturn rfl rfl rfl rfl rfl dX8_freeBy_49
def f_X8_freeBy (F : Nat)  (t : pm_A) (i0 : Int32) (i1 : Int32) (m : pm_M) : Option (Int32 × pm_M) :=
  bm_ (f_X8_take F t m) fun v3 m1 =>
  lt_ (pI_ m1 t 40 i1) fun m4 =>
  gd_ 100 (gR_ m4 t 38) fun a6 =>
  iz_ (!(ib_ (0 + i0) a6.2.1)) <|
  if (gI_ m4 a6 (0 + i0).toNatClampNeg) = 2 then
    f_X8_freeBy_L25 F t i0 F 1 m4
  else
    some (((-1)), m4)
set_option maxHeartbeats 4000000 in
theorem e_X8_freeBy {G : xg_T} {l : Launch} (hl : l.stackTraces = false) {F : Nat}    {t : pm_A} {i0 : Int32} {i1 : Int32} {m0 m' : pm_M} {r : Int32} (ht : t.1 = 8) (h : f_X8_freeBy F t i0 i1 m0 = some (r, m')) : Cal_ G l yX8_freeBy (ws_ yX8_freeBy cX8_freeBy 4 (some .int)) 9 [vR_ (some t), vI_ i0, vI_ i1] m0 (.inl (some (vI_ r))) m' := by
  refine cal_of (by decide +kernel) (Nat.le_of_ble_eq_true rfl) ?_
  unfold f_X8_freeBy at h
  show AW_ cX8_freeBy RX8 (some (.int), "freeBy", 9, 4, m0, m', (.inl (some (vI_ r))), G, l, [], true) m0 0 [(0, vR_ (some t)), (1, vI_ i0), (2, vI_ i1)] []
  refine a_aload_n 0 dX8_freeBy_0 rfl rfl ?_
  obtain ⟨v3, m1, e2, h⟩ := bm_some h
  have he2 := e_X8_take (G := G) hl ht e2
  refine c_V he2.1 (rn_V (n := 0) (As := []) kc_8 ht he2 (lw_V q1888 q1890 qs56 q97 q1891) (by decide +kernel) rfl (Nat.le_of_ble_eq_true rfl) (Nat.le_of_ble_eq_true rfl) (Nat.le_of_ble_eq_true rfl) dX8_freeBy_1) (fun z => (os_av (As := []) z).2.1) ?_
  refine a_aload_n 0 dX8_freeBy_4 rfl rfl ?_
  refine a_iload_n 2 dX8_freeBy_5 rfl rfl ?_
  obtain ⟨m4, e5, h⟩ := lt_some h
  refine a_putI kc_8 40 (by decide) rfl ht q1594 rfl rfl rfl dX8_freeBy_6 ?_
  rw [← e5]
  refine a_aload_n 0 dX8_freeBy_9 rfl rfl ?_
  refine a_getR kc_8 38 (by decide) rfl ht q1592 dX8_freeBy_10 ?_
  refine a_iconst (v := 0) dX8_freeBy_13 (by decide) ?_
  refine a_iload_n 1 dX8_freeBy_14 rfl rfl ?_
  refine a_iadd dX8_freeBy_15 ?_
  obtain ⟨a6, e7, f8, h⟩ := gd_some h
  rw [e7]
  obtain ⟨c9, h⟩ := iz_some h
  refine a_iald f8 (bn_ c9) dX8_freeBy_16 ?_
  refine a_iconst (v := 2) dX8_freeBy_17 (by decide) ?_
  refine a_icmp_eq (tgt := 23) dX8_freeBy_18 (by decide) (fun c10 => ?_) (fun c10 => ?_)
  · replace h := ifp_ c10 h
    refine a_iconst (v := 1) dX8_freeBy_23 (by decide) ?_
    refine a_istore_n (ls' := [(3, vI_ 1), (0, vR_ (some t)), (1, vI_ i0), (2, vI_ i1)]) dX8_freeBy_24 rfl (Nat.le_of_ble_eq_true rfl) rfl ?_
    refine aw_pick [1, 2, 0] rfl ?_
    exact w_X8_freeBy_L25 hl _ _ ht _ _ _ h
  · replace h := ifn_ c10 h
    refine a_iconst (v := (-1)) dX8_freeBy_21 (by decide) ?_
    cases h
    exact a_ireturn rfl rfl rfl rfl rfl dX8_freeBy_22
def f_X8_freeIn (F : Nat)  (t : pm_A) (i0 : Int32) (m : pm_M) : Option (Int32 × pm_M) :=
  lt_ (pI_ m t 0 0) fun m1 =>
  bm_ (f_X8_isSigner F t i0 1 m1) fun v5 m3 =>
  if v5 = 0 then
    some (0, m3)
  else
    bm_ (f_X8_freeBy F t i0 0 m3) fun v9 m7 =>
    some (v9, m7)
set_option maxHeartbeats 4000000 in
theorem e_X8_freeIn {G : xg_T} {l : Launch} (hl : l.stackTraces = false) {F : Nat}    {t : pm_A} {i0 : Int32} {m0 m' : pm_M} {r : Int32} (ht : t.1 = 8) (h : f_X8_freeIn F t i0 m0 = some (r, m')) : Cal_ G l yX8_freeIn (ws_ yX8_freeIn cX8_freeIn 2 (some .int)) 10 [vR_ (some t), vI_ i0] m0 (.inl (some (vI_ r))) m' := by
  refine cal_of (by decide +kernel) (Nat.le_of_ble_eq_true rfl) ?_
  unfold f_X8_freeIn at h
  show AW_ cX8_freeIn RX8 (some (.int), "freeIn", 10, 2, m0, m', (.inl (some (vI_ r))), G, l, [], true) m0 0 [(0, vR_ (some t)), (1, vI_ i0)] []
  refine a_aload_n 0 dX8_freeIn_0 rfl rfl ?_
  refine a_iconst (v := 0) dX8_freeIn_1 (by decide) ?_
  obtain ⟨m1, e2, h⟩ := lt_some h
  refine a_putI kc_8 0 (by decide) rfl ht q1554 rfl rfl rfl dX8_freeIn_2 ?_
  rw [← e2]
  refine a_aload_n 0 dX8_freeIn_5 rfl rfl ?_
  refine a_iload_n 1 dX8_freeIn_6 rfl rfl ?_
  refine a_iconst (v := 1) dX8_freeIn_7 (by decide) ?_
  obtain ⟨v5, m3, e4, h⟩ := bm_some h
  have he4 := e_X8_isSigner (G := G) hl ht e4
  refine c_I he4.1 (rn_V (n := 2) (As := [vI_ i0, vI_ 1]) kc_8 ht he4 (lw_V q1983 q1985 qs75 q97 q1986) (by decide +kernel) rfl (Nat.le_of_ble_eq_true rfl) (Nat.le_of_ble_eq_true rfl) (Nat.le_of_ble_eq_true rfl) dX8_freeIn_8) (fun z => (os_av (As := [vI_ i0, vI_ 1]) z).2.1) ?_
  refine a_if_ne (tgt := 16) dX8_freeIn_11 (by decide) (fun c6 => ?_) (fun c6 => ?_)
  · replace h := ifn_ c6 h
    refine a_aload_n 0 dX8_freeIn_16 rfl rfl ?_
    refine a_iload_n 1 dX8_freeIn_17 rfl rfl ?_
    refine a_iconst (v := 0) dX8_freeIn_18 (by decide) ?_
    obtain ⟨v9, m7, e8, h⟩ := bm_some h
    have he8 := e_X8_freeBy (G := G) hl ht e8
    refine c_I he8.1 (rn_V (n := 2) (As := [vI_ i0, vI_ 0]) kc_8 ht he8 (lw_V q2015 q2017 qs77 q97 q2018) (by decide +kernel) rfl (Nat.le_of_ble_eq_true rfl) (Nat.le_of_ble_eq_true rfl) (Nat.le_of_ble_eq_true rfl) dX8_freeIn_19) (fun z => (os_av (As := [vI_ i0, vI_ 0]) z).2.1) ?_
    cases h
    exact a_ireturn rfl rfl rfl rfl rfl dX8_freeIn_22
  · replace h := ifp_ c6 h
    refine a_iconst (v := 0) dX8_freeIn_14 (by decide) ?_
    cases h
    exact a_ireturn rfl rfl rfl rfl rfl dX8_freeIn_15
def f_X8_otherwise (F : Nat)  (t : pm_A) (i0 : Int32) (m : pm_M) : Option (Int32 × pm_M) :=
  lt_ (pI_ m t 0 0) fun m1 =>
  bm_ (f_X8_isSigner F t i0 1 m1) fun v5 m3 =>
  if v5 = 0 then
    some (0, m3)
  else
    bm_ (f_X8_freeBy F t i0 1 m3) fun v9 m7 =>
    some (v9, m7)
set_option maxHeartbeats 4000000 in
theorem e_X8_otherwise {G : xg_T} {l : Launch} (hl : l.stackTraces = false) {F : Nat}    {t : pm_A} {i0 : Int32} {m0 m' : pm_M} {r : Int32} (ht : t.1 = 8) (h : f_X8_otherwise F t i0 m0 = some (r, m')) : Cal_ G l yX8_otherwise (ws_ yX8_otherwise cX8_otherwise 2 (some .int)) 10 [vR_ (some t), vI_ i0] m0 (.inl (some (vI_ r))) m' := by
  refine cal_of (by decide +kernel) (Nat.le_of_ble_eq_true rfl) ?_
  unfold f_X8_otherwise at h
  show AW_ cX8_otherwise RX8 (some (.int), "otherwise", 10, 2, m0, m', (.inl (some (vI_ r))), G, l, [], true) m0 0 [(0, vR_ (some t)), (1, vI_ i0)] []
  refine a_aload_n 0 dX8_otherwise_0 rfl rfl ?_
  refine a_iconst (v := 0) dX8_otherwise_1 (by decide) ?_
  obtain ⟨m1, e2, h⟩ := lt_some h
  refine a_putI kc_8 0 (by decide) rfl ht q1554 rfl rfl rfl dX8_otherwise_2 ?_
  rw [← e2]
  refine a_aload_n 0 dX8_otherwise_5 rfl rfl ?_
  refine a_iload_n 1 dX8_otherwise_6 rfl rfl ?_
  refine a_iconst (v := 1) dX8_otherwise_7 (by decide) ?_
  obtain ⟨v5, m3, e4, h⟩ := bm_some h
  have he4 := e_X8_isSigner (G := G) hl ht e4
  refine c_I he4.1 (rn_V (n := 2) (As := [vI_ i0, vI_ 1]) kc_8 ht he4 (lw_V q1983 q1985 qs75 q97 q1986) (by decide +kernel) rfl (Nat.le_of_ble_eq_true rfl) (Nat.le_of_ble_eq_true rfl) (Nat.le_of_ble_eq_true rfl) dX8_otherwise_8) (fun z => (os_av (As := [vI_ i0, vI_ 1]) z).2.1) ?_
  refine a_if_ne (tgt := 16) dX8_otherwise_11 (by decide) (fun c6 => ?_) (fun c6 => ?_)
  · replace h := ifn_ c6 h
    refine a_aload_n 0 dX8_otherwise_16 rfl rfl ?_
    refine a_iload_n 1 dX8_otherwise_17 rfl rfl ?_
    refine a_iconst (v := 1) dX8_otherwise_18 (by decide) ?_
    obtain ⟨v9, m7, e8, h⟩ := bm_some h
    have he8 := e_X8_freeBy (G := G) hl ht e8
    refine c_I he8.1 (rn_V (n := 2) (As := [vI_ i0, vI_ 1]) kc_8 ht he8 (lw_V q2015 q2017 qs77 q97 q2018) (by decide +kernel) rfl (Nat.le_of_ble_eq_true rfl) (Nat.le_of_ble_eq_true rfl) (Nat.le_of_ble_eq_true rfl) dX8_otherwise_19) (fun z => (os_av (As := [vI_ i0, vI_ 1]) z).2.1) ?_
    cases h
    exact a_ireturn rfl rfl rfl rfl rfl dX8_otherwise_22
  · replace h := ifp_ c6 h
    refine a_iconst (v := 0) dX8_otherwise_14 (by decide) ?_
    cases h
    exact a_ireturn rfl rfl rfl rfl rfl dX8_otherwise_15
def f_X8_ahead_L47 (F : Nat)  (p27 : pm_A) (p29 : Int32) (p30 : Int32) (k31 : pm_M → Option (Int32 × pm_M)) : Nat → Int32 → pm_M → Option (Int32 × pm_M)
  | 0, _, _ => none
  | n33 + 1, x35, m34 =>
    if p29 ≤ x35 then
      k31 m34
    else
      bm_ (f_X8_passes F p27 m34) fun v39 m37 =>
      (f_X8_ahead_L47 F p27 p29 p30 k31 n33) (x35 + 1) m37
set_option maxHeartbeats 4000000 in
theorem w_X8_ahead_L47 {G : xg_T} {l : Launch} (hl : l.stackTraces = false) {F : Nat}    (p27 : pm_A) (p29 : Int32) (p30 : Int32) (k31 : pm_M → Option (Int32 × pm_M)) {m0 m' : pm_M} {r : Int32} (hf28 : p27.1 = 8) (hk31 : ∀ (m32 : pm_M), k31 m32 = some (r, m') → AW_ cX8_ahead RX8 (some (.int), "ahead", 9, 4, m0, m', (.inl (some (vI_ r))), G, l, [], true) m32 62 [(0, vR_ (some p27)), (2, vI_ p30)] []) : ∀ (n : Nat) (x35 : Int32) (m34 : pm_M), f_X8_ahead_L47 F p27 p29 p30 k31 n x35 m34 = some (r, m') → AW_ cX8_ahead RX8 (some (.int), "ahead", 9, 4, m0, m', (.inl (some (vI_ r))), G, l, [], true) m34 47 [(0, vR_ (some p27)), (1, vI_ p29), (2, vI_ p30), (3, vI_ x35)] [] := by
  intro n
  induction n with
  | zero => intro x35 m34 h; cases h
  | succ n33 ih =>
    intro x35 m34 h
    rw [f_X8_ahead_L47] at h
    refine a_iload_n 3 dX8_ahead_47 rfl rfl ?_
    refine a_iload_n 1 dX8_ahead_48 rfl rfl ?_
    refine a_icmp_ge (tgt := 62) dX8_ahead_49 (by decide) (fun c36 => ?_) (fun c36 => ?_)
    · replace h := ifp_ c36 h
      refine aw_pick [0, 2] rfl ?_
      exact hk31 _ h
    · replace h := ifn_ c36 h
      refine a_aload_n 0 dX8_ahead_52 rfl rfl ?_
      obtain ⟨v39, m37, e38, h⟩ := bm_some h
      have he38 := e_X8_passes (G := G) hl hf28 e38
      refine c_V he38.1 (rn_V (n := 0) (As := []) kc_8 hf28 he38 (lw_V q1963 q1965 qs74 q97 q1966) (by decide +kernel) rfl (Nat.le_of_ble_eq_true rfl) (Nat.le_of_ble_eq_true rfl) (Nat.le_of_ble_eq_true rfl) dX8_ahead_53) (fun z => (os_av (As := []) z).2.1) ?_
      refine a_iinc (v := x35 + 1) (ls' := [(3, vI_ (x35 + 1)), (0, vR_ (some p27)), (1, vI_ p29), (2, vI_ p30)]) 3 dX8_ahead_56 rfl rfl (Nat.le_of_ble_eq_true rfl) rfl ?_
      refine a_goto (tgt := 47) dX8_ahead_59 (by decide) ?_
      refine aw_pick [1, 2, 3, 0] rfl ?_
      exact ih _ _ h
def f_X8_ahead (F : Nat)  (t : pm_A) (i0 : Int32) (i1 : Int32) (m : pm_M) : Option (Int32 × pm_M) :=
  lt_ (pI_ m t 0 0) fun m1 =>
  bm_ (f_X8_within F i0 0 600 m1) fun v5 m3 =>
  jn_ (fun (y8 : Option pm_A) (y9 : Int32) (m7 : pm_M) =>
    gd_ 8 y8 fun a10 =>
    bm_ (f_X8_may F a10 y9 1 1 m7) fun v15 m13 =>
    if v15 = 0 then
      some (0, m13)
    else
      bm_ (f_X8_take F t m13) fun v19 m17 =>
      jn_ (fun  (m21 : pm_M) =>
        if i1 = 0 then
          bm_ (f_X8_many F t 3 m21) fun v26 m24 =>
          some (v26, m24)
        else
          if i1 = 1 then
            some ((gI_ m21 t 42), m21)
          else
            some ((gI_ m21 t 41), m21)
      ) fun k20 =>
      f_X8_ahead_L47 F t i0 i1 k20 F 0 m17
  ) fun k6 =>
  jn_ (fun (y43 : Option pm_A) (m42 : pm_M) =>
    k6 y43 0 m42
  ) fun k41 =>
  if v5 = 0 then
    k41 (some t) m3
  else
    bm_ (f_X8_within F i1 0 2 m3) fun v47 m45 =>
    if v47 = 0 then
      k41 (some t) m45
    else
      k6 (some t) 1 m45
set_option maxHeartbeats 4000000 in
theorem e_X8_ahead {G : xg_T} {l : Launch} (hl : l.stackTraces = false) {F : Nat}    {t : pm_A} {i0 : Int32} {i1 : Int32} {m0 m' : pm_M} {r : Int32} (ht : t.1 = 8) (h : f_X8_ahead F t i0 i1 m0 = some (r, m')) : Cal_ G l yX8_ahead (ws_ yX8_ahead cX8_ahead 4 (some .int)) 9 [vR_ (some t), vI_ i0, vI_ i1] m0 (.inl (some (vI_ r))) m' := by
  refine cal_of (by decide +kernel) (Nat.le_of_ble_eq_true rfl) ?_
  unfold f_X8_ahead at h
  show AW_ cX8_ahead RX8 (some (.int), "ahead", 9, 4, m0, m', (.inl (some (vI_ r))), G, l, [], true) m0 0 [(0, vR_ (some t)), (1, vI_ i0), (2, vI_ i1)] []
  refine a_aload_n 0 dX8_ahead_0 rfl rfl ?_
  refine a_iconst (v := 0) dX8_ahead_1 (by decide) ?_
  obtain ⟨m1, e2, h⟩ := lt_some h
  refine a_putI kc_8 0 (by decide) rfl ht q1554 rfl rfl rfl dX8_ahead_2 ?_
  rw [← e2]
  refine a_aload_n 0 dX8_ahead_5 rfl rfl ?_
  refine a_iload_n 1 dX8_ahead_6 rfl rfl ?_
  refine a_iconst (v := 0) dX8_ahead_7 (by decide) ?_
  refine a_sipush (v := 600) dX8_ahead_8 (by decide) ?_
  obtain ⟨v5, m3, e4, h⟩ := bm_some h
  have he4 := e_X8_within (G := G) hl e4
  refine c_I he4.1 (rn_S (n := 3) (As := [vI_ i0, vI_ 0, vI_ 600]) he4 (lw_S q1823 q1824 q97 q1825) (by decide +kernel) rfl (Nat.le_of_ble_eq_true rfl) (Nat.le_of_ble_eq_true rfl) (Nat.le_of_ble_eq_true rfl) dX8_ahead_11) (fun z => (os_aS (As := [vI_ i0, vI_ 0, vI_ 600]) z).2) ?_
  obtain ⟨k6, e50, h⟩ := jn3_some h
  have hk6 : ∀ (y8 : Option pm_A) (y9 : Int32) (m7 : pm_M), k6 y8 y9 m7 = some (r, m') → AW_ cX8_ahead RX8 (some (.int), "ahead", 9, 4, m0, m', (.inl (some (vI_ r))), G, l, [], true) m7 31 [(0, vR_ (some t)), (1, vI_ i0), (2, vI_ i1)] [vI_ y9, vR_ y8] := by
    intro y8 y9 m7 h
    have h := (e50 y8 y9 m7).symm.trans h
    refine a_iconst (v := 1) dX8_ahead_31 (by decide) ?_
    refine a_iconst (v := 1) dX8_ahead_32 (by decide) ?_
    obtain ⟨a10, e11, f12, h⟩ := gd_some h
    rw [e11]
    obtain ⟨v15, m13, e14, h⟩ := bm_some h
    have he14 := e_X8_may (G := G) hl f12 e14
    refine c_I he14.1 (rn_V (n := 3) (As := [vI_ y9, vI_ 1, vI_ 1]) kc_8 f12 he14 (lw_V q1744 q1746 qs32 q97 q1747) (by decide +kernel) rfl (Nat.le_of_ble_eq_true rfl) (Nat.le_of_ble_eq_true rfl) (Nat.le_of_ble_eq_true rfl) dX8_ahead_33) (fun z => (os_av (As := [vI_ y9, vI_ 1, vI_ 1]) z).2.1) ?_
    refine a_if_ne (tgt := 41) dX8_ahead_36 (by decide) (fun c16 => ?_) (fun c16 => ?_)
    · replace h := ifn_ c16 h
      refine a_aload_n 0 dX8_ahead_41 rfl rfl ?_
      obtain ⟨v19, m17, e18, h⟩ := bm_some h
      have he18 := e_X8_take (G := G) hl ht e18
      refine c_V he18.1 (rn_V (n := 0) (As := []) kc_8 ht he18 (lw_V q1888 q1890 qs56 q97 q1891) (by decide +kernel) rfl (Nat.le_of_ble_eq_true rfl) (Nat.le_of_ble_eq_true rfl) (Nat.le_of_ble_eq_true rfl) dX8_ahead_42) (fun z => (os_av (As := []) z).2.1) ?_
      refine a_iconst (v := 0) dX8_ahead_45 (by decide) ?_
      refine a_istore_n (ls' := [(3, vI_ 0), (0, vR_ (some t)), (1, vI_ i0), (2, vI_ i1)]) dX8_ahead_46 rfl (Nat.le_of_ble_eq_true rfl) rfl ?_
      obtain ⟨k20, e40, h⟩ := jn1_some h
      have hk20 : ∀  (m21 : pm_M), k20 m21 = some (r, m') → AW_ cX8_ahead RX8 (some (.int), "ahead", 9, 4, m0, m', (.inl (some (vI_ r))), G, l, [], true) m21 62 [(0, vR_ (some t)), (2, vI_ i1)] [] := by
        intro m21 h
        have h := (e40 m21).symm.trans h
        refine a_iload_n 1 dX8_ahead_62 rfl rfl ?_
        refine a_if_ne (tgt := 74) dX8_ahead_63 (by decide) (fun c22 => ?_) (fun c22 => ?_)
        · replace h := ifn_ c22 h
          refine a_iload_n 1 dX8_ahead_74 rfl rfl ?_
          refine a_iconst (v := 1) dX8_ahead_75 (by decide) ?_
          refine a_icmp_ne (tgt := 86) dX8_ahead_76 (by decide) (fun c23 => ?_) (fun c23 => ?_)
          · replace h := ifn_ c23 h
            refine a_aload_n 0 dX8_ahead_86 rfl rfl ?_
            refine a_getI kc_8 41 (by decide) rfl ht q1595 dX8_ahead_87 ?_
            cases h
            exact a_ireturn rfl rfl rfl rfl rfl dX8_ahead_90
          · replace h := ifp_ c23 h
            refine a_aload_n 0 dX8_ahead_79 rfl rfl ?_
            refine a_getI kc_8 42 (by decide) rfl ht q1596 dX8_ahead_80 ?_
            refine a_goto (tgt := 90) dX8_ahead_83 (by decide) ?_
            cases h
            exact a_ireturn rfl rfl rfl rfl rfl dX8_ahead_90
        · replace h := ifp_ c22 h
          refine a_aload_n 0 dX8_ahead_66 rfl rfl ?_
          refine a_iconst (v := 3) dX8_ahead_67 (by decide) ?_
          obtain ⟨v26, m24, e25, h⟩ := bm_some h
          have he25 := e_X8_many (G := G) hl ht e25
          refine c_I he25.1 (rn_V (n := 1) (As := [vI_ 3]) kc_8 ht he25 (lw_V q1904 q1906 qs60 q97 q1907) (by decide +kernel) rfl (Nat.le_of_ble_eq_true rfl) (Nat.le_of_ble_eq_true rfl) (Nat.le_of_ble_eq_true rfl) dX8_ahead_68) (fun z => (os_av (As := [vI_ 3]) z).2.1) ?_
          refine a_goto (tgt := 90) dX8_ahead_71 (by decide) ?_
          cases h
          exact a_ireturn rfl rfl rfl rfl rfl dX8_ahead_90
      refine aw_pick [1, 2, 3, 0] rfl ?_
      exact w_X8_ahead_L47 hl _ _ _ _ ht hk20 _ _ _ h
    · replace h := ifp_ c16 h
      refine a_iconst (v := 0) dX8_ahead_39 (by decide) ?_
      cases h
      exact a_ireturn rfl rfl rfl rfl rfl dX8_ahead_40
  obtain ⟨k41, e49, h⟩ := jn2_some h
  have hk41 : ∀ (y43 : Option pm_A) (m42 : pm_M), k41 y43 m42 = some (r, m') → AW_ cX8_ahead RX8 (some (.int), "ahead", 9, 4, m0, m', (.inl (some (vI_ r))), G, l, [], true) m42 30 [(0, vR_ (some t)), (1, vI_ i0), (2, vI_ i1)] [vR_ y43] := by
    intro y43 m42 h
    have h := (e49 y43 m42).symm.trans h
    refine a_iconst (v := 0) dX8_ahead_30 (by decide) ?_
    exact hk6 _ _ _ h
  refine a_if_eq (tgt := 30) dX8_ahead_14 (by decide) (fun c44 => ?_) (fun c44 => ?_)
  · replace h := ifp_ c44 h
    exact hk41 _ _ h
  · replace h := ifn_ c44 h
    refine a_iload_n 2 dX8_ahead_17 rfl rfl ?_
    refine a_iconst (v := 0) dX8_ahead_18 (by decide) ?_
    refine a_iconst (v := 2) dX8_ahead_19 (by decide) ?_
    obtain ⟨v47, m45, e46, h⟩ := bm_some h
    have he46 := e_X8_within (G := G) hl e46
    refine c_I he46.1 (rn_S (n := 3) (As := [vI_ i1, vI_ 0, vI_ 2]) he46 (lw_S q1823 q1824 q97 q1825) (by decide +kernel) rfl (Nat.le_of_ble_eq_true rfl) (Nat.le_of_ble_eq_true rfl) (Nat.le_of_ble_eq_true rfl) dX8_ahead_20) (fun z => (os_aS (As := [vI_ i1, vI_ 0, vI_ 2]) z).2) ?_
    refine a_if_eq (tgt := 30) dX8_ahead_23 (by decide) (fun c48 => ?_) (fun c48 => ?_)
    · replace h := ifp_ c48 h
      exact hk41 _ _ h
    · replace h := ifn_ c48 h
      refine a_iconst (v := 1) dX8_ahead_26 (by decide) ?_
      refine a_goto (tgt := 31) dX8_ahead_27 (by decide) ?_
      exact hk6 _ _ _ h
def f_X8_givesFor (F : Nat)  (t : pm_A) (i0 : Int32) (i1 : Int32) (m : pm_M) : Option (Int32 × pm_M) :=
  gd_ 100 (gR_ m t 13) fun a1 =>
  iz_ (!(ib_ ((3 * i0) + 1) a1.2.1)) <|
  bm_ (f_X8_owesOf F t i1 m) fun v7 m5 =>
  gd_ 100 (gR_ m5 t 13) fun a8 =>
  iz_ (!(ib_ (3 * i0) a8.2.1)) <|
  gd_ 100 (gR_ m5 t 12) fun a12 =>
  iz_ (!(ib_ ((4 * i1) + 1) a12.2.1)) <|
  if (gI_ m5 a8 (3 * i0).toNatClampNeg) = (gI_ m5 a12 ((4 * i1) + 1).toNatClampNeg) then
    some ((((gI_ m a1 ((3 * i0) + 1).toNatClampNeg) * v7) / 52), m5)
  else
    some (((((gI_ m a1 ((3 * i0) + 1).toNatClampNeg) * v7) / 52) / 2), m5)
set_option maxHeartbeats 4000000 in
theorem e_X8_givesFor {G : xg_T} {l : Launch} (hl : l.stackTraces = false) {F : Nat}    {t : pm_A} {i0 : Int32} {i1 : Int32} {m0 m' : pm_M} {r : Int32} (ht : t.1 = 8) (h : f_X8_givesFor F t i0 i1 m0 = some (r, m')) : Cal_ G l yX8_givesFor (ws_ yX8_givesFor cX8_givesFor 4 (some .int)) 8 [vR_ (some t), vI_ i0, vI_ i1] m0 (.inl (some (vI_ r))) m' := by
  refine cal_of (by decide +kernel) (Nat.le_of_ble_eq_true rfl) ?_
  unfold f_X8_givesFor at h
  show AW_ cX8_givesFor RX8 (some (.int), "givesFor", 8, 4, m0, m', (.inl (some (vI_ r))), G, l, [], true) m0 0 [(0, vR_ (some t)), (1, vI_ i0), (2, vI_ i1)] []
  refine a_aload_n 0 dX8_givesFor_0 rfl rfl ?_
  refine a_getR kc_8 13 (by decide) rfl ht q1567 dX8_givesFor_1 ?_
  refine a_iconst (v := 3) dX8_givesFor_4 (by decide) ?_
  refine a_iload_n 1 dX8_givesFor_5 rfl rfl ?_
  refine a_imul dX8_givesFor_6 ?_
  refine a_iconst (v := 1) dX8_givesFor_7 (by decide) ?_
  refine a_iadd dX8_givesFor_8 ?_
  obtain ⟨a1, e2, f3, h⟩ := gd_some h
  rw [e2]
  obtain ⟨c4, h⟩ := iz_some h
  refine a_iald f3 (bn_ c4) dX8_givesFor_9 ?_
  refine a_aload_n 0 dX8_givesFor_10 rfl rfl ?_
  refine a_iload_n 2 dX8_givesFor_11 rfl rfl ?_
  obtain ⟨v7, m5, e6, h⟩ := bm_some h
  have he6 := e_X8_owesOf (G := G) hl ht e6
  refine c_I he6.1 (rn_V (n := 1) (As := [vI_ i1]) kc_8 ht he6 (lw_V q1928 q1930 qs66 q97 q1931) (by decide +kernel) rfl (Nat.le_of_ble_eq_true rfl) (Nat.le_of_ble_eq_true rfl) (Nat.le_of_ble_eq_true rfl) dX8_givesFor_12) (fun z => (os_av (As := [vI_ i1]) z).2.1) ?_
  refine a_imul dX8_givesFor_15 ?_
  refine a_bipush (v := 52) dX8_givesFor_16 (by decide) ?_
  refine a_idiv dX8_givesFor_18 (by decide) ?_
  refine a_istore_n (ls' := [(3, vI_ (((gI_ m0 a1 ((3 * i0) + 1).toNatClampNeg) * v7) / 52)), (0, vR_ (some t)), (1, vI_ i0), (2, vI_ i1)]) dX8_givesFor_19 rfl (Nat.le_of_ble_eq_true rfl) rfl ?_
  refine a_aload_n 1 dX8_givesFor_20 rfl rfl ?_
  refine a_getR kc_8 13 (by decide) rfl ht q1567 dX8_givesFor_21 ?_
  refine a_iconst (v := 3) dX8_givesFor_24 (by decide) ?_
  refine a_iload_n 2 dX8_givesFor_25 rfl rfl ?_
  refine a_imul dX8_givesFor_26 ?_
  obtain ⟨a8, e9, f10, h⟩ := gd_some h
  rw [e9]
  obtain ⟨c11, h⟩ := iz_some h
  refine a_iald f10 (bn_ c11) dX8_givesFor_27 ?_
  refine a_aload_n 1 dX8_givesFor_28 rfl rfl ?_
  refine a_getR kc_8 12 (by decide) rfl ht q1566 dX8_givesFor_29 ?_
  refine a_iconst (v := 4) dX8_givesFor_32 (by decide) ?_
  refine a_iload_n 3 dX8_givesFor_33 rfl rfl ?_
  refine a_imul dX8_givesFor_34 ?_
  refine a_iconst (v := 1) dX8_givesFor_35 (by decide) ?_
  refine a_iadd dX8_givesFor_36 ?_
  obtain ⟨a12, e13, f14, h⟩ := gd_some h
  rw [e13]
  obtain ⟨c15, h⟩ := iz_some h
  refine a_iald f14 (bn_ c15) dX8_givesFor_37 ?_
  refine a_icmp_ne (tgt := 45) dX8_givesFor_38 (by decide) (fun c16 => ?_) (fun c16 => ?_)
  · replace h := ifn_ c16 h
    refine a_iload_n 0 dX8_givesFor_45 rfl rfl ?_
    refine a_iconst (v := 2) dX8_givesFor_46 (by decide) ?_
    refine a_idiv dX8_givesFor_47 (by decide) ?_
    cases h
    exact a_ireturn rfl rfl rfl rfl rfl dX8_givesFor_48
  · replace h := ifp_ c16 h
    refine a_iload_n 0 dX8_givesFor_41 rfl rfl ?_
    refine a_goto (tgt := 48) dX8_givesFor_42 (by decide) ?_
    cases h
    exact a_ireturn rfl rfl rfl rfl rfl dX8_givesFor_48
def f_X8_gives (F : Nat)  (t : pm_A) (i0 : Int32) (i1 : Int32) (m : pm_M) : Option (Int32 × pm_M) :=
  lt_ (pI_ m t 0 0) fun m1 =>
  bm_ (f_X8_isTaker F t i0 1 m1) fun v5 m3 =>
  if v5 = 0 then
    some (0, m3)
  else
    bm_ (f_X8_isSigner F t i1 1 m3) fun v9 m7 =>
    if v9 = 0 then
      some (0, m7)
    else
      bm_ (f_X8_take F t m7) fun v13 m11 =>
      bm_ (f_X8_givesFor F t i0 i1 m11) fun v16 m14 =>
      some (v16, m14)
set_option maxHeartbeats 4000000 in
theorem e_X8_gives {G : xg_T} {l : Launch} (hl : l.stackTraces = false) {F : Nat}    {t : pm_A} {i0 : Int32} {i1 : Int32} {m0 m' : pm_M} {r : Int32} (ht : t.1 = 8) (h : f_X8_gives F t i0 i1 m0 = some (r, m')) : Cal_ G l yX8_gives (ws_ yX8_gives cX8_gives 3 (some .int)) 9 [vR_ (some t), vI_ i0, vI_ i1] m0 (.inl (some (vI_ r))) m' := by
  refine cal_of (by decide +kernel) (Nat.le_of_ble_eq_true rfl) ?_
  unfold f_X8_gives at h
  show AW_ cX8_gives RX8 (some (.int), "gives", 9, 3, m0, m', (.inl (some (vI_ r))), G, l, [], true) m0 0 [(0, vR_ (some t)), (1, vI_ i0), (2, vI_ i1)] []
  refine a_aload_n 0 dX8_gives_0 rfl rfl ?_
  refine a_iconst (v := 0) dX8_gives_1 (by decide) ?_
  obtain ⟨m1, e2, h⟩ := lt_some h
  refine a_putI kc_8 0 (by decide) rfl ht q1554 rfl rfl rfl dX8_gives_2 ?_
  rw [← e2]
  refine a_aload_n 0 dX8_gives_5 rfl rfl ?_
  refine a_iload_n 1 dX8_gives_6 rfl rfl ?_
  refine a_iconst (v := 1) dX8_gives_7 (by decide) ?_
  obtain ⟨v5, m3, e4, h⟩ := bm_some h
  have he4 := e_X8_isTaker (G := G) hl ht e4
  refine c_I he4.1 (rn_V (n := 2) (As := [vI_ i0, vI_ 1]) kc_8 ht he4 (lw_V q1991 q1993 qs76 q97 q1994) (by decide +kernel) rfl (Nat.le_of_ble_eq_true rfl) (Nat.le_of_ble_eq_true rfl) (Nat.le_of_ble_eq_true rfl) dX8_gives_8) (fun z => (os_av (As := [vI_ i0, vI_ 1]) z).2.1) ?_
  refine a_if_eq (tgt := 23) dX8_gives_11 (by decide) (fun c6 => ?_) (fun c6 => ?_)
  · replace h := ifp_ c6 h
    refine a_iconst (v := 0) dX8_gives_23 (by decide) ?_
    cases h
    exact a_ireturn rfl rfl rfl rfl rfl dX8_gives_24
  · replace h := ifn_ c6 h
    refine a_aload_n 0 dX8_gives_14 rfl rfl ?_
    refine a_iload_n 2 dX8_gives_15 rfl rfl ?_
    refine a_iconst (v := 1) dX8_gives_16 (by decide) ?_
    obtain ⟨v9, m7, e8, h⟩ := bm_some h
    have he8 := e_X8_isSigner (G := G) hl ht e8
    refine c_I he8.1 (rn_V (n := 2) (As := [vI_ i1, vI_ 1]) kc_8 ht he8 (lw_V q1983 q1985 qs75 q97 q1986) (by decide +kernel) rfl (Nat.le_of_ble_eq_true rfl) (Nat.le_of_ble_eq_true rfl) (Nat.le_of_ble_eq_true rfl) dX8_gives_17) (fun z => (os_av (As := [vI_ i1, vI_ 1]) z).2.1) ?_
    refine a_if_ne (tgt := 25) dX8_gives_20 (by decide) (fun c10 => ?_) (fun c10 => ?_)
    · replace h := ifn_ c10 h
      refine a_aload_n 0 dX8_gives_25 rfl rfl ?_
      obtain ⟨v13, m11, e12, h⟩ := bm_some h
      have he12 := e_X8_take (G := G) hl ht e12
      refine c_V he12.1 (rn_V (n := 0) (As := []) kc_8 ht he12 (lw_V q1888 q1890 qs56 q97 q1891) (by decide +kernel) rfl (Nat.le_of_ble_eq_true rfl) (Nat.le_of_ble_eq_true rfl) (Nat.le_of_ble_eq_true rfl) dX8_gives_26) (fun z => (os_av (As := []) z).2.1) ?_
      refine a_aload_n 0 dX8_gives_29 rfl rfl ?_
      refine a_iload_n 1 dX8_gives_30 rfl rfl ?_
      refine a_iload_n 2 dX8_gives_31 rfl rfl ?_
      obtain ⟨v16, m14, e15, h⟩ := bm_some h
      have he15 := e_X8_givesFor (G := G) hl ht e15
      refine c_I he15.1 (rn_V (n := 2) (As := [vI_ i0, vI_ i1]) kc_8 ht he15 (lw_V q2031 q2033 qs78 q97 q2034) (by decide +kernel) rfl (Nat.le_of_ble_eq_true rfl) (Nat.le_of_ble_eq_true rfl) (Nat.le_of_ble_eq_true rfl) dX8_gives_32) (fun z => (os_av (As := [vI_ i0, vI_ i1]) z).2.1) ?_
      cases h
      exact a_ireturn rfl rfl rfl rfl rfl dX8_gives_35
    · replace h := ifp_ c10 h
      refine a_iconst (v := 0) dX8_gives_23 (by decide) ?_
      cases h
      exact a_ireturn rfl rfl rfl rfl rfl dX8_gives_24
def f_X8_mayBeWith_L2 (F : Nat)  (p9 : pm_A) (p11 : Int32) (p12 : Int32) (k13 : pm_M → Option (Int32 × pm_M)) : Nat → Int32 → pm_M → Option (Int32 × pm_M)
  | 0, _, _ => none
  | n15 + 1, x17, m16 =>
    if p11 ≤ x17 then
      k13 m16
    else
      bm_ (f_X8_areKin F p9 x17 p11 m16) fun v21 m19 =>
      if v21 = 0 then
        (f_X8_mayBeWith_L2 F p9 p11 p12 k13 n15) (x17 + 1) m19
      else
        gd_ 100 (gR_ m19 p9 38) fun a23 =>
        iz_ (!(ib_ (0 + x17) a23.2.1)) <|
        if (gI_ m19 a23 (0 + x17).toNatClampNeg) = 1 then
          gd_ 100 (gR_ m19 p9 48) fun a28 =>
          iz_ (!(ib_ x17 a28.2.1)) <|
          if (gI_ m19 a28 x17.toNatClampNeg) = p12 then
            (f_X8_mayBeWith_L2 F p9 p11 p12 k13 n15) (x17 + 1) m19
          else
            some (0, m19)
        else
          (f_X8_mayBeWith_L2 F p9 p11 p12 k13 n15) (x17 + 1) m19
set_option maxHeartbeats 4000000 in
theorem w_X8_mayBeWith_L2 {G : xg_T} {l : Launch} (hl : l.stackTraces = false) {F : Nat}    (p9 : pm_A) (p11 : Int32) (p12 : Int32) (k13 : pm_M → Option (Int32 × pm_M)) {m0 m' : pm_M} {r : Int32} (hf10 : p9.1 = 8) (hk13 : ∀ (m14 : pm_M), k13 m14 = some (r, m') → AW_ cX8_mayBeWith RX8 (some (.boolean), "mayBeWith", 3, 4, m0, m', (.inl (some (vI_ r))), G, l, [], true) m14 46 [(0, vR_ (some p9)), (2, vI_ p12)] []) : ∀ (n : Nat) (x17 : Int32) (m16 : pm_M), f_X8_mayBeWith_L2 F p9 p11 p12 k13 n x17 m16 = some (r, m') → AW_ cX8_mayBeWith RX8 (some (.boolean), "mayBeWith", 3, 4, m0, m', (.inl (some (vI_ r))), G, l, [], true) m16 2 [(0, vR_ (some p9)), (1, vI_ p11), (2, vI_ p12), (3, vI_ x17)] [] := by
  intro n
  induction n with
  | zero => intro x17 m16 h; cases h
  | succ n15 ih =>
    intro x17 m16 h
    rw [f_X8_mayBeWith_L2] at h
    refine a_iload_n 3 dX8_mayBeWith_2 rfl rfl ?_
    refine a_iload_n 1 dX8_mayBeWith_3 rfl rfl ?_
    refine a_icmp_ge (tgt := 46) dX8_mayBeWith_4 (by decide) (fun c18 => ?_) (fun c18 => ?_)
    · replace h := ifp_ c18 h
      refine aw_pick [0, 2] rfl ?_
      exact hk13 _ h
    · replace h := ifn_ c18 h
      refine a_aload_n 0 dX8_mayBeWith_7 rfl rfl ?_
      refine a_iload_n 3 dX8_mayBeWith_8 rfl rfl ?_
      refine a_iload_n 1 dX8_mayBeWith_9 rfl rfl ?_
      obtain ⟨v21, m19, e20, h⟩ := bm_some h
      have he20 := e_X8_areKin (G := G) hl hf10 e20
      refine c_I he20.1 (rn_V (n := 2) (As := [vI_ x17, vI_ p11]) kc_8 hf10 he20 (lw_V q1944 q1946 qs70 q97 q1947) (by decide +kernel) rfl (Nat.le_of_ble_eq_true rfl) (Nat.le_of_ble_eq_true rfl) (Nat.le_of_ble_eq_true rfl) dX8_mayBeWith_10) (fun z => (os_av (As := [vI_ x17, vI_ p11]) z).2.1) ?_
      refine a_if_eq (tgt := 40) dX8_mayBeWith_13 (by decide) (fun c22 => ?_) (fun c22 => ?_)
      · replace h := ifp_ c22 h
        refine a_iinc (v := x17 + 1) (ls' := [(3, vI_ (x17 + 1)), (0, vR_ (some p9)), (1, vI_ p11), (2, vI_ p12)]) 3 dX8_mayBeWith_40 rfl rfl (Nat.le_of_ble_eq_true rfl) rfl ?_
        refine a_goto (tgt := 2) dX8_mayBeWith_43 (by decide) ?_
        refine aw_pick [1, 2, 3, 0] rfl ?_
        exact ih _ _ h
      · replace h := ifn_ c22 h
        refine a_aload_n 0 dX8_mayBeWith_16 rfl rfl ?_
        refine a_getR kc_8 38 (by decide) rfl hf10 q1592 dX8_mayBeWith_17 ?_
        refine a_iconst (v := 0) dX8_mayBeWith_20 (by decide) ?_
        refine a_iload_n 3 dX8_mayBeWith_21 rfl rfl ?_
        refine a_iadd dX8_mayBeWith_22 ?_
        obtain ⟨a23, e24, f25, h⟩ := gd_some h
        rw [e24]
        obtain ⟨c26, h⟩ := iz_some h
        refine a_iald f25 (bn_ c26) dX8_mayBeWith_23 ?_
        refine a_iconst (v := 1) dX8_mayBeWith_24 (by decide) ?_
        refine a_icmp_ne (tgt := 40) dX8_mayBeWith_25 (by decide) (fun c27 => ?_) (fun c27 => ?_)
        · replace h := ifn_ c27 h
          refine a_iinc (v := x17 + 1) (ls' := [(3, vI_ (x17 + 1)), (0, vR_ (some p9)), (1, vI_ p11), (2, vI_ p12)]) 3 dX8_mayBeWith_40 rfl rfl (Nat.le_of_ble_eq_true rfl) rfl ?_
          refine a_goto (tgt := 2) dX8_mayBeWith_43 (by decide) ?_
          refine aw_pick [1, 2, 3, 0] rfl ?_
          exact ih _ _ h
        · replace h := ifp_ c27 h
          refine a_aload_n 0 dX8_mayBeWith_28 rfl rfl ?_
          refine a_getR kc_8 48 (by decide) rfl hf10 q1602 dX8_mayBeWith_29 ?_
          refine a_iload_n 3 dX8_mayBeWith_32 rfl rfl ?_
          obtain ⟨a28, e29, f30, h⟩ := gd_some h
          rw [e29]
          obtain ⟨c31, h⟩ := iz_some h
          refine a_iald f30 (bn_ c31) dX8_mayBeWith_33 ?_
          refine a_iload_n 2 dX8_mayBeWith_34 rfl rfl ?_
          refine a_icmp_eq (tgt := 40) dX8_mayBeWith_35 (by decide) (fun c32 => ?_) (fun c32 => ?_)
          · replace h := ifp_ c32 h
            refine a_iinc (v := x17 + 1) (ls' := [(3, vI_ (x17 + 1)), (0, vR_ (some p9)), (1, vI_ p11), (2, vI_ p12)]) 3 dX8_mayBeWith_40 rfl rfl (Nat.le_of_ble_eq_true rfl) rfl ?_
            refine a_goto (tgt := 2) dX8_mayBeWith_43 (by decide) ?_
            refine aw_pick [1, 2, 3, 0] rfl ?_
            exact ih _ _ h
          · replace h := ifn_ c32 h
            refine a_iconst (v := 0) dX8_mayBeWith_38 (by decide) ?_
            cases h
            exact a_ireturn rfl rfl rfl rfl rfl dX8_mayBeWith_39
def f_X8_mayBeWith (F : Nat)  (t : pm_A) (i0 : Int32) (i1 : Int32) (m : pm_M) : Option (Int32 × pm_M) :=
  jn_ (fun  (m2 : pm_M) =>
    if i1 = ((-1)) then
      some (1, m2)
    else
      gd_ 100 (gR_ m2 t 47) fun a4 =>
      iz_ (!(ib_ i1 a4.2.1)) <|
      if (gI_ m2 a4 i1.toNatClampNeg) ≤ 0 then
        some (0, m2)
      else
        some (1, m2)
  ) fun k1 =>
  f_X8_mayBeWith_L2 F t i0 i1 k1 F 0 m
set_option maxHeartbeats 4000000 in
theorem e_X8_mayBeWith {G : xg_T} {l : Launch} (hl : l.stackTraces = false) {F : Nat}    {t : pm_A} {i0 : Int32} {i1 : Int32} {m0 m' : pm_M} {r : Int32} (ht : t.1 = 8) (h : f_X8_mayBeWith F t i0 i1 m0 = some (r, m')) : Cal_ G l yX8_mayBeWith (ws_ yX8_mayBeWith cX8_mayBeWith 4 (some .boolean)) 3 [vR_ (some t), vI_ i0, vI_ i1] m0 (.inl (some (vI_ r))) m' := by
  refine cal_of (by decide +kernel) (Nat.le_of_ble_eq_true rfl) ?_
  unfold f_X8_mayBeWith at h
  show AW_ cX8_mayBeWith RX8 (some (.boolean), "mayBeWith", 3, 4, m0, m', (.inl (some (vI_ r))), G, l, [], true) m0 0 [(0, vR_ (some t)), (1, vI_ i0), (2, vI_ i1)] []
  refine a_iconst (v := 0) dX8_mayBeWith_0 (by decide) ?_
  refine a_istore_n (ls' := [(3, vI_ 0), (0, vR_ (some t)), (1, vI_ i0), (2, vI_ i1)]) dX8_mayBeWith_1 rfl (Nat.le_of_ble_eq_true rfl) rfl ?_
  obtain ⟨k1, e33, h⟩ := jn1_some h
  have hk1 : ∀  (m2 : pm_M), k1 m2 = some (r, m') → AW_ cX8_mayBeWith RX8 (some (.boolean), "mayBeWith", 3, 4, m0, m', (.inl (some (vI_ r))), G, l, [], true) m2 46 [(0, vR_ (some t)), (2, vI_ i1)] [] := by
    intro m2 h
    have h := (e33 m2).symm.trans h
    refine a_iload_n 1 dX8_mayBeWith_46 rfl rfl ?_
    refine a_iconst (v := (-1)) dX8_mayBeWith_47 (by decide) ?_
    refine a_icmp_eq (tgt := 60) dX8_mayBeWith_48 (by decide) (fun c3 => ?_) (fun c3 => ?_)
    · replace h := ifp_ c3 h
      refine a_iconst (v := 1) dX8_mayBeWith_60 (by decide) ?_
      refine a_goto (tgt := 65) dX8_mayBeWith_61 (by decide) ?_
      cases h
      exact a_ireturn rfl rfl rfl rfl rfl dX8_mayBeWith_65
    · replace h := ifn_ c3 h
      refine a_aload_n 0 dX8_mayBeWith_51 rfl rfl ?_
      refine a_getR kc_8 47 (by decide) rfl ht q1601 dX8_mayBeWith_52 ?_
      refine a_iload_n 1 dX8_mayBeWith_55 rfl rfl ?_
      obtain ⟨a4, e5, f6, h⟩ := gd_some h
      rw [e5]
      obtain ⟨c7, h⟩ := iz_some h
      refine a_iald f6 (bn_ c7) dX8_mayBeWith_56 ?_
      refine a_if_le (tgt := 64) dX8_mayBeWith_57 (by decide) (fun c8 => ?_) (fun c8 => ?_)
      · replace h := ifp_ c8 h
        refine a_iconst (v := 0) dX8_mayBeWith_64 (by decide) ?_
        cases h
        exact a_ireturn rfl rfl rfl rfl rfl dX8_mayBeWith_65
      · replace h := ifn_ c8 h
        refine a_iconst (v := 1) dX8_mayBeWith_60 (by decide) ?_
        refine a_goto (tgt := 65) dX8_mayBeWith_61 (by decide) ?_
        cases h
        exact a_ireturn rfl rfl rfl rfl rfl dX8_mayBeWith_65
  refine aw_pick [1, 2, 3, 0] rfl ?_
  exact w_X8_mayBeWith_L2 hl _ _ _ _ ht hk1 _ _ _ h
def f_X8_waysOn_L67 (F : Nat) (z_ : pm_A → Int32 → Int32 → pm_M → Option (Unit × pm_M)) (p7 : pm_A) (p9 : Int32) (p10 : Int32) : Nat → Int32 → pm_M → Option (Unit × pm_M)
  | 0, _, _ => none
  | n11 + 1, x13, m12 =>
    if (gI_ m12 p7 19) ≤ x13 then
      some ((), m12)
    else
      bm_ (f_X8_mayBeWith F p7 p9 x13 m12) fun v17 m15 =>
      if v17 = 0 then
        (f_X8_waysOn_L67 F z_ p7 p9 p10 n11) (x13 + 1) m15
      else
        gd_ 100 (gR_ m15 p7 48) fun a19 =>
        iz_ (!(ib_ p9 a19.2.1)) <|
        lt_ (pI_ m15 a19 p9.toNatClampNeg x13) fun m23 =>
        jn_ (fun  (m26 : pm_M) =>
          jn_ (fun (y29 : Option pm_A) (y30 : Int32) (y31 : Int32) (m28 : pm_M) =>
            gd_ 8 y29 fun a32 =>
            bm_ (z_ a32 y30 y31 m28) fun v37 m35 =>
            if x13 = ((-1)) then
              (f_X8_waysOn_L67 F z_ p7 p9 p10 n11) (x13 + 1) m35
            else
              gd_ 100 (gR_ m35 p7 47) fun a39 =>
              iz_ (!(ib_ x13 a39.2.1)) <|
              iz_ (!(ib_ x13 a39.2.1)) <|
              lt_ (pI_ m35 a39 x13.toNatClampNeg ((gI_ m35 a39 x13.toNatClampNeg) + 1)) fun m44 =>
              (f_X8_waysOn_L67 F z_ p7 p9 p10 n11) (x13 + 1) m44
          ) fun k27 =>
          if x13 = ((-1)) then
            k27 (some p7) (p9 + 1) p10 m26
          else
            gd_ 100 (gR_ m26 p7 46) fun a47 =>
            iz_ (!(ib_ ((8 * x13) + p9) a47.2.1)) <|
            k27 (some p7) (p9 + 1) (p10 + (gI_ m26 a47 ((8 * x13) + p9).toNatClampNeg)) m26
        ) fun k25 =>
        if x13 = ((-1)) then
          k25 m23
        else
          gd_ 100 (gR_ m23 p7 47) fun a53 =>
          iz_ (!(ib_ x13 a53.2.1)) <|
          iz_ (!(ib_ x13 a53.2.1)) <|
          lt_ (pI_ m23 a53 x13.toNatClampNeg ((gI_ m23 a53 x13.toNatClampNeg) - 1)) fun m58 =>
          k25 m58
set_option maxHeartbeats 4000000 in
theorem w_X8_waysOn_L67 {G : xg_T} {l : Launch} (hl : l.stackTraces = false) {F : Nat} {dz : Nat} {z_ : pm_A → Int32 → Int32 → pm_M → Option (Unit × pm_M)} (hz : ∀ (w0 : pm_A) (w1 : Int32) (w2 : Int32) (m m' : pm_M) (r : Unit), w0.1 = 8 → z_ w0 w1 w2 m = some (r, m') → Cal_ G l yX8_waysOn (ws_ yX8_waysOn cX8_waysOn 4 none) dz [vR_ (some w0), vI_ w1, vI_ w2] m (.inl none) m') (hdz : 4 ≤ dz) (p7 : pm_A) (p9 : Int32) (p10 : Int32) {m0 m' : pm_M} {r : Unit} (hf8 : p7.1 = 8)  : ∀ (n : Nat) (x13 : Int32) (m12 : pm_M), f_X8_waysOn_L67 F z_ p7 p9 p10 n x13 m12 = some (r, m') → AW_ cX8_waysOn RX8 (none, "waysOn", (dz + 1), 4, m0, m', (.inl none), G, l, [], true) m12 67 [(0, vR_ (some p7)), (1, vI_ p9), (2, vI_ p10), (3, vI_ x13)] [] := by
  intro n
  induction n with
  | zero => intro x13 m12 h; cases h
  | succ n11 ih =>
    intro x13 m12 h
    rw [f_X8_waysOn_L67] at h
    refine a_iload_n 3 dX8_waysOn_67 rfl rfl ?_
    refine a_aload_n 0 dX8_waysOn_68 rfl rfl ?_
    refine a_getI kc_8 19 (by decide) rfl hf8 q1573 dX8_waysOn_69 ?_
    refine a_icmp_ge (tgt := 159) dX8_waysOn_72 (by decide) (fun c14 => ?_) (fun c14 => ?_)
    · replace h := ifp_ c14 h
      cases h
      exact a_return rfl rfl rfl rfl dX8_waysOn_159
    · replace h := ifn_ c14 h
      refine a_aload_n 0 dX8_waysOn_75 rfl rfl ?_
      refine a_iload_n 1 dX8_waysOn_76 rfl rfl ?_
      refine a_iload_n 3 dX8_waysOn_77 rfl rfl ?_
      obtain ⟨v17, m15, e16, h⟩ := bm_some h
      have he16 := e_X8_mayBeWith (G := G) hl hf8 e16
      refine c_I he16.1 (rn_V (n := 2) (As := [vI_ p9, vI_ x13]) kc_8 hf8 he16 (lw_V q2047 q2049 qs81 q97 q2050) (by decide +kernel) rfl (by show 3 + 1 ≤ (dz + 1); omega) (Nat.le_of_ble_eq_true rfl) (Nat.le_of_ble_eq_true rfl) dX8_waysOn_78) (fun z => (os_av (As := [vI_ p9, vI_ x13]) z).2.1) ?_
      refine a_if_ne (tgt := 87) dX8_waysOn_81 (by decide) (fun c18 => ?_) (fun c18 => ?_)
      · replace h := ifn_ c18 h
        refine a_aload_n 0 dX8_waysOn_87 rfl rfl ?_
        refine a_getR kc_8 48 (by decide) rfl hf8 q1602 dX8_waysOn_88 ?_
        refine a_iload_n 1 dX8_waysOn_91 rfl rfl ?_
        refine a_iload_n 3 dX8_waysOn_92 rfl rfl ?_
        obtain ⟨a19, e20, f21, h⟩ := gd_some h
        rw [e20]
        obtain ⟨c22, h⟩ := iz_some h
        obtain ⟨m23, e24, h⟩ := lt_some h
        refine a_iast f21 (bn_ c22) dX8_waysOn_93 ?_
        rw [← e24]
        refine a_iload_n 3 dX8_waysOn_94 rfl rfl ?_
        refine a_iconst (v := (-1)) dX8_waysOn_95 (by decide) ?_
        obtain ⟨k25, e60, h⟩ := jn1_some h
        have hk25 : ∀  (m26 : pm_M), k25 m26 = some (r, m') → AW_ cX8_waysOn RX8 (none, "waysOn", (dz + 1), 4, m0, m', (.inl none), G, l, [], true) m26 109 [(0, vR_ (some p7)), (1, vI_ p9), (2, vI_ p10), (3, vI_ x13)] [] := by
          intro m26 h
          have h := (e60 m26).symm.trans h
          refine a_aload_n 0 dX8_waysOn_109 rfl rfl ?_
          refine a_iload_n 1 dX8_waysOn_110 rfl rfl ?_
          refine a_iconst (v := 1) dX8_waysOn_111 (by decide) ?_
          refine a_iadd dX8_waysOn_112 ?_
          refine a_iload_n 3 dX8_waysOn_113 rfl rfl ?_
          refine a_iconst (v := (-1)) dX8_waysOn_114 (by decide) ?_
          obtain ⟨k27, e51, h⟩ := jn4_some h
          have hk27 : ∀ (y29 : Option pm_A) (y30 : Int32) (y31 : Int32) (m28 : pm_M), k27 y29 y30 y31 m28 = some (r, m') → AW_ cX8_waysOn RX8 (none, "waysOn", (dz + 1), 4, m0, m', (.inl none), G, l, [], true) m28 135 [(0, vR_ (some p7)), (1, vI_ p9), (2, vI_ p10), (3, vI_ x13)] [vI_ y31, vI_ y30, vR_ y29] := by
            intro y29 y30 y31 m28 h
            have h := (e51 y29 y30 y31 m28).symm.trans h
            obtain ⟨a32, e33, f34, h⟩ := gd_some h
            rw [e33]
            obtain ⟨v37, m35, e36, h⟩ := bm_some h
            have he36 := hz _ _ _ _ _ _ f34 e36
            refine c_V he36.1 (rn_V (n := 2) (As := [vI_ y30, vI_ y31]) kc_8 f34 he36 (lw_V q2043 q2045 qs80 q97 q2046) (by decide +kernel) rfl (by show dz + 1 ≤ (dz + 1); omega) (Nat.le_of_ble_eq_true rfl) (Nat.le_of_ble_eq_true rfl) dX8_waysOn_135) (fun z => (os_av (As := [vI_ y30, vI_ y31]) z).2.1) ?_
            refine a_iload_n 3 dX8_waysOn_138 rfl rfl ?_
            refine a_iconst (v := (-1)) dX8_waysOn_139 (by decide) ?_
            refine a_icmp_eq (tgt := 153) dX8_waysOn_140 (by decide) (fun c38 => ?_) (fun c38 => ?_)
            · replace h := ifp_ c38 h
              refine a_iinc (v := x13 + 1) (ls' := [(3, vI_ (x13 + 1)), (0, vR_ (some p7)), (1, vI_ p9), (2, vI_ p10)]) 3 dX8_waysOn_153 rfl rfl (Nat.le_of_ble_eq_true rfl) rfl ?_
              refine a_goto (tgt := 67) dX8_waysOn_156 (by decide) ?_
              refine aw_pick [1, 2, 3, 0] rfl ?_
              exact ih _ _ h
            · replace h := ifn_ c38 h
              refine a_aload_n 0 dX8_waysOn_143 rfl rfl ?_
              refine a_getR kc_8 47 (by decide) rfl hf8 q1601 dX8_waysOn_144 ?_
              refine a_iload_n 3 dX8_waysOn_147 rfl rfl ?_
              refine a_dup2 dX8_waysOn_148 rfl rfl ?_
              obtain ⟨a39, e40, f41, h⟩ := gd_some h
              rw [e40]
              obtain ⟨c42, h⟩ := iz_some h
              refine a_iald f41 (bn_ c42) dX8_waysOn_149 ?_
              refine a_iconst (v := 1) dX8_waysOn_150 (by decide) ?_
              refine a_iadd dX8_waysOn_151 ?_
              obtain ⟨c43, h⟩ := iz_some h
              obtain ⟨m44, e45, h⟩ := lt_some h
              refine a_iast f41 (bn_ c43) dX8_waysOn_152 ?_
              rw [← e45]
              refine a_iinc (v := x13 + 1) (ls' := [(3, vI_ (x13 + 1)), (0, vR_ (some p7)), (1, vI_ p9), (2, vI_ p10)]) 3 dX8_waysOn_153 rfl rfl (Nat.le_of_ble_eq_true rfl) rfl ?_
              refine a_goto (tgt := 67) dX8_waysOn_156 (by decide) ?_
              refine aw_pick [1, 2, 3, 0] rfl ?_
              exact ih _ _ h
          refine a_icmp_ne (tgt := 122) dX8_waysOn_115 (by decide) (fun c46 => ?_) (fun c46 => ?_)
          · replace h := ifn_ c46 h
            refine a_iload_n 2 dX8_waysOn_122 rfl rfl ?_
            refine a_aload_n 0 dX8_waysOn_123 rfl rfl ?_
            refine a_getR kc_8 46 (by decide) rfl hf8 q1600 dX8_waysOn_124 ?_
            refine a_bipush (v := 8) dX8_waysOn_127 (by decide) ?_
            refine a_iload_n 3 dX8_waysOn_129 rfl rfl ?_
            refine a_imul dX8_waysOn_130 ?_
            refine a_iload_n 1 dX8_waysOn_131 rfl rfl ?_
            refine a_iadd dX8_waysOn_132 ?_
            obtain ⟨a47, e48, f49, h⟩ := gd_some h
            rw [e48]
            obtain ⟨c50, h⟩ := iz_some h
            refine a_iald f49 (bn_ c50) dX8_waysOn_133 ?_
            refine a_iadd dX8_waysOn_134 ?_
            exact hk27 _ _ _ _ h
          · replace h := ifp_ c46 h
            refine a_iload_n 2 dX8_waysOn_118 rfl rfl ?_
            refine a_goto (tgt := 135) dX8_waysOn_119 (by decide) ?_
            exact hk27 _ _ _ _ h
        refine a_icmp_eq (tgt := 109) dX8_waysOn_96 (by decide) (fun c52 => ?_) (fun c52 => ?_)
        · replace h := ifp_ c52 h
          exact hk25 _ h
        · replace h := ifn_ c52 h
          refine a_aload_n 0 dX8_waysOn_99 rfl rfl ?_
          refine a_getR kc_8 47 (by decide) rfl hf8 q1601 dX8_waysOn_100 ?_
          refine a_iload_n 3 dX8_waysOn_103 rfl rfl ?_
          refine a_dup2 dX8_waysOn_104 rfl rfl ?_
          obtain ⟨a53, e54, f55, h⟩ := gd_some h
          rw [e54]
          obtain ⟨c56, h⟩ := iz_some h
          refine a_iald f55 (bn_ c56) dX8_waysOn_105 ?_
          refine a_iconst (v := 1) dX8_waysOn_106 (by decide) ?_
          refine a_isub dX8_waysOn_107 ?_
          obtain ⟨c57, h⟩ := iz_some h
          obtain ⟨m58, e59, h⟩ := lt_some h
          refine a_iast f55 (bn_ c57) dX8_waysOn_108 ?_
          rw [← e59]
          exact hk25 _ h
      · replace h := ifp_ c18 h
        refine a_goto (tgt := 153) dX8_waysOn_84 (by decide) ?_
        refine a_iinc (v := x13 + 1) (ls' := [(3, vI_ (x13 + 1)), (0, vR_ (some p7)), (1, vI_ p9), (2, vI_ p10)]) 3 dX8_waysOn_153 rfl rfl (Nat.le_of_ble_eq_true rfl) rfl ?_
        refine a_goto (tgt := 67) dX8_waysOn_156 (by decide) ?_
        refine aw_pick [1, 2, 3, 0] rfl ?_
        exact ih _ _ h
def b_X8_waysOn (F : Nat) (z_ : pm_A → Int32 → Int32 → pm_M → Option (Unit × pm_M)) (t : pm_A) (i0 : Int32) (i1 : Int32) (m : pm_M) : Option (Unit × pm_M) :=
  if i0 = (gI_ m t 18) then
    if (gI_ m t 50) < i1 then
      lt_ (pI_ m t 50 i1) fun m71 =>
      bm_ (f_X8_copies F t (gR_ m71 t 48) (gR_ m71 t 49) 8 m71) fun v75 m73 =>
      some ((), m73)
    else
      some ((), m)
  else
    gd_ 100 (gR_ m t 38) fun a2 =>
    iz_ (!(ib_ (0 + i0) a2.2.1)) <|
    if (gI_ m a2 (0 + i0).toNatClampNeg) = 1 then
      f_X8_waysOn_L67 F z_ t i0 i1 F ((-1)) m
    else
      gd_ 100 (gR_ m t 48) fun a61 =>
      iz_ (!(ib_ i0 a61.2.1)) <|
      lt_ (pI_ m a61 i0.toNatClampNeg ((-1))) fun m65 =>
      bm_ (z_ t (i0 + 1) i1 m65) fun v69 m67 =>
      some ((), m67)
set_option maxHeartbeats 4000000 in
theorem eb_X8_waysOn {G : xg_T} {l : Launch} (hl : l.stackTraces = false) {F : Nat} {dz : Nat} {z_ : pm_A → Int32 → Int32 → pm_M → Option (Unit × pm_M)} (hz : ∀ (w0 : pm_A) (w1 : Int32) (w2 : Int32) (m m' : pm_M) (r : Unit), w0.1 = 8 → z_ w0 w1 w2 m = some (r, m') → Cal_ G l yX8_waysOn (ws_ yX8_waysOn cX8_waysOn 4 none) dz [vR_ (some w0), vI_ w1, vI_ w2] m (.inl none) m') (hdz : 4 ≤ dz) {t : pm_A} {i0 : Int32} {i1 : Int32} {m0 m' : pm_M} {r : Unit} (ht : t.1 = 8) (h : b_X8_waysOn F z_ t i0 i1 m0 = some (r, m')) : Cal_ G l yX8_waysOn (ws_ yX8_waysOn cX8_waysOn 4 none) (dz + 1) [vR_ (some t), vI_ i0, vI_ i1] m0 (.inl none) m' := by
  refine cal_of (by decide +kernel) (Nat.le_of_ble_eq_true rfl) ?_
  unfold b_X8_waysOn at h
  show AW_ cX8_waysOn RX8 (none, "waysOn", (dz + 1), 4, m0, m', (.inl none), G, l, [], true) m0 0 [(0, vR_ (some t)), (1, vI_ i0), (2, vI_ i1)] []
  refine a_iload_n 1 dX8_waysOn_0 rfl rfl ?_
  refine a_aload_n 0 dX8_waysOn_1 rfl rfl ?_
  refine a_getI kc_8 18 (by decide) rfl ht q1572 dX8_waysOn_2 ?_
  refine a_icmp_ne (tgt := 37) dX8_waysOn_5 (by decide) (fun c1 => ?_) (fun c1 => ?_)
  · replace h := ifn_ c1 h
    refine a_aload_n 0 dX8_waysOn_37 rfl rfl ?_
    refine a_getR kc_8 38 (by decide) rfl ht q1592 dX8_waysOn_38 ?_
    refine a_iconst (v := 0) dX8_waysOn_41 (by decide) ?_
    refine a_iload_n 1 dX8_waysOn_42 rfl rfl ?_
    refine a_iadd dX8_waysOn_43 ?_
    obtain ⟨a2, e3, f4, h⟩ := gd_some h
    rw [e3]
    obtain ⟨c5, h⟩ := iz_some h
    refine a_iald f4 (bn_ c5) dX8_waysOn_44 ?_
    refine a_iconst (v := 1) dX8_waysOn_45 (by decide) ?_
    refine a_icmp_eq (tgt := 65) dX8_waysOn_46 (by decide) (fun c6 => ?_) (fun c6 => ?_)
    · replace h := ifp_ c6 h
      refine a_iconst (v := (-1)) dX8_waysOn_65 (by decide) ?_
      refine a_istore_n (ls' := [(3, vI_ ((-1))), (0, vR_ (some t)), (1, vI_ i0), (2, vI_ i1)]) dX8_waysOn_66 rfl (Nat.le_of_ble_eq_true rfl) rfl ?_
      refine aw_pick [1, 2, 3, 0] rfl ?_
      exact w_X8_waysOn_L67 hl hz hdz _ _ _ ht _ _ _ h
    · replace h := ifn_ c6 h
      refine a_aload_n 0 dX8_waysOn_49 rfl rfl ?_
      refine a_getR kc_8 48 (by decide) rfl ht q1602 dX8_waysOn_50 ?_
      refine a_iload_n 1 dX8_waysOn_53 rfl rfl ?_
      refine a_iconst (v := (-1)) dX8_waysOn_54 (by decide) ?_
      obtain ⟨a61, e62, f63, h⟩ := gd_some h
      rw [e62]
      obtain ⟨c64, h⟩ := iz_some h
      obtain ⟨m65, e66, h⟩ := lt_some h
      refine a_iast f63 (bn_ c64) dX8_waysOn_55 ?_
      rw [← e66]
      refine a_aload_n 0 dX8_waysOn_56 rfl rfl ?_
      refine a_iload_n 1 dX8_waysOn_57 rfl rfl ?_
      refine a_iconst (v := 1) dX8_waysOn_58 (by decide) ?_
      refine a_iadd dX8_waysOn_59 ?_
      refine a_iload_n 2 dX8_waysOn_60 rfl rfl ?_
      obtain ⟨v69, m67, e68, h⟩ := bm_some h
      have he68 := hz _ _ _ _ _ _ ht e68
      refine c_V he68.1 (rn_V (n := 2) (As := [vI_ (i0 + 1), vI_ i1]) kc_8 ht he68 (lw_V q2043 q2045 qs80 q97 q2046) (by decide +kernel) rfl (by show dz + 1 ≤ (dz + 1); omega) (Nat.le_of_ble_eq_true rfl) (Nat.le_of_ble_eq_true rfl) dX8_waysOn_61) (fun z => (os_av (As := [vI_ (i0 + 1), vI_ i1]) z).2.1) ?_
      cases h
      exact a_return rfl rfl rfl rfl dX8_waysOn_64
  · replace h := ifp_ c1 h
    refine a_iload_n 2 dX8_waysOn_8 rfl rfl ?_
    refine a_aload_n 0 dX8_waysOn_9 rfl rfl ?_
    refine a_getI kc_8 50 (by decide) rfl ht q1604 dX8_waysOn_10 ?_
    refine a_icmp_gt (tgt := 17) dX8_waysOn_13 (by decide) (fun c70 => ?_) (fun c70 => ?_)
    · replace h := ifp_ c70 h
      refine a_aload_n 0 dX8_waysOn_17 rfl rfl ?_
      refine a_iload_n 2 dX8_waysOn_18 rfl rfl ?_
      obtain ⟨m71, e72, h⟩ := lt_some h
      refine a_putI kc_8 50 (by decide) rfl ht q1604 rfl rfl rfl dX8_waysOn_19 ?_
      rw [← e72]
      refine a_aload_n 0 dX8_waysOn_22 rfl rfl ?_
      refine a_aload_n 0 dX8_waysOn_23 rfl rfl ?_
      refine a_getR kc_8 48 (by decide) rfl ht q1602 dX8_waysOn_24 ?_
      refine a_aload_n 0 dX8_waysOn_27 rfl rfl ?_
      refine a_getR kc_8 49 (by decide) rfl ht q1603 dX8_waysOn_28 ?_
      refine a_bipush (v := 8) dX8_waysOn_31 (by decide) ?_
      obtain ⟨v75, m73, e74, h⟩ := bm_some h
      have he74 := e_X8_copies (G := G) hl ht e74
      refine c_V he74.1 (rn_V (n := 3) (As := [vR_ (gR_ m71 t 48), vR_ (gR_ m71 t 49), vI_ 8]) kc_8 ht he74 (lw_V q1550 q1552 qs31 q97 q1553) (by decide +kernel) rfl (by show 2 + 1 ≤ (dz + 1); omega) (Nat.le_of_ble_eq_true rfl) (Nat.le_of_ble_eq_true rfl) dX8_waysOn_33) (fun z => (os_av (As := [vR_ (gR_ m71 t 48), vR_ (gR_ m71 t 49), vI_ 8]) z).2.1) ?_
      cases h
      exact a_return rfl rfl rfl rfl dX8_waysOn_36
    · replace h := ifn_ c70 h
      cases h
      exact a_return rfl rfl rfl rfl dX8_waysOn_16
def f_X8_waysOn (F : Nat) : Nat → pm_A → Int32 → Int32 → pm_M → Option (Unit × pm_M)
  | 0, _, _, _, _ => none
  | D + 1, t, i0, i1, m => b_X8_waysOn F (f_X8_waysOn F D) t i0 i1 m
theorem er_X8_waysOn {G : xg_T} {l : Launch} (hl : l.stackTraces = false) {F : Nat} : ∀ (D : Nat) (t : pm_A) (i0 : Int32) (i1 : Int32) (m m' : pm_M) (r : Unit), t.1 = 8 → f_X8_waysOn F D t i0 i1 m = some (r, m') → Cal_ G l yX8_waysOn (ws_ yX8_waysOn cX8_waysOn 4 none) (1 * D + 4) [vR_ (some t), vI_ i0, vI_ i1] m (.inl none) m' := by
  intro D
  induction D with
  | zero => intro t i0 i1 m m' r ht h; cases h
  | succ D ih =>
    intro t i0 i1 m m' r ht h
    have h : b_X8_waysOn F (f_X8_waysOn F D) t i0 i1 m = some (r, m') := h
    have q := eb_X8_waysOn (dz := 1 * D + 4) hl ih (by omega) ht h
    rw [show 1 * (D + 1) + 4 = 1 * D + 4 + 1 by omega]
    exact q
theorem e_X8_waysOn {G : xg_T} {l : Launch} (hl : l.stackTraces = false) {F : Nat} {t : pm_A} {i0 : Int32} {i1 : Int32} {m m' : pm_M} {r : Unit} (ht : t.1 = 8) (h : f_X8_waysOn F 12 t i0 i1 m = some (r, m')) : Cal_ G l yX8_waysOn (ws_ yX8_waysOn cX8_waysOn 4 none) 16 [vR_ (some t), vI_ i0, vI_ i1] m (.inl none) m' := er_X8_waysOn hl 12 _ _ _ _ _ _ ht h
def f_X8_findBest_L38 (F : Nat)  (p34 : pm_A) (p36 : Int32) (k37 : pm_M → Option (Unit × pm_M)) : Nat → Int32 → pm_M → Option (Unit × pm_M)
  | 0, _, _ => none
  | n39 + 1, x41, m40 =>
    if (gI_ m40 p34 18) ≤ x41 then
      k37 m40
    else
      bm_ (f_X8_givesFor F p34 p36 x41 m40) fun v45 m43 =>
      gd_ 100 (gR_ m40 p34 46) fun a46 =>
      iz_ (!(ib_ ((8 * p36) + x41) a46.2.1)) <|
      lt_ (pI_ m43 a46 (((8 * p36) + x41).toNatClampNeg) v45) fun m50 =>
      (f_X8_findBest_L38 F p34 p36 k37 n39) (x41 + 1) m50
set_option maxHeartbeats 4000000 in
theorem w_X8_findBest_L38 {G : xg_T} {l : Launch} (hl : l.stackTraces = false) {F : Nat}    (p34 : pm_A) (p36 : Int32) (k37 : pm_M → Option (Unit × pm_M)) {m0 m' : pm_M} {r : Unit} (hf35 : p34.1 = 8) (hk37 : ∀ (m38 : pm_M), k37 m38 = some (r, m') → AW_ cX8_findBest RX8 (none, "findBest", 17, 3, m0, m', (.inl none), G, l, [], true) m38 69 [(0, vR_ (some p34)), (1, vI_ p36)] []) : ∀ (n : Nat) (x41 : Int32) (m40 : pm_M), f_X8_findBest_L38 F p34 p36 k37 n x41 m40 = some (r, m') → AW_ cX8_findBest RX8 (none, "findBest", 17, 3, m0, m', (.inl none), G, l, [], true) m40 38 [(0, vR_ (some p34)), (1, vI_ p36), (2, vI_ x41)] [] := by
  intro n
  induction n with
  | zero => intro x41 m40 h; cases h
  | succ n39 ih =>
    intro x41 m40 h
    rw [f_X8_findBest_L38] at h
    refine a_iload_n 2 dX8_findBest_38 rfl rfl ?_
    refine a_aload_n 0 dX8_findBest_39 rfl rfl ?_
    refine a_getI kc_8 18 (by decide) rfl hf35 q1572 dX8_findBest_40 ?_
    refine a_icmp_ge (tgt := 69) dX8_findBest_43 (by decide) (fun c42 => ?_) (fun c42 => ?_)
    · replace h := ifp_ c42 h
      refine aw_pick [0, 1] rfl ?_
      exact hk37 _ h
    · replace h := ifn_ c42 h
      refine a_aload_n 0 dX8_findBest_46 rfl rfl ?_
      refine a_getR kc_8 46 (by decide) rfl hf35 q1600 dX8_findBest_47 ?_
      refine a_bipush (v := 8) dX8_findBest_50 (by decide) ?_
      refine a_iload_n 1 dX8_findBest_52 rfl rfl ?_
      refine a_imul dX8_findBest_53 ?_
      refine a_iload_n 2 dX8_findBest_54 rfl rfl ?_
      refine a_iadd dX8_findBest_55 ?_
      refine a_aload_n 0 dX8_findBest_56 rfl rfl ?_
      refine a_iload_n 1 dX8_findBest_57 rfl rfl ?_
      refine a_iload_n 2 dX8_findBest_58 rfl rfl ?_
      obtain ⟨v45, m43, e44, h⟩ := bm_some h
      have he44 := e_X8_givesFor (G := G) hl hf35 e44
      refine c_I he44.1 (rn_V (n := 2) (As := [vI_ p36, vI_ x41]) kc_8 hf35 he44 (lw_V q2031 q2033 qs78 q97 q2034) (by decide +kernel) rfl (Nat.le_of_ble_eq_true rfl) (Nat.le_of_ble_eq_true rfl) (Nat.le_of_ble_eq_true rfl) dX8_findBest_59) (fun z => (os_av (As := [vI_ p36, vI_ x41]) z).2.1) ?_
      obtain ⟨a46, e47, f48, h⟩ := gd_some h
      rw [e47]
      obtain ⟨c49, h⟩ := iz_some h
      obtain ⟨m50, e51, h⟩ := lt_some h
      refine a_iast f48 (bn_ c49) dX8_findBest_62 ?_
      rw [← e51]
      refine a_iinc (v := x41 + 1) (ls' := [(2, vI_ (x41 + 1)), (0, vR_ (some p34)), (1, vI_ p36)]) 2 dX8_findBest_63 rfl rfl (Nat.le_of_ble_eq_true rfl) rfl ?_
      refine a_goto (tgt := 38) dX8_findBest_66 (by decide) ?_
      refine aw_pick [1, 2, 0] rfl ?_
      exact ih _ _ h
def f_X8_findBest_L6 (F : Nat)  (p11 : pm_A) (k13 : pm_M → Option (Unit × pm_M)) : Nat → Int32 → pm_M → Option (Unit × pm_M)
  | 0, _, _ => none
  | n15 + 1, x17, m16 =>
    if (gI_ m16 p11 19) ≤ x17 then
      k13 m16
    else
      gd_ 100 (gR_ m16 p11 13) fun a19 =>
      iz_ (!(ib_ ((3 * x17) + 2) a19.2.1)) <|
      bm_ (f_X8_boundTo F p11 x17 m16) fun v25 m23 =>
      gd_ 100 (gR_ m16 p11 47) fun a26 =>
      iz_ (!(ib_ x17 a26.2.1)) <|
      lt_ (pI_ m23 a26 x17.toNatClampNeg ((gI_ m16 a19 ((3 * x17) + 2).toNatClampNeg) - v25)) fun m30 =>
      jn_ (fun  (m33 : pm_M) =>
        (f_X8_findBest_L6 F p11 k13 n15) (x17 + 1) m33
      ) fun k32 =>
      f_X8_findBest_L38 F p11 x17 k32 F 0 m30
set_option maxHeartbeats 4000000 in
theorem w_X8_findBest_L6 {G : xg_T} {l : Launch} (hl : l.stackTraces = false) {F : Nat}    (p11 : pm_A) (k13 : pm_M → Option (Unit × pm_M)) {m0 m' : pm_M} {r : Unit} (hf12 : p11.1 = 8) (hk13 : ∀ (m14 : pm_M), k13 m14 = some (r, m') → AW_ cX8_findBest RX8 (none, "findBest", 17, 3, m0, m', (.inl none), G, l, [], true) m14 75 [(0, vR_ (some p11))] []) : ∀ (n : Nat) (x17 : Int32) (m16 : pm_M), f_X8_findBest_L6 F p11 k13 n x17 m16 = some (r, m') → AW_ cX8_findBest RX8 (none, "findBest", 17, 3, m0, m', (.inl none), G, l, [], true) m16 6 [(0, vR_ (some p11)), (1, vI_ x17)] [] := by
  intro n
  induction n with
  | zero => intro x17 m16 h; cases h
  | succ n15 ih =>
    intro x17 m16 h
    rw [f_X8_findBest_L6] at h
    refine a_iload_n 1 dX8_findBest_6 rfl rfl ?_
    refine a_aload_n 0 dX8_findBest_7 rfl rfl ?_
    refine a_getI kc_8 19 (by decide) rfl hf12 q1573 dX8_findBest_8 ?_
    refine a_icmp_ge (tgt := 75) dX8_findBest_11 (by decide) (fun c18 => ?_) (fun c18 => ?_)
    · replace h := ifp_ c18 h
      refine aw_pick [0] rfl ?_
      exact hk13 _ h
    · replace h := ifn_ c18 h
      refine a_aload_n 0 dX8_findBest_14 rfl rfl ?_
      refine a_getR kc_8 47 (by decide) rfl hf12 q1601 dX8_findBest_15 ?_
      refine a_iload_n 1 dX8_findBest_18 rfl rfl ?_
      refine a_aload_n 0 dX8_findBest_19 rfl rfl ?_
      refine a_getR kc_8 13 (by decide) rfl hf12 q1567 dX8_findBest_20 ?_
      refine a_iconst (v := 3) dX8_findBest_23 (by decide) ?_
      refine a_iload_n 1 dX8_findBest_24 rfl rfl ?_
      refine a_imul dX8_findBest_25 ?_
      refine a_iconst (v := 2) dX8_findBest_26 (by decide) ?_
      refine a_iadd dX8_findBest_27 ?_
      obtain ⟨a19, e20, f21, h⟩ := gd_some h
      rw [e20]
      obtain ⟨c22, h⟩ := iz_some h
      refine a_iald f21 (bn_ c22) dX8_findBest_28 ?_
      refine a_aload_n 0 dX8_findBest_29 rfl rfl ?_
      refine a_iload_n 1 dX8_findBest_30 rfl rfl ?_
      obtain ⟨v25, m23, e24, h⟩ := bm_some h
      have he24 := e_X8_boundTo (G := G) hl hf12 e24
      refine c_I he24.1 (rn_V (n := 1) (As := [vI_ x17]) kc_8 hf12 he24 (lw_V q1912 q1914 qs62 q97 q1915) (by decide +kernel) rfl (Nat.le_of_ble_eq_true rfl) (Nat.le_of_ble_eq_true rfl) (Nat.le_of_ble_eq_true rfl) dX8_findBest_31) (fun z => (os_av (As := [vI_ x17]) z).2.1) ?_
      refine a_isub dX8_findBest_34 ?_
      obtain ⟨a26, e27, f28, h⟩ := gd_some h
      rw [e27]
      obtain ⟨c29, h⟩ := iz_some h
      obtain ⟨m30, e31, h⟩ := lt_some h
      refine a_iast f28 (bn_ c29) dX8_findBest_35 ?_
      rw [← e31]
      refine a_iconst (v := 0) dX8_findBest_36 (by decide) ?_
      refine a_istore_n (ls' := [(2, vI_ 0), (0, vR_ (some p11)), (1, vI_ x17)]) dX8_findBest_37 rfl (Nat.le_of_ble_eq_true rfl) rfl ?_
      obtain ⟨k32, e52, h⟩ := jn1_some h
      have hk32 : ∀  (m33 : pm_M), k32 m33 = some (r, m') → AW_ cX8_findBest RX8 (none, "findBest", 17, 3, m0, m', (.inl none), G, l, [], true) m33 69 [(0, vR_ (some p11)), (1, vI_ x17)] [] := by
        intro m33 h
        have h := (e52 m33).symm.trans h
        refine a_iinc (v := x17 + 1) (ls' := [(1, vI_ (x17 + 1)), (0, vR_ (some p11))]) 1 dX8_findBest_69 rfl rfl (Nat.le_of_ble_eq_true rfl) rfl ?_
        refine a_goto (tgt := 6) dX8_findBest_72 (by decide) ?_
        refine aw_pick [1, 0] rfl ?_
        exact ih _ _ h
      refine aw_pick [1, 2, 0] rfl ?_
      exact w_X8_findBest_L38 hl _ _ _ hf12 hk32 _ _ _ h
def f_X8_findBest (F : Nat)  (t : pm_A) (m : pm_M) : Option (Unit × pm_M) :=
  bm_ (f_X8_take F t m) fun v3 m1 =>
  jn_ (fun  (m5 : pm_M) =>
    lt_ (pI_ m5 t 50 ((-1))) fun m6 =>
    bm_ (f_X8_waysOn F 12 t 0 0 m6) fun v10 m8 =>
    some ((), m8)
  ) fun k4 =>
  f_X8_findBest_L6 F t k4 F 0 m1
set_option maxHeartbeats 4000000 in
theorem e_X8_findBest {G : xg_T} {l : Launch} (hl : l.stackTraces = false) {F : Nat}    {t : pm_A} {m0 m' : pm_M} {r : Unit} (ht : t.1 = 8) (h : f_X8_findBest F t m0 = some (r, m')) : Cal_ G l yX8_findBest (ws_ yX8_findBest cX8_findBest 3 none) 17 [vR_ (some t)] m0 (.inl none) m' := by
  refine cal_of (by decide +kernel) (Nat.le_of_ble_eq_true rfl) ?_
  unfold f_X8_findBest at h
  show AW_ cX8_findBest RX8 (none, "findBest", 17, 3, m0, m', (.inl none), G, l, [], true) m0 0 [(0, vR_ (some t))] []
  refine a_aload_n 0 dX8_findBest_0 rfl rfl ?_
  obtain ⟨v3, m1, e2, h⟩ := bm_some h
  have he2 := e_X8_take (G := G) hl ht e2
  refine c_V he2.1 (rn_V (n := 0) (As := []) kc_8 ht he2 (lw_V q1888 q1890 qs56 q97 q1891) (by decide +kernel) rfl (Nat.le_of_ble_eq_true rfl) (Nat.le_of_ble_eq_true rfl) (Nat.le_of_ble_eq_true rfl) dX8_findBest_1) (fun z => (os_av (As := []) z).2.1) ?_
  refine a_iconst (v := 0) dX8_findBest_4 (by decide) ?_
  refine a_istore_n (ls' := [(1, vI_ 0), (0, vR_ (some t))]) dX8_findBest_5 rfl (Nat.le_of_ble_eq_true rfl) rfl ?_
  obtain ⟨k4, e53, h⟩ := jn1_some h
  have hk4 : ∀  (m5 : pm_M), k4 m5 = some (r, m') → AW_ cX8_findBest RX8 (none, "findBest", 17, 3, m0, m', (.inl none), G, l, [], true) m5 75 [(0, vR_ (some t))] [] := by
    intro m5 h
    have h := (e53 m5).symm.trans h
    refine a_aload_n 0 dX8_findBest_75 rfl rfl ?_
    refine a_iconst (v := (-1)) dX8_findBest_76 (by decide) ?_
    obtain ⟨m6, e7, h⟩ := lt_some h
    refine a_putI kc_8 50 (by decide) rfl ht q1604 rfl rfl rfl dX8_findBest_77 ?_
    rw [← e7]
    refine a_aload_n 0 dX8_findBest_80 rfl rfl ?_
    refine a_iconst (v := 0) dX8_findBest_81 (by decide) ?_
    refine a_iconst (v := 0) dX8_findBest_82 (by decide) ?_
    obtain ⟨v10, m8, e9, h⟩ := bm_some h
    have he9 := e_X8_waysOn (G := G) hl ht e9
    refine c_V he9.1 (rn_V (n := 2) (As := [vI_ 0, vI_ 0]) kc_8 ht he9 (lw_V q2043 q2045 qs80 q97 q2046) (by decide +kernel) rfl (Nat.le_of_ble_eq_true rfl) (Nat.le_of_ble_eq_true rfl) (Nat.le_of_ble_eq_true rfl) dX8_findBest_83) (fun z => (os_av (As := [vI_ 0, vI_ 0]) z).2.1) ?_
    cases h
    exact a_return rfl rfl rfl rfl dX8_findBest_86
  refine aw_pick [1, 0] rfl ?_
  exact w_X8_findBest_L6 hl _ _ ht hk4 _ _ _ h
def f_X8_best_L39 (F : Nat)  (p14 : pm_A) : Nat → Int32 → Int32 → pm_M → Option (Int32 × pm_M)
  | 0, _, _, _ => none
  | n16 + 1, x18, x19, m17 =>
    if (gI_ m17 p14 18) ≤ x19 then
      some (x18, m17)
    else
      gd_ 100 (gR_ m17 p14 49) fun a21 =>
      iz_ (!(ib_ x19 a21.2.1)) <|
      if (gI_ m17 a21 x19.toNatClampNeg) = ((-1)) then
        (f_X8_best_L39 F p14 n16) (x18 + 0) (x19 + 1) m17
      else
        (f_X8_best_L39 F p14 n16) (x18 + 1) (x19 + 1) m17
set_option maxHeartbeats 4000000 in
theorem w_X8_best_L39 {G : xg_T} {l : Launch} (hl : l.stackTraces = false) {F : Nat}    (p14 : pm_A) {m0 m' : pm_M} {r : Int32} (hf15 : p14.1 = 8)  : ∀ (n : Nat) (x18 : Int32) (x19 : Int32) (m17 : pm_M), f_X8_best_L39 F p14 n x18 x19 m17 = some (r, m') → AW_ cX8_best RX8 (some (.int), "best", 18, 4, m0, m', (.inl (some (vI_ r))), G, l, [], true) m17 39 [(0, vR_ (some p14)), (2, vI_ x18), (3, vI_ x19)] [] := by
  intro n
  induction n with
  | zero => intro x18 x19 m17 h; cases h
  | succ n16 ih =>
    intro x18 x19 m17 h
    rw [f_X8_best_L39] at h
    refine a_iload_n 2 dX8_best_39 rfl rfl ?_
    refine a_aload_n 0 dX8_best_40 rfl rfl ?_
    refine a_getI kc_8 18 (by decide) rfl hf15 q1572 dX8_best_41 ?_
    refine a_icmp_ge (tgt := 71) dX8_best_44 (by decide) (fun c20 => ?_) (fun c20 => ?_)
    · replace h := ifp_ c20 h
      refine a_iload_n 1 dX8_best_71 rfl rfl ?_
      cases h
      exact a_ireturn rfl rfl rfl rfl rfl dX8_best_72
    · replace h := ifn_ c20 h
      refine a_iload_n 1 dX8_best_47 rfl rfl ?_
      refine a_aload_n 0 dX8_best_48 rfl rfl ?_
      refine a_getR kc_8 49 (by decide) rfl hf15 q1603 dX8_best_49 ?_
      refine a_iload_n 2 dX8_best_52 rfl rfl ?_
      obtain ⟨a21, e22, f23, h⟩ := gd_some h
      rw [e22]
      obtain ⟨c24, h⟩ := iz_some h
      refine a_iald f23 (bn_ c24) dX8_best_53 ?_
      refine a_iconst (v := (-1)) dX8_best_54 (by decide) ?_
      refine a_icmp_ne (tgt := 62) dX8_best_55 (by decide) (fun c25 => ?_) (fun c25 => ?_)
      · replace h := ifn_ c25 h
        refine a_iconst (v := 1) dX8_best_62 (by decide) ?_
        refine a_iadd dX8_best_63 ?_
        refine a_istore_n (ls' := [(2, vI_ (x18 + 1)), (0, vR_ (some p14)), (3, vI_ x19)]) dX8_best_64 rfl (Nat.le_of_ble_eq_true rfl) rfl ?_
        refine a_iinc (v := x19 + 1) (ls' := [(3, vI_ (x19 + 1)), (2, vI_ (x18 + 1)), (0, vR_ (some p14))]) 2 dX8_best_65 rfl rfl (Nat.le_of_ble_eq_true rfl) rfl ?_
        refine a_goto (tgt := 39) dX8_best_68 (by decide) ?_
        refine aw_pick [2, 1, 0] rfl ?_
        exact ih _ _ _ h
      · replace h := ifp_ c25 h
        refine a_iconst (v := 0) dX8_best_58 (by decide) ?_
        refine a_goto (tgt := 63) dX8_best_59 (by decide) ?_
        refine a_iadd dX8_best_63 ?_
        refine a_istore_n (ls' := [(2, vI_ (x18 + 0)), (0, vR_ (some p14)), (3, vI_ x19)]) dX8_best_64 rfl (Nat.le_of_ble_eq_true rfl) rfl ?_
        refine a_iinc (v := x19 + 1) (ls' := [(3, vI_ (x19 + 1)), (2, vI_ (x18 + 0)), (0, vR_ (some p14))]) 2 dX8_best_65 rfl rfl (Nat.le_of_ble_eq_true rfl) rfl ?_
        refine a_goto (tgt := 39) dX8_best_68 (by decide) ?_
        refine aw_pick [2, 1, 0] rfl ?_
        exact ih _ _ _ h
def f_X8_best (F : Nat)  (t : pm_A) (i0 : Int32) (m : pm_M) : Option (Int32 × pm_M) :=
  lt_ (pI_ m t 0 0) fun m1 =>
  bm_ (f_X8_within F i0 0 1 m1) fun v5 m3 =>
  bm_ (f_X8_may F t v5 1 1 m3) fun v8 m6 =>
  if v8 = 0 then
    some (0, m6)
  else
    bm_ (f_X8_findBest F t m6) fun v12 m10 =>
    if i0 = 0 then
      some ((gI_ m10 t 50), m10)
    else
      f_X8_best_L39 F t F 0 0 m10
set_option maxHeartbeats 4000000 in
theorem e_X8_best {G : xg_T} {l : Launch} (hl : l.stackTraces = false) {F : Nat}    {t : pm_A} {i0 : Int32} {m0 m' : pm_M} {r : Int32} (ht : t.1 = 8) (h : f_X8_best F t i0 m0 = some (r, m')) : Cal_ G l yX8_best (ws_ yX8_best cX8_best 4 (some .int)) 18 [vR_ (some t), vI_ i0] m0 (.inl (some (vI_ r))) m' := by
  refine cal_of (by decide +kernel) (Nat.le_of_ble_eq_true rfl) ?_
  unfold f_X8_best at h
  show AW_ cX8_best RX8 (some (.int), "best", 18, 4, m0, m', (.inl (some (vI_ r))), G, l, [], true) m0 0 [(0, vR_ (some t)), (1, vI_ i0)] []
  refine a_aload_n 0 dX8_best_0 rfl rfl ?_
  refine a_iconst (v := 0) dX8_best_1 (by decide) ?_
  obtain ⟨m1, e2, h⟩ := lt_some h
  refine a_putI kc_8 0 (by decide) rfl ht q1554 rfl rfl rfl dX8_best_2 ?_
  rw [← e2]
  refine a_aload_n 0 dX8_best_5 rfl rfl ?_
  refine a_iload_n 1 dX8_best_6 rfl rfl ?_
  refine a_iconst (v := 0) dX8_best_7 (by decide) ?_
  refine a_iconst (v := 1) dX8_best_8 (by decide) ?_
  obtain ⟨v5, m3, e4, h⟩ := bm_some h
  have he4 := e_X8_within (G := G) hl e4
  refine c_I he4.1 (rn_S (n := 3) (As := [vI_ i0, vI_ 0, vI_ 1]) he4 (lw_S q1823 q1824 q97 q1825) (by decide +kernel) rfl (Nat.le_of_ble_eq_true rfl) (Nat.le_of_ble_eq_true rfl) (Nat.le_of_ble_eq_true rfl) dX8_best_9) (fun z => (os_aS (As := [vI_ i0, vI_ 0, vI_ 1]) z).2) ?_
  refine a_iconst (v := 1) dX8_best_12 (by decide) ?_
  refine a_iconst (v := 1) dX8_best_13 (by decide) ?_
  obtain ⟨v8, m6, e7, h⟩ := bm_some h
  have he7 := e_X8_may (G := G) hl ht e7
  refine c_I he7.1 (rn_V (n := 3) (As := [vI_ v5, vI_ 1, vI_ 1]) kc_8 ht he7 (lw_V q1744 q1746 qs32 q97 q1747) (by decide +kernel) rfl (Nat.le_of_ble_eq_true rfl) (Nat.le_of_ble_eq_true rfl) (Nat.le_of_ble_eq_true rfl) dX8_best_14) (fun z => (os_av (As := [vI_ v5, vI_ 1, vI_ 1]) z).2.1) ?_
  refine a_if_ne (tgt := 22) dX8_best_17 (by decide) (fun c9 => ?_) (fun c9 => ?_)
  · replace h := ifn_ c9 h
    refine a_aload_n 0 dX8_best_22 rfl rfl ?_
    obtain ⟨v12, m10, e11, h⟩ := bm_some h
    have he11 := e_X8_findBest (G := G) hl ht e11
    refine c_V he11.1 (rn_V (n := 0) (As := []) kc_8 ht he11 (lw_V q2039 q2041 qs79 q97 q2042) (by decide +kernel) rfl (Nat.le_of_ble_eq_true rfl) (Nat.le_of_ble_eq_true rfl) (Nat.le_of_ble_eq_true rfl) dX8_best_23) (fun z => (os_av (As := []) z).2.1) ?_
    refine a_iload_n 1 dX8_best_26 rfl rfl ?_
    refine a_if_ne (tgt := 35) dX8_best_27 (by decide) (fun c13 => ?_) (fun c13 => ?_)
    · replace h := ifn_ c13 h
      refine a_iconst (v := 0) dX8_best_35 (by decide) ?_
      refine a_istore_n (ls' := [(2, vI_ 0), (0, vR_ (some t)), (1, vI_ i0)]) dX8_best_36 rfl (Nat.le_of_ble_eq_true rfl) rfl ?_
      refine a_iconst (v := 0) dX8_best_37 (by decide) ?_
      refine a_istore_n (ls' := [(3, vI_ 0), (2, vI_ 0), (0, vR_ (some t)), (1, vI_ i0)]) dX8_best_38 rfl (Nat.le_of_ble_eq_true rfl) rfl ?_
      refine aw_pick [2, 1, 0] rfl ?_
      exact w_X8_best_L39 hl _ ht _ _ _ _ h
    · replace h := ifp_ c13 h
      refine a_aload_n 0 dX8_best_30 rfl rfl ?_
      refine a_getI kc_8 50 (by decide) rfl ht q1604 dX8_best_31 ?_
      cases h
      exact a_ireturn rfl rfl rfl rfl rfl dX8_best_34
  · replace h := ifp_ c9 h
    refine a_iconst (v := 0) dX8_best_20 (by decide) ?_
    cases h
    exact a_ireturn rfl rfl rfl rfl rfl dX8_best_21
def f_X8_bestFor (F : Nat)  (t : pm_A) (i0 : Int32) (m : pm_M) : Option (Int32 × pm_M) :=
  lt_ (pI_ m t 0 0) fun m1 =>
  bm_ (f_X8_isSigner F t i0 1 m1) fun v5 m3 =>
  if v5 = 0 then
    some (0, m3)
  else
    bm_ (f_X8_findBest F t m3) fun v9 m7 =>
    gd_ 100 (gR_ m7 t 49) fun a10 =>
    iz_ (!(ib_ i0 a10.2.1)) <|
    some ((gI_ m7 a10 i0.toNatClampNeg), m7)
set_option maxHeartbeats 4000000 in
theorem e_X8_bestFor {G : xg_T} {l : Launch} (hl : l.stackTraces = false) {F : Nat}    {t : pm_A} {i0 : Int32} {m0 m' : pm_M} {r : Int32} (ht : t.1 = 8) (h : f_X8_bestFor F t i0 m0 = some (r, m')) : Cal_ G l yX8_bestFor (ws_ yX8_bestFor cX8_bestFor 2 (some .int)) 18 [vR_ (some t), vI_ i0] m0 (.inl (some (vI_ r))) m' := by
  refine cal_of (by decide +kernel) (Nat.le_of_ble_eq_true rfl) ?_
  unfold f_X8_bestFor at h
  show AW_ cX8_bestFor RX8 (some (.int), "bestFor", 18, 2, m0, m', (.inl (some (vI_ r))), G, l, [], true) m0 0 [(0, vR_ (some t)), (1, vI_ i0)] []
  refine a_aload_n 0 dX8_bestFor_0 rfl rfl ?_
  refine a_iconst (v := 0) dX8_bestFor_1 (by decide) ?_
  obtain ⟨m1, e2, h⟩ := lt_some h
  refine a_putI kc_8 0 (by decide) rfl ht q1554 rfl rfl rfl dX8_bestFor_2 ?_
  rw [← e2]
  refine a_aload_n 0 dX8_bestFor_5 rfl rfl ?_
  refine a_iload_n 1 dX8_bestFor_6 rfl rfl ?_
  refine a_iconst (v := 1) dX8_bestFor_7 (by decide) ?_
  obtain ⟨v5, m3, e4, h⟩ := bm_some h
  have he4 := e_X8_isSigner (G := G) hl ht e4
  refine c_I he4.1 (rn_V (n := 2) (As := [vI_ i0, vI_ 1]) kc_8 ht he4 (lw_V q1983 q1985 qs75 q97 q1986) (by decide +kernel) rfl (Nat.le_of_ble_eq_true rfl) (Nat.le_of_ble_eq_true rfl) (Nat.le_of_ble_eq_true rfl) dX8_bestFor_8) (fun z => (os_av (As := [vI_ i0, vI_ 1]) z).2.1) ?_
  refine a_if_ne (tgt := 16) dX8_bestFor_11 (by decide) (fun c6 => ?_) (fun c6 => ?_)
  · replace h := ifn_ c6 h
    refine a_aload_n 0 dX8_bestFor_16 rfl rfl ?_
    obtain ⟨v9, m7, e8, h⟩ := bm_some h
    have he8 := e_X8_findBest (G := G) hl ht e8
    refine c_V he8.1 (rn_V (n := 0) (As := []) kc_8 ht he8 (lw_V q2039 q2041 qs79 q97 q2042) (by decide +kernel) rfl (Nat.le_of_ble_eq_true rfl) (Nat.le_of_ble_eq_true rfl) (Nat.le_of_ble_eq_true rfl) dX8_bestFor_17) (fun z => (os_av (As := []) z).2.1) ?_
    refine a_aload_n 0 dX8_bestFor_20 rfl rfl ?_
    refine a_getR kc_8 49 (by decide) rfl ht q1603 dX8_bestFor_21 ?_
    refine a_iload_n 1 dX8_bestFor_24 rfl rfl ?_
    obtain ⟨a10, e11, f12, h⟩ := gd_some h
    rw [e11]
    obtain ⟨c13, h⟩ := iz_some h
    refine a_iald f12 (bn_ c13) dX8_bestFor_25 ?_
    cases h
    exact a_ireturn rfl rfl rfl rfl rfl dX8_bestFor_26
  · replace h := ifp_ c6 h
    refine a_iconst (v := 0) dX8_bestFor_14 (by decide) ?_
    cases h
    exact a_ireturn rfl rfl rfl rfl rfl dX8_bestFor_15
def f_X8_parted_L19 (F : Nat)  (p13 : pm_A) (p15 : Int32) (k16 : Int32 → pm_M → Option (Int32 × pm_M)) : Nat → Int32 → Int32 → pm_M → Option (Int32 × pm_M)
  | 0, _, _, _ => none
  | n19 + 1, x21, x22, m20 =>
    if p15 ≤ x22 then
      k16 x21 m20
    else
      bm_ (f_X8_areKin F p13 p15 x22 m20) fun v26 m24 =>
      if v26 = 0 then
        (f_X8_parted_L19 F p13 p15 k16 n19) (x21 + 0) (x22 + 1) m24
      else
        gd_ 100 (gR_ m24 p13 37) fun a28 =>
        iz_ (!(ib_ (0 + p15) a28.2.1)) <|
        if (gI_ m24 a28 (0 + p15).toNatClampNeg) = 2 then
          gd_ 100 (gR_ m24 p13 37) fun a33 =>
          iz_ (!(ib_ (0 + x22) a33.2.1)) <|
          if (gI_ m24 a33 (0 + x22).toNatClampNeg) = 2 then
            gd_ 100 (gR_ m24 p13 37) fun a38 =>
            iz_ (!(ib_ (8 + p15) a38.2.1)) <|
            gd_ 100 (gR_ m24 p13 37) fun a42 =>
            iz_ (!(ib_ (8 + x22) a42.2.1)) <|
            if (gI_ m24 a38 (8 + p15).toNatClampNeg) = (gI_ m24 a42 (8 + x22).toNatClampNeg) then
              (f_X8_parted_L19 F p13 p15 k16 n19) (x21 + 0) (x22 + 1) m24
            else
              (f_X8_parted_L19 F p13 p15 k16 n19) (x21 + 1) (x22 + 1) m24
          else
            (f_X8_parted_L19 F p13 p15 k16 n19) (x21 + 0) (x22 + 1) m24
        else
          (f_X8_parted_L19 F p13 p15 k16 n19) (x21 + 0) (x22 + 1) m24
set_option maxHeartbeats 4000000 in
theorem w_X8_parted_L19 {G : xg_T} {l : Launch} (hl : l.stackTraces = false) {F : Nat}    (p13 : pm_A) (p15 : Int32) (k16 : Int32 → pm_M → Option (Int32 × pm_M)) {m0 m' : pm_M} {r : Int32} (hf14 : p13.1 = 8) (hk16 : ∀ (x17 : Int32) (m18 : pm_M), k16 x17 m18 = some (r, m') → AW_ cX8_parted RX8 (some (.int), "parted", 3, 4, m0, m', (.inl (some (vI_ r))), G, l, [], true) m18 92 [(0, vR_ (some p13)), (1, vI_ x17), (2, vI_ p15)] []) : ∀ (n : Nat) (x21 : Int32) (x22 : Int32) (m20 : pm_M), f_X8_parted_L19 F p13 p15 k16 n x21 x22 m20 = some (r, m') → AW_ cX8_parted RX8 (some (.int), "parted", 3, 4, m0, m', (.inl (some (vI_ r))), G, l, [], true) m20 19 [(0, vR_ (some p13)), (1, vI_ x21), (2, vI_ p15), (3, vI_ x22)] [] := by
  intro n
  induction n with
  | zero => intro x21 x22 m20 h; cases h
  | succ n19 ih =>
    intro x21 x22 m20 h
    rw [f_X8_parted_L19] at h
    refine a_iload_n 3 dX8_parted_19 rfl rfl ?_
    refine a_iload_n 2 dX8_parted_20 rfl rfl ?_
    refine a_icmp_ge (tgt := 92) dX8_parted_21 (by decide) (fun c23 => ?_) (fun c23 => ?_)
    · replace h := ifp_ c23 h
      refine aw_pick [0, 1, 2] rfl ?_
      exact hk16 _ _ h
    · replace h := ifn_ c23 h
      refine a_iload_n 1 dX8_parted_24 rfl rfl ?_
      refine a_aload_n 0 dX8_parted_25 rfl rfl ?_
      refine a_iload_n 2 dX8_parted_26 rfl rfl ?_
      refine a_iload_n 3 dX8_parted_27 rfl rfl ?_
      obtain ⟨v26, m24, e25, h⟩ := bm_some h
      have he25 := e_X8_areKin (G := G) hl hf14 e25
      refine c_I he25.1 (rn_V (n := 2) (As := [vI_ p15, vI_ x22]) kc_8 hf14 he25 (lw_V q1944 q1946 qs70 q97 q1947) (by decide +kernel) rfl (Nat.le_of_ble_eq_true rfl) (Nat.le_of_ble_eq_true rfl) (Nat.le_of_ble_eq_true rfl) dX8_parted_28) (fun z => (os_av (As := [vI_ p15, vI_ x22]) z).2.1) ?_
      refine a_if_eq (tgt := 83) dX8_parted_31 (by decide) (fun c27 => ?_) (fun c27 => ?_)
      · replace h := ifp_ c27 h
        refine a_iconst (v := 0) dX8_parted_83 (by decide) ?_
        refine a_iadd dX8_parted_84 ?_
        refine a_istore_n (ls' := [(1, vI_ (x21 + 0)), (0, vR_ (some p13)), (2, vI_ p15), (3, vI_ x22)]) dX8_parted_85 rfl (Nat.le_of_ble_eq_true rfl) rfl ?_
        refine a_iinc (v := x22 + 1) (ls' := [(3, vI_ (x22 + 1)), (1, vI_ (x21 + 0)), (0, vR_ (some p13)), (2, vI_ p15)]) 3 dX8_parted_86 rfl rfl (Nat.le_of_ble_eq_true rfl) rfl ?_
        refine a_goto (tgt := 19) dX8_parted_89 (by decide) ?_
        refine aw_pick [2, 1, 3, 0] rfl ?_
        exact ih _ _ _ h
      · replace h := ifn_ c27 h
        refine a_aload_n 0 dX8_parted_34 rfl rfl ?_
        refine a_getR kc_8 37 (by decide) rfl hf14 q1591 dX8_parted_35 ?_
        refine a_iconst (v := 0) dX8_parted_38 (by decide) ?_
        refine a_iload_n 2 dX8_parted_39 rfl rfl ?_
        refine a_iadd dX8_parted_40 ?_
        obtain ⟨a28, e29, f30, h⟩ := gd_some h
        rw [e29]
        obtain ⟨c31, h⟩ := iz_some h
        refine a_iald f30 (bn_ c31) dX8_parted_41 ?_
        refine a_iconst (v := 2) dX8_parted_42 (by decide) ?_
        refine a_icmp_ne (tgt := 83) dX8_parted_43 (by decide) (fun c32 => ?_) (fun c32 => ?_)
        · replace h := ifn_ c32 h
          refine a_iconst (v := 0) dX8_parted_83 (by decide) ?_
          refine a_iadd dX8_parted_84 ?_
          refine a_istore_n (ls' := [(1, vI_ (x21 + 0)), (0, vR_ (some p13)), (2, vI_ p15), (3, vI_ x22)]) dX8_parted_85 rfl (Nat.le_of_ble_eq_true rfl) rfl ?_
          refine a_iinc (v := x22 + 1) (ls' := [(3, vI_ (x22 + 1)), (1, vI_ (x21 + 0)), (0, vR_ (some p13)), (2, vI_ p15)]) 3 dX8_parted_86 rfl rfl (Nat.le_of_ble_eq_true rfl) rfl ?_
          refine a_goto (tgt := 19) dX8_parted_89 (by decide) ?_
          refine aw_pick [2, 1, 3, 0] rfl ?_
          exact ih _ _ _ h
        · replace h := ifp_ c32 h
          refine a_aload_n 0 dX8_parted_46 rfl rfl ?_
          refine a_getR kc_8 37 (by decide) rfl hf14 q1591 dX8_parted_47 ?_
          refine a_iconst (v := 0) dX8_parted_50 (by decide) ?_
          refine a_iload_n 3 dX8_parted_51 rfl rfl ?_
          refine a_iadd dX8_parted_52 ?_
          obtain ⟨a33, e34, f35, h⟩ := gd_some h
          rw [e34]
          obtain ⟨c36, h⟩ := iz_some h
          refine a_iald f35 (bn_ c36) dX8_parted_53 ?_
          refine a_iconst (v := 2) dX8_parted_54 (by decide) ?_
          refine a_icmp_ne (tgt := 83) dX8_parted_55 (by decide) (fun c37 => ?_) (fun c37 => ?_)
          · replace h := ifn_ c37 h
            refine a_iconst (v := 0) dX8_parted_83 (by decide) ?_
            refine a_iadd dX8_parted_84 ?_
            refine a_istore_n (ls' := [(1, vI_ (x21 + 0)), (0, vR_ (some p13)), (2, vI_ p15), (3, vI_ x22)]) dX8_parted_85 rfl (Nat.le_of_ble_eq_true rfl) rfl ?_
            refine a_iinc (v := x22 + 1) (ls' := [(3, vI_ (x22 + 1)), (1, vI_ (x21 + 0)), (0, vR_ (some p13)), (2, vI_ p15)]) 3 dX8_parted_86 rfl rfl (Nat.le_of_ble_eq_true rfl) rfl ?_
            refine a_goto (tgt := 19) dX8_parted_89 (by decide) ?_
            refine aw_pick [2, 1, 3, 0] rfl ?_
            exact ih _ _ _ h
          · replace h := ifp_ c37 h
            refine a_aload_n 0 dX8_parted_58 rfl rfl ?_
            refine a_getR kc_8 37 (by decide) rfl hf14 q1591 dX8_parted_59 ?_
            refine a_bipush (v := 8) dX8_parted_62 (by decide) ?_
            refine a_iload_n 2 dX8_parted_64 rfl rfl ?_
            refine a_iadd dX8_parted_65 ?_
            obtain ⟨a38, e39, f40, h⟩ := gd_some h
            rw [e39]
            obtain ⟨c41, h⟩ := iz_some h
            refine a_iald f40 (bn_ c41) dX8_parted_66 ?_
            refine a_aload_n 0 dX8_parted_67 rfl rfl ?_
            refine a_getR kc_8 37 (by decide) rfl hf14 q1591 dX8_parted_68 ?_
            refine a_bipush (v := 8) dX8_parted_71 (by decide) ?_
            refine a_iload_n 3 dX8_parted_73 rfl rfl ?_
            refine a_iadd dX8_parted_74 ?_
            obtain ⟨a42, e43, f44, h⟩ := gd_some h
            rw [e43]
            obtain ⟨c45, h⟩ := iz_some h
            refine a_iald f44 (bn_ c45) dX8_parted_75 ?_
            refine a_icmp_eq (tgt := 83) dX8_parted_76 (by decide) (fun c46 => ?_) (fun c46 => ?_)
            · replace h := ifp_ c46 h
              refine a_iconst (v := 0) dX8_parted_83 (by decide) ?_
              refine a_iadd dX8_parted_84 ?_
              refine a_istore_n (ls' := [(1, vI_ (x21 + 0)), (0, vR_ (some p13)), (2, vI_ p15), (3, vI_ x22)]) dX8_parted_85 rfl (Nat.le_of_ble_eq_true rfl) rfl ?_
              refine a_iinc (v := x22 + 1) (ls' := [(3, vI_ (x22 + 1)), (1, vI_ (x21 + 0)), (0, vR_ (some p13)), (2, vI_ p15)]) 3 dX8_parted_86 rfl rfl (Nat.le_of_ble_eq_true rfl) rfl ?_
              refine a_goto (tgt := 19) dX8_parted_89 (by decide) ?_
              refine aw_pick [2, 1, 3, 0] rfl ?_
              exact ih _ _ _ h
            · replace h := ifn_ c46 h
              refine a_iconst (v := 1) dX8_parted_79 (by decide) ?_
              refine a_goto (tgt := 84) dX8_parted_80 (by decide) ?_
              refine a_iadd dX8_parted_84 ?_
              refine a_istore_n (ls' := [(1, vI_ (x21 + 1)), (0, vR_ (some p13)), (2, vI_ p15), (3, vI_ x22)]) dX8_parted_85 rfl (Nat.le_of_ble_eq_true rfl) rfl ?_
              refine a_iinc (v := x22 + 1) (ls' := [(3, vI_ (x22 + 1)), (1, vI_ (x21 + 1)), (0, vR_ (some p13)), (2, vI_ p15)]) 3 dX8_parted_86 rfl rfl (Nat.le_of_ble_eq_true rfl) rfl ?_
              refine a_goto (tgt := 19) dX8_parted_89 (by decide) ?_
              refine aw_pick [2, 1, 3, 0] rfl ?_
              exact ih _ _ _ h
def f_X8_parted_L9 (F : Nat)  (p3 : pm_A) : Nat → Int32 → Int32 → pm_M → Option (Int32 × pm_M)
  | 0, _, _, _ => none
  | n5 + 1, x7, x8, m6 =>
    if (gI_ m6 p3 18) ≤ x8 then
      some (x7, m6)
    else
      jn_ (fun (x12 : Int32) (m11 : pm_M) =>
        (f_X8_parted_L9 F p3 n5) x12 (x8 + 1) m11
      ) fun k10 =>
      f_X8_parted_L19 F p3 x8 k10 F x7 0 m6
set_option maxHeartbeats 4000000 in
theorem w_X8_parted_L9 {G : xg_T} {l : Launch} (hl : l.stackTraces = false) {F : Nat}    (p3 : pm_A) {m0 m' : pm_M} {r : Int32} (hf4 : p3.1 = 8)  : ∀ (n : Nat) (x7 : Int32) (x8 : Int32) (m6 : pm_M), f_X8_parted_L9 F p3 n x7 x8 m6 = some (r, m') → AW_ cX8_parted RX8 (some (.int), "parted", 3, 4, m0, m', (.inl (some (vI_ r))), G, l, [], true) m6 9 [(0, vR_ (some p3)), (1, vI_ x7), (2, vI_ x8)] [] := by
  intro n
  induction n with
  | zero => intro x7 x8 m6 h; cases h
  | succ n5 ih =>
    intro x7 x8 m6 h
    rw [f_X8_parted_L9] at h
    refine a_iload_n 2 dX8_parted_9 rfl rfl ?_
    refine a_aload_n 0 dX8_parted_10 rfl rfl ?_
    refine a_getI kc_8 18 (by decide) rfl hf4 q1572 dX8_parted_11 ?_
    refine a_icmp_ge (tgt := 98) dX8_parted_14 (by decide) (fun c9 => ?_) (fun c9 => ?_)
    · replace h := ifp_ c9 h
      refine a_iload_n 1 dX8_parted_98 rfl rfl ?_
      cases h
      exact a_ireturn rfl rfl rfl rfl rfl dX8_parted_99
    · replace h := ifn_ c9 h
      refine a_iconst (v := 0) dX8_parted_17 (by decide) ?_
      refine a_istore_n (ls' := [(3, vI_ 0), (0, vR_ (some p3)), (1, vI_ x7), (2, vI_ x8)]) dX8_parted_18 rfl (Nat.le_of_ble_eq_true rfl) rfl ?_
      obtain ⟨k10, e47, h⟩ := jn2_some h
      have hk10 : ∀ (x12 : Int32) (m11 : pm_M), k10 x12 m11 = some (r, m') → AW_ cX8_parted RX8 (some (.int), "parted", 3, 4, m0, m', (.inl (some (vI_ r))), G, l, [], true) m11 92 [(0, vR_ (some p3)), (1, vI_ x12), (2, vI_ x8)] [] := by
        intro x12 m11 h
        have h := (e47 x12 m11).symm.trans h
        refine a_iinc (v := x8 + 1) (ls' := [(2, vI_ (x8 + 1)), (0, vR_ (some p3)), (1, vI_ x12)]) 2 dX8_parted_92 rfl rfl (Nat.le_of_ble_eq_true rfl) rfl ?_
        refine a_goto (tgt := 9) dX8_parted_95 (by decide) ?_
        refine aw_pick [1, 2, 0] rfl ?_
        exact ih _ _ _ h
      refine aw_pick [1, 2, 3, 0] rfl ?_
      exact w_X8_parted_L19 hl _ _ _ hf4 hk10 _ _ _ _ h
def f_X8_parted (F : Nat)  (t : pm_A) (m : pm_M) : Option (Int32 × pm_M) :=
  lt_ (pI_ m t 0 0) fun m1 =>
  f_X8_parted_L9 F t F 0 0 m1
set_option maxHeartbeats 4000000 in
theorem e_X8_parted {G : xg_T} {l : Launch} (hl : l.stackTraces = false) {F : Nat}    {t : pm_A} {m0 m' : pm_M} {r : Int32} (ht : t.1 = 8) (h : f_X8_parted F t m0 = some (r, m')) : Cal_ G l yX8_parted (ws_ yX8_parted cX8_parted 4 (some .int)) 3 [vR_ (some t)] m0 (.inl (some (vI_ r))) m' := by
  refine cal_of (by decide +kernel) (Nat.le_of_ble_eq_true rfl) ?_
  unfold f_X8_parted at h
  show AW_ cX8_parted RX8 (some (.int), "parted", 3, 4, m0, m', (.inl (some (vI_ r))), G, l, [], true) m0 0 [(0, vR_ (some t))] []
  refine a_aload_n 0 dX8_parted_0 rfl rfl ?_
  refine a_iconst (v := 0) dX8_parted_1 (by decide) ?_
  obtain ⟨m1, e2, h⟩ := lt_some h
  refine a_putI kc_8 0 (by decide) rfl ht q1554 rfl rfl rfl dX8_parted_2 ?_
  rw [← e2]
  refine a_iconst (v := 0) dX8_parted_5 (by decide) ?_
  refine a_istore_n (ls' := [(1, vI_ 0), (0, vR_ (some t))]) dX8_parted_6 rfl (Nat.le_of_ble_eq_true rfl) rfl ?_
  refine a_iconst (v := 0) dX8_parted_7 (by decide) ?_
  refine a_istore_n (ls' := [(2, vI_ 0), (1, vI_ 0), (0, vR_ (some t))]) dX8_parted_8 rfl (Nat.le_of_ble_eq_true rfl) rfl ?_
  refine aw_pick [2, 1, 0] rfl ?_
  exact w_X8_parted_L9 hl _ ht _ _ _ _ h
def f_X8_kin_L20 (F : Nat)  (p7 : pm_A) (p9 : Int32) : Nat → Int32 → Int32 → pm_M → Option (Int32 × pm_M)
  | 0, _, _, _ => none
  | n10 + 1, x12, x13, m11 =>
    if (gI_ m11 p7 18) ≤ x13 then
      some (x12, m11)
    else
      bm_ (f_X8_areKin F p7 p9 x13 m11) fun v17 m15 =>
      if v17 = 0 then
        (f_X8_kin_L20 F p7 p9 n10) (x12 ||| 0) (x13 + 1) m15
      else
        (f_X8_kin_L20 F p7 p9 n10) (x12 ||| ((1 : Int32) <<< (x13 &&& 31))) (x13 + 1) m15
set_option maxHeartbeats 4000000 in
theorem w_X8_kin_L20 {G : xg_T} {l : Launch} (hl : l.stackTraces = false) {F : Nat}    (p7 : pm_A) (p9 : Int32) {m0 m' : pm_M} {r : Int32} (hf8 : p7.1 = 8)  : ∀ (n : Nat) (x12 : Int32) (x13 : Int32) (m11 : pm_M), f_X8_kin_L20 F p7 p9 n x12 x13 m11 = some (r, m') → AW_ cX8_kin RX8 (some (.int), "kin", 4, 4, m0, m', (.inl (some (vI_ r))), G, l, [], true) m11 20 [(0, vR_ (some p7)), (1, vI_ p9), (2, vI_ x12), (3, vI_ x13)] [] := by
  intro n
  induction n with
  | zero => intro x12 x13 m11 h; cases h
  | succ n10 ih =>
    intro x12 x13 m11 h
    rw [f_X8_kin_L20] at h
    refine a_iload_n 3 dX8_kin_20 rfl rfl ?_
    refine a_aload_n 0 dX8_kin_21 rfl rfl ?_
    refine a_getI kc_8 18 (by decide) rfl hf8 q1572 dX8_kin_22 ?_
    refine a_icmp_ge (tgt := 53) dX8_kin_25 (by decide) (fun c14 => ?_) (fun c14 => ?_)
    · replace h := ifp_ c14 h
      refine a_iload_n 2 dX8_kin_53 rfl rfl ?_
      cases h
      exact a_ireturn rfl rfl rfl rfl rfl dX8_kin_54
    · replace h := ifn_ c14 h
      refine a_iload_n 2 dX8_kin_28 rfl rfl ?_
      refine a_aload_n 0 dX8_kin_29 rfl rfl ?_
      refine a_iload_n 1 dX8_kin_30 rfl rfl ?_
      refine a_iload_n 3 dX8_kin_31 rfl rfl ?_
      obtain ⟨v17, m15, e16, h⟩ := bm_some h
      have he16 := e_X8_areKin (G := G) hl hf8 e16
      refine c_I he16.1 (rn_V (n := 2) (As := [vI_ p9, vI_ x13]) kc_8 hf8 he16 (lw_V q1944 q1946 qs70 q97 q1947) (by decide +kernel) rfl (Nat.le_of_ble_eq_true rfl) (Nat.le_of_ble_eq_true rfl) (Nat.le_of_ble_eq_true rfl) dX8_kin_32) (fun z => (os_av (As := [vI_ p9, vI_ x13]) z).2.1) ?_
      refine a_if_eq (tgt := 44) dX8_kin_35 (by decide) (fun c18 => ?_) (fun c18 => ?_)
      · replace h := ifp_ c18 h
        refine a_iconst (v := 0) dX8_kin_44 (by decide) ?_
        refine a_ior dX8_kin_45 ?_
        refine a_istore_n (ls' := [(2, vI_ (x12 ||| 0)), (0, vR_ (some p7)), (1, vI_ p9), (3, vI_ x13)]) dX8_kin_46 rfl (Nat.le_of_ble_eq_true rfl) rfl ?_
        refine a_iinc (v := x13 + 1) (ls' := [(3, vI_ (x13 + 1)), (2, vI_ (x12 ||| 0)), (0, vR_ (some p7)), (1, vI_ p9)]) 3 dX8_kin_47 rfl rfl (Nat.le_of_ble_eq_true rfl) rfl ?_
        refine a_goto (tgt := 20) dX8_kin_50 (by decide) ?_
        refine aw_pick [2, 3, 1, 0] rfl ?_
        exact ih _ _ _ h
      · replace h := ifn_ c18 h
        refine a_iconst (v := 1) dX8_kin_38 (by decide) ?_
        refine a_iload_n 3 dX8_kin_39 rfl rfl ?_
        refine a_ishl dX8_kin_40 ?_
        refine a_goto (tgt := 45) dX8_kin_41 (by decide) ?_
        refine a_ior dX8_kin_45 ?_
        refine a_istore_n (ls' := [(2, vI_ (x12 ||| ((1 : Int32) <<< (x13 &&& 31)))), (0, vR_ (some p7)), (1, vI_ p9), (3, vI_ x13)]) dX8_kin_46 rfl (Nat.le_of_ble_eq_true rfl) rfl ?_
        refine a_iinc (v := x13 + 1) (ls' := [(3, vI_ (x13 + 1)), (2, vI_ (x12 ||| ((1 : Int32) <<< (x13 &&& 31)))), (0, vR_ (some p7)), (1, vI_ p9)]) 3 dX8_kin_47 rfl rfl (Nat.le_of_ble_eq_true rfl) rfl ?_
        refine a_goto (tgt := 20) dX8_kin_50 (by decide) ?_
        refine aw_pick [2, 3, 1, 0] rfl ?_
        exact ih _ _ _ h
def f_X8_kin (F : Nat)  (t : pm_A) (i0 : Int32) (m : pm_M) : Option (Int32 × pm_M) :=
  lt_ (pI_ m t 0 0) fun m1 =>
  bm_ (f_X8_isSigner F t i0 1 m1) fun v5 m3 =>
  if v5 = 0 then
    some (0, m3)
  else
    f_X8_kin_L20 F t i0 F 0 0 m3
set_option maxHeartbeats 4000000 in
theorem e_X8_kin {G : xg_T} {l : Launch} (hl : l.stackTraces = false) {F : Nat}    {t : pm_A} {i0 : Int32} {m0 m' : pm_M} {r : Int32} (ht : t.1 = 8) (h : f_X8_kin F t i0 m0 = some (r, m')) : Cal_ G l yX8_kin (ws_ yX8_kin cX8_kin 4 (some .int)) 4 [vR_ (some t), vI_ i0] m0 (.inl (some (vI_ r))) m' := by
  refine cal_of (by decide +kernel) (Nat.le_of_ble_eq_true rfl) ?_
  unfold f_X8_kin at h
  show AW_ cX8_kin RX8 (some (.int), "kin", 4, 4, m0, m', (.inl (some (vI_ r))), G, l, [], true) m0 0 [(0, vR_ (some t)), (1, vI_ i0)] []
  refine a_aload_n 0 dX8_kin_0 rfl rfl ?_
  refine a_iconst (v := 0) dX8_kin_1 (by decide) ?_
  obtain ⟨m1, e2, h⟩ := lt_some h
  refine a_putI kc_8 0 (by decide) rfl ht q1554 rfl rfl rfl dX8_kin_2 ?_
  rw [← e2]
  refine a_aload_n 0 dX8_kin_5 rfl rfl ?_
  refine a_iload_n 1 dX8_kin_6 rfl rfl ?_
  refine a_iconst (v := 1) dX8_kin_7 (by decide) ?_
  obtain ⟨v5, m3, e4, h⟩ := bm_some h
  have he4 := e_X8_isSigner (G := G) hl ht e4
  refine c_I he4.1 (rn_V (n := 2) (As := [vI_ i0, vI_ 1]) kc_8 ht he4 (lw_V q1983 q1985 qs75 q97 q1986) (by decide +kernel) rfl (Nat.le_of_ble_eq_true rfl) (Nat.le_of_ble_eq_true rfl) (Nat.le_of_ble_eq_true rfl) dX8_kin_8) (fun z => (os_av (As := [vI_ i0, vI_ 1]) z).2.1) ?_
  refine a_if_ne (tgt := 16) dX8_kin_11 (by decide) (fun c6 => ?_) (fun c6 => ?_)
  · replace h := ifn_ c6 h
    refine a_iconst (v := 0) dX8_kin_16 (by decide) ?_
    refine a_istore_n (ls' := [(2, vI_ 0), (0, vR_ (some t)), (1, vI_ i0)]) dX8_kin_17 rfl (Nat.le_of_ble_eq_true rfl) rfl ?_
    refine a_iconst (v := 0) dX8_kin_18 (by decide) ?_
    refine a_istore_n (ls' := [(3, vI_ 0), (2, vI_ 0), (0, vR_ (some t)), (1, vI_ i0)]) dX8_kin_19 rfl (Nat.le_of_ble_eq_true rfl) rfl ?_
    refine aw_pick [2, 3, 1, 0] rfl ?_
    exact w_X8_kin_L20 hl _ _ ht _ _ _ _ h
  · replace h := ifp_ c6 h
    refine a_iconst (v := 0) dX8_kin_14 (by decide) ?_
    cases h
    exact a_ireturn rfl rfl rfl rfl rfl dX8_kin_15
