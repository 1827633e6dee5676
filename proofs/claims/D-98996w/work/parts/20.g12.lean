/-! PRINTED BY dec.py: X8_wrong X8_pass X8_isDigit X8_readNumber X8_readKinsman X8_readRow X8_sign X8_result X8_register X8_within X8_opensOne X8_emit X8_factHere -/
set_option maxRecDepth 100000
def f_X8_wrong (F : Nat)  (t : pm_A) (i0 : Int32) (i1 : Int32) (m : pm_M) : Option (Unit × pm_M) :=
  if (gI_ m t 5) = ((-1)) then
    lt_ (pI_ m t 5 i1) fun m2 =>
    lt_ (pI_ m2 t 6 i0) fun m4 =>
    some ((), m4)
  else
    some ((), m)
set_option maxHeartbeats 4000000 in
theorem e_X8_wrong {G : xg_T} {l : Launch} (hl : l.stackTraces = false) {F : Nat}    {t : pm_A} {i0 : Int32} {i1 : Int32} {m0 m' : pm_M} {r : Unit} (ht : t.1 = 8) (h : f_X8_wrong F t i0 i1 m0 = some (r, m')) : Cal_ G l yX8_wrong (ws_ yX8_wrong cX8_wrong 3 none) 2 [vR_ (some t), vI_ i0, vI_ i1] m0 (.inl none) m' := by
  refine cal_of (by decide +kernel) (Nat.le_of_ble_eq_true rfl) ?_
  unfold f_X8_wrong at h
  show AW_ cX8_wrong RX8 (none, "wrong", 2, 3, m0, m', (.inl none), G, l, [], true) m0 0 [(0, vR_ (some t)), (1, vI_ i0), (2, vI_ i1)] []
  refine a_aload_n 0 dX8_wrong_0 rfl rfl ?_
  refine a_getI kc_8 5 (by decide) rfl ht q1559 dX8_wrong_1 ?_
  refine a_iconst (v := (-1)) dX8_wrong_4 (by decide) ?_
  refine a_icmp_eq (tgt := 9) dX8_wrong_5 (by decide) (fun c1 => ?_) (fun c1 => ?_)
  · replace h := ifp_ c1 h
    refine a_aload_n 0 dX8_wrong_9 rfl rfl ?_
    refine a_iload_n 2 dX8_wrong_10 rfl rfl ?_
    obtain ⟨m2, e3, h⟩ := lt_some h
    refine a_putI kc_8 5 (by decide) rfl ht q1559 rfl rfl rfl dX8_wrong_11 ?_
    rw [← e3]
    refine a_aload_n 0 dX8_wrong_14 rfl rfl ?_
    refine a_iload_n 1 dX8_wrong_15 rfl rfl ?_
    obtain ⟨m4, e5, h⟩ := lt_some h
    refine a_putI kc_8 6 (by decide) rfl ht q1560 rfl rfl rfl dX8_wrong_16 ?_
    rw [← e5]
    cases h
    exact a_return rfl rfl rfl rfl dX8_wrong_19
  · replace h := ifn_ c1 h
    cases h
    exact a_return rfl rfl rfl rfl dX8_wrong_8
def f_X8_pass_L0 (F : Nat)  (p1 : pm_A) : Nat → pm_M → Option (Unit × pm_M)
  | 0, _ => none
  | n3 + 1, m4 =>
    if (gI_ m4 p1 3) ≤ (gI_ m4 p1 4) then
      some ((), m4)
    else
      gd_ 100 (gR_ m4 p1 9) fun a6 =>
      iz_ (!(ib_ (gI_ m4 p1 4) a6.2.1)) <|
      bm_ (f_X8_isSmall F (gI_ m4 a6 (gI_ m4 p1 4).toNatClampNeg) m4) fun v12 m10 =>
      if v12 = 0 then
        some ((), m10)
      else
        lt_ (pI_ m10 p1 4 ((gI_ m10 p1 4) + 1)) fun m14 =>
        (f_X8_pass_L0 F p1 n3) m14
set_option maxHeartbeats 4000000 in
theorem w_X8_pass_L0 {G : xg_T} {l : Launch} (hl : l.stackTraces = false) {F : Nat}    (p1 : pm_A) {m0 m' : pm_M} {r : Unit} (hf2 : p1.1 = 8)  : ∀ (n : Nat) (m4 : pm_M), f_X8_pass_L0 F p1 n m4 = some (r, m') → AW_ cX8_pass RX8 (none, "pass", 3, 1, m0, m', (.inl none), G, l, [], true) m4 0 [(0, vR_ (some p1))] [] := by
  intro n
  induction n with
  | zero => intro m4 h; cases h
  | succ n3 ih =>
    intro m4 h
    rw [f_X8_pass_L0] at h
    refine a_aload_n 0 dX8_pass_0 rfl rfl ?_
    refine a_getI kc_8 4 (by decide) rfl hf2 q1558 dX8_pass_1 ?_
    refine a_aload_n 0 dX8_pass_4 rfl rfl ?_
    refine a_getI kc_8 3 (by decide) rfl hf2 q1557 dX8_pass_5 ?_
    refine a_icmp_ge (tgt := 39) dX8_pass_8 (by decide) (fun c5 => ?_) (fun c5 => ?_)
    · replace h := ifp_ c5 h
      cases h
      exact a_return rfl rfl rfl rfl dX8_pass_39
    · replace h := ifn_ c5 h
      refine a_aload_n 0 dX8_pass_11 rfl rfl ?_
      refine a_getR kc_8 9 (by decide) rfl hf2 q1563 dX8_pass_12 ?_
      refine a_aload_n 0 dX8_pass_15 rfl rfl ?_
      refine a_getI kc_8 4 (by decide) rfl hf2 q1558 dX8_pass_16 ?_
      obtain ⟨a6, e7, f8, h⟩ := gd_some h
      rw [e7]
      obtain ⟨c9, h⟩ := iz_some h
      refine a_iald f8 (bn_ c9) dX8_pass_19 ?_
      obtain ⟨v12, m10, e11, h⟩ := bm_some h
      have he11 := e_X8_isSmall (G := G) hl e11
      refine c_I he11.1 (rn_S (n := 1) (As := [vI_ (gI_ m4 a6 (gI_ m4 p1 4).toNatClampNeg)]) he11 (lw_S q1771 q1772 q97 q1773) (by decide +kernel) rfl (Nat.le_of_ble_eq_true rfl) (Nat.le_of_ble_eq_true rfl) (Nat.le_of_ble_eq_true rfl) dX8_pass_20) (fun z => (os_aS (As := [vI_ (gI_ m4 a6 (gI_ m4 p1 4).toNatClampNeg)]) z).2) ?_
      refine a_if_eq (tgt := 39) dX8_pass_23 (by decide) (fun c13 => ?_) (fun c13 => ?_)
      · replace h := ifp_ c13 h
        cases h
        exact a_return rfl rfl rfl rfl dX8_pass_39
      · replace h := ifn_ c13 h
        refine a_aload_n 0 dX8_pass_26 rfl rfl ?_
        refine a_dup dX8_pass_27 rfl ?_
        refine a_getI kc_8 4 (by decide) rfl hf2 q1558 dX8_pass_28 ?_
        refine a_iconst (v := 1) dX8_pass_31 (by decide) ?_
        refine a_iadd dX8_pass_32 ?_
        obtain ⟨m14, e15, h⟩ := lt_some h
        refine a_putI kc_8 4 (by decide) rfl hf2 q1558 rfl rfl rfl dX8_pass_33 ?_
        rw [← e15]
        refine a_goto (tgt := 0) dX8_pass_36 (by decide) ?_
        exact ih _ h
def f_X8_pass (F : Nat)  (t : pm_A) (m : pm_M) : Option (Unit × pm_M) :=
  f_X8_pass_L0 F t F m
set_option maxHeartbeats 4000000 in
theorem e_X8_pass {G : xg_T} {l : Launch} (hl : l.stackTraces = false) {F : Nat}    {t : pm_A} {m0 m' : pm_M} {r : Unit} (ht : t.1 = 8) (h : f_X8_pass F t m0 = some (r, m')) : Cal_ G l yX8_pass (ws_ yX8_pass cX8_pass 1 none) 3 [vR_ (some t)] m0 (.inl none) m' := by
  refine cal_of (by decide +kernel) (Nat.le_of_ble_eq_true rfl) ?_
  unfold f_X8_pass at h
  show AW_ cX8_pass RX8 (none, "pass", 3, 1, m0, m', (.inl none), G, l, [], true) m0 0 [(0, vR_ (some t))] []
  exact w_X8_pass_L0 hl _ ht _ _ h
def f_X8_isDigit (F : Nat)  (i0 : Int32) (m : pm_M) : Option (Int32 × pm_M) :=
  if i0 < 48 then
    some (0, m)
  else
    if 57 < i0 then
      some (0, m)
    else
      some (1, m)
set_option maxHeartbeats 4000000 in
theorem e_X8_isDigit {G : xg_T} {l : Launch} (hl : l.stackTraces = false) {F : Nat}    {i0 : Int32} {m0 m' : pm_M} {r : Int32} (h : f_X8_isDigit F i0 m0 = some (r, m')) : Cal_ G l yX8_isDigit (ws_ yX8_isDigit cX8_isDigit 1 (some .boolean)) 2 [vI_ i0] m0 (.inl (some (vI_ r))) m' := by
  refine cal_of (by decide +kernel) (Nat.le_of_ble_eq_true rfl) ?_
  unfold f_X8_isDigit at h
  show AW_ cX8_isDigit RX8 (some (.boolean), "isDigit", 2, 1, m0, m', (.inl (some (vI_ r))), G, l, [], true) m0 0 [(0, vI_ i0)] []
  refine a_iload_n 0 dX8_isDigit_0 rfl rfl ?_
  refine a_bipush (v := 48) dX8_isDigit_1 (by decide) ?_
  refine a_icmp_lt (tgt := 16) dX8_isDigit_3 (by decide) (fun c1 => ?_) (fun c1 => ?_)
  · replace h := ifp_ c1 h
    refine a_iconst (v := 0) dX8_isDigit_16 (by decide) ?_
    cases h
    exact a_ireturn rfl rfl rfl rfl rfl dX8_isDigit_17
  · replace h := ifn_ c1 h
    refine a_iload_n 0 dX8_isDigit_6 rfl rfl ?_
    refine a_bipush (v := 57) dX8_isDigit_7 (by decide) ?_
    refine a_icmp_gt (tgt := 16) dX8_isDigit_9 (by decide) (fun c2 => ?_) (fun c2 => ?_)
    · replace h := ifp_ c2 h
      refine a_iconst (v := 0) dX8_isDigit_16 (by decide) ?_
      cases h
      exact a_ireturn rfl rfl rfl rfl rfl dX8_isDigit_17
    · replace h := ifn_ c2 h
      refine a_iconst (v := 1) dX8_isDigit_12 (by decide) ?_
      refine a_goto (tgt := 17) dX8_isDigit_13 (by decide) ?_
      cases h
      exact a_ireturn rfl rfl rfl rfl rfl dX8_isDigit_17
def f_X8_readNumber_L41 (F : Nat)  (p23 : pm_A) (p25 : Int32) (p26 : Int32) (p27 : Int32) (k28 : Int32 → pm_M → Option (Int32 × pm_M)) : Nat → Int32 → pm_M → Option (Int32 × pm_M)
  | 0, _, _ => none
  | n31 + 1, x33, m32 =>
    if (gI_ m32 p23 3) ≤ (gI_ m32 p23 4) then
      k28 x33 m32
    else
      gd_ 100 (gR_ m32 p23 9) fun a35 =>
      iz_ (!(ib_ (gI_ m32 p23 4) a35.2.1)) <|
      bm_ (f_X8_isDigit F (gI_ m32 a35 (gI_ m32 p23 4).toNatClampNeg) m32) fun v41 m39 =>
      if v41 = 0 then
        k28 x33 m39
      else
        jn_ (fun (y45 : Int32) (m44 : pm_M) =>
          lt_ (pI_ m44 p23 4 ((gI_ m44 p23 4) + 1)) fun m46 =>
          (f_X8_readNumber_L41 F p23 p25 p26 p27 k28 n31) y45 m46
        ) fun k43 =>
        if x33 ≤ 9999 then
          gd_ 100 (gR_ m39 p23 9) fun a49 =>
          iz_ (!(ib_ (gI_ m39 p23 4) a49.2.1)) <|
          k43 (((10 * x33) + (gI_ m39 a49 (gI_ m39 p23 4).toNatClampNeg)) - 48) m39
        else
          k43 10000 m39
set_option maxHeartbeats 4000000 in
theorem w_X8_readNumber_L41 {G : xg_T} {l : Launch} (hl : l.stackTraces = false) {F : Nat}    (p23 : pm_A) (p25 : Int32) (p26 : Int32) (p27 : Int32) (k28 : Int32 → pm_M → Option (Int32 × pm_M)) {m0 m' : pm_M} {r : Int32} (hf24 : p23.1 = 8) (hk28 : ∀ (x29 : Int32) (m30 : pm_M), k28 x29 m30 = some (r, m') → AW_ cX8_readNumber RX8 (some (.int), "readNumber", 3, 6, m0, m', (.inl (some (vI_ r))), G, l, [], true) m30 114 [(0, vR_ (some p23)), (1, vI_ p25), (2, vI_ p26), (4, vI_ p27), (5, vI_ x29)] []) : ∀ (n : Nat) (x33 : Int32) (m32 : pm_M), f_X8_readNumber_L41 F p23 p25 p26 p27 k28 n x33 m32 = some (r, m') → AW_ cX8_readNumber RX8 (some (.int), "readNumber", 3, 6, m0, m', (.inl (some (vI_ r))), G, l, [], true) m32 41 [(0, vR_ (some p23)), (1, vI_ p25), (2, vI_ p26), (4, vI_ p27), (5, vI_ x33)] [] := by
  intro n
  induction n with
  | zero => intro x33 m32 h; cases h
  | succ n31 ih =>
    intro x33 m32 h
    rw [f_X8_readNumber_L41] at h
    refine a_aload_n 0 dX8_readNumber_41 rfl rfl ?_
    refine a_getI kc_8 4 (by decide) rfl hf24 q1558 dX8_readNumber_42 ?_
    refine a_aload_n 0 dX8_readNumber_45 rfl rfl ?_
    refine a_getI kc_8 3 (by decide) rfl hf24 q1557 dX8_readNumber_46 ?_
    refine a_icmp_ge (tgt := 114) dX8_readNumber_49 (by decide) (fun c34 => ?_) (fun c34 => ?_)
    · replace h := ifp_ c34 h
      exact hk28 _ _ h
    · replace h := ifn_ c34 h
      refine a_aload_n 0 dX8_readNumber_52 rfl rfl ?_
      refine a_getR kc_8 9 (by decide) rfl hf24 q1563 dX8_readNumber_53 ?_
      refine a_aload_n 0 dX8_readNumber_56 rfl rfl ?_
      refine a_getI kc_8 4 (by decide) rfl hf24 q1558 dX8_readNumber_57 ?_
      obtain ⟨a35, e36, f37, h⟩ := gd_some h
      rw [e36]
      obtain ⟨c38, h⟩ := iz_some h
      refine a_iald f37 (bn_ c38) dX8_readNumber_60 ?_
      obtain ⟨v41, m39, e40, h⟩ := bm_some h
      have he40 := e_X8_isDigit (G := G) hl e40
      refine c_I he40.1 (rn_S (n := 1) (As := [vI_ (gI_ m32 a35 (gI_ m32 p23 4).toNatClampNeg)]) he40 (lw_S q1804 q1805 q97 q1806) (by decide +kernel) rfl (Nat.le_of_ble_eq_true rfl) (Nat.le_of_ble_eq_true rfl) (Nat.le_of_ble_eq_true rfl) dX8_readNumber_61) (fun z => (os_aS (As := [vI_ (gI_ m32 a35 (gI_ m32 p23 4).toNatClampNeg)]) z).2) ?_
      refine a_if_eq (tgt := 114) dX8_readNumber_64 (by decide) (fun c42 => ?_) (fun c42 => ?_)
      · replace h := ifp_ c42 h
        exact hk28 _ _ h
      · replace h := ifn_ c42 h
        refine a_iload 4 dX8_readNumber_67 rfl ?_
        refine a_sipush (v := 9999) dX8_readNumber_69 (by decide) ?_
        obtain ⟨k43, e53, h⟩ := jn2_some h
        have hk43 : ∀ (y45 : Int32) (m44 : pm_M), k43 y45 m44 = some (r, m') → AW_ cX8_readNumber RX8 (some (.int), "readNumber", 3, 6, m0, m', (.inl (some (vI_ r))), G, l, [], true) m44 99 [(0, vR_ (some p23)), (1, vI_ p25), (2, vI_ p26), (4, vI_ p27)] [vI_ y45] := by
          intro y45 m44 h
          have h := (e53 y45 m44).symm.trans h
          refine a_istore (ls' := [(5, vI_ y45), (0, vR_ (some p23)), (1, vI_ p25), (2, vI_ p26), (4, vI_ p27)]) dX8_readNumber_99 (Nat.le_of_ble_eq_true rfl) rfl ?_
          refine a_aload_n 1 dX8_readNumber_101 rfl rfl ?_
          refine a_dup dX8_readNumber_102 rfl ?_
          refine a_getI kc_8 4 (by decide) rfl hf24 q1558 dX8_readNumber_103 ?_
          refine a_iconst (v := 1) dX8_readNumber_106 (by decide) ?_
          refine a_iadd dX8_readNumber_107 ?_
          obtain ⟨m46, e47, h⟩ := lt_some h
          refine a_putI kc_8 4 (by decide) rfl hf24 q1558 rfl rfl rfl dX8_readNumber_108 ?_
          rw [← e47]
          refine a_goto (tgt := 41) dX8_readNumber_111 (by decide) ?_
          refine aw_pick [1, 2, 3, 4, 0] rfl ?_
          exact ih _ _ h
        refine a_icmp_le (tgt := 81) dX8_readNumber_72 (by decide) (fun c48 => ?_) (fun c48 => ?_)
        · replace h := ifp_ c48 h
          refine a_bipush (v := 10) dX8_readNumber_81 (by decide) ?_
          refine a_iload 4 dX8_readNumber_83 rfl ?_
          refine a_imul dX8_readNumber_85 ?_
          refine a_aload_n 0 dX8_readNumber_86 rfl rfl ?_
          refine a_getR kc_8 9 (by decide) rfl hf24 q1563 dX8_readNumber_87 ?_
          refine a_aload_n 0 dX8_readNumber_90 rfl rfl ?_
          refine a_getI kc_8 4 (by decide) rfl hf24 q1558 dX8_readNumber_91 ?_
          obtain ⟨a49, e50, f51, h⟩ := gd_some h
          rw [e50]
          obtain ⟨c52, h⟩ := iz_some h
          refine a_iald f51 (bn_ c52) dX8_readNumber_94 ?_
          refine a_iadd dX8_readNumber_95 ?_
          refine a_bipush (v := 48) dX8_readNumber_96 (by decide) ?_
          refine a_isub dX8_readNumber_98 ?_
          refine aw_pick [0, 1, 2, 3] rfl ?_
          exact hk43 _ _ h
        · replace h := ifn_ c48 h
          refine a_sipush (v := 10000) dX8_readNumber_75 (by decide) ?_
          refine a_goto (tgt := 99) dX8_readNumber_78 (by decide) ?_
          refine aw_pick [0, 1, 2, 3] rfl ?_
          exact hk43 _ _ h
def f_X8_readNumber (F : Nat)  (t : pm_A) (i0 : Int32) (i1 : Int32) (m : pm_M) : Option (Int32 × pm_M) :=
  bm_ (f_X8_fine F t m) fun v3 m1 =>
  if v3 = 0 then
    some (0, m1)
  else
    bm_ (f_X8_here F t m1) fun v7 m5 =>
    bm_ (f_X8_isDigit F v7 m5) fun v10 m8 =>
    if v10 = 0 then
      bm_ (f_X8_wrong F t 1 (gI_ m8 t 4) m8) fun v57 m55 =>
      some (0, m55)
    else
      jn_ (fun (x14 : Int32) (m13 : pm_M) =>
        jn_ (fun  (m16 : pm_M) =>
          bm_ (f_X8_wrong F t 2 (gI_ m5 t 4) m16) fun v19 m17 =>
          some (0, m17)
        ) fun k15 =>
        if x14 < i0 then
          k15 m13
        else
          if x14 ≤ i1 then
            some (x14, m13)
          else
            k15 m13
      ) fun k12 =>
      f_X8_readNumber_L41 F t i0 i1 (gI_ m5 t 4) k12 F 0 m8
set_option maxHeartbeats 4000000 in
theorem e_X8_readNumber {G : xg_T} {l : Launch} (hl : l.stackTraces = false) {F : Nat}    {t : pm_A} {i0 : Int32} {i1 : Int32} {m0 m' : pm_M} {r : Int32} (ht : t.1 = 8) (h : f_X8_readNumber F t i0 i1 m0 = some (r, m')) : Cal_ G l yX8_readNumber (ws_ yX8_readNumber cX8_readNumber 6 (some .int)) 3 [vR_ (some t), vI_ i0, vI_ i1] m0 (.inl (some (vI_ r))) m' := by
  refine cal_of (by decide +kernel) (Nat.le_of_ble_eq_true rfl) ?_
  unfold f_X8_readNumber at h
  show AW_ cX8_readNumber RX8 (some (.int), "readNumber", 3, 6, m0, m', (.inl (some (vI_ r))), G, l, [], true) m0 0 [(0, vR_ (some t)), (1, vI_ i0), (2, vI_ i1)] []
  refine a_aload_n 0 dX8_readNumber_0 rfl rfl ?_
  obtain ⟨v3, m1, e2, h⟩ := bm_some h
  have he2 := e_X8_fine (G := G) hl ht e2
  refine c_I he2.1 (rn_V (n := 0) (As := []) kc_8 ht he2 (lw_V q1752 q1754 qs34 q97 q1755) (by decide +kernel) rfl (Nat.le_of_ble_eq_true rfl) (Nat.le_of_ble_eq_true rfl) (Nat.le_of_ble_eq_true rfl) dX8_readNumber_1) (fun z => (os_av (As := []) z).2.1) ?_
  refine a_if_ne (tgt := 9) dX8_readNumber_4 (by decide) (fun c4 => ?_) (fun c4 => ?_)
  · replace h := ifn_ c4 h
    refine a_aload_n 0 dX8_readNumber_9 rfl rfl ?_
    obtain ⟨v7, m5, e6, h⟩ := bm_some h
    have he6 := e_X8_here (G := G) hl ht e6
    refine c_I he6.1 (rn_V (n := 0) (As := []) kc_8 ht he6 (lw_V q1760 q1762 qs36 q97 q1763) (by decide +kernel) rfl (Nat.le_of_ble_eq_true rfl) (Nat.le_of_ble_eq_true rfl) (Nat.le_of_ble_eq_true rfl) dX8_readNumber_10) (fun z => (os_av (As := []) z).2.1) ?_
    refine a_istore_n (ls' := [(3, vI_ v7), (0, vR_ (some t)), (1, vI_ i0), (2, vI_ i1)]) dX8_readNumber_13 rfl (Nat.le_of_ble_eq_true rfl) rfl ?_
    refine a_aload_n 1 dX8_readNumber_14 rfl rfl ?_
    refine a_getI kc_8 4 (by decide) rfl ht q1558 dX8_readNumber_15 ?_
    refine a_istore (ls' := [(4, vI_ (gI_ m5 t 4)), (3, vI_ v7), (0, vR_ (some t)), (1, vI_ i0), (2, vI_ i1)]) dX8_readNumber_18 (Nat.le_of_ble_eq_true rfl) rfl ?_
    refine a_iconst (v := 0) dX8_readNumber_20 (by decide) ?_
    refine a_istore (ls' := [(5, vI_ 0), (4, vI_ (gI_ m5 t 4)), (3, vI_ v7), (0, vR_ (some t)), (1, vI_ i0), (2, vI_ i1)]) dX8_readNumber_21 (Nat.le_of_ble_eq_true rfl) rfl ?_
    refine a_iload_n 2 dX8_readNumber_23 rfl rfl ?_
    obtain ⟨v10, m8, e9, h⟩ := bm_some h
    have he9 := e_X8_isDigit (G := G) hl e9
    refine c_I he9.1 (rn_S (n := 1) (As := [vI_ v7]) he9 (lw_S q1804 q1805 q97 q1806) (by decide +kernel) rfl (Nat.le_of_ble_eq_true rfl) (Nat.le_of_ble_eq_true rfl) (Nat.le_of_ble_eq_true rfl) dX8_readNumber_24) (fun z => (os_aS (As := [vI_ v7]) z).2) ?_
    refine a_if_ne (tgt := 41) dX8_readNumber_27 (by decide) (fun c11 => ?_) (fun c11 => ?_)
    · replace h := ifn_ c11 h
      obtain ⟨k12, e54, h⟩ := jn2_some h
      have hk12 : ∀ (x14 : Int32) (m13 : pm_M), k12 x14 m13 = some (r, m') → AW_ cX8_readNumber RX8 (some (.int), "readNumber", 3, 6, m0, m', (.inl (some (vI_ r))), G, l, [], true) m13 114 [(0, vR_ (some t)), (1, vI_ i0), (2, vI_ i1), (4, vI_ (gI_ m5 t 4)), (5, vI_ x14)] [] := by
        intro x14 m13 h
        have h := (e54 x14 m13).symm.trans h
        refine a_iload 4 dX8_readNumber_114 rfl ?_
        refine a_iload_n 1 dX8_readNumber_116 rfl rfl ?_
        obtain ⟨k15, e22, h⟩ := jn1_some h
        have hk15 : ∀  (m16 : pm_M), k15 m16 = some (r, m') → AW_ cX8_readNumber RX8 (some (.int), "readNumber", 3, 6, m0, m', (.inl (some (vI_ r))), G, l, [], true) m16 126 [(0, vR_ (some t)), (4, vI_ (gI_ m5 t 4))] [] := by
          intro m16 h
          have h := (e22 m16).symm.trans h
          refine a_aload_n 0 dX8_readNumber_126 rfl rfl ?_
          refine a_iconst (v := 2) dX8_readNumber_127 (by decide) ?_
          refine a_iload 1 dX8_readNumber_128 rfl ?_
          obtain ⟨v19, m17, e18, h⟩ := bm_some h
          have he18 := e_X8_wrong (G := G) hl ht e18
          refine c_V he18.1 (rn_V (n := 2) (As := [vI_ 2, vI_ (gI_ m5 t 4)]) kc_8 ht he18 (lw_V q1788 q1790 qs39 q97 q1791) (by decide +kernel) rfl (Nat.le_of_ble_eq_true rfl) (Nat.le_of_ble_eq_true rfl) (Nat.le_of_ble_eq_true rfl) dX8_readNumber_130) (fun z => (os_av (As := [vI_ 2, vI_ (gI_ m5 t 4)]) z).2.1) ?_
          refine a_iconst (v := 0) dX8_readNumber_133 (by decide) ?_
          cases h
          exact a_ireturn rfl rfl rfl rfl rfl dX8_readNumber_134
        refine a_icmp_lt (tgt := 126) dX8_readNumber_117 (by decide) (fun c20 => ?_) (fun c20 => ?_)
        · replace h := ifp_ c20 h
          refine aw_pick [0, 3] rfl ?_
          exact hk15 _ h
        · replace h := ifn_ c20 h
          refine a_iload 4 dX8_readNumber_120 rfl ?_
          refine a_iload_n 2 dX8_readNumber_122 rfl rfl ?_
          refine a_icmp_le (tgt := 135) dX8_readNumber_123 (by decide) (fun c21 => ?_) (fun c21 => ?_)
          · replace h := ifp_ c21 h
            refine a_iload 4 dX8_readNumber_135 rfl ?_
            cases h
            exact a_ireturn rfl rfl rfl rfl rfl dX8_readNumber_137
          · replace h := ifn_ c21 h
            refine aw_pick [0, 3] rfl ?_
            exact hk15 _ h
      refine aw_pick [3, 4, 5, 1, 0] rfl ?_
      exact w_X8_readNumber_L41 hl _ _ _ _ _ ht hk12 _ _ _ h
    · replace h := ifp_ c11 h
      refine a_aload_n 3 dX8_readNumber_30 rfl rfl ?_
      refine a_iconst (v := 1) dX8_readNumber_31 (by decide) ?_
      refine a_aload_n 3 dX8_readNumber_32 rfl rfl ?_
      refine a_getI kc_8 4 (by decide) rfl ht q1558 dX8_readNumber_33 ?_
      obtain ⟨v57, m55, e56, h⟩ := bm_some h
      have he56 := e_X8_wrong (G := G) hl ht e56
      refine c_V he56.1 (rn_V (n := 2) (As := [vI_ 1, vI_ (gI_ m8 t 4)]) kc_8 ht he56 (lw_V q1788 q1790 qs39 q97 q1791) (by decide +kernel) rfl (Nat.le_of_ble_eq_true rfl) (Nat.le_of_ble_eq_true rfl) (Nat.le_of_ble_eq_true rfl) dX8_readNumber_36) (fun z => (os_av (As := [vI_ 1, vI_ (gI_ m8 t 4)]) z).2.1) ?_
      refine a_iconst (v := 0) dX8_readNumber_39 (by decide) ?_
      cases h
      exact a_ireturn rfl rfl rfl rfl rfl dX8_readNumber_40
  · replace h := ifp_ c4 h
    refine a_iconst (v := 0) dX8_readNumber_7 (by decide) ?_
    cases h
    exact a_ireturn rfl rfl rfl rfl rfl dX8_readNumber_8
def f_X8_readKinsman (F : Nat)  (t : pm_A) (m : pm_M) : Option (Unit × pm_M) :=
  bm_ (f_X8_readNumber F t 0 ((gI_ m t 14) - 1) m) fun v3 m1 =>
  bm_ (f_X8_readNumber F t 0 999 m1) fun v6 m4 =>
  bm_ (f_X8_fine F t m4) fun v9 m7 =>
  if v9 = 0 then
    some ((), m7)
  else
    gd_ 100 (gR_ m7 t 10) fun a11 =>
    iz_ (!(ib_ ((4 * v3) + 3) a11.2.1)) <|
    lt_ (pI_ m7 a11 (((4 * v3) + 3).toNatClampNeg) v6) fun m15 =>
    some ((), m15)
set_option maxHeartbeats 4000000 in
theorem e_X8_readKinsman {G : xg_T} {l : Launch} (hl : l.stackTraces = false) {F : Nat}    {t : pm_A} {m0 m' : pm_M} {r : Unit} (ht : t.1 = 8) (h : f_X8_readKinsman F t m0 = some (r, m')) : Cal_ G l yX8_readKinsman (ws_ yX8_readKinsman cX8_readKinsman 3 none) 4 [vR_ (some t)] m0 (.inl none) m' := by
  refine cal_of (by decide +kernel) (Nat.le_of_ble_eq_true rfl) ?_
  unfold f_X8_readKinsman at h
  show AW_ cX8_readKinsman RX8 (none, "readKinsman", 4, 3, m0, m', (.inl none), G, l, [], true) m0 0 [(0, vR_ (some t))] []
  refine a_aload_n 0 dX8_readKinsman_0 rfl rfl ?_
  refine a_iconst (v := 0) dX8_readKinsman_1 (by decide) ?_
  refine a_aload_n 0 dX8_readKinsman_2 rfl rfl ?_
  refine a_getI kc_8 14 (by decide) rfl ht q1568 dX8_readKinsman_3 ?_
  refine a_iconst (v := 1) dX8_readKinsman_6 (by decide) ?_
  refine a_isub dX8_readKinsman_7 ?_
  obtain ⟨v3, m1, e2, h⟩ := bm_some h
  have he2 := e_X8_readNumber (G := G) hl ht e2
  refine c_I he2.1 (rn_V (n := 2) (As := [vI_ 0, vI_ ((gI_ m0 t 14) - 1)]) kc_8 ht he2 (lw_V q1800 q1802 qs42 q97 q1803) (by decide +kernel) rfl (Nat.le_of_ble_eq_true rfl) (Nat.le_of_ble_eq_true rfl) (Nat.le_of_ble_eq_true rfl) dX8_readKinsman_8) (fun z => (os_av (As := [vI_ 0, vI_ ((gI_ m0 t 14) - 1)]) z).2.1) ?_
  refine a_istore_n (ls' := [(1, vI_ v3), (0, vR_ (some t))]) dX8_readKinsman_11 rfl (Nat.le_of_ble_eq_true rfl) rfl ?_
  refine a_aload_n 1 dX8_readKinsman_12 rfl rfl ?_
  refine a_iconst (v := 0) dX8_readKinsman_13 (by decide) ?_
  refine a_sipush (v := 999) dX8_readKinsman_14 (by decide) ?_
  obtain ⟨v6, m4, e5, h⟩ := bm_some h
  have he5 := e_X8_readNumber (G := G) hl ht e5
  refine c_I he5.1 (rn_V (n := 2) (As := [vI_ 0, vI_ 999]) kc_8 ht he5 (lw_V q1800 q1802 qs42 q97 q1803) (by decide +kernel) rfl (Nat.le_of_ble_eq_true rfl) (Nat.le_of_ble_eq_true rfl) (Nat.le_of_ble_eq_true rfl) dX8_readKinsman_17) (fun z => (os_av (As := [vI_ 0, vI_ 999]) z).2.1) ?_
  refine a_istore_n (ls' := [(2, vI_ v6), (1, vI_ v3), (0, vR_ (some t))]) dX8_readKinsman_20 rfl (Nat.le_of_ble_eq_true rfl) rfl ?_
  refine a_aload_n 2 dX8_readKinsman_21 rfl rfl ?_
  obtain ⟨v9, m7, e8, h⟩ := bm_some h
  have he8 := e_X8_fine (G := G) hl ht e8
  refine c_I he8.1 (rn_V (n := 0) (As := []) kc_8 ht he8 (lw_V q1752 q1754 qs34 q97 q1755) (by decide +kernel) rfl (Nat.le_of_ble_eq_true rfl) (Nat.le_of_ble_eq_true rfl) (Nat.le_of_ble_eq_true rfl) dX8_readKinsman_22) (fun z => (os_av (As := []) z).2.1) ?_
  refine a_if_eq (tgt := 39) dX8_readKinsman_25 (by decide) (fun c10 => ?_) (fun c10 => ?_)
  · replace h := ifp_ c10 h
    cases h
    exact a_return rfl rfl rfl rfl dX8_readKinsman_39
  · replace h := ifn_ c10 h
    refine a_aload_n 2 dX8_readKinsman_28 rfl rfl ?_
    refine a_getR kc_8 10 (by decide) rfl ht q1564 dX8_readKinsman_29 ?_
    refine a_iconst (v := 4) dX8_readKinsman_32 (by decide) ?_
    refine a_iload_n 1 dX8_readKinsman_33 rfl rfl ?_
    refine a_imul dX8_readKinsman_34 ?_
    refine a_iconst (v := 3) dX8_readKinsman_35 (by decide) ?_
    refine a_iadd dX8_readKinsman_36 ?_
    refine a_iload_n 0 dX8_readKinsman_37 rfl rfl ?_
    obtain ⟨a11, e12, f13, h⟩ := gd_some h
    rw [e12]
    obtain ⟨c14, h⟩ := iz_some h
    obtain ⟨m15, e16, h⟩ := lt_some h
    refine a_iast f13 (bn_ c14) dX8_readKinsman_38 ?_
    rw [← e16]
    cases h
    exact a_return rfl rfl rfl rfl dX8_readKinsman_39
def f_X8_readRow (F : Nat)  (t : pm_A) (i0 : Int32) (m : pm_M) : Option (Unit × pm_M) :=
  bm_ (f_X8_of F (some ((200, 0, 15))) m) fun v3 m1 =>
  if i0 = v3 then
    bm_ (f_X8_readNumber F t 1 9 m1) fun v54 m52 =>
    gd_ 100 (gR_ m1 t 10) fun a55 =>
    iz_ (!(ib_ ((4 * (gI_ m1 t 14)) + 0) a55.2.1)) <|
    lt_ (pI_ m52 a55 (((4 * (gI_ m1 t 14)) + 0).toNatClampNeg) v54) fun m59 =>
    bm_ (f_X8_readNumber F t 0 5 m59) fun v63 m61 =>
    gd_ 100 (gR_ m59 t 10) fun a64 =>
    iz_ (!(ib_ ((4 * (gI_ m1 t 14)) + 1) a64.2.1)) <|
    lt_ (pI_ m61 a64 (((4 * (gI_ m1 t 14)) + 1).toNatClampNeg) v63) fun m68 =>
    bm_ (f_X8_readNumber F t 0 4 m68) fun v72 m70 =>
    gd_ 100 (gR_ m68 t 10) fun a73 =>
    iz_ (!(ib_ ((4 * (gI_ m1 t 14)) + 2) a73.2.1)) <|
    lt_ (pI_ m70 a73 (((4 * (gI_ m1 t 14)) + 2).toNatClampNeg) v72) fun m77 =>
    gd_ 100 (gR_ m77 t 10) fun a79 =>
    iz_ (!(ib_ ((4 * (gI_ m1 t 14)) + 3) a79.2.1)) <|
    lt_ (pI_ m77 a79 (((4 * (gI_ m1 t 14)) + 3).toNatClampNeg) 0) fun m83 =>
    lt_ (pI_ m83 t 14 ((gI_ m83 t 14) + 1)) fun m85 =>
    some ((), m85)
  else
    bm_ (f_X8_of F (some ((200, 0, 18))) m1) fun v7 m5 =>
    if i0 = v7 then
      bm_ (f_X8_readNumber F t 0 5 m5) fun v25 m23 =>
      gd_ 100 (gR_ m5 t 11) fun a26 =>
      iz_ (!(ib_ (3 * (gI_ m5 t 15)) a26.2.1)) <|
      lt_ (pI_ m23 a26 ((3 * (gI_ m5 t 15)).toNatClampNeg) v25) fun m30 =>
      bm_ (f_X8_readNumber F t 1 40 m30) fun v34 m32 =>
      gd_ 100 (gR_ m30 t 11) fun a35 =>
      iz_ (!(ib_ ((3 * (gI_ m5 t 15)) + 1) a35.2.1)) <|
      lt_ (pI_ m32 a35 (((3 * (gI_ m5 t 15)) + 1).toNatClampNeg) v34) fun m39 =>
      bm_ (f_X8_readNumber F t 1 4 m39) fun v43 m41 =>
      gd_ 100 (gR_ m39 t 11) fun a44 =>
      iz_ (!(ib_ ((3 * (gI_ m5 t 15)) + 2) a44.2.1)) <|
      lt_ (pI_ m41 a44 (((3 * (gI_ m5 t 15)) + 2).toNatClampNeg) v43) fun m48 =>
      lt_ (pI_ m48 t 15 ((gI_ m48 t 15) + 1)) fun m50 =>
      some ((), m50)
    else
      bm_ (f_X8_of F (some ((200, 0, 16))) m5) fun v11 m9 =>
      if i0 = v11 then
        bm_ (f_X8_readNumber F t 0 400 m9) fun v20 m18 =>
        lt_ (pI_ m18 t 16 v20) fun m21 =>
        some ((), m21)
      else
        bm_ (f_X8_readNumber F t 0 20 m9) fun v15 m13 =>
        lt_ (pI_ m13 t 17 v15) fun m16 =>
        some ((), m16)
set_option maxHeartbeats 4000000 in
theorem e_X8_readRow {G : xg_T} {l : Launch} (hl : l.stackTraces = false) {F : Nat}    {t : pm_A} {i0 : Int32} {m0 m' : pm_M} {r : Unit} (ht : t.1 = 8) (h : f_X8_readRow F t i0 m0 = some (r, m')) : Cal_ G l yX8_readRow (ws_ yX8_readRow cX8_readRow 3 none) 7 [vR_ (some t), vI_ i0] m0 (.inl none) m' := by
  refine cal_of (by decide +kernel) (Nat.le_of_ble_eq_true rfl) ?_
  unfold f_X8_readRow at h
  show AW_ cX8_readRow RX8 (none, "readRow", 7, 3, m0, m', (.inl none), G, l, [], true) m0 0 [(0, vR_ (some t)), (1, vI_ i0)] []
  refine a_iload_n 1 dX8_readRow_0 rfl rfl ?_
  refine a_ldcS (n := 15) (tx := "signer") (by decide +kernel) (by decide) dX8_readRow_1 ?_
  obtain ⟨v3, m1, e2, h⟩ := bm_some h
  have he2 := e_X8_of (G := G) hl e2
  refine c_I he2.1 (rn_S (n := 1) (As := [vR_ (some ((200, 0, 15)))]) he2 (lw_S q1782 q1783 q97 q1784) (by decide +kernel) rfl (Nat.le_of_ble_eq_true rfl) (Nat.le_of_ble_eq_true rfl) (Nat.le_of_ble_eq_true rfl) dX8_readRow_3) (fun z => (os_aS (As := [vR_ (some ((200, 0, 15)))]) z).2) ?_
  refine a_icmp_ne (tgt := 81) dX8_readRow_6 (by decide) (fun c4 => ?_) (fun c4 => ?_)
  · replace h := ifn_ c4 h
    refine a_iload_n 1 dX8_readRow_81 rfl rfl ?_
    refine a_ldcS (n := 18) (tx := "taker") (by decide +kernel) (by decide) dX8_readRow_82 ?_
    obtain ⟨v7, m5, e6, h⟩ := bm_some h
    have he6 := e_X8_of (G := G) hl e6
    refine c_I he6.1 (rn_S (n := 1) (As := [vR_ (some ((200, 0, 18)))]) he6 (lw_S q1782 q1783 q97 q1784) (by decide +kernel) rfl (Nat.le_of_ble_eq_true rfl) (Nat.le_of_ble_eq_true rfl) (Nat.le_of_ble_eq_true rfl) dX8_readRow_84) (fun z => (os_aS (As := [vR_ (some ((200, 0, 18)))]) z).2) ?_
    refine a_icmp_ne (tgt := 151) dX8_readRow_87 (by decide) (fun c8 => ?_) (fun c8 => ?_)
    · replace h := ifn_ c8 h
      refine a_iload_n 1 dX8_readRow_151 rfl rfl ?_
      refine a_ldcS (n := 16) (tx := "stores") (by decide +kernel) (by decide) dX8_readRow_152 ?_
      obtain ⟨v11, m9, e10, h⟩ := bm_some h
      have he10 := e_X8_of (G := G) hl e10
      refine c_I he10.1 (rn_S (n := 1) (As := [vR_ (some ((200, 0, 16)))]) he10 (lw_S q1782 q1783 q97 q1784) (by decide +kernel) rfl (Nat.le_of_ble_eq_true rfl) (Nat.le_of_ble_eq_true rfl) (Nat.le_of_ble_eq_true rfl) dX8_readRow_154) (fun z => (os_aS (As := [vR_ (some ((200, 0, 16)))]) z).2) ?_
      refine a_icmp_ne (tgt := 175) dX8_readRow_157 (by decide) (fun c12 => ?_) (fun c12 => ?_)
      · replace h := ifn_ c12 h
        refine a_aload_n 0 dX8_readRow_175 rfl rfl ?_
        refine a_aload_n 0 dX8_readRow_176 rfl rfl ?_
        refine a_iconst (v := 0) dX8_readRow_177 (by decide) ?_
        refine a_bipush (v := 20) dX8_readRow_178 (by decide) ?_
        obtain ⟨v15, m13, e14, h⟩ := bm_some h
        have he14 := e_X8_readNumber (G := G) hl ht e14
        refine c_I he14.1 (rn_V (n := 2) (As := [vI_ 0, vI_ 20]) kc_8 ht he14 (lw_V q1800 q1802 qs42 q97 q1803) (by decide +kernel) rfl (Nat.le_of_ble_eq_true rfl) (Nat.le_of_ble_eq_true rfl) (Nat.le_of_ble_eq_true rfl) dX8_readRow_180) (fun z => (os_av (As := [vI_ 0, vI_ 20]) z).2.1) ?_
        obtain ⟨m16, e17, h⟩ := lt_some h
        refine a_putI kc_8 17 (by decide) rfl ht q1571 rfl rfl rfl dX8_readRow_183 ?_
        rw [← e17]
        cases h
        exact a_return rfl rfl rfl rfl dX8_readRow_186
      · replace h := ifp_ c12 h
        refine a_aload_n 0 dX8_readRow_160 rfl rfl ?_
        refine a_aload_n 0 dX8_readRow_161 rfl rfl ?_
        refine a_iconst (v := 0) dX8_readRow_162 (by decide) ?_
        refine a_sipush (v := 400) dX8_readRow_163 (by decide) ?_
        obtain ⟨v20, m18, e19, h⟩ := bm_some h
        have he19 := e_X8_readNumber (G := G) hl ht e19
        refine c_I he19.1 (rn_V (n := 2) (As := [vI_ 0, vI_ 400]) kc_8 ht he19 (lw_V q1800 q1802 qs42 q97 q1803) (by decide +kernel) rfl (Nat.le_of_ble_eq_true rfl) (Nat.le_of_ble_eq_true rfl) (Nat.le_of_ble_eq_true rfl) dX8_readRow_166) (fun z => (os_av (As := [vI_ 0, vI_ 400]) z).2.1) ?_
        obtain ⟨m21, e22, h⟩ := lt_some h
        refine a_putI kc_8 16 (by decide) rfl ht q1570 rfl rfl rfl dX8_readRow_169 ?_
        rw [← e22]
        refine a_goto (tgt := 186) dX8_readRow_172 (by decide) ?_
        cases h
        exact a_return rfl rfl rfl rfl dX8_readRow_186
    · replace h := ifp_ c8 h
      refine a_iconst (v := 3) dX8_readRow_90 (by decide) ?_
      refine a_aload_n 0 dX8_readRow_91 rfl rfl ?_
      refine a_getI kc_8 15 (by decide) rfl ht q1569 dX8_readRow_92 ?_
      refine a_imul dX8_readRow_95 ?_
      refine a_istore_n (ls' := [(2, vI_ (3 * (gI_ m5 t 15))), (0, vR_ (some t)), (1, vI_ i0)]) dX8_readRow_96 rfl (Nat.le_of_ble_eq_true rfl) rfl ?_
      refine a_aload_n 1 dX8_readRow_97 rfl rfl ?_
      refine a_getR kc_8 11 (by decide) rfl ht q1565 dX8_readRow_98 ?_
      refine a_iload_n 0 dX8_readRow_101 rfl rfl ?_
      refine a_aload_n 1 dX8_readRow_102 rfl rfl ?_
      refine a_iconst (v := 0) dX8_readRow_103 (by decide) ?_
      refine a_iconst (v := 5) dX8_readRow_104 (by decide) ?_
      obtain ⟨v25, m23, e24, h⟩ := bm_some h
      have he24 := e_X8_readNumber (G := G) hl ht e24
      refine c_I he24.1 (rn_V (n := 2) (As := [vI_ 0, vI_ 5]) kc_8 ht he24 (lw_V q1800 q1802 qs42 q97 q1803) (by decide +kernel) rfl (Nat.le_of_ble_eq_true rfl) (Nat.le_of_ble_eq_true rfl) (Nat.le_of_ble_eq_true rfl) dX8_readRow_105) (fun z => (os_av (As := [vI_ 0, vI_ 5]) z).2.1) ?_
      obtain ⟨a26, e27, f28, h⟩ := gd_some h
      rw [e27]
      obtain ⟨c29, h⟩ := iz_some h
      obtain ⟨m30, e31, h⟩ := lt_some h
      refine a_iast f28 (bn_ c29) dX8_readRow_108 ?_
      rw [← e31]
      refine a_aload_n 1 dX8_readRow_109 rfl rfl ?_
      refine a_getR kc_8 11 (by decide) rfl ht q1565 dX8_readRow_110 ?_
      refine a_iload_n 0 dX8_readRow_113 rfl rfl ?_
      refine a_iconst (v := 1) dX8_readRow_114 (by decide) ?_
      refine a_iadd dX8_readRow_115 ?_
      refine a_aload_n 1 dX8_readRow_116 rfl rfl ?_
      refine a_iconst (v := 1) dX8_readRow_117 (by decide) ?_
      refine a_bipush (v := 40) dX8_readRow_118 (by decide) ?_
      obtain ⟨v34, m32, e33, h⟩ := bm_some h
      have he33 := e_X8_readNumber (G := G) hl ht e33
      refine c_I he33.1 (rn_V (n := 2) (As := [vI_ 1, vI_ 40]) kc_8 ht he33 (lw_V q1800 q1802 qs42 q97 q1803) (by decide +kernel) rfl (Nat.le_of_ble_eq_true rfl) (Nat.le_of_ble_eq_true rfl) (Nat.le_of_ble_eq_true rfl) dX8_readRow_120) (fun z => (os_av (As := [vI_ 1, vI_ 40]) z).2.1) ?_
      obtain ⟨a35, e36, f37, h⟩ := gd_some h
      rw [e36]
      obtain ⟨c38, h⟩ := iz_some h
      obtain ⟨m39, e40, h⟩ := lt_some h
      refine a_iast f37 (bn_ c38) dX8_readRow_123 ?_
      rw [← e40]
      refine a_aload_n 1 dX8_readRow_124 rfl rfl ?_
      refine a_getR kc_8 11 (by decide) rfl ht q1565 dX8_readRow_125 ?_
      refine a_iload_n 0 dX8_readRow_128 rfl rfl ?_
      refine a_iconst (v := 2) dX8_readRow_129 (by decide) ?_
      refine a_iadd dX8_readRow_130 ?_
      refine a_aload_n 1 dX8_readRow_131 rfl rfl ?_
      refine a_iconst (v := 1) dX8_readRow_132 (by decide) ?_
      refine a_iconst (v := 4) dX8_readRow_133 (by decide) ?_
      obtain ⟨v43, m41, e42, h⟩ := bm_some h
      have he42 := e_X8_readNumber (G := G) hl ht e42
      refine c_I he42.1 (rn_V (n := 2) (As := [vI_ 1, vI_ 4]) kc_8 ht he42 (lw_V q1800 q1802 qs42 q97 q1803) (by decide +kernel) rfl (Nat.le_of_ble_eq_true rfl) (Nat.le_of_ble_eq_true rfl) (Nat.le_of_ble_eq_true rfl) dX8_readRow_134) (fun z => (os_av (As := [vI_ 1, vI_ 4]) z).2.1) ?_
      obtain ⟨a44, e45, f46, h⟩ := gd_some h
      rw [e45]
      obtain ⟨c47, h⟩ := iz_some h
      obtain ⟨m48, e49, h⟩ := lt_some h
      refine a_iast f46 (bn_ c47) dX8_readRow_137 ?_
      rw [← e49]
      refine a_aload_n 1 dX8_readRow_138 rfl rfl ?_
      refine a_dup dX8_readRow_139 rfl ?_
      refine a_getI kc_8 15 (by decide) rfl ht q1569 dX8_readRow_140 ?_
      refine a_iconst (v := 1) dX8_readRow_143 (by decide) ?_
      refine a_iadd dX8_readRow_144 ?_
      obtain ⟨m50, e51, h⟩ := lt_some h
      refine a_putI kc_8 15 (by decide) rfl ht q1569 rfl rfl rfl dX8_readRow_145 ?_
      rw [← e51]
      refine a_goto (tgt := 186) dX8_readRow_148 (by decide) ?_
      cases h
      exact a_return rfl rfl rfl rfl dX8_readRow_186
  · replace h := ifp_ c4 h
    refine a_iconst (v := 4) dX8_readRow_9 (by decide) ?_
    refine a_aload_n 0 dX8_readRow_10 rfl rfl ?_
    refine a_getI kc_8 14 (by decide) rfl ht q1568 dX8_readRow_11 ?_
    refine a_imul dX8_readRow_14 ?_
    refine a_istore_n (ls' := [(2, vI_ (4 * (gI_ m1 t 14))), (0, vR_ (some t)), (1, vI_ i0)]) dX8_readRow_15 rfl (Nat.le_of_ble_eq_true rfl) rfl ?_
    refine a_aload_n 1 dX8_readRow_16 rfl rfl ?_
    refine a_getR kc_8 10 (by decide) rfl ht q1564 dX8_readRow_17 ?_
    refine a_iload_n 0 dX8_readRow_20 rfl rfl ?_
    refine a_iconst (v := 0) dX8_readRow_21 (by decide) ?_
    refine a_iadd dX8_readRow_22 ?_
    refine a_aload_n 1 dX8_readRow_23 rfl rfl ?_
    refine a_iconst (v := 1) dX8_readRow_24 (by decide) ?_
    refine a_bipush (v := 9) dX8_readRow_25 (by decide) ?_
    obtain ⟨v54, m52, e53, h⟩ := bm_some h
    have he53 := e_X8_readNumber (G := G) hl ht e53
    refine c_I he53.1 (rn_V (n := 2) (As := [vI_ 1, vI_ 9]) kc_8 ht he53 (lw_V q1800 q1802 qs42 q97 q1803) (by decide +kernel) rfl (Nat.le_of_ble_eq_true rfl) (Nat.le_of_ble_eq_true rfl) (Nat.le_of_ble_eq_true rfl) dX8_readRow_27) (fun z => (os_av (As := [vI_ 1, vI_ 9]) z).2.1) ?_
    obtain ⟨a55, e56, f57, h⟩ := gd_some h
    rw [e56]
    obtain ⟨c58, h⟩ := iz_some h
    obtain ⟨m59, e60, h⟩ := lt_some h
    refine a_iast f57 (bn_ c58) dX8_readRow_30 ?_
    rw [← e60]
    refine a_aload_n 1 dX8_readRow_31 rfl rfl ?_
    refine a_getR kc_8 10 (by decide) rfl ht q1564 dX8_readRow_32 ?_
    refine a_iload_n 0 dX8_readRow_35 rfl rfl ?_
    refine a_iconst (v := 1) dX8_readRow_36 (by decide) ?_
    refine a_iadd dX8_readRow_37 ?_
    refine a_aload_n 1 dX8_readRow_38 rfl rfl ?_
    refine a_iconst (v := 0) dX8_readRow_39 (by decide) ?_
    refine a_iconst (v := 5) dX8_readRow_40 (by decide) ?_
    obtain ⟨v63, m61, e62, h⟩ := bm_some h
    have he62 := e_X8_readNumber (G := G) hl ht e62
    refine c_I he62.1 (rn_V (n := 2) (As := [vI_ 0, vI_ 5]) kc_8 ht he62 (lw_V q1800 q1802 qs42 q97 q1803) (by decide +kernel) rfl (Nat.le_of_ble_eq_true rfl) (Nat.le_of_ble_eq_true rfl) (Nat.le_of_ble_eq_true rfl) dX8_readRow_41) (fun z => (os_av (As := [vI_ 0, vI_ 5]) z).2.1) ?_
    obtain ⟨a64, e65, f66, h⟩ := gd_some h
    rw [e65]
    obtain ⟨c67, h⟩ := iz_some h
    obtain ⟨m68, e69, h⟩ := lt_some h
    refine a_iast f66 (bn_ c67) dX8_readRow_44 ?_
    rw [← e69]
    refine a_aload_n 1 dX8_readRow_45 rfl rfl ?_
    refine a_getR kc_8 10 (by decide) rfl ht q1564 dX8_readRow_46 ?_
    refine a_iload_n 0 dX8_readRow_49 rfl rfl ?_
    refine a_iconst (v := 2) dX8_readRow_50 (by decide) ?_
    refine a_iadd dX8_readRow_51 ?_
    refine a_aload_n 1 dX8_readRow_52 rfl rfl ?_
    refine a_iconst (v := 0) dX8_readRow_53 (by decide) ?_
    refine a_iconst (v := 4) dX8_readRow_54 (by decide) ?_
    obtain ⟨v72, m70, e71, h⟩ := bm_some h
    have he71 := e_X8_readNumber (G := G) hl ht e71
    refine c_I he71.1 (rn_V (n := 2) (As := [vI_ 0, vI_ 4]) kc_8 ht he71 (lw_V q1800 q1802 qs42 q97 q1803) (by decide +kernel) rfl (Nat.le_of_ble_eq_true rfl) (Nat.le_of_ble_eq_true rfl) (Nat.le_of_ble_eq_true rfl) dX8_readRow_55) (fun z => (os_av (As := [vI_ 0, vI_ 4]) z).2.1) ?_
    obtain ⟨a73, e74, f75, h⟩ := gd_some h
    rw [e74]
    obtain ⟨c76, h⟩ := iz_some h
    obtain ⟨m77, e78, h⟩ := lt_some h
    refine a_iast f75 (bn_ c76) dX8_readRow_58 ?_
    rw [← e78]
    refine a_aload_n 1 dX8_readRow_59 rfl rfl ?_
    refine a_getR kc_8 10 (by decide) rfl ht q1564 dX8_readRow_60 ?_
    refine a_iload_n 0 dX8_readRow_63 rfl rfl ?_
    refine a_iconst (v := 3) dX8_readRow_64 (by decide) ?_
    refine a_iadd dX8_readRow_65 ?_
    refine a_iconst (v := 0) dX8_readRow_66 (by decide) ?_
    obtain ⟨a79, e80, f81, h⟩ := gd_some h
    rw [e80]
    obtain ⟨c82, h⟩ := iz_some h
    obtain ⟨m83, e84, h⟩ := lt_some h
    refine a_iast f81 (bn_ c82) dX8_readRow_67 ?_
    rw [← e84]
    refine a_aload_n 1 dX8_readRow_68 rfl rfl ?_
    refine a_dup dX8_readRow_69 rfl ?_
    refine a_getI kc_8 14 (by decide) rfl ht q1568 dX8_readRow_70 ?_
    refine a_iconst (v := 1) dX8_readRow_73 (by decide) ?_
    refine a_iadd dX8_readRow_74 ?_
    obtain ⟨m85, e86, h⟩ := lt_some h
    refine a_putI kc_8 14 (by decide) rfl ht q1568 rfl rfl rfl dX8_readRow_75 ?_
    rw [← e86]
    refine a_goto (tgt := 186) dX8_readRow_78 (by decide) ?_
    cases h
    exact a_return rfl rfl rfl rfl dX8_readRow_186
def f_X8_sign (F : Nat)  (t : pm_A) (i0 : Int32) (m : pm_M) : Option (Unit × pm_M) :=
  bm_ (f_X8_fine F t m) fun v3 m1 =>
  jn_ (fun  (m5 : pm_M) =>
    bm_ (f_X8_fine F t m5) fun v8 m6 =>
    if v8 = 0 then
      some ((), m6)
    else
      lt_ (pI_ m6 t 4 ((gI_ m6 t 4) + 1)) fun m10 =>
      some ((), m10)
  ) fun k4 =>
  if v3 = 0 then
    k4 m1
  else
    bm_ (f_X8_here F t m1) fun v15 m13 =>
    if v15 = i0 then
      k4 m13
    else
      bm_ (f_X8_wrong F t 1 (gI_ m13 t 4) m13) fun v19 m17 =>
      k4 m17
set_option maxHeartbeats 4000000 in
theorem e_X8_sign {G : xg_T} {l : Launch} (hl : l.stackTraces = false) {F : Nat}    {t : pm_A} {i0 : Int32} {m0 m' : pm_M} {r : Unit} (ht : t.1 = 8) (h : f_X8_sign F t i0 m0 = some (r, m')) : Cal_ G l yX8_sign (ws_ yX8_sign cX8_sign 2 none) 3 [vR_ (some t), vI_ i0] m0 (.inl none) m' := by
  refine cal_of (by decide +kernel) (Nat.le_of_ble_eq_true rfl) ?_
  unfold f_X8_sign at h
  show AW_ cX8_sign RX8 (none, "sign", 3, 2, m0, m', (.inl none), G, l, [], true) m0 0 [(0, vR_ (some t)), (1, vI_ i0)] []
  refine a_aload_n 0 dX8_sign_0 rfl rfl ?_
  obtain ⟨v3, m1, e2, h⟩ := bm_some h
  have he2 := e_X8_fine (G := G) hl ht e2
  refine c_I he2.1 (rn_V (n := 0) (As := []) kc_8 ht he2 (lw_V q1752 q1754 qs34 q97 q1755) (by decide +kernel) rfl (Nat.le_of_ble_eq_true rfl) (Nat.le_of_ble_eq_true rfl) (Nat.le_of_ble_eq_true rfl) dX8_sign_1) (fun z => (os_av (As := []) z).2.1) ?_
  obtain ⟨k4, e20, h⟩ := jn1_some h
  have hk4 : ∀  (m5 : pm_M), k4 m5 = some (r, m') → AW_ cX8_sign RX8 (none, "sign", 3, 2, m0, m', (.inl none), G, l, [], true) m5 24 [(0, vR_ (some t))] [] := by
    intro m5 h
    have h := (e20 m5).symm.trans h
    refine a_aload_n 0 dX8_sign_24 rfl rfl ?_
    obtain ⟨v8, m6, e7, h⟩ := bm_some h
    have he7 := e_X8_fine (G := G) hl ht e7
    refine c_I he7.1 (rn_V (n := 0) (As := []) kc_8 ht he7 (lw_V q1752 q1754 qs34 q97 q1755) (by decide +kernel) rfl (Nat.le_of_ble_eq_true rfl) (Nat.le_of_ble_eq_true rfl) (Nat.le_of_ble_eq_true rfl) dX8_sign_25) (fun z => (os_av (As := []) z).2.1) ?_
    refine a_if_eq (tgt := 41) dX8_sign_28 (by decide) (fun c9 => ?_) (fun c9 => ?_)
    · replace h := ifp_ c9 h
      cases h
      exact a_return rfl rfl rfl rfl dX8_sign_41
    · replace h := ifn_ c9 h
      refine a_aload_n 0 dX8_sign_31 rfl rfl ?_
      refine a_dup dX8_sign_32 rfl ?_
      refine a_getI kc_8 4 (by decide) rfl ht q1558 dX8_sign_33 ?_
      refine a_iconst (v := 1) dX8_sign_36 (by decide) ?_
      refine a_iadd dX8_sign_37 ?_
      obtain ⟨m10, e11, h⟩ := lt_some h
      refine a_putI kc_8 4 (by decide) rfl ht q1558 rfl rfl rfl dX8_sign_38 ?_
      rw [← e11]
      cases h
      exact a_return rfl rfl rfl rfl dX8_sign_41
  refine a_if_eq (tgt := 24) dX8_sign_4 (by decide) (fun c12 => ?_) (fun c12 => ?_)
  · replace h := ifp_ c12 h
    refine aw_pick [0] rfl ?_
    exact hk4 _ h
  · replace h := ifn_ c12 h
    refine a_aload_n 0 dX8_sign_7 rfl rfl ?_
    obtain ⟨v15, m13, e14, h⟩ := bm_some h
    have he14 := e_X8_here (G := G) hl ht e14
    refine c_I he14.1 (rn_V (n := 0) (As := []) kc_8 ht he14 (lw_V q1760 q1762 qs36 q97 q1763) (by decide +kernel) rfl (Nat.le_of_ble_eq_true rfl) (Nat.le_of_ble_eq_true rfl) (Nat.le_of_ble_eq_true rfl) dX8_sign_8) (fun z => (os_av (As := []) z).2.1) ?_
    refine a_iload_n 1 dX8_sign_11 rfl rfl ?_
    refine a_icmp_eq (tgt := 24) dX8_sign_12 (by decide) (fun c16 => ?_) (fun c16 => ?_)
    · replace h := ifp_ c16 h
      refine aw_pick [0] rfl ?_
      exact hk4 _ h
    · replace h := ifn_ c16 h
      refine a_aload_n 0 dX8_sign_15 rfl rfl ?_
      refine a_iconst (v := 1) dX8_sign_16 (by decide) ?_
      refine a_aload_n 0 dX8_sign_17 rfl rfl ?_
      refine a_getI kc_8 4 (by decide) rfl ht q1558 dX8_sign_18 ?_
      obtain ⟨v19, m17, e18, h⟩ := bm_some h
      have he18 := e_X8_wrong (G := G) hl ht e18
      refine c_V he18.1 (rn_V (n := 2) (As := [vI_ 1, vI_ (gI_ m13 t 4)]) kc_8 ht he18 (lw_V q1788 q1790 qs39 q97 q1791) (by decide +kernel) rfl (Nat.le_of_ble_eq_true rfl) (Nat.le_of_ble_eq_true rfl) (Nat.le_of_ble_eq_true rfl) dX8_sign_21) (fun z => (os_av (As := [vI_ 1, vI_ (gI_ m13 t 4)]) z).2.1) ?_
      refine aw_pick [0] rfl ?_
      exact hk4 _ h
def f_X8_result (F : Nat)  (t : pm_A) (i0 : Int32) (m : pm_M) : Option (Int32 × pm_M) :=
  lt_ (pI_ m t 8 (gI_ m t 5)) fun m1 =>
  bm_ (f_X8_fine F t m1) fun v5 m3 =>
  if v5 = 0 then
    some (((gI_ m3 t 6) - 10), m3)
  else
    some (i0, m3)
set_option maxHeartbeats 4000000 in
theorem e_X8_result {G : xg_T} {l : Launch} (hl : l.stackTraces = false) {F : Nat}    {t : pm_A} {i0 : Int32} {m0 m' : pm_M} {r : Int32} (ht : t.1 = 8) (h : f_X8_result F t i0 m0 = some (r, m')) : Cal_ G l yX8_result (ws_ yX8_result cX8_result 2 (some .int)) 3 [vR_ (some t), vI_ i0] m0 (.inl (some (vI_ r))) m' := by
  refine cal_of (by decide +kernel) (Nat.le_of_ble_eq_true rfl) ?_
  unfold f_X8_result at h
  show AW_ cX8_result RX8 (some (.int), "result", 3, 2, m0, m', (.inl (some (vI_ r))), G, l, [], true) m0 0 [(0, vR_ (some t)), (1, vI_ i0)] []
  refine a_aload_n 0 dX8_result_0 rfl rfl ?_
  refine a_aload_n 0 dX8_result_1 rfl rfl ?_
  refine a_getI kc_8 5 (by decide) rfl ht q1559 dX8_result_2 ?_
  obtain ⟨m1, e2, h⟩ := lt_some h
  refine a_putI kc_8 8 (by decide) rfl ht q1562 rfl rfl rfl dX8_result_5 ?_
  rw [← e2]
  refine a_aload_n 0 dX8_result_8 rfl rfl ?_
  obtain ⟨v5, m3, e4, h⟩ := bm_some h
  have he4 := e_X8_fine (G := G) hl ht e4
  refine c_I he4.1 (rn_V (n := 0) (As := []) kc_8 ht he4 (lw_V q1752 q1754 qs34 q97 q1755) (by decide +kernel) rfl (Nat.le_of_ble_eq_true rfl) (Nat.le_of_ble_eq_true rfl) (Nat.le_of_ble_eq_true rfl) dX8_result_9) (fun z => (os_av (As := []) z).2.1) ?_
  refine a_if_eq (tgt := 19) dX8_result_12 (by decide) (fun c6 => ?_) (fun c6 => ?_)
  · replace h := ifp_ c6 h
    refine a_aload_n 0 dX8_result_19 rfl rfl ?_
    refine a_getI kc_8 6 (by decide) rfl ht q1560 dX8_result_20 ?_
    refine a_bipush (v := 10) dX8_result_23 (by decide) ?_
    refine a_isub dX8_result_25 ?_
    cases h
    exact a_ireturn rfl rfl rfl rfl rfl dX8_result_26
  · replace h := ifn_ c6 h
    refine a_iload_n 1 dX8_result_15 rfl rfl ?_
    refine a_goto (tgt := 26) dX8_result_16 (by decide) ?_
    cases h
    exact a_ireturn rfl rfl rfl rfl rfl dX8_result_26
def f_X8_register_L44 (F : Nat)  (p31 : pm_A) (k33 : pm_M → Option (Int32 × pm_M)) (k35 : pm_M → Option (Int32 × pm_M)) : Nat → Int32 → pm_M → Option (Int32 × pm_M)
  | 0, _, _ => none
  | n37 + 1, x39, m38 =>
    bm_ (f_X8_fine F p31 m38) fun v42 m40 =>
    if v42 = 0 then
      k33 m40
    else
      bm_ (f_X8_isMore F p31 m40) fun v46 m44 =>
      if v46 = 0 then
        k33 m44
      else
        bm_ (f_X8_standsHere F p31 (some ((200, 0, 6))) m44) fun v50 m48 =>
        bm_ (f_X8_word F p31 m48) fun v53 m51 =>
        jn_ (fun  (m55 : pm_M) =>
          bm_ (f_X8_fine F p31 m55) fun v58 m56 =>
          if v58 = 0 then
            k35 m56
          else
            jn_ (fun  (m61 : pm_M) =>
              jn_ (fun  (m63 : pm_M) =>
                bm_ (f_X8_sign F p31 59 m63) fun v66 m64 =>
                (f_X8_register_L44 F p31 k33 k35 n37) (x39 + 1) m64
              ) fun k62 =>
              if v50 = 0 then
                bm_ (f_X8_readRow F p31 v53 m61) fun v70 m68 =>
                k62 m68
              else
                bm_ (f_X8_readKinsman F p31 m61) fun v73 m71 =>
                k62 m71
            ) fun k60 =>
            if v50 = 0 then
              bm_ (f_X8_pass F p31 m56) fun v78 m76 =>
              k60 m76
            else
              lt_ (pI_ m56 p31 4 ((gI_ m56 p31 4) + 7)) fun m79 =>
              k60 m79
        ) fun k54 =>
        jn_ (fun  (m83 : pm_M) =>
          jn_ (fun  (m85 : pm_M) =>
            bm_ (f_X8_wrong F p31 3 (gI_ m85 p31 4) m85) fun v88 m86 =>
            k54 m86
          ) fun k84 =>
          if x39 = 60 then
            k84 m83
          else
            bm_ (f_X8_of F (some ((200, 0, 15))) m83) fun v92 m90 =>
            jn_ (fun  (m94 : pm_M) =>
              bm_ (f_X8_of F (some ((200, 0, 18))) m94) fun v97 m95 =>
              if v53 = v97 then
                if (gI_ m95 p31 15) = 5 then
                  k84 m95
                else
                  k54 m95
              else
                k54 m95
            ) fun k93 =>
            if v53 = v92 then
              if (gI_ m90 p31 14) = 8 then
                k84 m90
              else
                k93 m90
            else
              k93 m90
        ) fun k82 =>
        if v50 = 0 then
          bm_ (f_X8_isRow F v53 m51) fun v107 m105 =>
          if v107 = 0 then
            bm_ (f_X8_wrong F p31 1 (gI_ m105 p31 4) m105) fun v111 m109 =>
            k54 m109
          else
            k82 m105
        else
          k82 m51
set_option maxHeartbeats 4000000 in
theorem w_X8_register_L44 {G : xg_T} {l : Launch} (hl : l.stackTraces = false) {F : Nat}    (p31 : pm_A) (k33 : pm_M → Option (Int32 × pm_M)) (k35 : pm_M → Option (Int32 × pm_M)) {m0 m' : pm_M} {r : Int32} (hf32 : p31.1 = 8) (hk33 : ∀ (m34 : pm_M), k33 m34 = some (r, m') → AW_ cX8_register RX8 (some (.int), "register", 8, 5, m0, m', (.inl (some (vI_ r))), G, l, [], true) m34 208 [(0, vR_ (some p31))] []) (hk35 : ∀ (m36 : pm_M), k35 m36 = some (r, m') → AW_ cX8_register RX8 (some (.int), "register", 8, 5, m0, m', (.inl (some (vI_ r))), G, l, [], true) m36 154 [(0, vR_ (some p31))] []) : ∀ (n : Nat) (x39 : Int32) (m38 : pm_M), f_X8_register_L44 F p31 k33 k35 n x39 m38 = some (r, m') → AW_ cX8_register RX8 (some (.int), "register", 8, 5, m0, m', (.inl (some (vI_ r))), G, l, [], true) m38 44 [(0, vR_ (some p31)), (2, vI_ x39)] [] := by
  intro n
  induction n with
  | zero => intro x39 m38 h; cases h
  | succ n37 ih =>
    intro x39 m38 h
    rw [f_X8_register_L44] at h
    refine a_aload_n 0 dX8_register_44 rfl rfl ?_
    obtain ⟨v42, m40, e41, h⟩ := bm_some h
    have he41 := e_X8_fine (G := G) hl hf32 e41
    refine c_I he41.1 (rn_V (n := 0) (As := []) kc_8 hf32 he41 (lw_V q1752 q1754 qs34 q97 q1755) (by decide +kernel) rfl (Nat.le_of_ble_eq_true rfl) (Nat.le_of_ble_eq_true rfl) (Nat.le_of_ble_eq_true rfl) dX8_register_45) (fun z => (os_av (As := []) z).2.1) ?_
    refine a_if_eq (tgt := 208) dX8_register_48 (by decide) (fun c43 => ?_) (fun c43 => ?_)
    · replace h := ifp_ c43 h
      refine aw_pick [0] rfl ?_
      exact hk33 _ h
    · replace h := ifn_ c43 h
      refine a_aload_n 0 dX8_register_51 rfl rfl ?_
      obtain ⟨v46, m44, e45, h⟩ := bm_some h
      have he45 := e_X8_isMore (G := G) hl hf32 e45
      refine c_I he45.1 (rn_V (n := 0) (As := []) kc_8 hf32 he45 (lw_V q1756 q1758 qs35 q97 q1759) (by decide +kernel) rfl (Nat.le_of_ble_eq_true rfl) (Nat.le_of_ble_eq_true rfl) (Nat.le_of_ble_eq_true rfl) dX8_register_52) (fun z => (os_av (As := []) z).2.1) ?_
      refine a_if_eq (tgt := 208) dX8_register_55 (by decide) (fun c47 => ?_) (fun c47 => ?_)
      · replace h := ifp_ c47 h
        refine aw_pick [0] rfl ?_
        exact hk33 _ h
      · replace h := ifn_ c47 h
        refine a_aload_n 0 dX8_register_58 rfl rfl ?_
        refine a_ldcS (n := 6) (tx := "kinsman") (by decide +kernel) (by decide) dX8_register_59 ?_
        obtain ⟨v50, m48, e49, h⟩ := bm_some h
        have he49 := e_X8_standsHere (G := G) hl hf32 e49
        refine c_I he49.1 (rn_V (n := 1) (As := [vR_ (some ((200, 0, 6)))]) kc_8 hf32 he49 (lw_V q1765 q1767 qs37 q97 q1768) (by decide +kernel) rfl (Nat.le_of_ble_eq_true rfl) (Nat.le_of_ble_eq_true rfl) (Nat.le_of_ble_eq_true rfl) dX8_register_61) (fun z => (os_av (As := [vR_ (some ((200, 0, 6)))]) z).2.1) ?_
        refine a_istore_n (ls' := [(3, vI_ v50), (0, vR_ (some p31)), (2, vI_ x39)]) dX8_register_64 rfl (Nat.le_of_ble_eq_true rfl) rfl ?_
        refine a_aload_n 1 dX8_register_65 rfl rfl ?_
        obtain ⟨v53, m51, e52, h⟩ := bm_some h
        have he52 := e_X8_word (G := G) hl hf32 e52
        refine c_I he52.1 (rn_V (n := 0) (As := []) kc_8 hf32 he52 (lw_V q1774 q1776 qs38 q97 q1777) (by decide +kernel) rfl (Nat.le_of_ble_eq_true rfl) (Nat.le_of_ble_eq_true rfl) (Nat.le_of_ble_eq_true rfl) dX8_register_66) (fun z => (os_av (As := []) z).2.1) ?_
        refine a_istore (ls' := [(4, vI_ v53), (3, vI_ v50), (0, vR_ (some p31)), (2, vI_ x39)]) dX8_register_69 (Nat.le_of_ble_eq_true rfl) rfl ?_
        refine a_iload_n 1 dX8_register_71 rfl rfl ?_
        obtain ⟨k54, e113, h⟩ := jn1_some h
        have hk54 : ∀  (m55 : pm_M), k54 m55 = some (r, m') → AW_ cX8_register RX8 (some (.int), "register", 8, 5, m0, m', (.inl (some (vI_ r))), G, l, [], true) m55 147 [(0, vR_ (some p31)), (2, vI_ x39), (3, vI_ v50), (4, vI_ v53)] [] := by
          intro m55 h
          have h := (e113 m55).symm.trans h
          refine a_aload_n 0 dX8_register_147 rfl rfl ?_
          obtain ⟨v58, m56, e57, h⟩ := bm_some h
          have he57 := e_X8_fine (G := G) hl hf32 e57
          refine c_I he57.1 (rn_V (n := 0) (As := []) kc_8 hf32 he57 (lw_V q1752 q1754 qs34 q97 q1755) (by decide +kernel) rfl (Nat.le_of_ble_eq_true rfl) (Nat.le_of_ble_eq_true rfl) (Nat.le_of_ble_eq_true rfl) dX8_register_148) (fun z => (os_av (As := []) z).2.1) ?_
          refine a_if_ne (tgt := 157) dX8_register_151 (by decide) (fun c59 => ?_) (fun c59 => ?_)
          · replace h := ifn_ c59 h
            refine a_iload_n 2 dX8_register_157 rfl rfl ?_
            obtain ⟨k60, e81, h⟩ := jn1_some h
            have hk60 : ∀  (m61 : pm_M), k60 m61 = some (r, m') → AW_ cX8_register RX8 (some (.int), "register", 8, 5, m0, m', (.inl (some (vI_ r))), G, l, [], true) m61 179 [(0, vR_ (some p31)), (2, vI_ x39), (3, vI_ v50), (4, vI_ v53)] [] := by
              intro m61 h
              have h := (e81 m61).symm.trans h
              refine a_iload_n 2 dX8_register_179 rfl rfl ?_
              obtain ⟨k62, e74, h⟩ := jn1_some h
              have hk62 : ∀  (m63 : pm_M), k62 m63 = some (r, m') → AW_ cX8_register RX8 (some (.int), "register", 8, 5, m0, m', (.inl (some (vI_ r))), G, l, [], true) m63 196 [(0, vR_ (some p31)), (2, vI_ x39)] [] := by
                intro m63 h
                have h := (e74 m63).symm.trans h
                refine a_aload_n 0 dX8_register_196 rfl rfl ?_
                refine a_bipush (v := 59) dX8_register_197 (by decide) ?_
                obtain ⟨v66, m64, e65, h⟩ := bm_some h
                have he65 := e_X8_sign (G := G) hl hf32 e65
                refine c_V he65.1 (rn_V (n := 1) (As := [vI_ 59]) kc_8 hf32 he65 (lw_V q1811 q1813 qs44 q97 q1814) (by decide +kernel) rfl (Nat.le_of_ble_eq_true rfl) (Nat.le_of_ble_eq_true rfl) (Nat.le_of_ble_eq_true rfl) dX8_register_199) (fun z => (os_av (As := [vI_ 59]) z).2.1) ?_
                refine a_iinc (v := x39 + 1) (ls' := [(2, vI_ (x39 + 1)), (0, vR_ (some p31))]) 1 dX8_register_202 rfl rfl (Nat.le_of_ble_eq_true rfl) rfl ?_
                refine a_goto (tgt := 44) dX8_register_205 (by decide) ?_
                refine aw_pick [1, 0] rfl ?_
                exact ih _ _ h
              refine a_if_eq (tgt := 190) dX8_register_180 (by decide) (fun c67 => ?_) (fun c67 => ?_)
              · replace h := ifp_ c67 h
                refine a_aload_n 0 dX8_register_190 rfl rfl ?_
                refine a_iload 3 dX8_register_191 rfl ?_
                obtain ⟨v70, m68, e69, h⟩ := bm_some h
                have he69 := e_X8_readRow (G := G) hl hf32 e69
                refine c_V he69.1 (rn_V (n := 1) (As := [vI_ v53]) kc_8 hf32 he69 (lw_V q1807 q1809 qs43 q97 q1810) (by decide +kernel) rfl (Nat.le_of_ble_eq_true rfl) (Nat.le_of_ble_eq_true rfl) (Nat.le_of_ble_eq_true rfl) dX8_register_193) (fun z => (os_av (As := [vI_ v53]) z).2.1) ?_
                refine aw_pick [0, 1] rfl ?_
                exact hk62 _ h
              · replace h := ifn_ c67 h
                refine a_aload_n 0 dX8_register_183 rfl rfl ?_
                obtain ⟨v73, m71, e72, h⟩ := bm_some h
                have he72 := e_X8_readKinsman (G := G) hl hf32 e72
                refine c_V he72.1 (rn_V (n := 0) (As := []) kc_8 hf32 he72 (lw_V q1796 q1798 qs41 q97 q1799) (by decide +kernel) rfl (Nat.le_of_ble_eq_true rfl) (Nat.le_of_ble_eq_true rfl) (Nat.le_of_ble_eq_true rfl) dX8_register_184) (fun z => (os_av (As := []) z).2.1) ?_
                refine a_goto (tgt := 196) dX8_register_187 (by decide) ?_
                refine aw_pick [0, 1] rfl ?_
                exact hk62 _ h
            refine a_if_eq (tgt := 175) dX8_register_158 (by decide) (fun c75 => ?_) (fun c75 => ?_)
            · replace h := ifp_ c75 h
              refine a_aload_n 0 dX8_register_175 rfl rfl ?_
              obtain ⟨v78, m76, e77, h⟩ := bm_some h
              have he77 := e_X8_pass (G := G) hl hf32 e77
              refine c_V he77.1 (rn_V (n := 0) (As := []) kc_8 hf32 he77 (lw_V q1792 q1794 qs40 q97 q1795) (by decide +kernel) rfl (Nat.le_of_ble_eq_true rfl) (Nat.le_of_ble_eq_true rfl) (Nat.le_of_ble_eq_true rfl) dX8_register_176) (fun z => (os_av (As := []) z).2.1) ?_
              exact hk60 _ h
            · replace h := ifn_ c75 h
              refine a_aload_n 0 dX8_register_161 rfl rfl ?_
              refine a_dup dX8_register_162 rfl ?_
              refine a_getI kc_8 4 (by decide) rfl hf32 q1558 dX8_register_163 ?_
              refine a_bipush (v := 7) dX8_register_166 (by decide) ?_
              refine a_iadd dX8_register_168 ?_
              obtain ⟨m79, e80, h⟩ := lt_some h
              refine a_putI kc_8 4 (by decide) rfl hf32 q1558 rfl rfl rfl dX8_register_169 ?_
              rw [← e80]
              refine a_goto (tgt := 179) dX8_register_172 (by decide) ?_
              exact hk60 _ h
          · replace h := ifp_ c59 h
            refine aw_pick [0] rfl ?_
            exact hk35 _ h
        obtain ⟨k82, e112, h⟩ := jn1_some h
        have hk82 : ∀  (m83 : pm_M), k82 m83 = some (r, m') → AW_ cX8_register RX8 (some (.int), "register", 8, 5, m0, m', (.inl (some (vI_ r))), G, l, [], true) m83 95 [(0, vR_ (some p31)), (2, vI_ x39), (3, vI_ v50), (4, vI_ v53)] [] := by
          intro m83 h
          have h := (e112 m83).symm.trans h
          refine a_iload_n 1 dX8_register_95 rfl rfl ?_
          refine a_bipush (v := 60) dX8_register_96 (by decide) ?_
          obtain ⟨k84, e103, h⟩ := jn1_some h
          have hk84 : ∀  (m85 : pm_M), k84 m85 = some (r, m') → AW_ cX8_register RX8 (some (.int), "register", 8, 5, m0, m', (.inl (some (vI_ r))), G, l, [], true) m85 138 [(0, vR_ (some p31)), (2, vI_ x39), (3, vI_ v50), (4, vI_ v53)] [] := by
            intro m85 h
            have h := (e103 m85).symm.trans h
            refine a_aload_n 0 dX8_register_138 rfl rfl ?_
            refine a_iconst (v := 3) dX8_register_139 (by decide) ?_
            refine a_aload_n 0 dX8_register_140 rfl rfl ?_
            refine a_getI kc_8 4 (by decide) rfl hf32 q1558 dX8_register_141 ?_
            obtain ⟨v88, m86, e87, h⟩ := bm_some h
            have he87 := e_X8_wrong (G := G) hl hf32 e87
            refine c_V he87.1 (rn_V (n := 2) (As := [vI_ 3, vI_ (gI_ m85 p31 4)]) kc_8 hf32 he87 (lw_V q1788 q1790 qs39 q97 q1791) (by decide +kernel) rfl (Nat.le_of_ble_eq_true rfl) (Nat.le_of_ble_eq_true rfl) (Nat.le_of_ble_eq_true rfl) dX8_register_144) (fun z => (os_av (As := [vI_ 3, vI_ (gI_ m85 p31 4)]) z).2.1) ?_
            exact hk54 _ h
          refine a_icmp_eq (tgt := 138) dX8_register_98 (by decide) (fun c89 => ?_) (fun c89 => ?_)
          · replace h := ifp_ c89 h
            exact hk84 _ h
          · replace h := ifn_ c89 h
            refine a_iload 3 dX8_register_101 rfl ?_
            refine a_ldcS (n := 15) (tx := "signer") (by decide +kernel) (by decide) dX8_register_103 ?_
            obtain ⟨v92, m90, e91, h⟩ := bm_some h
            have he91 := e_X8_of (G := G) hl e91
            refine c_I he91.1 (rn_S (n := 1) (As := [vR_ (some ((200, 0, 15)))]) he91 (lw_S q1782 q1783 q97 q1784) (by decide +kernel) rfl (Nat.le_of_ble_eq_true rfl) (Nat.le_of_ble_eq_true rfl) (Nat.le_of_ble_eq_true rfl) dX8_register_105) (fun z => (os_aS (As := [vR_ (some ((200, 0, 15)))]) z).2) ?_
            obtain ⟨k93, e102, h⟩ := jn1_some h
            have hk93 : ∀  (m94 : pm_M), k93 m94 = some (r, m') → AW_ cX8_register RX8 (some (.int), "register", 8, 5, m0, m', (.inl (some (vI_ r))), G, l, [], true) m94 120 [(0, vR_ (some p31)), (2, vI_ x39), (3, vI_ v50), (4, vI_ v53)] [] := by
              intro m94 h
              have h := (e102 m94).symm.trans h
              refine a_iload 3 dX8_register_120 rfl ?_
              refine a_ldcS (n := 18) (tx := "taker") (by decide +kernel) (by decide) dX8_register_122 ?_
              obtain ⟨v97, m95, e96, h⟩ := bm_some h
              have he96 := e_X8_of (G := G) hl e96
              refine c_I he96.1 (rn_S (n := 1) (As := [vR_ (some ((200, 0, 18)))]) he96 (lw_S q1782 q1783 q97 q1784) (by decide +kernel) rfl (Nat.le_of_ble_eq_true rfl) (Nat.le_of_ble_eq_true rfl) (Nat.le_of_ble_eq_true rfl) dX8_register_124) (fun z => (os_aS (As := [vR_ (some ((200, 0, 18)))]) z).2) ?_
              refine a_icmp_ne (tgt := 147) dX8_register_127 (by decide) (fun c98 => ?_) (fun c98 => ?_)
              · replace h := ifn_ c98 h
                exact hk54 _ h
              · replace h := ifp_ c98 h
                refine a_aload_n 0 dX8_register_130 rfl rfl ?_
                refine a_getI kc_8 15 (by decide) rfl hf32 q1569 dX8_register_131 ?_
                refine a_iconst (v := 5) dX8_register_134 (by decide) ?_
                refine a_icmp_ne (tgt := 147) dX8_register_135 (by decide) (fun c99 => ?_) (fun c99 => ?_)
                · replace h := ifn_ c99 h
                  exact hk54 _ h
                · replace h := ifp_ c99 h
                  exact hk84 _ h
            refine a_icmp_ne (tgt := 120) dX8_register_108 (by decide) (fun c100 => ?_) (fun c100 => ?_)
            · replace h := ifn_ c100 h
              exact hk93 _ h
            · replace h := ifp_ c100 h
              refine a_aload_n 0 dX8_register_111 rfl rfl ?_
              refine a_getI kc_8 14 (by decide) rfl hf32 q1568 dX8_register_112 ?_
              refine a_bipush (v := 8) dX8_register_115 (by decide) ?_
              refine a_icmp_eq (tgt := 138) dX8_register_117 (by decide) (fun c101 => ?_) (fun c101 => ?_)
              · replace h := ifp_ c101 h
                exact hk84 _ h
              · replace h := ifn_ c101 h
                exact hk93 _ h
        refine a_if_ne (tgt := 95) dX8_register_72 (by decide) (fun c104 => ?_) (fun c104 => ?_)
        · replace h := ifn_ c104 h
          refine aw_pick [2, 3, 1, 0] rfl ?_
          exact hk82 _ h
        · replace h := ifp_ c104 h
          refine a_iload 0 dX8_register_75 rfl ?_
          obtain ⟨v107, m105, e106, h⟩ := bm_some h
          have he106 := e_X8_isRow (G := G) hl e106
          refine c_I he106.1 (rn_S (n := 1) (As := [vI_ v53]) he106 (lw_S q1778 q1779 q97 q1780) (by decide +kernel) rfl (Nat.le_of_ble_eq_true rfl) (Nat.le_of_ble_eq_true rfl) (Nat.le_of_ble_eq_true rfl) dX8_register_77) (fun z => (os_aS (As := [vI_ v53]) z).2) ?_
          refine a_if_ne (tgt := 95) dX8_register_80 (by decide) (fun c108 => ?_) (fun c108 => ?_)
          · replace h := ifn_ c108 h
            refine aw_pick [2, 3, 1, 0] rfl ?_
            exact hk82 _ h
          · replace h := ifp_ c108 h
            refine a_aload_n 2 dX8_register_83 rfl rfl ?_
            refine a_iconst (v := 1) dX8_register_84 (by decide) ?_
            refine a_aload_n 2 dX8_register_85 rfl rfl ?_
            refine a_getI kc_8 4 (by decide) rfl hf32 q1558 dX8_register_86 ?_
            obtain ⟨v111, m109, e110, h⟩ := bm_some h
            have he110 := e_X8_wrong (G := G) hl hf32 e110
            refine c_V he110.1 (rn_V (n := 2) (As := [vI_ 1, vI_ (gI_ m105 p31 4)]) kc_8 hf32 he110 (lw_V q1788 q1790 qs39 q97 q1791) (by decide +kernel) rfl (Nat.le_of_ble_eq_true rfl) (Nat.le_of_ble_eq_true rfl) (Nat.le_of_ble_eq_true rfl) dX8_register_89) (fun z => (os_av (As := [vI_ 1, vI_ (gI_ m105 p31 4)]) z).2.1) ?_
            refine a_goto (tgt := 147) dX8_register_92 (by decide) ?_
            refine aw_pick [2, 3, 1, 0] rfl ?_
            exact hk54 _ h
def f_X8_register (F : Nat)  (t : pm_A) (i0 : Int32) (m : pm_M) : Option (Int32 × pm_M) :=
  lt_ (pI_ m t 0 0) fun m1 =>
  jn_ (fun (y5 : Option pm_A) (y6 : Int32) (m4 : pm_M) =>
    gd_ 8 y5 fun a7 =>
    bm_ (f_X8_may F a7 y6 1 1 m4) fun v12 m10 =>
    if v12 = 0 then
      some (0, m10)
    else
      bm_ (f_X8_begins F t i0 m10) fun v16 m14 =>
      bm_ (f_X8_clears F t m14) fun v19 m17 =>
      jn_ (fun  (m21 : pm_M) =>
        bm_ (f_X8_result F t (gI_ m21 t 14) m21) fun v24 m22 =>
        if (gI_ m22 t 5) = ((-1)) then
          bm_ (f_X8_sets F t m22) fun v28 m26 =>
          some (v24, m26)
        else
          some (v24, m22)
      ) fun k20 =>
      jn_ (fun  (m30 : pm_M) =>
        k20 m30
      ) fun k29 =>
      f_X8_register_L44 F t k20 k29 F 0 m17
  ) fun k3 =>
  jn_ (fun (y118 : Option pm_A) (m117 : pm_M) =>
    k3 y118 0 m117
  ) fun k116 =>
  if i0 < 0 then
    k116 (some t) m1
  else
    if (gI_ m1 t 2) < i0 then
      k116 (some t) m1
    else
      k3 (some t) 1 m1
set_option maxHeartbeats 4000000 in
theorem e_X8_register {G : xg_T} {l : Launch} (hl : l.stackTraces = false) {F : Nat}    {t : pm_A} {i0 : Int32} {m0 m' : pm_M} {r : Int32} (ht : t.1 = 8) (h : f_X8_register F t i0 m0 = some (r, m')) : Cal_ G l yX8_register (ws_ yX8_register cX8_register 5 (some .int)) 8 [vR_ (some t), vI_ i0] m0 (.inl (some (vI_ r))) m' := by
  refine cal_of (by decide +kernel) (Nat.le_of_ble_eq_true rfl) ?_
  unfold f_X8_register at h
  show AW_ cX8_register RX8 (some (.int), "register", 8, 5, m0, m', (.inl (some (vI_ r))), G, l, [], true) m0 0 [(0, vR_ (some t)), (1, vI_ i0)] []
  refine a_aload_n 0 dX8_register_0 rfl rfl ?_
  refine a_iconst (v := 0) dX8_register_1 (by decide) ?_
  obtain ⟨m1, e2, h⟩ := lt_some h
  refine a_putI kc_8 0 (by decide) rfl ht q1554 rfl rfl rfl dX8_register_2 ?_
  rw [← e2]
  refine a_aload_n 0 dX8_register_5 rfl rfl ?_
  refine a_iload_n 1 dX8_register_6 rfl rfl ?_
  obtain ⟨k3, e122, h⟩ := jn3_some h
  have hk3 : ∀ (y5 : Option pm_A) (y6 : Int32) (m4 : pm_M), k3 y5 y6 m4 = some (r, m') → AW_ cX8_register RX8 (some (.int), "register", 8, 5, m0, m', (.inl (some (vI_ r))), G, l, [], true) m4 23 [(0, vR_ (some t)), (1, vI_ i0)] [vI_ y6, vR_ y5] := by
    intro y5 y6 m4 h
    have h := (e122 y5 y6 m4).symm.trans h
    refine a_iconst (v := 1) dX8_register_23 (by decide) ?_
    refine a_iconst (v := 1) dX8_register_24 (by decide) ?_
    obtain ⟨a7, e8, f9, h⟩ := gd_some h
    rw [e8]
    obtain ⟨v12, m10, e11, h⟩ := bm_some h
    have he11 := e_X8_may (G := G) hl f9 e11
    refine c_I he11.1 (rn_V (n := 3) (As := [vI_ y6, vI_ 1, vI_ 1]) kc_8 f9 he11 (lw_V q1744 q1746 qs32 q97 q1747) (by decide +kernel) rfl (Nat.le_of_ble_eq_true rfl) (Nat.le_of_ble_eq_true rfl) (Nat.le_of_ble_eq_true rfl) dX8_register_25) (fun z => (os_av (As := [vI_ y6, vI_ 1, vI_ 1]) z).2.1) ?_
    refine a_if_ne (tgt := 33) dX8_register_28 (by decide) (fun c13 => ?_) (fun c13 => ?_)
    · replace h := ifn_ c13 h
      refine a_aload_n 0 dX8_register_33 rfl rfl ?_
      refine a_iload_n 1 dX8_register_34 rfl rfl ?_
      obtain ⟨v16, m14, e15, h⟩ := bm_some h
      have he15 := e_X8_begins (G := G) hl ht e15
      refine c_V he15.1 (rn_V (n := 1) (As := [vI_ i0]) kc_8 ht he15 (lw_V q1748 q1750 qs33 q97 q1751) (by decide +kernel) rfl (Nat.le_of_ble_eq_true rfl) (Nat.le_of_ble_eq_true rfl) (Nat.le_of_ble_eq_true rfl) dX8_register_35) (fun z => (os_av (As := [vI_ i0]) z).2.1) ?_
      refine a_aload_n 0 dX8_register_38 rfl rfl ?_
      obtain ⟨v19, m17, e18, h⟩ := bm_some h
      have he18 := e_X8_clears (G := G) hl ht e18
      refine c_V he18.1 (rn_V (n := 0) (As := []) kc_8 ht he18 (lw_V q1542 q1544 qs29 q97 q1545) (by decide +kernel) rfl (Nat.le_of_ble_eq_true rfl) (Nat.le_of_ble_eq_true rfl) (Nat.le_of_ble_eq_true rfl) dX8_register_39) (fun z => (os_av (As := []) z).2.1) ?_
      refine a_iconst (v := 0) dX8_register_42 (by decide) ?_
      refine a_istore_n (ls' := [(2, vI_ 0), (0, vR_ (some t)), (1, vI_ i0)]) dX8_register_43 rfl (Nat.le_of_ble_eq_true rfl) rfl ?_
      obtain ⟨k20, e115, h⟩ := jn1_some h
      have hk20 : ∀  (m21 : pm_M), k20 m21 = some (r, m') → AW_ cX8_register RX8 (some (.int), "register", 8, 5, m0, m', (.inl (some (vI_ r))), G, l, [], true) m21 208 [(0, vR_ (some t))] [] := by
        intro m21 h
        have h := (e115 m21).symm.trans h
        refine a_aload_n 0 dX8_register_208 rfl rfl ?_
        refine a_aload_n 0 dX8_register_209 rfl rfl ?_
        refine a_getI kc_8 14 (by decide) rfl ht q1568 dX8_register_210 ?_
        obtain ⟨v24, m22, e23, h⟩ := bm_some h
        have he23 := e_X8_result (G := G) hl ht e23
        refine c_I he23.1 (rn_V (n := 1) (As := [vI_ (gI_ m21 t 14)]) kc_8 ht he23 (lw_V q1815 q1817 qs45 q97 q1818) (by decide +kernel) rfl (Nat.le_of_ble_eq_true rfl) (Nat.le_of_ble_eq_true rfl) (Nat.le_of_ble_eq_true rfl) dX8_register_213) (fun z => (os_av (As := [vI_ (gI_ m21 t 14)]) z).2.1) ?_
        refine a_istore_n (ls' := [(3, vI_ v24), (0, vR_ (some t))]) dX8_register_216 rfl (Nat.le_of_ble_eq_true rfl) rfl ?_
        refine a_aload_n 1 dX8_register_217 rfl rfl ?_
        refine a_getI kc_8 5 (by decide) rfl ht q1559 dX8_register_218 ?_
        refine a_iconst (v := (-1)) dX8_register_221 (by decide) ?_
        refine a_icmp_ne (tgt := 229) dX8_register_222 (by decide) (fun c25 => ?_) (fun c25 => ?_)
        · replace h := ifn_ c25 h
          refine a_iload_n 0 dX8_register_229 rfl rfl ?_
          cases h
          exact a_ireturn rfl rfl rfl rfl rfl dX8_register_230
        · replace h := ifp_ c25 h
          refine a_aload_n 1 dX8_register_225 rfl rfl ?_
          obtain ⟨v28, m26, e27, h⟩ := bm_some h
          have he27 := e_X8_sets (G := G) hl ht e27
          refine c_V he27.1 (rn_V (n := 0) (As := []) kc_8 ht he27 (lw_V q1546 q1548 qs30 q97 q1549) (by decide +kernel) rfl (Nat.le_of_ble_eq_true rfl) (Nat.le_of_ble_eq_true rfl) (Nat.le_of_ble_eq_true rfl) dX8_register_226) (fun z => (os_av (As := []) z).2.1) ?_
          refine a_iload_n 0 dX8_register_229 rfl rfl ?_
          cases h
          exact a_ireturn rfl rfl rfl rfl rfl dX8_register_230
      obtain ⟨k29, e114, h⟩ := jn1_some h
      have hk29 : ∀  (m30 : pm_M), k29 m30 = some (r, m') → AW_ cX8_register RX8 (some (.int), "register", 8, 5, m0, m', (.inl (some (vI_ r))), G, l, [], true) m30 154 [(0, vR_ (some t))] [] := by
        intro m30 h
        have h := (e114 m30).symm.trans h
        refine a_goto (tgt := 208) dX8_register_154 (by decide) ?_
        exact hk20 _ h
      refine aw_pick [1, 0] rfl ?_
      exact w_X8_register_L44 hl _ _ _ ht hk20 hk29 _ _ _ h
    · replace h := ifp_ c13 h
      refine a_iconst (v := 0) dX8_register_31 (by decide) ?_
      cases h
      exact a_ireturn rfl rfl rfl rfl rfl dX8_register_32
  obtain ⟨k116, e121, h⟩ := jn2_some h
  have hk116 : ∀ (y118 : Option pm_A) (m117 : pm_M), k116 y118 m117 = some (r, m') → AW_ cX8_register RX8 (some (.int), "register", 8, 5, m0, m', (.inl (some (vI_ r))), G, l, [], true) m117 22 [(0, vR_ (some t)), (1, vI_ i0)] [vR_ y118] := by
    intro y118 m117 h
    have h := (e121 y118 m117).symm.trans h
    refine a_iconst (v := 0) dX8_register_22 (by decide) ?_
    exact hk3 _ _ _ h
  refine a_if_lt (tgt := 22) dX8_register_7 (by decide) (fun c119 => ?_) (fun c119 => ?_)
  · replace h := ifp_ c119 h
    exact hk116 _ _ h
  · replace h := ifn_ c119 h
    refine a_iload_n 1 dX8_register_10 rfl rfl ?_
    refine a_aload_n 0 dX8_register_11 rfl rfl ?_
    refine a_getI kc_8 2 (by decide) rfl ht q1556 dX8_register_12 ?_
    refine a_icmp_gt (tgt := 22) dX8_register_15 (by decide) (fun c120 => ?_) (fun c120 => ?_)
    · replace h := ifp_ c120 h
      exact hk116 _ _ h
    · replace h := ifn_ c120 h
      refine a_iconst (v := 1) dX8_register_18 (by decide) ?_
      refine a_goto (tgt := 23) dX8_register_19 (by decide) ?_
      exact hk3 _ _ _ h
def f_X8_within (F : Nat)  (i0 : Int32) (i1 : Int32) (i2 : Int32) (m : pm_M) : Option (Int32 × pm_M) :=
  if i0 < i1 then
    some (0, m)
  else
    if i2 < i0 then
      some (0, m)
    else
      some (1, m)
set_option maxHeartbeats 4000000 in
theorem e_X8_within {G : xg_T} {l : Launch} (hl : l.stackTraces = false) {F : Nat}    {i0 : Int32} {i1 : Int32} {i2 : Int32} {m0 m' : pm_M} {r : Int32} (h : f_X8_within F i0 i1 i2 m0 = some (r, m')) : Cal_ G l yX8_within (ws_ yX8_within cX8_within 3 (some .boolean)) 2 [vI_ i0, vI_ i1, vI_ i2] m0 (.inl (some (vI_ r))) m' := by
  refine cal_of (by decide +kernel) (Nat.le_of_ble_eq_true rfl) ?_
  unfold f_X8_within at h
  show AW_ cX8_within RX8 (some (.boolean), "within", 2, 3, m0, m', (.inl (some (vI_ r))), G, l, [], true) m0 0 [(0, vI_ i0), (1, vI_ i1), (2, vI_ i2)] []
  refine a_iload_n 0 dX8_within_0 rfl rfl ?_
  refine a_iload_n 1 dX8_within_1 rfl rfl ?_
  refine a_icmp_lt (tgt := 14) dX8_within_2 (by decide) (fun c1 => ?_) (fun c1 => ?_)
  · replace h := ifp_ c1 h
    refine a_iconst (v := 0) dX8_within_14 (by decide) ?_
    cases h
    exact a_ireturn rfl rfl rfl rfl rfl dX8_within_15
  · replace h := ifn_ c1 h
    refine a_iload_n 0 dX8_within_5 rfl rfl ?_
    refine a_iload_n 2 dX8_within_6 rfl rfl ?_
    refine a_icmp_gt (tgt := 14) dX8_within_7 (by decide) (fun c2 => ?_) (fun c2 => ?_)
    · replace h := ifp_ c2 h
      refine a_iconst (v := 0) dX8_within_14 (by decide) ?_
      cases h
      exact a_ireturn rfl rfl rfl rfl rfl dX8_within_15
    · replace h := ifn_ c2 h
      refine a_iconst (v := 1) dX8_within_10 (by decide) ?_
      refine a_goto (tgt := 15) dX8_within_11 (by decide) ?_
      cases h
      exact a_ireturn rfl rfl rfl rfl rfl dX8_within_15
def f_X8_opensOne (F : Nat)  (t : pm_A) (i0 : Int32) (m : pm_M) : Option (Unit × pm_M) :=
  bm_ (f_X8_fine F t m) fun v3 m1 =>
  jn_ (fun  (m5 : pm_M) =>
    bm_ (f_X8_fine F t m5) fun v8 m6 =>
    jn_ (fun  (m10 : pm_M) =>
      lt_ (pI_ m10 t 7 ((gI_ m10 t 7) + 1)) fun m11 =>
      some ((), m11)
    ) fun k9 =>
    if v8 = 0 then
      k9 m6
    else
      lt_ (pI_ m6 t 4 ((gI_ m6 t 4) + i0)) fun m14 =>
      k9 m14
  ) fun k4 =>
  if v3 = 0 then
    k4 m1
  else
    if (gI_ m1 t 7) = 6 then
      bm_ (f_X8_wrong F t 3 (gI_ m1 t 4) m1) fun v21 m19 =>
      k4 m19
    else
      k4 m1
set_option maxHeartbeats 4000000 in
theorem e_X8_opensOne {G : xg_T} {l : Launch} (hl : l.stackTraces = false) {F : Nat}    {t : pm_A} {i0 : Int32} {m0 m' : pm_M} {r : Unit} (ht : t.1 = 8) (h : f_X8_opensOne F t i0 m0 = some (r, m')) : Cal_ G l yX8_opensOne (ws_ yX8_opensOne cX8_opensOne 2 none) 3 [vR_ (some t), vI_ i0] m0 (.inl none) m' := by
  refine cal_of (by decide +kernel) (Nat.le_of_ble_eq_true rfl) ?_
  unfold f_X8_opensOne at h
  show AW_ cX8_opensOne RX8 (none, "opensOne", 3, 2, m0, m', (.inl none), G, l, [], true) m0 0 [(0, vR_ (some t)), (1, vI_ i0)] []
  refine a_aload_n 0 dX8_opensOne_0 rfl rfl ?_
  obtain ⟨v3, m1, e2, h⟩ := bm_some h
  have he2 := e_X8_fine (G := G) hl ht e2
  refine c_I he2.1 (rn_V (n := 0) (As := []) kc_8 ht he2 (lw_V q1752 q1754 qs34 q97 q1755) (by decide +kernel) rfl (Nat.le_of_ble_eq_true rfl) (Nat.le_of_ble_eq_true rfl) (Nat.le_of_ble_eq_true rfl) dX8_opensOne_1) (fun z => (os_av (As := []) z).2.1) ?_
  obtain ⟨k4, e22, h⟩ := jn1_some h
  have hk4 : ∀  (m5 : pm_M), k4 m5 = some (r, m') → AW_ cX8_opensOne RX8 (none, "opensOne", 3, 2, m0, m', (.inl none), G, l, [], true) m5 25 [(0, vR_ (some t)), (1, vI_ i0)] [] := by
    intro m5 h
    have h := (e22 m5).symm.trans h
    refine a_aload_n 0 dX8_opensOne_25 rfl rfl ?_
    obtain ⟨v8, m6, e7, h⟩ := bm_some h
    have he7 := e_X8_fine (G := G) hl ht e7
    refine c_I he7.1 (rn_V (n := 0) (As := []) kc_8 ht he7 (lw_V q1752 q1754 qs34 q97 q1755) (by decide +kernel) rfl (Nat.le_of_ble_eq_true rfl) (Nat.le_of_ble_eq_true rfl) (Nat.le_of_ble_eq_true rfl) dX8_opensOne_26) (fun z => (os_av (As := []) z).2.1) ?_
    obtain ⟨k9, e16, h⟩ := jn1_some h
    have hk9 : ∀  (m10 : pm_M), k9 m10 = some (r, m') → AW_ cX8_opensOne RX8 (none, "opensOne", 3, 2, m0, m', (.inl none), G, l, [], true) m10 42 [(0, vR_ (some t))] [] := by
      intro m10 h
      have h := (e16 m10).symm.trans h
      refine a_aload_n 0 dX8_opensOne_42 rfl rfl ?_
      refine a_dup dX8_opensOne_43 rfl ?_
      refine a_getI kc_8 7 (by decide) rfl ht q1561 dX8_opensOne_44 ?_
      refine a_iconst (v := 1) dX8_opensOne_47 (by decide) ?_
      refine a_iadd dX8_opensOne_48 ?_
      obtain ⟨m11, e12, h⟩ := lt_some h
      refine a_putI kc_8 7 (by decide) rfl ht q1561 rfl rfl rfl dX8_opensOne_49 ?_
      rw [← e12]
      cases h
      exact a_return rfl rfl rfl rfl dX8_opensOne_52
    refine a_if_eq (tgt := 42) dX8_opensOne_29 (by decide) (fun c13 => ?_) (fun c13 => ?_)
    · replace h := ifp_ c13 h
      refine aw_pick [0] rfl ?_
      exact hk9 _ h
    · replace h := ifn_ c13 h
      refine a_aload_n 0 dX8_opensOne_32 rfl rfl ?_
      refine a_dup dX8_opensOne_33 rfl ?_
      refine a_getI kc_8 4 (by decide) rfl ht q1558 dX8_opensOne_34 ?_
      refine a_iload_n 1 dX8_opensOne_37 rfl rfl ?_
      refine a_iadd dX8_opensOne_38 ?_
      obtain ⟨m14, e15, h⟩ := lt_some h
      refine a_putI kc_8 4 (by decide) rfl ht q1558 rfl rfl rfl dX8_opensOne_39 ?_
      rw [← e15]
      refine aw_pick [0] rfl ?_
      exact hk9 _ h
  refine a_if_eq (tgt := 25) dX8_opensOne_4 (by decide) (fun c17 => ?_) (fun c17 => ?_)
  · replace h := ifp_ c17 h
    exact hk4 _ h
  · replace h := ifn_ c17 h
    refine a_aload_n 0 dX8_opensOne_7 rfl rfl ?_
    refine a_getI kc_8 7 (by decide) rfl ht q1561 dX8_opensOne_8 ?_
    refine a_bipush (v := 6) dX8_opensOne_11 (by decide) ?_
    refine a_icmp_ne (tgt := 25) dX8_opensOne_13 (by decide) (fun c18 => ?_) (fun c18 => ?_)
    · replace h := ifn_ c18 h
      exact hk4 _ h
    · replace h := ifp_ c18 h
      refine a_aload_n 0 dX8_opensOne_16 rfl rfl ?_
      refine a_iconst (v := 3) dX8_opensOne_17 (by decide) ?_
      refine a_aload_n 0 dX8_opensOne_18 rfl rfl ?_
      refine a_getI kc_8 4 (by decide) rfl ht q1558 dX8_opensOne_19 ?_
      obtain ⟨v21, m19, e20, h⟩ := bm_some h
      have he20 := e_X8_wrong (G := G) hl ht e20
      refine c_V he20.1 (rn_V (n := 2) (As := [vI_ 3, vI_ (gI_ m1 t 4)]) kc_8 ht he20 (lw_V q1788 q1790 qs39 q97 q1791) (by decide +kernel) rfl (Nat.le_of_ble_eq_true rfl) (Nat.le_of_ble_eq_true rfl) (Nat.le_of_ble_eq_true rfl) dX8_opensOne_22) (fun z => (os_av (As := [vI_ 3, vI_ (gI_ m1 t 4)]) z).2.1) ?_
      exact hk4 _ h
def f_X8_emit (F : Nat)  (t : pm_A) (i0 : Int32) (i1 : Int32) (m : pm_M) : Option (Unit × pm_M) :=
  bm_ (f_X8_fine F t m) fun v3 m1 =>
  if v3 = 0 then
    some ((), m1)
  else
    gd_ 100 (gR_ m1 t 21) fun a5 =>
    iz_ (!(ib_ (gI_ m1 t 27) a5.2.1)) <|
    lt_ (pI_ m1 a5 ((gI_ m1 t 27).toNatClampNeg) i0) fun m9 =>
    gd_ 100 (gR_ m9 t 22) fun a11 =>
    iz_ (!(ib_ (gI_ m9 t 27) a11.2.1)) <|
    lt_ (pI_ m9 a11 ((gI_ m9 t 27).toNatClampNeg) i1) fun m15 =>
    lt_ (pI_ m15 t 27 ((gI_ m15 t 27) + 1)) fun m17 =>
    some ((), m17)
set_option maxHeartbeats 4000000 in
theorem e_X8_emit {G : xg_T} {l : Launch} (hl : l.stackTraces = false) {F : Nat}    {t : pm_A} {i0 : Int32} {i1 : Int32} {m0 m' : pm_M} {r : Unit} (ht : t.1 = 8) (h : f_X8_emit F t i0 i1 m0 = some (r, m')) : Cal_ G l yX8_emit (ws_ yX8_emit cX8_emit 3 none) 3 [vR_ (some t), vI_ i0, vI_ i1] m0 (.inl none) m' := by
  refine cal_of (by decide +kernel) (Nat.le_of_ble_eq_true rfl) ?_
  unfold f_X8_emit at h
  show AW_ cX8_emit RX8 (none, "emit", 3, 3, m0, m', (.inl none), G, l, [], true) m0 0 [(0, vR_ (some t)), (1, vI_ i0), (2, vI_ i1)] []
  refine a_aload_n 0 dX8_emit_0 rfl rfl ?_
  obtain ⟨v3, m1, e2, h⟩ := bm_some h
  have he2 := e_X8_fine (G := G) hl ht e2
  refine c_I he2.1 (rn_V (n := 0) (As := []) kc_8 ht he2 (lw_V q1752 q1754 qs34 q97 q1755) (by decide +kernel) rfl (Nat.le_of_ble_eq_true rfl) (Nat.le_of_ble_eq_true rfl) (Nat.le_of_ble_eq_true rfl) dX8_emit_1) (fun z => (os_av (As := []) z).2.1) ?_
  refine a_if_ne (tgt := 8) dX8_emit_4 (by decide) (fun c4 => ?_) (fun c4 => ?_)
  · replace h := ifn_ c4 h
    refine a_aload_n 0 dX8_emit_8 rfl rfl ?_
    refine a_getR kc_8 21 (by decide) rfl ht q1575 dX8_emit_9 ?_
    refine a_aload_n 0 dX8_emit_12 rfl rfl ?_
    refine a_getI kc_8 27 (by decide) rfl ht q1581 dX8_emit_13 ?_
    refine a_iload_n 1 dX8_emit_16 rfl rfl ?_
    obtain ⟨a5, e6, f7, h⟩ := gd_some h
    rw [e6]
    obtain ⟨c8, h⟩ := iz_some h
    obtain ⟨m9, e10, h⟩ := lt_some h
    refine a_iast f7 (bn_ c8) dX8_emit_17 ?_
    rw [← e10]
    refine a_aload_n 0 dX8_emit_18 rfl rfl ?_
    refine a_getR kc_8 22 (by decide) rfl ht q1576 dX8_emit_19 ?_
    refine a_aload_n 0 dX8_emit_22 rfl rfl ?_
    refine a_getI kc_8 27 (by decide) rfl ht q1581 dX8_emit_23 ?_
    refine a_iload_n 2 dX8_emit_26 rfl rfl ?_
    obtain ⟨a11, e12, f13, h⟩ := gd_some h
    rw [e12]
    obtain ⟨c14, h⟩ := iz_some h
    obtain ⟨m15, e16, h⟩ := lt_some h
    refine a_iast f13 (bn_ c14) dX8_emit_27 ?_
    rw [← e16]
    refine a_aload_n 0 dX8_emit_28 rfl rfl ?_
    refine a_dup dX8_emit_29 rfl ?_
    refine a_getI kc_8 27 (by decide) rfl ht q1581 dX8_emit_30 ?_
    refine a_iconst (v := 1) dX8_emit_33 (by decide) ?_
    refine a_iadd dX8_emit_34 ?_
    obtain ⟨m17, e18, h⟩ := lt_some h
    refine a_putI kc_8 27 (by decide) rfl ht q1581 rfl rfl rfl dX8_emit_35 ?_
    rw [← e18]
    cases h
    exact a_return rfl rfl rfl rfl dX8_emit_38
  · replace h := ifp_ c4 h
    cases h
    exact a_return rfl rfl rfl rfl dX8_emit_7
def f_X8_factHere (F : Nat)  (t : pm_A) (m : pm_M) : Option (Int32 × pm_M) :=
  bm_ (f_X8_word F t m) fun v3 m1 =>
  bm_ (f_X8_of F (some ((200, 0, 22))) m1) fun v6 m4 =>
  if v3 = v6 then
    some (0, m4)
  else
    bm_ (f_X8_of F (some ((200, 0, 1))) m4) fun v10 m8 =>
    if v3 = v10 then
      some (1, m8)
    else
      bm_ (f_X8_of F (some ((200, 0, 19))) m8) fun v14 m12 =>
      if v3 = v14 then
        some (2, m12)
      else
        bm_ (f_X8_of F (some ((200, 0, 4))) m12) fun v18 m16 =>
        if v3 = v18 then
          some (3, m16)
        else
          bm_ (f_X8_of F (some ((200, 0, 5))) m16) fun v22 m20 =>
          if v3 = v22 then
            some (4, m20)
          else
            bm_ (f_X8_of F (some ((200, 0, 10))) m20) fun v26 m24 =>
            if v3 = v26 then
              some (5, m24)
            else
              bm_ (f_X8_of F (some ((200, 0, 14))) m24) fun v30 m28 =>
              if v3 = v30 then
                some (6, m28)
              else
                bm_ (f_X8_of F (some ((200, 0, 21))) m28) fun v34 m32 =>
                if v3 = v34 then
                  some (7, m32)
                else
                  some (((-1)), m32)
set_option maxHeartbeats 4000000 in
theorem e_X8_factHere {G : xg_T} {l : Launch} (hl : l.stackTraces = false) {F : Nat}    {t : pm_A} {m0 m' : pm_M} {r : Int32} (ht : t.1 = 8) (h : f_X8_factHere F t m0 = some (r, m')) : Cal_ G l yX8_factHere (ws_ yX8_factHere cX8_factHere 2 (some .int)) 7 [vR_ (some t)] m0 (.inl (some (vI_ r))) m' := by
  refine cal_of (by decide +kernel) (Nat.le_of_ble_eq_true rfl) ?_
  unfold f_X8_factHere at h
  show AW_ cX8_factHere RX8 (some (.int), "factHere", 7, 2, m0, m', (.inl (some (vI_ r))), G, l, [], true) m0 0 [(0, vR_ (some t))] []
  refine a_aload_n 0 dX8_factHere_0 rfl rfl ?_
  obtain ⟨v3, m1, e2, h⟩ := bm_some h
  have he2 := e_X8_word (G := G) hl ht e2
  refine c_I he2.1 (rn_V (n := 0) (As := []) kc_8 ht he2 (lw_V q1774 q1776 qs38 q97 q1777) (by decide +kernel) rfl (Nat.le_of_ble_eq_true rfl) (Nat.le_of_ble_eq_true rfl) (Nat.le_of_ble_eq_true rfl) dX8_factHere_1) (fun z => (os_av (As := []) z).2.1) ?_
  refine a_istore_n (ls' := [(1, vI_ v3), (0, vR_ (some t))]) dX8_factHere_4 rfl (Nat.le_of_ble_eq_true rfl) rfl ?_
  refine a_iload_n 0 dX8_factHere_5 rfl rfl ?_
  refine a_ldcSW (n := 22) (tx := "years") (by decide +kernel) (by decide) dX8_factHere_6 ?_
  obtain ⟨v6, m4, e5, h⟩ := bm_some h
  have he5 := e_X8_of (G := G) hl e5
  refine c_I he5.1 (rn_S (n := 1) (As := [vR_ (some ((200, 0, 22)))]) he5 (lw_S q1782 q1783 q97 q1784) (by decide +kernel) rfl (Nat.le_of_ble_eq_true rfl) (Nat.le_of_ble_eq_true rfl) (Nat.le_of_ble_eq_true rfl) dX8_factHere_9) (fun z => (os_aS (As := [vR_ (some ((200, 0, 22)))]) z).2) ?_
  refine a_icmp_ne (tgt := 19) dX8_factHere_12 (by decide) (fun c7 => ?_) (fun c7 => ?_)
  · replace h := ifn_ c7 h
    refine a_iload_n 0 dX8_factHere_19 rfl rfl ?_
    refine a_ldcSW (n := 1) (tx := "added") (by decide +kernel) (by decide) dX8_factHere_20 ?_
    obtain ⟨v10, m8, e9, h⟩ := bm_some h
    have he9 := e_X8_of (G := G) hl e9
    refine c_I he9.1 (rn_S (n := 1) (As := [vR_ (some ((200, 0, 1)))]) he9 (lw_S q1782 q1783 q97 q1784) (by decide +kernel) rfl (Nat.le_of_ble_eq_true rfl) (Nat.le_of_ble_eq_true rfl) (Nat.le_of_ble_eq_true rfl) dX8_factHere_23) (fun z => (os_aS (As := [vR_ (some ((200, 0, 1)))]) z).2) ?_
    refine a_icmp_ne (tgt := 33) dX8_factHere_26 (by decide) (fun c11 => ?_) (fun c11 => ?_)
    · replace h := ifn_ c11 h
      refine a_iload_n 0 dX8_factHere_33 rfl rfl ?_
      refine a_ldcSW (n := 19) (tx := "trade") (by decide +kernel) (by decide) dX8_factHere_34 ?_
      obtain ⟨v14, m12, e13, h⟩ := bm_some h
      have he13 := e_X8_of (G := G) hl e13
      refine c_I he13.1 (rn_S (n := 1) (As := [vR_ (some ((200, 0, 19)))]) he13 (lw_S q1782 q1783 q97 q1784) (by decide +kernel) rfl (Nat.le_of_ble_eq_true rfl) (Nat.le_of_ble_eq_true rfl) (Nat.le_of_ble_eq_true rfl) dX8_factHere_37) (fun z => (os_aS (As := [vR_ (some ((200, 0, 19)))]) z).2) ?_
      refine a_icmp_ne (tgt := 47) dX8_factHere_40 (by decide) (fun c15 => ?_) (fun c15 => ?_)
      · replace h := ifn_ c15 h
        refine a_iload_n 0 dX8_factHere_47 rfl rfl ?_
        refine a_ldcSW (n := 4) (tx := "hungry") (by decide +kernel) (by decide) dX8_factHere_48 ?_
        obtain ⟨v18, m16, e17, h⟩ := bm_some h
        have he17 := e_X8_of (G := G) hl e17
        refine c_I he17.1 (rn_S (n := 1) (As := [vR_ (some ((200, 0, 4)))]) he17 (lw_S q1782 q1783 q97 q1784) (by decide +kernel) rfl (Nat.le_of_ble_eq_true rfl) (Nat.le_of_ble_eq_true rfl) (Nat.le_of_ble_eq_true rfl) dX8_factHere_51) (fun z => (os_aS (As := [vR_ (some ((200, 0, 4)))]) z).2) ?_
        refine a_icmp_ne (tgt := 61) dX8_factHere_54 (by decide) (fun c19 => ?_) (fun c19 => ?_)
        · replace h := ifn_ c19 h
          refine a_iload_n 0 dX8_factHere_61 rfl rfl ?_
          refine a_ldcSW (n := 5) (tx := "kin") (by decide +kernel) (by decide) dX8_factHere_62 ?_
          obtain ⟨v22, m20, e21, h⟩ := bm_some h
          have he21 := e_X8_of (G := G) hl e21
          refine c_I he21.1 (rn_S (n := 1) (As := [vR_ (some ((200, 0, 5)))]) he21 (lw_S q1782 q1783 q97 q1784) (by decide +kernel) rfl (Nat.le_of_ble_eq_true rfl) (Nat.le_of_ble_eq_true rfl) (Nat.le_of_ble_eq_true rfl) dX8_factHere_65) (fun z => (os_aS (As := [vR_ (some ((200, 0, 5)))]) z).2) ?_
          refine a_icmp_ne (tgt := 75) dX8_factHere_68 (by decide) (fun c23 => ?_) (fun c23 => ?_)
          · replace h := ifn_ c23 h
            refine a_iload_n 0 dX8_factHere_75 rfl rfl ?_
            refine a_ldcSW (n := 10) (tx := "lost") (by decide +kernel) (by decide) dX8_factHere_76 ?_
            obtain ⟨v26, m24, e25, h⟩ := bm_some h
            have he25 := e_X8_of (G := G) hl e25
            refine c_I he25.1 (rn_S (n := 1) (As := [vR_ (some ((200, 0, 10)))]) he25 (lw_S q1782 q1783 q97 q1784) (by decide +kernel) rfl (Nat.le_of_ble_eq_true rfl) (Nat.le_of_ble_eq_true rfl) (Nat.le_of_ble_eq_true rfl) dX8_factHere_79) (fun z => (os_aS (As := [vR_ (some ((200, 0, 10)))]) z).2) ?_
            refine a_icmp_ne (tgt := 89) dX8_factHere_82 (by decide) (fun c27 => ?_) (fun c27 => ?_)
            · replace h := ifn_ c27 h
              refine a_iload_n 0 dX8_factHere_89 rfl rfl ?_
              refine a_ldcSW (n := 14) (tx := "placed") (by decide +kernel) (by decide) dX8_factHere_90 ?_
              obtain ⟨v30, m28, e29, h⟩ := bm_some h
              have he29 := e_X8_of (G := G) hl e29
              refine c_I he29.1 (rn_S (n := 1) (As := [vR_ (some ((200, 0, 14)))]) he29 (lw_S q1782 q1783 q97 q1784) (by decide +kernel) rfl (Nat.le_of_ble_eq_true rfl) (Nat.le_of_ble_eq_true rfl) (Nat.le_of_ble_eq_true rfl) dX8_factHere_93) (fun z => (os_aS (As := [vR_ (some ((200, 0, 14)))]) z).2) ?_
              refine a_icmp_ne (tgt := 104) dX8_factHere_96 (by decide) (fun c31 => ?_) (fun c31 => ?_)
              · replace h := ifn_ c31 h
                refine a_iload_n 0 dX8_factHere_104 rfl rfl ?_
                refine a_ldcSW (n := 21) (tx := "week") (by decide +kernel) (by decide) dX8_factHere_105 ?_
                obtain ⟨v34, m32, e33, h⟩ := bm_some h
                have he33 := e_X8_of (G := G) hl e33
                refine c_I he33.1 (rn_S (n := 1) (As := [vR_ (some ((200, 0, 21)))]) he33 (lw_S q1782 q1783 q97 q1784) (by decide +kernel) rfl (Nat.le_of_ble_eq_true rfl) (Nat.le_of_ble_eq_true rfl) (Nat.le_of_ble_eq_true rfl) dX8_factHere_108) (fun z => (os_aS (As := [vR_ (some ((200, 0, 21)))]) z).2) ?_
                refine a_icmp_ne (tgt := 119) dX8_factHere_111 (by decide) (fun c35 => ?_) (fun c35 => ?_)
                · replace h := ifn_ c35 h
                  refine a_iconst (v := (-1)) dX8_factHere_119 (by decide) ?_
                  cases h
                  exact a_ireturn rfl rfl rfl rfl rfl dX8_factHere_120
                · replace h := ifp_ c35 h
                  refine a_bipush (v := 7) dX8_factHere_114 (by decide) ?_
                  refine a_goto (tgt := 120) dX8_factHere_116 (by decide) ?_
                  cases h
                  exact a_ireturn rfl rfl rfl rfl rfl dX8_factHere_120
              · replace h := ifp_ c31 h
                refine a_bipush (v := 6) dX8_factHere_99 (by decide) ?_
                refine a_goto (tgt := 120) dX8_factHere_101 (by decide) ?_
                cases h
                exact a_ireturn rfl rfl rfl rfl rfl dX8_factHere_120
            · replace h := ifp_ c27 h
              refine a_iconst (v := 5) dX8_factHere_85 (by decide) ?_
              refine a_goto (tgt := 120) dX8_factHere_86 (by decide) ?_
              cases h
              exact a_ireturn rfl rfl rfl rfl rfl dX8_factHere_120
          · replace h := ifp_ c23 h
            refine a_iconst (v := 4) dX8_factHere_71 (by decide) ?_
            refine a_goto (tgt := 120) dX8_factHere_72 (by decide) ?_
            cases h
            exact a_ireturn rfl rfl rfl rfl rfl dX8_factHere_120
        · replace h := ifp_ c19 h
          refine a_iconst (v := 3) dX8_factHere_57 (by decide) ?_
          refine a_goto (tgt := 120) dX8_factHere_58 (by decide) ?_
          cases h
          exact a_ireturn rfl rfl rfl rfl rfl dX8_factHere_120
      · replace h := ifp_ c15 h
        refine a_iconst (v := 2) dX8_factHere_43 (by decide) ?_
        refine a_goto (tgt := 120) dX8_factHere_44 (by decide) ?_
        cases h
        exact a_ireturn rfl rfl rfl rfl rfl dX8_factHere_120
    · replace h := ifp_ c11 h
      refine a_iconst (v := 1) dX8_factHere_29 (by decide) ?_
      refine a_goto (tgt := 120) dX8_factHere_30 (by decide) ?_
      cases h
      exact a_ireturn rfl rfl rfl rfl rfl dX8_factHere_120
  · replace h := ifp_ c7 h
    refine a_iconst (v := 0) dX8_factHere_15 (by decide) ?_
    refine a_goto (tgt := 120) dX8_factHere_16 (by decide) ?_
    cases h
    exact a_ireturn rfl rfl rfl rfl rfl dX8_factHere_120
