/-! PRINTED BY dec.py: J4_coder J4_length J4_isLatin1 J5_charAt J4_charAt J8_min J8_max J9_bitCount X1_within X10_init X1_reader X6_init X9_init X10_byteAt X10_now X10_place X10_isSmall X10_isWord X10_which X11_init X10_skipsWord X10_isDigit X10_number X9_signer X9_taker X10_sign -/
set_option maxRecDepth 100000
def f_J4_coder (F : Nat)  (t : pm_A) (m : pm_M) : Option (Int32 × pm_M) :=
  if (1 : Int32) = 0 then
    some (1, m)
  else
    some (0, m)
set_option maxHeartbeats 4000000 in
theorem e_J4_coder {G : xg_T} {l : Launch} (hl : l.stackTraces = false) {F : Nat}    {t : pm_A} {m0 m' : pm_M} {r : Int32} (ht : t.1 = 200) (h : f_J4_coder F t m0 = some (r, m')) : Cal_ G l yJ4_coder (ws_ yJ4_coder cJ4_coder 1 (some .byte)) 2 [vR_ (some t)] m0 (.inl (some (vI_ r))) m' := by
  refine cal_of (by decide +kernel) (Nat.le_of_ble_eq_true rfl) ?_
  unfold f_J4_coder at h
  show AW_ cJ4_coder RJ4 (some (.byte), "coder", 2, 1, m0, m', (.inl (some (vI_ r))), G, l, [], true) m0 0 [(0, vR_ (some t))] []
  refine a_gsC q741 dJ4_coder_0 ?_
  refine a_if_eq (tgt := 13) dJ4_coder_3 (by decide) (fun c1 => ?_) (fun c1 => ?_)
  · replace h := ifp_ c1 h
    refine a_iconst (v := 1) dJ4_coder_13 (by decide) ?_
    cases h
    exact a_ireturn rfl rfl rfl rfl rfl dJ4_coder_14
  · replace h := ifn_ c1 h
    refine a_aload_n 0 dJ4_coder_6 rfl rfl ?_
    refine a_getSC ht q2228 dJ4_coder_7 ?_
    refine a_goto (tgt := 14) dJ4_coder_10 (by decide) ?_
    cases h
    exact a_ireturn rfl rfl rfl rfl rfl dJ4_coder_14
def f_J4_length (F : Nat)  (t : pm_A) (m : pm_M) : Option (Int32 × pm_M) :=
  bm_ (f_J4_coder F t m) fun v3 m1 =>
  some (((Int32.ofNat (sn_.getD ((202, 0, t.2.2)).2.2 0)) >>> (v3 &&& 31)), m1)
set_option maxHeartbeats 4000000 in
theorem e_J4_length {G : xg_T} {l : Launch} (hl : l.stackTraces = false) {F : Nat}    {t : pm_A} {m0 m' : pm_M} {r : Int32} (ht : t.1 = 200) (h : f_J4_length F t m0 = some (r, m')) : Cal_ G l yJ4_length (ws_ yJ4_length cJ4_length 1 (some .int)) 3 [vR_ (some t)] m0 (.inl (some (vI_ r))) m' := by
  refine cal_of (by decide +kernel) (Nat.le_of_ble_eq_true rfl) ?_
  unfold f_J4_length at h
  show AW_ cJ4_length RJ4 (some (.int), "length", 3, 1, m0, m', (.inl (some (vI_ r))), G, l, [], true) m0 0 [(0, vR_ (some t))] []
  refine a_aload_n 0 dJ4_length_0 rfl rfl ?_
  refine a_getSV ht q2227 dJ4_length_1 ?_
  refine a_slen rfl dJ4_length_4 ?_
  refine a_aload_n 0 dJ4_length_5 rfl rfl ?_
  obtain ⟨v3, m1, e2, h⟩ := bm_some h
  have he2 := e_J4_coder (G := G) hl ht e2
  refine c_I he2.1 (rn_VT (n := 0) (As := []) ht he2 (lw_V q737 q738 q739 q104 q740) (by decide +kernel) rfl (Nat.le_of_ble_eq_true rfl) (Nat.le_of_ble_eq_true rfl) (Nat.le_of_ble_eq_true rfl) dJ4_length_6) (fun z => (os_av (As := []) z).2.1) ?_
  refine a_ishr dJ4_length_9 ?_
  cases h
  exact a_ireturn rfl rfl rfl rfl rfl dJ4_length_10
def f_J4_isLatin1 (F : Nat)  (t : pm_A) (m : pm_M) : Option (Int32 × pm_M) :=
  if (1 : Int32) = 0 then
    some (0, m)
  else
    if (0 : Int32) = 0 then
      some (1, m)
    else
      some (0, m)
set_option maxHeartbeats 4000000 in
theorem e_J4_isLatin1 {G : xg_T} {l : Launch} (hl : l.stackTraces = false) {F : Nat}    {t : pm_A} {m0 m' : pm_M} {r : Int32} (ht : t.1 = 200) (h : f_J4_isLatin1 F t m0 = some (r, m')) : Cal_ G l yJ4_isLatin1 (ws_ yJ4_isLatin1 cJ4_isLatin1 1 (some .boolean)) 2 [vR_ (some t)] m0 (.inl (some (vI_ r))) m' := by
  refine cal_of (by decide +kernel) (Nat.le_of_ble_eq_true rfl) ?_
  unfold f_J4_isLatin1 at h
  show AW_ cJ4_isLatin1 RJ4 (some (.boolean), "isLatin1", 2, 1, m0, m', (.inl (some (vI_ r))), G, l, [], true) m0 0 [(0, vR_ (some t))] []
  refine a_gsC q741 dJ4_isLatin1_0 ?_
  refine a_if_eq (tgt := 17) dJ4_isLatin1_3 (by decide) (fun c1 => ?_) (fun c1 => ?_)
  · replace h := ifp_ c1 h
    refine a_iconst (v := 0) dJ4_isLatin1_17 (by decide) ?_
    cases h
    exact a_ireturn rfl rfl rfl rfl rfl dJ4_isLatin1_18
  · replace h := ifn_ c1 h
    refine a_aload_n 0 dJ4_isLatin1_6 rfl rfl ?_
    refine a_getSC ht q2228 dJ4_isLatin1_7 ?_
    refine a_if_ne (tgt := 17) dJ4_isLatin1_10 (by decide) (fun c2 => ?_) (fun c2 => ?_)
    · replace h := ifn_ c2 h
      refine a_iconst (v := 0) dJ4_isLatin1_17 (by decide) ?_
      cases h
      exact a_ireturn rfl rfl rfl rfl rfl dJ4_isLatin1_18
    · replace h := ifp_ c2 h
      refine a_iconst (v := 1) dJ4_isLatin1_13 (by decide) ?_
      refine a_goto (tgt := 18) dJ4_isLatin1_14 (by decide) ?_
      cases h
      exact a_ireturn rfl rfl rfl rfl rfl dJ4_isLatin1_18
def f_J5_charAt (F : Nat)  (i0 : Option pm_A) (i1 : Int32) (m : pm_M) : Option (Int32 × pm_M) :=
  gd_ 101 i0 fun a1 =>
  bm_ (f_J4_checkIndex F i1 (Int32.ofNat a1.2.1) m) fun v6 m4 =>
  iz_ (!(ib_ i1 a1.2.1)) <|
  iz_ (!(nr_ .char ((((gI_ m4 a1 i1.toNatClampNeg) &&& 255).toUInt32 % 65536).toInt32))) <|
  some (((((gI_ m4 a1 i1.toNatClampNeg) &&& 255).toUInt32 % 65536).toInt32), m4)
set_option maxHeartbeats 4000000 in
theorem e_J5_charAt {G : xg_T} {l : Launch} (hl : l.stackTraces = false) {F : Nat}    {i0 : Option pm_A} {i1 : Int32} {m0 m' : pm_M} {r : Int32} (h : f_J5_charAt F i0 i1 m0 = some (r, m')) : Cal_ G l yJ5_charAt (ws_ yJ5_charAt cJ5_charAt 2 (some .char)) 4 [vR_ i0, vI_ i1] m0 (.inl (some (vI_ r))) m' := by
  refine cal_of (by decide +kernel) (Nat.le_of_ble_eq_true rfl) ?_
  unfold f_J5_charAt at h
  show AW_ cJ5_charAt RJ5 (some (.char), "charAt", 4, 2, m0, m', (.inl (some (vI_ r))), G, l, [], true) m0 0 [(0, vR_ i0), (1, vI_ i1)] []
  refine a_iload_n 1 dJ5_charAt_0 rfl rfl ?_
  refine a_aload_n 0 dJ5_charAt_1 rfl rfl ?_
  obtain ⟨a1, e2, f3, h⟩ := gd_some h
  rw [e2]
  refine a_alen (by rw [f3]; decide) (by rw [f3]; decide) dJ5_charAt_2 ?_
  obtain ⟨v6, m4, e5, h⟩ := bm_some h
  have he5 := e_J4_checkIndex (G := G) hl e5
  refine c_V he5.1 (rn_S (n := 2) (As := [vI_ i1, vI_ (Int32.ofNat a1.2.1)]) he5 (lw_S q754 q755 q104 q756) (by decide +kernel) rfl (Nat.le_of_ble_eq_true rfl) (Nat.le_of_ble_eq_true rfl) (Nat.le_of_ble_eq_true rfl) dJ5_charAt_3) (fun z => (os_aS (As := [vI_ i1, vI_ (Int32.ofNat a1.2.1)]) z).2) ?_
  refine a_aload_n 0 dJ5_charAt_6 rfl rfl ?_
  refine a_iload_n 1 dJ5_charAt_7 rfl rfl ?_
  obtain ⟨c7, h⟩ := iz_some h
  refine a_bald f3 (bn_ c7) dJ5_charAt_8 ?_
  refine a_sipush (v := 255) dJ5_charAt_9 (by decide) ?_
  refine a_iand dJ5_charAt_12 ?_
  refine a_i2c dJ5_charAt_13 ?_
  obtain ⟨c8, h⟩ := iz_some h
  cases h
  exact a_ireturn rfl (nr_ok (bn_ c8)) rfl rfl rfl dJ5_charAt_14
def f_J4_charAt (F : Nat)  (t : pm_A) (i0 : Int32) (m : pm_M) : Option (Int32 × pm_M) :=
  bm_ (f_J4_isLatin1 F t m) fun v3 m1 =>
  if v3 = 0 then
    none
  else
    bm_ (f_J5_charAt F (some ((202, 0, t.2.2))) i0 m1) fun v7 m5 =>
    iz_ (!(nr_ .char v7)) <|
    some (v7, m5)
set_option maxHeartbeats 4000000 in
theorem e_J4_charAt {G : xg_T} {l : Launch} (hl : l.stackTraces = false) {F : Nat}    {t : pm_A} {i0 : Int32} {m0 m' : pm_M} {r : Int32} (ht : t.1 = 200) (h : f_J4_charAt F t i0 m0 = some (r, m')) : Cal_ G l yJ4_charAt (ws_ yJ4_charAt cJ4_charAt 2 (some .char)) 5 [vR_ (some t), vI_ i0] m0 (.inl (some (vI_ r))) m' := by
  refine cal_of (by decide +kernel) (Nat.le_of_ble_eq_true rfl) ?_
  unfold f_J4_charAt at h
  show AW_ cJ4_charAt RJ4 (some (.char), "charAt", 5, 2, m0, m', (.inl (some (vI_ r))), G, l, [], true) m0 0 [(0, vR_ (some t)), (1, vI_ i0)] []
  refine a_aload_n 0 dJ4_charAt_0 rfl rfl ?_
  obtain ⟨v3, m1, e2, h⟩ := bm_some h
  have he2 := e_J4_isLatin1 (G := G) hl ht e2
  refine c_I he2.1 (rn_VT (n := 0) (As := []) ht he2 (lw_V q747 q748 q749 q104 q750) (by decide +kernel) rfl (Nat.le_of_ble_eq_true rfl) (Nat.le_of_ble_eq_true rfl) (Nat.le_of_ble_eq_true rfl) dJ4_charAt_1) (fun z => (os_av (As := []) z).2.1) ?_
  refine a_if_eq (tgt := 16) dJ4_charAt_4 (by decide) (fun c4 => ?_) (fun c4 => ?_)
  · replace h := ifp_ c4 h
    refine a_aload_n 0 dJ4_charAt_16 rfl rfl ?_
    refine a_getSV ht q2227 dJ4_charAt_17 ?_
    refine a_iload_n 1 dJ4_charAt_20 rfl rfl ?_
    cases h
  · replace h := ifn_ c4 h
    refine a_aload_n 0 dJ4_charAt_7 rfl rfl ?_
    refine a_getSV ht q2227 dJ4_charAt_8 ?_
    refine a_iload_n 1 dJ4_charAt_11 rfl rfl ?_
    obtain ⟨v7, m5, e6, h⟩ := bm_some h
    have he6 := e_J5_charAt (G := G) hl e6
    refine c_I he6.1 (rn_S (n := 2) (As := [vR_ (some ((202, 0, t.2.2))), vI_ i0]) he6 (lw_S q751 q752 q105 q753) (by decide +kernel) rfl (Nat.le_of_ble_eq_true rfl) (Nat.le_of_ble_eq_true rfl) (Nat.le_of_ble_eq_true rfl) dJ4_charAt_12) (fun z => (os_aS (As := [vR_ (some ((202, 0, t.2.2))), vI_ i0]) z).2) ?_
    obtain ⟨c8, h⟩ := iz_some h
    cases h
    exact a_ireturn rfl (nr_ok (bn_ c8)) rfl rfl rfl dJ4_charAt_15
def f_J8_min (F : Nat)  (i0 : Int32) (i1 : Int32) (m : pm_M) : Option (Int32 × pm_M) :=
  if i1 < i0 then
    some (i1, m)
  else
    some (i0, m)
set_option maxHeartbeats 4000000 in
theorem e_J8_min {G : xg_T} {l : Launch} (hl : l.stackTraces = false) {F : Nat}    {i0 : Int32} {i1 : Int32} {m0 m' : pm_M} {r : Int32} (h : f_J8_min F i0 i1 m0 = some (r, m')) : Cal_ G l yJ8_min (ws_ yJ8_min cJ8_min 2 (some .int)) 2 [vI_ i0, vI_ i1] m0 (.inl (some (vI_ r))) m' := by
  refine cal_ofF (by decide +kernel) (Nat.le_of_ble_eq_true rfl) ?_
  unfold f_J8_min at h
  show AW_ cJ8_min RJ8 (some (.int), "min", 2, 2, m0, m', (.inl (some (vI_ r))), G, l, [], true) m0 0 [(0, vI_ i0), (1, vI_ i1)] []
  refine a_iload_n 0 dJ8_min_0 rfl rfl ?_
  refine a_iload_n 1 dJ8_min_1 rfl rfl ?_
  refine a_icmp_gt (tgt := 9) dJ8_min_2 (by decide) (fun c1 => ?_) (fun c1 => ?_)
  · replace h := ifp_ c1 h
    refine a_iload_n 1 dJ8_min_9 rfl rfl ?_
    cases h
    exact a_ireturn rfl rfl rfl rfl rfl dJ8_min_10
  · replace h := ifn_ c1 h
    refine a_iload_n 0 dJ8_min_5 rfl rfl ?_
    refine a_goto (tgt := 10) dJ8_min_6 (by decide) ?_
    cases h
    exact a_ireturn rfl rfl rfl rfl rfl dJ8_min_10
def f_J8_max (F : Nat)  (i0 : Int32) (i1 : Int32) (m : pm_M) : Option (Int32 × pm_M) :=
  if i0 < i1 then
    some (i1, m)
  else
    some (i0, m)
set_option maxHeartbeats 4000000 in
theorem e_J8_max {G : xg_T} {l : Launch} (hl : l.stackTraces = false) {F : Nat}    {i0 : Int32} {i1 : Int32} {m0 m' : pm_M} {r : Int32} (h : f_J8_max F i0 i1 m0 = some (r, m')) : Cal_ G l yJ8_max (ws_ yJ8_max cJ8_max 2 (some .int)) 2 [vI_ i0, vI_ i1] m0 (.inl (some (vI_ r))) m' := by
  refine cal_ofF (by decide +kernel) (Nat.le_of_ble_eq_true rfl) ?_
  unfold f_J8_max at h
  show AW_ cJ8_max RJ8 (some (.int), "max", 2, 2, m0, m', (.inl (some (vI_ r))), G, l, [], true) m0 0 [(0, vI_ i0), (1, vI_ i1)] []
  refine a_iload_n 0 dJ8_max_0 rfl rfl ?_
  refine a_iload_n 1 dJ8_max_1 rfl rfl ?_
  refine a_icmp_lt (tgt := 9) dJ8_max_2 (by decide) (fun c1 => ?_) (fun c1 => ?_)
  · replace h := ifp_ c1 h
    refine a_iload_n 1 dJ8_max_9 rfl rfl ?_
    cases h
    exact a_ireturn rfl rfl rfl rfl rfl dJ8_max_10
  · replace h := ifn_ c1 h
    refine a_iload_n 0 dJ8_max_5 rfl rfl ?_
    refine a_goto (tgt := 10) dJ8_max_6 (by decide) ?_
    cases h
    exact a_ireturn rfl rfl rfl rfl rfl dJ8_max_10
def f_J9_bitCount (F : Nat)  (i0 : Int32) (m : pm_M) : Option (Int32 × pm_M) :=
  some (((((((((i0 - (((i0.toUInt32 >>> ((1 : Int32).toUInt32 &&& Int32.toUInt32 31)).toInt32) &&& 1431655765)) &&& 858993459) + ((((i0 - (((i0.toUInt32 >>> ((1 : Int32).toUInt32 &&& Int32.toUInt32 31)).toInt32) &&& 1431655765)).toUInt32 >>> ((2 : Int32).toUInt32 &&& Int32.toUInt32 31)).toInt32) &&& 858993459)) + (((((i0 - (((i0.toUInt32 >>> ((1 : Int32).toUInt32 &&& Int32.toUInt32 31)).toInt32) &&& 1431655765)) &&& 858993459) + ((((i0 - (((i0.toUInt32 >>> ((1 : Int32).toUInt32 &&& Int32.toUInt32 31)).toInt32) &&& 1431655765)).toUInt32 >>> ((2 : Int32).toUInt32 &&& Int32.toUInt32 31)).toInt32) &&& 858993459)).toUInt32 >>> ((4 : Int32).toUInt32 &&& Int32.toUInt32 31)).toInt32)) &&& 252645135) + (((((((i0 - (((i0.toUInt32 >>> ((1 : Int32).toUInt32 &&& Int32.toUInt32 31)).toInt32) &&& 1431655765)) &&& 858993459) + ((((i0 - (((i0.toUInt32 >>> ((1 : Int32).toUInt32 &&& Int32.toUInt32 31)).toInt32) &&& 1431655765)).toUInt32 >>> ((2 : Int32).toUInt32 &&& Int32.toUInt32 31)).toInt32) &&& 858993459)) + (((((i0 - (((i0.toUInt32 >>> ((1 : Int32).toUInt32 &&& Int32.toUInt32 31)).toInt32) &&& 1431655765)) &&& 858993459) + ((((i0 - (((i0.toUInt32 >>> ((1 : Int32).toUInt32 &&& Int32.toUInt32 31)).toInt32) &&& 1431655765)).toUInt32 >>> ((2 : Int32).toUInt32 &&& Int32.toUInt32 31)).toInt32) &&& 858993459)).toUInt32 >>> ((4 : Int32).toUInt32 &&& Int32.toUInt32 31)).toInt32)) &&& 252645135).toUInt32 >>> ((8 : Int32).toUInt32 &&& Int32.toUInt32 31)).toInt32)) + ((((((((i0 - (((i0.toUInt32 >>> ((1 : Int32).toUInt32 &&& Int32.toUInt32 31)).toInt32) &&& 1431655765)) &&& 858993459) + ((((i0 - (((i0.toUInt32 >>> ((1 : Int32).toUInt32 &&& Int32.toUInt32 31)).toInt32) &&& 1431655765)).toUInt32 >>> ((2 : Int32).toUInt32 &&& Int32.toUInt32 31)).toInt32) &&& 858993459)) + (((((i0 - (((i0.toUInt32 >>> ((1 : Int32).toUInt32 &&& Int32.toUInt32 31)).toInt32) &&& 1431655765)) &&& 858993459) + ((((i0 - (((i0.toUInt32 >>> ((1 : Int32).toUInt32 &&& Int32.toUInt32 31)).toInt32) &&& 1431655765)).toUInt32 >>> ((2 : Int32).toUInt32 &&& Int32.toUInt32 31)).toInt32) &&& 858993459)).toUInt32 >>> ((4 : Int32).toUInt32 &&& Int32.toUInt32 31)).toInt32)) &&& 252645135) + (((((((i0 - (((i0.toUInt32 >>> ((1 : Int32).toUInt32 &&& Int32.toUInt32 31)).toInt32) &&& 1431655765)) &&& 858993459) + ((((i0 - (((i0.toUInt32 >>> ((1 : Int32).toUInt32 &&& Int32.toUInt32 31)).toInt32) &&& 1431655765)).toUInt32 >>> ((2 : Int32).toUInt32 &&& Int32.toUInt32 31)).toInt32) &&& 858993459)) + (((((i0 - (((i0.toUInt32 >>> ((1 : Int32).toUInt32 &&& Int32.toUInt32 31)).toInt32) &&& 1431655765)) &&& 858993459) + ((((i0 - (((i0.toUInt32 >>> ((1 : Int32).toUInt32 &&& Int32.toUInt32 31)).toInt32) &&& 1431655765)).toUInt32 >>> ((2 : Int32).toUInt32 &&& Int32.toUInt32 31)).toInt32) &&& 858993459)).toUInt32 >>> ((4 : Int32).toUInt32 &&& Int32.toUInt32 31)).toInt32)) &&& 252645135).toUInt32 >>> ((8 : Int32).toUInt32 &&& Int32.toUInt32 31)).toInt32)).toUInt32 >>> ((16 : Int32).toUInt32 &&& Int32.toUInt32 31)).toInt32)) &&& 63), m)
set_option maxHeartbeats 4000000 in
theorem e_J9_bitCount {G : xg_T} {l : Launch} (hl : l.stackTraces = false) {F : Nat}    {i0 : Int32} {m0 m' : pm_M} {r : Int32} (h : f_J9_bitCount F i0 m0 = some (r, m')) : Cal_ G l yJ9_bitCount (ws_ yJ9_bitCount cJ9_bitCount 1 (some .int)) 2 [vI_ i0] m0 (.inl (some (vI_ r))) m' := by
  refine cal_of (by decide +kernel) (Nat.le_of_ble_eq_true rfl) ?_
  unfold f_J9_bitCount at h
  show AW_ cJ9_bitCount RJ9 (some (.int), "bitCount", 2, 1, m0, m', (.inl (some (vI_ r))), G, l, [], true) m0 0 [(0, vI_ i0)] []
  refine a_iload_n 0 dJ9_bitCount_0 rfl rfl ?_
  refine a_iload_n 0 dJ9_bitCount_1 rfl rfl ?_
  refine a_iconst (v := 1) dJ9_bitCount_2 (by decide) ?_
  refine a_iushr dJ9_bitCount_3 ?_
  refine a_ldcw (v := 1431655765) q485 dJ9_bitCount_4 ?_
  refine a_iand dJ9_bitCount_7 ?_
  refine a_isub dJ9_bitCount_8 ?_
  refine a_istore_n (ls' := [(0, vI_ (i0 - (((i0.toUInt32 >>> ((1 : Int32).toUInt32 &&& Int32.toUInt32 31)).toInt32) &&& 1431655765)))]) dJ9_bitCount_9 rfl (Nat.le_of_ble_eq_true rfl) rfl ?_
  refine a_iload_n 0 dJ9_bitCount_10 rfl rfl ?_
  refine a_ldcw (v := 858993459) q486 dJ9_bitCount_11 ?_
  refine a_iand dJ9_bitCount_14 ?_
  refine a_iload_n 0 dJ9_bitCount_15 rfl rfl ?_
  refine a_iconst (v := 2) dJ9_bitCount_16 (by decide) ?_
  refine a_iushr dJ9_bitCount_17 ?_
  refine a_ldcw (v := 858993459) q486 dJ9_bitCount_18 ?_
  refine a_iand dJ9_bitCount_21 ?_
  refine a_iadd dJ9_bitCount_22 ?_
  refine a_istore_n (ls' := [(0, vI_ (((i0 - (((i0.toUInt32 >>> ((1 : Int32).toUInt32 &&& Int32.toUInt32 31)).toInt32) &&& 1431655765)) &&& 858993459) + ((((i0 - (((i0.toUInt32 >>> ((1 : Int32).toUInt32 &&& Int32.toUInt32 31)).toInt32) &&& 1431655765)).toUInt32 >>> ((2 : Int32).toUInt32 &&& Int32.toUInt32 31)).toInt32) &&& 858993459)))]) dJ9_bitCount_23 rfl (Nat.le_of_ble_eq_true rfl) rfl ?_
  refine a_iload_n 0 dJ9_bitCount_24 rfl rfl ?_
  refine a_iload_n 0 dJ9_bitCount_25 rfl rfl ?_
  refine a_iconst (v := 4) dJ9_bitCount_26 (by decide) ?_
  refine a_iushr dJ9_bitCount_27 ?_
  refine a_iadd dJ9_bitCount_28 ?_
  refine a_ldcw (v := 252645135) q487 dJ9_bitCount_29 ?_
  refine a_iand dJ9_bitCount_32 ?_
  refine a_istore_n (ls' := [(0, vI_ (((((i0 - (((i0.toUInt32 >>> ((1 : Int32).toUInt32 &&& Int32.toUInt32 31)).toInt32) &&& 1431655765)) &&& 858993459) + ((((i0 - (((i0.toUInt32 >>> ((1 : Int32).toUInt32 &&& Int32.toUInt32 31)).toInt32) &&& 1431655765)).toUInt32 >>> ((2 : Int32).toUInt32 &&& Int32.toUInt32 31)).toInt32) &&& 858993459)) + (((((i0 - (((i0.toUInt32 >>> ((1 : Int32).toUInt32 &&& Int32.toUInt32 31)).toInt32) &&& 1431655765)) &&& 858993459) + ((((i0 - (((i0.toUInt32 >>> ((1 : Int32).toUInt32 &&& Int32.toUInt32 31)).toInt32) &&& 1431655765)).toUInt32 >>> ((2 : Int32).toUInt32 &&& Int32.toUInt32 31)).toInt32) &&& 858993459)).toUInt32 >>> ((4 : Int32).toUInt32 &&& Int32.toUInt32 31)).toInt32)) &&& 252645135))]) dJ9_bitCount_33 rfl (Nat.le_of_ble_eq_true rfl) rfl ?_
  refine a_iload_n 0 dJ9_bitCount_34 rfl rfl ?_
  refine a_iload_n 0 dJ9_bitCount_35 rfl rfl ?_
  refine a_bipush (v := 8) dJ9_bitCount_36 (by decide) ?_
  refine a_iushr dJ9_bitCount_38 ?_
  refine a_iadd dJ9_bitCount_39 ?_
  refine a_istore_n (ls' := [(0, vI_ ((((((i0 - (((i0.toUInt32 >>> ((1 : Int32).toUInt32 &&& Int32.toUInt32 31)).toInt32) &&& 1431655765)) &&& 858993459) + ((((i0 - (((i0.toUInt32 >>> ((1 : Int32).toUInt32 &&& Int32.toUInt32 31)).toInt32) &&& 1431655765)).toUInt32 >>> ((2 : Int32).toUInt32 &&& Int32.toUInt32 31)).toInt32) &&& 858993459)) + (((((i0 - (((i0.toUInt32 >>> ((1 : Int32).toUInt32 &&& Int32.toUInt32 31)).toInt32) &&& 1431655765)) &&& 858993459) + ((((i0 - (((i0.toUInt32 >>> ((1 : Int32).toUInt32 &&& Int32.toUInt32 31)).toInt32) &&& 1431655765)).toUInt32 >>> ((2 : Int32).toUInt32 &&& Int32.toUInt32 31)).toInt32) &&& 858993459)).toUInt32 >>> ((4 : Int32).toUInt32 &&& Int32.toUInt32 31)).toInt32)) &&& 252645135) + (((((((i0 - (((i0.toUInt32 >>> ((1 : Int32).toUInt32 &&& Int32.toUInt32 31)).toInt32) &&& 1431655765)) &&& 858993459) + ((((i0 - (((i0.toUInt32 >>> ((1 : Int32).toUInt32 &&& Int32.toUInt32 31)).toInt32) &&& 1431655765)).toUInt32 >>> ((2 : Int32).toUInt32 &&& Int32.toUInt32 31)).toInt32) &&& 858993459)) + (((((i0 - (((i0.toUInt32 >>> ((1 : Int32).toUInt32 &&& Int32.toUInt32 31)).toInt32) &&& 1431655765)) &&& 858993459) + ((((i0 - (((i0.toUInt32 >>> ((1 : Int32).toUInt32 &&& Int32.toUInt32 31)).toInt32) &&& 1431655765)).toUInt32 >>> ((2 : Int32).toUInt32 &&& Int32.toUInt32 31)).toInt32) &&& 858993459)).toUInt32 >>> ((4 : Int32).toUInt32 &&& Int32.toUInt32 31)).toInt32)) &&& 252645135).toUInt32 >>> ((8 : Int32).toUInt32 &&& Int32.toUInt32 31)).toInt32)))]) dJ9_bitCount_40 rfl (Nat.le_of_ble_eq_true rfl) rfl ?_
  refine a_iload_n 0 dJ9_bitCount_41 rfl rfl ?_
  refine a_iload_n 0 dJ9_bitCount_42 rfl rfl ?_
  refine a_bipush (v := 16) dJ9_bitCount_43 (by decide) ?_
  refine a_iushr dJ9_bitCount_45 ?_
  refine a_iadd dJ9_bitCount_46 ?_
  refine a_istore_n (ls' := [(0, vI_ (((((((i0 - (((i0.toUInt32 >>> ((1 : Int32).toUInt32 &&& Int32.toUInt32 31)).toInt32) &&& 1431655765)) &&& 858993459) + ((((i0 - (((i0.toUInt32 >>> ((1 : Int32).toUInt32 &&& Int32.toUInt32 31)).toInt32) &&& 1431655765)).toUInt32 >>> ((2 : Int32).toUInt32 &&& Int32.toUInt32 31)).toInt32) &&& 858993459)) + (((((i0 - (((i0.toUInt32 >>> ((1 : Int32).toUInt32 &&& Int32.toUInt32 31)).toInt32) &&& 1431655765)) &&& 858993459) + ((((i0 - (((i0.toUInt32 >>> ((1 : Int32).toUInt32 &&& Int32.toUInt32 31)).toInt32) &&& 1431655765)).toUInt32 >>> ((2 : Int32).toUInt32 &&& Int32.toUInt32 31)).toInt32) &&& 858993459)).toUInt32 >>> ((4 : Int32).toUInt32 &&& Int32.toUInt32 31)).toInt32)) &&& 252645135) + (((((((i0 - (((i0.toUInt32 >>> ((1 : Int32).toUInt32 &&& Int32.toUInt32 31)).toInt32) &&& 1431655765)) &&& 858993459) + ((((i0 - (((i0.toUInt32 >>> ((1 : Int32).toUInt32 &&& Int32.toUInt32 31)).toInt32) &&& 1431655765)).toUInt32 >>> ((2 : Int32).toUInt32 &&& Int32.toUInt32 31)).toInt32) &&& 858993459)) + (((((i0 - (((i0.toUInt32 >>> ((1 : Int32).toUInt32 &&& Int32.toUInt32 31)).toInt32) &&& 1431655765)) &&& 858993459) + ((((i0 - (((i0.toUInt32 >>> ((1 : Int32).toUInt32 &&& Int32.toUInt32 31)).toInt32) &&& 1431655765)).toUInt32 >>> ((2 : Int32).toUInt32 &&& Int32.toUInt32 31)).toInt32) &&& 858993459)).toUInt32 >>> ((4 : Int32).toUInt32 &&& Int32.toUInt32 31)).toInt32)) &&& 252645135).toUInt32 >>> ((8 : Int32).toUInt32 &&& Int32.toUInt32 31)).toInt32)) + ((((((((i0 - (((i0.toUInt32 >>> ((1 : Int32).toUInt32 &&& Int32.toUInt32 31)).toInt32) &&& 1431655765)) &&& 858993459) + ((((i0 - (((i0.toUInt32 >>> ((1 : Int32).toUInt32 &&& Int32.toUInt32 31)).toInt32) &&& 1431655765)).toUInt32 >>> ((2 : Int32).toUInt32 &&& Int32.toUInt32 31)).toInt32) &&& 858993459)) + (((((i0 - (((i0.toUInt32 >>> ((1 : Int32).toUInt32 &&& Int32.toUInt32 31)).toInt32) &&& 1431655765)) &&& 858993459) + ((((i0 - (((i0.toUInt32 >>> ((1 : Int32).toUInt32 &&& Int32.toUInt32 31)).toInt32) &&& 1431655765)).toUInt32 >>> ((2 : Int32).toUInt32 &&& Int32.toUInt32 31)).toInt32) &&& 858993459)).toUInt32 >>> ((4 : Int32).toUInt32 &&& Int32.toUInt32 31)).toInt32)) &&& 252645135) + (((((((i0 - (((i0.toUInt32 >>> ((1 : Int32).toUInt32 &&& Int32.toUInt32 31)).toInt32) &&& 1431655765)) &&& 858993459) + ((((i0 - (((i0.toUInt32 >>> ((1 : Int32).toUInt32 &&& Int32.toUInt32 31)).toInt32) &&& 1431655765)).toUInt32 >>> ((2 : Int32).toUInt32 &&& Int32.toUInt32 31)).toInt32) &&& 858993459)) + (((((i0 - (((i0.toUInt32 >>> ((1 : Int32).toUInt32 &&& Int32.toUInt32 31)).toInt32) &&& 1431655765)) &&& 858993459) + ((((i0 - (((i0.toUInt32 >>> ((1 : Int32).toUInt32 &&& Int32.toUInt32 31)).toInt32) &&& 1431655765)).toUInt32 >>> ((2 : Int32).toUInt32 &&& Int32.toUInt32 31)).toInt32) &&& 858993459)).toUInt32 >>> ((4 : Int32).toUInt32 &&& Int32.toUInt32 31)).toInt32)) &&& 252645135).toUInt32 >>> ((8 : Int32).toUInt32 &&& Int32.toUInt32 31)).toInt32)).toUInt32 >>> ((16 : Int32).toUInt32 &&& Int32.toUInt32 31)).toInt32)))]) dJ9_bitCount_47 rfl (Nat.le_of_ble_eq_true rfl) rfl ?_
  refine a_iload_n 0 dJ9_bitCount_48 rfl rfl ?_
  refine a_bipush (v := 63) dJ9_bitCount_49 (by decide) ?_
  refine a_iand dJ9_bitCount_51 ?_
  cases h
  exact a_ireturn rfl rfl rfl rfl rfl dJ9_bitCount_52
theorem wk_X1_within_21 : wk_ (vx_at0 "PassagePapers" 100 "java/lang/IllegalArgumentException" ["java/lang/RuntimeException", "java/lang/Exception"]) [98, 607, 616, 620, 623, 625, 608, 609, 132, 133, 610, 615, 621, 638, 597, 639, 599, 640, 601, 611, 613, 603, 627, 628, 629, 630, 588, 630, 631, 632, 633, 590, 633, 634, 635, 608, 592, 626, 586, 587, 594, 595, 596, 598, 600, 602, 606, 605, 604] = true := by decide +kernel
def f_X1_within (F : Nat)  (t : pm_A) (i0 : Int32) (i1 : Int32) (i2 : Int32) (m : pm_M) : Option ((Unit ⊕ pm_A) × pm_M) :=
  jn_ (fun  (m2 : pm_M) =>
    gd_ 100 (gR_ m2 t 7) fun a3 =>
    iz_ (!(ib_ 1 a3.2.1)) <|
    iz_ (!(ib_ 1 a3.2.1)) <|
    lt_ (pI_ m2 a3 ((1 : Int32).toNatClampNeg) ((gI_ m2 a3 (1 : Int32).toNatClampNeg) + 1)) fun m8 =>
    lt_ (pN_ m8 25 0 6) fun m10 =>
    some (.inr ((25, 0, gN_ m8)), m10)
  ) fun k1 =>
  if i0 < i1 then
    k1 m
  else
    if i2 < i0 then
      k1 m
    else
      some (.inl (), m)
set_option maxHeartbeats 4000000 in
theorem e_X1_within {G : xg_T} {l : Launch} (hl : l.stackTraces = false) {F : Nat}    {t : pm_A} {i0 : Int32} {i1 : Int32} {i2 : Int32} {m0 m' : pm_M} {r : (Unit ⊕ pm_A)} (ht : t.1 = 1) (h : f_X1_within F t i0 i1 i2 m0 = some (r, m')) : Cal_ G l yX1_within (ws_ yX1_within cX1_within 4 none) 6 [vR_ (some t), vI_ i0, vI_ i1, vI_ i2] m0 (oV_ r) m' := by
  refine cal_of (by decide +kernel) (Nat.le_of_ble_eq_true rfl) ?_
  unfold f_X1_within at h
  show AW_ cX1_within RX1 (none, "within", 6, 4, m0, m', (oV_ r), G, l, [], true) m0 0 [(0, vR_ (some t)), (1, vI_ i0), (2, vI_ i1), (3, vI_ i2)] []
  refine a_iload_n 1 dX1_within_0 rfl rfl ?_
  refine a_iload_n 2 dX1_within_1 rfl rfl ?_
  obtain ⟨k1, e14, h⟩ := jn1_some h
  have hk1 : ∀  (m2 : pm_M), k1 m2 = some (r, m') → AW_ cX1_within RX1 (none, "within", 6, 4, m0, m', (oV_ r), G, l, [], true) m2 11 [(0, vR_ (some t))] [] := by
    intro m2 h
    have h := (e14 m2).symm.trans h
    refine a_aload_n 0 dX1_within_11 rfl rfl ?_
    refine a_getR kc_1 7 (by decide) rfl ht q395 dX1_within_12 ?_
    refine a_iconst (v := 1) dX1_within_15 (by decide) ?_
    refine a_dup2 dX1_within_16 rfl rfl ?_
    obtain ⟨a3, e4, f5, h⟩ := gd_some h
    rw [e4]
    obtain ⟨c6, h⟩ := iz_some h
    refine a_iald f5 (bn_ c6) dX1_within_17 ?_
    refine a_iconst (v := 1) dX1_within_18 (by decide) ?_
    refine a_iadd dX1_within_19 ?_
    obtain ⟨c7, h⟩ := iz_some h
    obtain ⟨m8, e9, h⟩ := lt_some h
    refine a_iast f5 (bn_ c7) dX1_within_20 ?_
    rw [← e9]
    obtain ⟨m10, e11, h⟩ := lt_some h
    refine a_make0 hl kc_25 (by decide +kernel) q585 q101 wk_X1_within_21 (by decide +kernel) (by decide +kernel) (Nat.le_of_ble_eq_true rfl) (Nat.le_of_ble_eq_true rfl) dX1_within_21 dX1_within_24 dX1_within_25 ?_
    rw [← e11]
    refine a_athrow kc_25 rfl dX1_within_28 ?_
    cases h
    exact a_out rfl rfl rfl rfl
  refine a_icmp_lt (tgt := 11) dX1_within_2 (by decide) (fun c12 => ?_) (fun c12 => ?_)
  · replace h := ifp_ c12 h
    refine aw_pick [0] rfl ?_
    exact hk1 _ h
  · replace h := ifn_ c12 h
    refine a_iload_n 1 dX1_within_5 rfl rfl ?_
    refine a_iload_n 3 dX1_within_6 rfl rfl ?_
    refine a_icmp_gt (tgt := 11) dX1_within_7 (by decide) (fun c13 => ?_) (fun c13 => ?_)
    · replace h := ifp_ c13 h
      refine aw_pick [0] rfl ?_
      exact hk1 _ h
    · replace h := ifn_ c13 h
      cases h
      exact a_return rfl rfl rfl rfl dX1_within_10
def f_X10_init (F : Nat)  (t : pm_A) (i0 : Option pm_A) (i1 : Int32) (m : pm_M) : Option (Unit × pm_M) :=
  lt_ (pR_ m t 0 i0) fun m1 =>
  lt_ (pI_ m1 t 1 i1) fun m3 =>
  some ((), m3)
set_option maxHeartbeats 4000000 in
theorem e_X10_init {G : xg_T} {l : Launch} (hl : l.stackTraces = false) {F : Nat}    {t : pm_A} {i0 : Option pm_A} {i1 : Int32} {m0 m' : pm_M} {r : Unit} (ht : t.1 = 10) (h : f_X10_init F t i0 i1 m0 = some (r, m')) : Cal_ G l yX10_init (ws_ yX10_init cX10_init 3 none) 2 [vR_ (some t), vR_ i0, vI_ i1] m0 (.inl none) m' := by
  refine cal_of (by decide +kernel) (Nat.le_of_ble_eq_true rfl) ?_
  unfold f_X10_init at h
  show AW_ cX10_init RX10 (none, "<init>", 2, 3, m0, m', (.inl none), G, l, [], true) m0 0 [(0, vR_ (some t)), (1, vR_ i0), (2, vI_ i1)] []
  refine a_aload_n 0 dX10_init_0 rfl rfl ?_
  refine a_obj q660 q132 q133 (Nat.le_of_ble_eq_true rfl) (Nat.le_of_ble_eq_true rfl) dX10_init_1 ?_
  refine a_aload_n 0 dX10_init_4 rfl rfl ?_
  refine a_aload_n 1 dX10_init_5 rfl rfl ?_
  obtain ⟨m1, e2, h⟩ := lt_some h
  refine a_putRF kc_10 0 (by decide) rfl ht q661 rfl rfl rfl na_arr dX10_init_6 ?_
  rw [← e2]
  refine a_aload_n 0 dX10_init_9 rfl rfl ?_
  refine a_iload_n 2 dX10_init_10 rfl rfl ?_
  obtain ⟨m3, e4, h⟩ := lt_some h
  refine a_putIF kc_10 1 (by decide) rfl ht q662 rfl rfl rfl rfl rfl dX10_init_11 ?_
  rw [← e4]
  cases h
  exact a_return rfl rfl rfl rfl dX10_init_14
def f_X1_reader (F : Nat)  (t : pm_A) (i0 : Int32) (m : pm_M) : Option (Option pm_A × pm_M) :=
  lt_ (pI_ m t 13 0) fun m1 =>
  lt_ (pI_ m1 t 14 ((-1))) fun m3 =>
  lt_ (pN_ m3 10 0 4) fun m5 =>
  bm_ (f_X10_init F ((10, 0, gN_ m3)) (gR_ m5 t 0) i0 m5) fun v9 m7 =>
  some ((some ((10, 0, gN_ m3))), m7)
set_option maxHeartbeats 4000000 in
theorem e_X1_reader {G : xg_T} {l : Launch} (hl : l.stackTraces = false) {F : Nat}    {t : pm_A} {i0 : Int32} {m0 m' : pm_M} {r : Option pm_A} (ht : t.1 = 1) (h : f_X1_reader F t i0 m0 = some (r, m')) : Cal_ G l yX1_reader (ws_ yX1_reader cX1_reader 2 (some (.object "PassagePapers$Reader"))) 3 [vR_ (some t), vI_ i0] m0 (.inl (some (vR_ r))) m' := by
  refine cal_of (by decide +kernel) (Nat.le_of_ble_eq_true rfl) ?_
  unfold f_X1_reader at h
  show AW_ cX1_reader RX1 (some (.object "PassagePapers$Reader"), "reader", 3, 2, m0, m', (.inl (some (vR_ r))), G, l, [], true) m0 0 [(0, vR_ (some t)), (1, vI_ i0)] []
  refine a_aload_n 0 dX1_reader_0 rfl rfl ?_
  refine a_iconst (v := 0) dX1_reader_1 (by decide) ?_
  obtain ⟨m1, e2, h⟩ := lt_some h
  refine a_putI kc_1 13 (by decide) rfl ht q401 rfl rfl rfl dX1_reader_2 ?_
  rw [← e2]
  refine a_aload_n 0 dX1_reader_5 rfl rfl ?_
  refine a_iconst (v := (-1)) dX1_reader_6 (by decide) ?_
  obtain ⟨m3, e4, h⟩ := lt_some h
  refine a_putI kc_1 14 (by decide) rfl ht q402 rfl rfl rfl dX1_reader_7 ?_
  rw [← e4]
  obtain ⟨m5, e6, h⟩ := lt_some h
  refine a_new kc_10 q655 q656 q103 dX1_reader_10 ?_
  rw [← e6]
  refine a_dup dX1_reader_13 rfl ?_
  refine a_aload_n 0 dX1_reader_14 rfl rfl ?_
  refine a_getR kc_1 0 (by decide) rfl ht q388 dX1_reader_15 ?_
  refine a_iload_n 1 dX1_reader_18 rfl rfl ?_
  obtain ⟨v9, m7, e8, h⟩ := bm_some h
  have he8 := e_X10_init (G := G) hl rfl e8
  refine c_V he8.1 (rn_I (n := 2) (As := [vR_ (gR_ m5 t 0), vI_ i0]) he8 q657 q658 q103 q659 rfl (by decide +kernel) rfl (Nat.le_of_ble_eq_true rfl) (Nat.le_of_ble_eq_true rfl) (Nat.le_of_ble_eq_true rfl) dX1_reader_19) (fun z => (os_av (As := [vR_ (gR_ m5 t 0), vI_ i0]) z).2.1) ?_
  cases h
  exact a_areturn rfl (Or.inl ⟨_, rfl⟩) rfl rfl rfl dX1_reader_22
def f_X6_init (F : Nat)  (t : pm_A) (m : pm_M) : Option (Unit × pm_M) :=
  lt_ (pN_ m 100 8 8) fun m1 =>
  lt_ (pR_ m1 t 0 (some ((100, 8, gN_ m)))) fun m3 =>
  lt_ (pN_ m3 100 8 8) fun m5 =>
  lt_ (pR_ m5 t 1 (some ((100, 8, gN_ m3)))) fun m7 =>
  lt_ (pN_ m7 100 8 8) fun m9 =>
  lt_ (pR_ m9 t 2 (some ((100, 8, gN_ m7)))) fun m11 =>
  lt_ (pN_ m11 100 8 8) fun m13 =>
  lt_ (pR_ m13 t 3 (some ((100, 8, gN_ m11)))) fun m15 =>
  lt_ (pN_ m15 100 5 5) fun m17 =>
  lt_ (pR_ m17 t 4 (some ((100, 5, gN_ m15)))) fun m19 =>
  lt_ (pN_ m19 100 5 5) fun m21 =>
  lt_ (pR_ m21 t 5 (some ((100, 5, gN_ m19)))) fun m23 =>
  lt_ (pN_ m23 100 5 5) fun m25 =>
  lt_ (pR_ m25 t 6 (some ((100, 5, gN_ m23)))) fun m27 =>
  lt_ (pI_ m27 t 9 60) fun m29 =>
  lt_ (pI_ m29 t 10 8) fun m31 =>
  some ((), m31)
set_option maxHeartbeats 4000000 in
theorem e_X6_init {G : xg_T} {l : Launch} (hl : l.stackTraces = false) {F : Nat}    {t : pm_A} {m0 m' : pm_M} {r : Unit} (ht : t.1 = 6) (h : f_X6_init F t m0 = some (r, m')) : Cal_ G l yX6_init (ws_ yX6_init cX6_init 1 none) 2 [vR_ (some t)] m0 (.inl none) m' := by
  refine cal_of (by decide +kernel) (Nat.le_of_ble_eq_true rfl) ?_
  unfold f_X6_init at h
  show AW_ cX6_init RX6 (none, "<init>", 2, 1, m0, m', (.inl none), G, l, [], true) m0 0 [(0, vR_ (some t))] []
  refine a_aload_n 0 dX6_init_0 rfl rfl ?_
  refine a_obj q215 q132 q133 (Nat.le_of_ble_eq_true rfl) (Nat.le_of_ble_eq_true rfl) dX6_init_1 ?_
  refine a_aload_n 0 dX6_init_4 rfl rfl ?_
  refine a_bipush (v := 8) dX6_init_5 (by decide) ?_
  obtain ⟨m1, e2, h⟩ := lt_some h
  refine a_newI (N := 8) q208 (by decide) rfl (by decide) dX6_init_7 ?_
  rw [← e2]
  obtain ⟨m3, e4, h⟩ := lt_some h
  refine a_putRF kc_6 0 (by decide) rfl ht q216 rfl rfl rfl na_arr dX6_init_9 ?_
  rw [← e4]
  refine a_aload_n 0 dX6_init_12 rfl rfl ?_
  refine a_bipush (v := 8) dX6_init_13 (by decide) ?_
  obtain ⟨m5, e6, h⟩ := lt_some h
  refine a_newI (N := 8) q208 (by decide) rfl (by decide) dX6_init_15 ?_
  rw [← e6]
  obtain ⟨m7, e8, h⟩ := lt_some h
  refine a_putRF kc_6 1 (by decide) rfl ht q220 rfl rfl rfl na_arr dX6_init_17 ?_
  rw [← e8]
  refine a_aload_n 0 dX6_init_20 rfl rfl ?_
  refine a_bipush (v := 8) dX6_init_21 (by decide) ?_
  obtain ⟨m9, e10, h⟩ := lt_some h
  refine a_newI (N := 8) q208 (by decide) rfl (by decide) dX6_init_23 ?_
  rw [← e10]
  obtain ⟨m11, e12, h⟩ := lt_some h
  refine a_putRF kc_6 2 (by decide) rfl ht q224 rfl rfl rfl na_arr dX6_init_25 ?_
  rw [← e12]
  refine a_aload_n 0 dX6_init_28 rfl rfl ?_
  refine a_bipush (v := 8) dX6_init_29 (by decide) ?_
  obtain ⟨m13, e14, h⟩ := lt_some h
  refine a_newI (N := 8) q208 (by decide) rfl (by decide) dX6_init_31 ?_
  rw [← e14]
  obtain ⟨m15, e16, h⟩ := lt_some h
  refine a_putRF kc_6 3 (by decide) rfl ht q227 rfl rfl rfl na_arr dX6_init_33 ?_
  rw [← e16]
  refine a_aload_n 0 dX6_init_36 rfl rfl ?_
  refine a_iconst (v := 5) dX6_init_37 (by decide) ?_
  obtain ⟨m17, e18, h⟩ := lt_some h
  refine a_newI (N := 5) q208 (by decide) rfl (by decide) dX6_init_38 ?_
  rw [← e18]
  obtain ⟨m19, e20, h⟩ := lt_some h
  refine a_putRF kc_6 4 (by decide) rfl ht q230 rfl rfl rfl na_arr dX6_init_40 ?_
  rw [← e20]
  refine a_aload_n 0 dX6_init_43 rfl rfl ?_
  refine a_iconst (v := 5) dX6_init_44 (by decide) ?_
  obtain ⟨m21, e22, h⟩ := lt_some h
  refine a_newI (N := 5) q208 (by decide) rfl (by decide) dX6_init_45 ?_
  rw [← e22]
  obtain ⟨m23, e24, h⟩ := lt_some h
  refine a_putRF kc_6 5 (by decide) rfl ht q234 rfl rfl rfl na_arr dX6_init_47 ?_
  rw [← e24]
  refine a_aload_n 0 dX6_init_50 rfl rfl ?_
  refine a_iconst (v := 5) dX6_init_51 (by decide) ?_
  obtain ⟨m25, e26, h⟩ := lt_some h
  refine a_newI (N := 5) q208 (by decide) rfl (by decide) dX6_init_52 ?_
  rw [← e26]
  obtain ⟨m27, e28, h⟩ := lt_some h
  refine a_putRF kc_6 6 (by decide) rfl ht q238 rfl rfl rfl na_arr dX6_init_54 ?_
  rw [← e28]
  refine a_aload_n 0 dX6_init_57 rfl rfl ?_
  refine a_bipush (v := 60) dX6_init_58 (by decide) ?_
  obtain ⟨m29, e30, h⟩ := lt_some h
  refine a_putI kc_6 9 (by decide) rfl ht q253 rfl rfl rfl dX6_init_60 ?_
  rw [← e30]
  refine a_aload_n 0 dX6_init_63 rfl rfl ?_
  refine a_bipush (v := 8) dX6_init_64 (by decide) ?_
  obtain ⟨m31, e32, h⟩ := lt_some h
  refine a_putI kc_6 10 (by decide) rfl ht q256 rfl rfl rfl dX6_init_66 ?_
  rw [← e32]
  cases h
  exact a_return rfl rfl rfl rfl dX6_init_69
def f_X9_init (F : Nat)  (t : pm_A) (i0 : Option pm_A) (m : pm_M) : Option (Unit × pm_M) :=
  lt_ (pN_ m 108 5 5) fun m1 =>
  iz_ (!(ib_ 0 ((108, 5, gN_ m)).2.1)) <|
  lt_ (pR_ m1 ((108, 5, gN_ m)) ((0 : Int32).toNatClampNeg) (some ((200, 0, 15)))) fun m4 =>
  iz_ (!(ib_ 1 ((108, 5, gN_ m)).2.1)) <|
  lt_ (pR_ m4 ((108, 5, gN_ m)) ((1 : Int32).toNatClampNeg) (some ((200, 0, 18)))) fun m7 =>
  iz_ (!(ib_ 2 ((108, 5, gN_ m)).2.1)) <|
  lt_ (pR_ m7 ((108, 5, gN_ m)) ((2 : Int32).toNatClampNeg) (some ((200, 0, 6)))) fun m10 =>
  iz_ (!(ib_ 3 ((108, 5, gN_ m)).2.1)) <|
  lt_ (pR_ m10 ((108, 5, gN_ m)) ((3 : Int32).toNatClampNeg) (some ((200, 0, 16)))) fun m13 =>
  iz_ (!(ib_ 4 ((108, 5, gN_ m)).2.1)) <|
  lt_ (pR_ m13 ((108, 5, gN_ m)) ((4 : Int32).toNatClampNeg) (some ((200, 0, 20)))) fun m16 =>
  lt_ (pR_ m16 t 0 (some ((108, 5, gN_ m)))) fun m18 =>
  lt_ (pN_ m18 6 0 11) fun m20 =>
  bm_ (f_X6_init F ((6, 0, gN_ m18)) m20) fun v24 m22 =>
  lt_ (pR_ m22 t 2 (some ((6, 0, gN_ m18)))) fun m25 =>
  lt_ (pR_ m25 t 1 i0) fun m27 =>
  some ((), m27)
set_option maxHeartbeats 4000000 in
theorem e_X9_init {G : xg_T} {l : Launch} (hl : l.stackTraces = false) {F : Nat}    {t : pm_A} {i0 : Option pm_A} {m0 m' : pm_M} {r : Unit} (ht : t.1 = 9) (h : f_X9_init F t i0 m0 = some (r, m')) : Cal_ G l yX9_init (ws_ yX9_init cX9_init 2 none) 3 [vR_ (some t), vR_ i0] m0 (.inl none) m' := by
  refine cal_of (by decide +kernel) (Nat.le_of_ble_eq_true rfl) ?_
  unfold f_X9_init at h
  show AW_ cX9_init RX9 (none, "<init>", 3, 2, m0, m', (.inl none), G, l, [], true) m0 0 [(0, vR_ (some t)), (1, vR_ i0)] []
  refine a_aload_n 0 dX9_init_0 rfl rfl ?_
  refine a_obj q677 q132 q133 (Nat.le_of_ble_eq_true rfl) (Nat.le_of_ble_eq_true rfl) dX9_init_1 ?_
  refine a_aload_n 0 dX9_init_4 rfl rfl ?_
  refine a_iconst (v := 5) dX9_init_5 (by decide) ?_
  obtain ⟨m1, e2, h⟩ := lt_some h
  refine a_newq (t0 := 8) (C := "java/lang/String") (N := 5) (by decide) (by decide) rfl (by decide +kernel) q678 (by decide) rfl (by decide) dX9_init_6 ?_
  rw [← e2]
  refine a_dup dX9_init_9 rfl ?_
  refine a_iconst (v := 0) dX9_init_10 (by decide) ?_
  refine a_ldcS (n := 15) (tx := "signer") (by decide +kernel) (by decide) dX9_init_11 ?_
  obtain ⟨c3, h⟩ := iz_some h
  obtain ⟨m4, e5, h⟩ := lt_some h
  refine a_aastS rfl rfl (bn_ c3) dX9_init_13 ?_
  rw [← e5]
  refine a_dup dX9_init_14 rfl ?_
  refine a_iconst (v := 1) dX9_init_15 (by decide) ?_
  refine a_ldcS (n := 18) (tx := "taker") (by decide +kernel) (by decide) dX9_init_16 ?_
  obtain ⟨c6, h⟩ := iz_some h
  obtain ⟨m7, e8, h⟩ := lt_some h
  refine a_aastS rfl rfl (bn_ c6) dX9_init_18 ?_
  rw [← e8]
  refine a_dup dX9_init_19 rfl ?_
  refine a_iconst (v := 2) dX9_init_20 (by decide) ?_
  refine a_ldcS (n := 6) (tx := "kinsman") (by decide +kernel) (by decide) dX9_init_21 ?_
  obtain ⟨c9, h⟩ := iz_some h
  obtain ⟨m10, e11, h⟩ := lt_some h
  refine a_aastS rfl rfl (bn_ c9) dX9_init_23 ?_
  rw [← e11]
  refine a_dup dX9_init_24 rfl ?_
  refine a_iconst (v := 3) dX9_init_25 (by decide) ?_
  refine a_ldcS (n := 16) (tx := "stores") (by decide +kernel) (by decide) dX9_init_26 ?_
  obtain ⟨c12, h⟩ := iz_some h
  obtain ⟨m13, e14, h⟩ := lt_some h
  refine a_aastS rfl rfl (bn_ c12) dX9_init_28 ?_
  rw [← e14]
  refine a_dup dX9_init_29 rfl ?_
  refine a_iconst (v := 4) dX9_init_30 (by decide) ?_
  refine a_ldcS (n := 20) (tx := "voyage") (by decide +kernel) (by decide) dX9_init_31 ?_
  obtain ⟨c15, h⟩ := iz_some h
  obtain ⟨m16, e17, h⟩ := lt_some h
  refine a_aastS rfl rfl (bn_ c15) dX9_init_33 ?_
  rw [← e17]
  obtain ⟨m18, e19, h⟩ := lt_some h
  refine a_putRF kc_9 0 (by decide) rfl ht q687 rfl rfl rfl na_arr dX9_init_34 ?_
  rw [← e19]
  refine a_aload_n 0 dX9_init_37 rfl rfl ?_
  obtain ⟨m20, e21, h⟩ := lt_some h
  refine a_new kc_6 q685 q211 q95 dX9_init_38 ?_
  rw [← e21]
  refine a_dup dX9_init_41 rfl ?_
  obtain ⟨v24, m22, e23, h⟩ := bm_some h
  have he23 := e_X6_init (G := G) hl rfl e23
  refine c_V he23.1 (rn_IN (n := 0) (As := []) he23 q686 q213 q95 q214 rfl (by decide +kernel) rfl (Nat.le_of_ble_eq_true rfl) (Nat.le_of_ble_eq_true rfl) (Nat.le_of_ble_eq_true rfl) dX9_init_42) (fun z => (os_av (As := []) z).2.1) ?_
  obtain ⟨m25, e26, h⟩ := lt_some h
  refine a_putRF kc_9 2 (by decide) rfl ht q689 rfl rfl rfl na_obj dX9_init_45 ?_
  rw [← e26]
  refine a_aload_n 0 dX9_init_48 rfl rfl ?_
  refine a_aload_n 1 dX9_init_49 rfl rfl ?_
  obtain ⟨m27, e28, h⟩ := lt_some h
  refine a_putRF kc_9 1 (by decide) rfl ht q688 rfl rfl rfl na_obj dX9_init_50 ?_
  rw [← e28]
  cases h
  exact a_return rfl rfl rfl rfl dX9_init_53
def f_X10_byteAt (F : Nat)  (t : pm_A) (i0 : Int32) (m : pm_M) : Option (Int32 × pm_M) :=
  if (gI_ m t 1) ≤ i0 then
    some (((-1)), m)
  else
    gd_ 101 (gR_ m t 0) fun a2 =>
    iz_ (!(ib_ i0 a2.2.1)) <|
    some (((gI_ m a2 i0.toNatClampNeg) &&& 255), m)
set_option maxHeartbeats 4000000 in
theorem e_X10_byteAt {G : xg_T} {l : Launch} (hl : l.stackTraces = false) {F : Nat}    {t : pm_A} {i0 : Int32} {m0 m' : pm_M} {r : Int32} (ht : t.1 = 10) (h : f_X10_byteAt F t i0 m0 = some (r, m')) : Cal_ G l yX10_byteAt (ws_ yX10_byteAt cX10_byteAt 2 (some .int)) 2 [vR_ (some t), vI_ i0] m0 (.inl (some (vI_ r))) m' := by
  refine cal_of (by decide +kernel) (Nat.le_of_ble_eq_true rfl) ?_
  unfold f_X10_byteAt at h
  show AW_ cX10_byteAt RX10 (some (.int), "byteAt", 2, 2, m0, m', (.inl (some (vI_ r))), G, l, [], true) m0 0 [(0, vR_ (some t)), (1, vI_ i0)] []
  refine a_iload_n 1 dX10_byteAt_0 rfl rfl ?_
  refine a_aload_n 0 dX10_byteAt_1 rfl rfl ?_
  refine a_getI kc_10 1 (by decide) rfl ht q662 dX10_byteAt_2 ?_
  refine a_icmp_ge (tgt := 21) dX10_byteAt_5 (by decide) (fun c1 => ?_) (fun c1 => ?_)
  · replace h := ifp_ c1 h
    refine a_iconst (v := (-1)) dX10_byteAt_21 (by decide) ?_
    cases h
    exact a_ireturn rfl rfl rfl rfl rfl dX10_byteAt_22
  · replace h := ifn_ c1 h
    refine a_aload_n 0 dX10_byteAt_8 rfl rfl ?_
    refine a_getR kc_10 0 (by decide) rfl ht q661 dX10_byteAt_9 ?_
    refine a_iload_n 1 dX10_byteAt_12 rfl rfl ?_
    obtain ⟨a2, e3, f4, h⟩ := gd_some h
    rw [e3]
    obtain ⟨c5, h⟩ := iz_some h
    refine a_bald f4 (bn_ c5) dX10_byteAt_13 ?_
    refine a_sipush (v := 255) dX10_byteAt_14 (by decide) ?_
    refine a_iand dX10_byteAt_17 ?_
    refine a_goto (tgt := 22) dX10_byteAt_18 (by decide) ?_
    cases h
    exact a_ireturn rfl rfl rfl rfl rfl dX10_byteAt_22
def f_X10_now_L0 (F : Nat)  (p6 : pm_A) (k8 : pm_M → Option (Int32 × pm_M)) : Nat → pm_M → Option (Int32 × pm_M)
  | 0, _ => none
  | n10 + 1, m11 =>
    bm_ (f_X10_byteAt F p6 (gI_ m11 p6 2) m11) fun v14 m12 =>
    if v14 = 32 then
      lt_ (pI_ m12 p6 2 ((gI_ m12 p6 2) + 1)) fun m16 =>
      (f_X10_now_L0 F p6 k8 n10) m16
    else
      k8 m12
set_option maxHeartbeats 4000000 in
theorem w_X10_now_L0 {G : xg_T} {l : Launch} (hl : l.stackTraces = false) {F : Nat}    (p6 : pm_A) (k8 : pm_M → Option (Int32 × pm_M)) {m0 m' : pm_M} {r : Int32} (hf7 : p6.1 = 10) (hk8 : ∀ (m9 : pm_M), k8 m9 = some (r, m') → AW_ cX10_now RX10 (some (.int), "now", 3, 1, m0, m', (.inl (some (vI_ r))), G, l, [], true) m9 26 [(0, vR_ (some p6))] []) : ∀ (n : Nat) (m11 : pm_M), f_X10_now_L0 F p6 k8 n m11 = some (r, m') → AW_ cX10_now RX10 (some (.int), "now", 3, 1, m0, m', (.inl (some (vI_ r))), G, l, [], true) m11 0 [(0, vR_ (some p6))] [] := by
  intro n
  induction n with
  | zero => intro m11 h; cases h
  | succ n10 ih =>
    intro m11 h
    rw [f_X10_now_L0] at h
    refine a_aload_n 0 dX10_now_0 rfl rfl ?_
    refine a_aload_n 0 dX10_now_1 rfl rfl ?_
    refine a_getI kc_10 2 (by decide) rfl hf7 q663 dX10_now_2 ?_
    obtain ⟨v14, m12, e13, h⟩ := bm_some h
    have he13 := e_X10_byteAt (G := G) hl hf7 e13
    refine c_I he13.1 (rn_V (n := 1) (As := [vI_ (gI_ m11 p6 2)]) kc_10 hf7 he13 (lw_V q708 q710 qs3 q103 q711) (by decide +kernel) rfl (Nat.le_of_ble_eq_true rfl) (Nat.le_of_ble_eq_true rfl) (Nat.le_of_ble_eq_true rfl) dX10_now_5) (fun z => (os_av (As := [vI_ (gI_ m11 p6 2)]) z).2.1) ?_
    refine a_bipush (v := 32) dX10_now_8 (by decide) ?_
    refine a_icmp_ne (tgt := 26) dX10_now_10 (by decide) (fun c15 => ?_) (fun c15 => ?_)
    · replace h := ifn_ c15 h
      exact hk8 _ h
    · replace h := ifp_ c15 h
      refine a_aload_n 0 dX10_now_13 rfl rfl ?_
      refine a_dup dX10_now_14 rfl ?_
      refine a_getI kc_10 2 (by decide) rfl hf7 q663 dX10_now_15 ?_
      refine a_iconst (v := 1) dX10_now_18 (by decide) ?_
      refine a_iadd dX10_now_19 ?_
      obtain ⟨m16, e17, h⟩ := lt_some h
      refine a_putI kc_10 2 (by decide) rfl hf7 q663 rfl rfl rfl dX10_now_20 ?_
      rw [← e17]
      refine a_goto (tgt := 0) dX10_now_23 (by decide) ?_
      exact ih _ h
def f_X10_now (F : Nat)  (t : pm_A) (m : pm_M) : Option (Int32 × pm_M) :=
  jn_ (fun  (m2 : pm_M) =>
    bm_ (f_X10_byteAt F t (gI_ m2 t 2) m2) fun v5 m3 =>
    some (v5, m3)
  ) fun k1 =>
  f_X10_now_L0 F t k1 F m
set_option maxHeartbeats 4000000 in
theorem e_X10_now {G : xg_T} {l : Launch} (hl : l.stackTraces = false) {F : Nat}    {t : pm_A} {m0 m' : pm_M} {r : Int32} (ht : t.1 = 10) (h : f_X10_now F t m0 = some (r, m')) : Cal_ G l yX10_now (ws_ yX10_now cX10_now 1 (some .int)) 3 [vR_ (some t)] m0 (.inl (some (vI_ r))) m' := by
  refine cal_of (by decide +kernel) (Nat.le_of_ble_eq_true rfl) ?_
  unfold f_X10_now at h
  show AW_ cX10_now RX10 (some (.int), "now", 3, 1, m0, m', (.inl (some (vI_ r))), G, l, [], true) m0 0 [(0, vR_ (some t))] []
  obtain ⟨k1, e18, h⟩ := jn1_some h
  have hk1 : ∀  (m2 : pm_M), k1 m2 = some (r, m') → AW_ cX10_now RX10 (some (.int), "now", 3, 1, m0, m', (.inl (some (vI_ r))), G, l, [], true) m2 26 [(0, vR_ (some t))] [] := by
    intro m2 h
    have h := (e18 m2).symm.trans h
    refine a_aload_n 0 dX10_now_26 rfl rfl ?_
    refine a_aload_n 0 dX10_now_27 rfl rfl ?_
    refine a_getI kc_10 2 (by decide) rfl ht q663 dX10_now_28 ?_
    obtain ⟨v5, m3, e4, h⟩ := bm_some h
    have he4 := e_X10_byteAt (G := G) hl ht e4
    refine c_I he4.1 (rn_V (n := 1) (As := [vI_ (gI_ m2 t 2)]) kc_10 ht he4 (lw_V q708 q710 qs3 q103 q711) (by decide +kernel) rfl (Nat.le_of_ble_eq_true rfl) (Nat.le_of_ble_eq_true rfl) (Nat.le_of_ble_eq_true rfl) dX10_now_31) (fun z => (os_av (As := [vI_ (gI_ m2 t 2)]) z).2.1) ?_
    cases h
    exact a_ireturn rfl rfl rfl rfl rfl dX10_now_34
  exact w_X10_now_L0 hl _ _ ht hk1 _ _ h
def f_X10_place (F : Nat)  (t : pm_A) (m : pm_M) : Option (Int32 × pm_M) :=
  bm_ (f_X10_now F t m) fun v3 m1 =>
  some ((gI_ m1 t 2), m1)
set_option maxHeartbeats 4000000 in
theorem e_X10_place {G : xg_T} {l : Launch} (hl : l.stackTraces = false) {F : Nat}    {t : pm_A} {m0 m' : pm_M} {r : Int32} (ht : t.1 = 10) (h : f_X10_place F t m0 = some (r, m')) : Cal_ G l yX10_place (ws_ yX10_place cX10_place 1 (some .int)) 4 [vR_ (some t)] m0 (.inl (some (vI_ r))) m' := by
  refine cal_of (by decide +kernel) (Nat.le_of_ble_eq_true rfl) ?_
  unfold f_X10_place at h
  show AW_ cX10_place RX10 (some (.int), "place", 4, 1, m0, m', (.inl (some (vI_ r))), G, l, [], true) m0 0 [(0, vR_ (some t))] []
  refine a_aload_n 0 dX10_place_0 rfl rfl ?_
  obtain ⟨v3, m1, e2, h⟩ := bm_some h
  have he2 := e_X10_now (G := G) hl ht e2
  refine c_I he2.1 (rn_V (n := 0) (As := []) kc_10 ht he2 (lw_V q720 q705 q706 q103 q707) (by decide +kernel) rfl (Nat.le_of_ble_eq_true rfl) (Nat.le_of_ble_eq_true rfl) (Nat.le_of_ble_eq_true rfl) dX10_place_1) (fun z => (os_av (As := []) z).2.1) ?_
  refine a_pop dX10_place_4 rfl ?_
  refine a_aload_n 0 dX10_place_5 rfl rfl ?_
  refine a_getI kc_10 2 (by decide) rfl ht q663 dX10_place_6 ?_
  cases h
  exact a_ireturn rfl rfl rfl rfl rfl dX10_place_9
def f_X10_isSmall (F : Nat)  (i0 : Int32) (m : pm_M) : Option (Int32 × pm_M) :=
  if i0 < 97 then
    some (0, m)
  else
    if 122 < i0 then
      some (0, m)
    else
      some (1, m)
set_option maxHeartbeats 4000000 in
theorem e_X10_isSmall {G : xg_T} {l : Launch} (hl : l.stackTraces = false) {F : Nat}    {i0 : Int32} {m0 m' : pm_M} {r : Int32} (h : f_X10_isSmall F i0 m0 = some (r, m')) : Cal_ G l yX10_isSmall (ws_ yX10_isSmall cX10_isSmall 1 (some .boolean)) 2 [vI_ i0] m0 (.inl (some (vI_ r))) m' := by
  refine cal_of (by decide +kernel) (Nat.le_of_ble_eq_true rfl) ?_
  unfold f_X10_isSmall at h
  show AW_ cX10_isSmall RX10 (some (.boolean), "isSmall", 2, 1, m0, m', (.inl (some (vI_ r))), G, l, [], true) m0 0 [(0, vI_ i0)] []
  refine a_iload_n 0 dX10_isSmall_0 rfl rfl ?_
  refine a_bipush (v := 97) dX10_isSmall_1 (by decide) ?_
  refine a_icmp_lt (tgt := 16) dX10_isSmall_3 (by decide) (fun c1 => ?_) (fun c1 => ?_)
  · replace h := ifp_ c1 h
    refine a_iconst (v := 0) dX10_isSmall_16 (by decide) ?_
    cases h
    exact a_ireturn rfl rfl rfl rfl rfl dX10_isSmall_17
  · replace h := ifn_ c1 h
    refine a_iload_n 0 dX10_isSmall_6 rfl rfl ?_
    refine a_bipush (v := 122) dX10_isSmall_7 (by decide) ?_
    refine a_icmp_gt (tgt := 16) dX10_isSmall_9 (by decide) (fun c2 => ?_) (fun c2 => ?_)
    · replace h := ifp_ c2 h
      refine a_iconst (v := 0) dX10_isSmall_16 (by decide) ?_
      cases h
      exact a_ireturn rfl rfl rfl rfl rfl dX10_isSmall_17
    · replace h := ifn_ c2 h
      refine a_iconst (v := 1) dX10_isSmall_12 (by decide) ?_
      refine a_goto (tgt := 17) dX10_isSmall_13 (by decide) ?_
      cases h
      exact a_ireturn rfl rfl rfl rfl rfl dX10_isSmall_17
def f_X10_isWord_L39 (F : Nat)  (p14 : pm_A) (p16 : pm_A) (p18 : Int32) (p19 : Int32) : Nat → Int32 → pm_M → Option (Int32 × pm_M)
  | 0, _, _ => none
  | n20 + 1, x22, m21 =>
    if p19 ≤ x22 then
      some (1, m21)
    else
      bm_ (f_X10_byteAt F p14 (p18 + x22) m21) fun v26 m24 =>
      bm_ (f_J4_charAt F p16 x22 m24) fun v29 m27 =>
      if v26 = v29 then
        (f_X10_isWord_L39 F p14 p16 p18 p19 n20) (x22 + 1) m27
      else
        some (0, m27)
set_option maxHeartbeats 4000000 in
theorem w_X10_isWord_L39 {G : xg_T} {l : Launch} (hl : l.stackTraces = false) {F : Nat}    (p14 : pm_A) (p16 : pm_A) (p18 : Int32) (p19 : Int32) {m0 m' : pm_M} {r : Int32} (hf15 : p14.1 = 10) (hf17 : p16.1 = 200)  : ∀ (n : Nat) (x22 : Int32) (m21 : pm_M), f_X10_isWord_L39 F p14 p16 p18 p19 n x22 m21 = some (r, m') → AW_ cX10_isWord RX10 (some (.boolean), "isWord", 6, 5, m0, m', (.inl (some (vI_ r))), G, l, [], true) m21 39 [(0, vR_ (some p14)), (1, vR_ (some p16)), (2, vI_ p18), (3, vI_ p19), (4, vI_ x22)] [] := by
  intro n
  induction n with
  | zero => intro x22 m21 h; cases h
  | succ n20 ih =>
    intro x22 m21 h
    rw [f_X10_isWord_L39] at h
    refine a_iload 4 dX10_isWord_39 rfl ?_
    refine a_iload_n 3 dX10_isWord_41 rfl rfl ?_
    refine a_icmp_ge (tgt := 70) dX10_isWord_42 (by decide) (fun c23 => ?_) (fun c23 => ?_)
    · replace h := ifp_ c23 h
      refine a_iconst (v := 1) dX10_isWord_70 (by decide) ?_
      cases h
      exact a_ireturn rfl rfl rfl rfl rfl dX10_isWord_71
    · replace h := ifn_ c23 h
      refine a_aload_n 0 dX10_isWord_45 rfl rfl ?_
      refine a_iload_n 2 dX10_isWord_46 rfl rfl ?_
      refine a_iload 4 dX10_isWord_47 rfl ?_
      refine a_iadd dX10_isWord_49 ?_
      obtain ⟨v26, m24, e25, h⟩ := bm_some h
      have he25 := e_X10_byteAt (G := G) hl hf15 e25
      refine c_I he25.1 (rn_V (n := 1) (As := [vI_ (p18 + x22)]) kc_10 hf15 he25 (lw_V q708 q710 qs3 q103 q711) (by decide +kernel) rfl (Nat.le_of_ble_eq_true rfl) (Nat.le_of_ble_eq_true rfl) (Nat.le_of_ble_eq_true rfl) dX10_isWord_50) (fun z => (os_av (As := [vI_ (p18 + x22)]) z).2.1) ?_
      refine a_aload_n 1 dX10_isWord_53 rfl rfl ?_
      refine a_iload 4 dX10_isWord_54 rfl ?_
      obtain ⟨v29, m27, e28, h⟩ := bm_some h
      have he28 := e_J4_charAt (G := G) hl hf17 e28
      refine c_I he28.1 (rn_VT (n := 1) (As := [vI_ x22]) hf17 he28 (lw_V q743 q744 q745 q104 q746) (by decide +kernel) rfl (Nat.le_of_ble_eq_true rfl) (Nat.le_of_ble_eq_true rfl) (Nat.le_of_ble_eq_true rfl) dX10_isWord_56) (fun z => (os_av (As := [vI_ x22]) z).2.1) ?_
      refine a_icmp_eq (tgt := 64) dX10_isWord_59 (by decide) (fun c30 => ?_) (fun c30 => ?_)
      · replace h := ifp_ c30 h
        refine a_iinc (v := x22 + 1) (ls' := [(4, vI_ (x22 + 1)), (0, vR_ (some p14)), (1, vR_ (some p16)), (2, vI_ p18), (3, vI_ p19)]) 4 dX10_isWord_64 rfl rfl (Nat.le_of_ble_eq_true rfl) rfl ?_
        refine a_goto (tgt := 39) dX10_isWord_67 (by decide) ?_
        refine aw_pick [1, 2, 3, 4, 0] rfl ?_
        exact ih _ _ h
      · replace h := ifn_ c30 h
        refine a_iconst (v := 0) dX10_isWord_62 (by decide) ?_
        cases h
        exact a_ireturn rfl rfl rfl rfl rfl dX10_isWord_63
def f_X10_isWord_L7 (F : Nat)  (p31 : pm_A) (p33 : Option pm_A) (p34 : Int32) (k35 : Int32 → pm_M → Option (Int32 × pm_M)) : Nat → Int32 → pm_M → Option (Int32 × pm_M)
  | 0, _, _ => none
  | n38 + 1, x40, m39 =>
    bm_ (f_X10_byteAt F p31 (p34 + x40) m39) fun v43 m41 =>
    bm_ (f_X10_isSmall F v43 m41) fun v46 m44 =>
    if v46 = 0 then
      k35 x40 m44
    else
      (f_X10_isWord_L7 F p31 p33 p34 k35 n38) (x40 + 1) m44
set_option maxHeartbeats 4000000 in
theorem w_X10_isWord_L7 {G : xg_T} {l : Launch} (hl : l.stackTraces = false) {F : Nat}    (p31 : pm_A) (p33 : Option pm_A) (p34 : Int32) (k35 : Int32 → pm_M → Option (Int32 × pm_M)) {m0 m' : pm_M} {r : Int32} (hf32 : p31.1 = 10) (hk35 : ∀ (x36 : Int32) (m37 : pm_M), k35 x36 m37 = some (r, m') → AW_ cX10_isWord RX10 (some (.boolean), "isWord", 6, 5, m0, m', (.inl (some (vI_ r))), G, l, [], true) m37 26 [(0, vR_ (some p31)), (1, vR_ p33), (2, vI_ p34), (3, vI_ x36)] []) : ∀ (n : Nat) (x40 : Int32) (m39 : pm_M), f_X10_isWord_L7 F p31 p33 p34 k35 n x40 m39 = some (r, m') → AW_ cX10_isWord RX10 (some (.boolean), "isWord", 6, 5, m0, m', (.inl (some (vI_ r))), G, l, [], true) m39 7 [(0, vR_ (some p31)), (1, vR_ p33), (2, vI_ p34), (3, vI_ x40)] [] := by
  intro n
  induction n with
  | zero => intro x40 m39 h; cases h
  | succ n38 ih =>
    intro x40 m39 h
    rw [f_X10_isWord_L7] at h
    refine a_aload_n 0 dX10_isWord_7 rfl rfl ?_
    refine a_iload_n 2 dX10_isWord_8 rfl rfl ?_
    refine a_iload_n 3 dX10_isWord_9 rfl rfl ?_
    refine a_iadd dX10_isWord_10 ?_
    obtain ⟨v43, m41, e42, h⟩ := bm_some h
    have he42 := e_X10_byteAt (G := G) hl hf32 e42
    refine c_I he42.1 (rn_V (n := 1) (As := [vI_ (p34 + x40)]) kc_10 hf32 he42 (lw_V q708 q710 qs3 q103 q711) (by decide +kernel) rfl (Nat.le_of_ble_eq_true rfl) (Nat.le_of_ble_eq_true rfl) (Nat.le_of_ble_eq_true rfl) dX10_isWord_11) (fun z => (os_av (As := [vI_ (p34 + x40)]) z).2.1) ?_
    obtain ⟨v46, m44, e45, h⟩ := bm_some h
    have he45 := e_X10_isSmall (G := G) hl e45
    refine c_I he45.1 (rn_S (n := 1) (As := [vI_ v43]) he45 (lw_S q730 q731 q103 q732) (by decide +kernel) rfl (Nat.le_of_ble_eq_true rfl) (Nat.le_of_ble_eq_true rfl) (Nat.le_of_ble_eq_true rfl) dX10_isWord_14) (fun z => (os_aS (As := [vI_ v43]) z).2) ?_
    refine a_if_eq (tgt := 26) dX10_isWord_17 (by decide) (fun c47 => ?_) (fun c47 => ?_)
    · replace h := ifp_ c47 h
      exact hk35 _ _ h
    · replace h := ifn_ c47 h
      refine a_iinc (v := x40 + 1) (ls' := [(3, vI_ (x40 + 1)), (0, vR_ (some p31)), (1, vR_ p33), (2, vI_ p34)]) 3 dX10_isWord_20 rfl rfl (Nat.le_of_ble_eq_true rfl) rfl ?_
      refine a_goto (tgt := 7) dX10_isWord_23 (by decide) ?_
      refine aw_pick [1, 2, 3, 0] rfl ?_
      exact ih _ _ h
def f_X10_isWord (F : Nat)  (t : pm_A) (i0 : Option pm_A) (m : pm_M) : Option (Int32 × pm_M) :=
  bm_ (f_X10_place F t m) fun v3 m1 =>
  jn_ (fun (x6 : Int32) (m5 : pm_M) =>
    gd_ 200 i0 fun a7 =>
    bm_ (f_J4_length F a7 m5) fun v12 m10 =>
    if x6 = v12 then
      f_X10_isWord_L39 F t a7 v3 x6 F 0 m10
    else
      some (0, m10)
  ) fun k4 =>
  f_X10_isWord_L7 F t i0 v3 k4 F 0 m1
set_option maxHeartbeats 4000000 in
theorem e_X10_isWord {G : xg_T} {l : Launch} (hl : l.stackTraces = false) {F : Nat}    {t : pm_A} {i0 : Option pm_A} {m0 m' : pm_M} {r : Int32} (ht : t.1 = 10) (h : f_X10_isWord F t i0 m0 = some (r, m')) : Cal_ G l yX10_isWord (ws_ yX10_isWord cX10_isWord 5 (some .boolean)) 6 [vR_ (some t), vR_ i0] m0 (.inl (some (vI_ r))) m' := by
  refine cal_of (by decide +kernel) (Nat.le_of_ble_eq_true rfl) ?_
  unfold f_X10_isWord at h
  show AW_ cX10_isWord RX10 (some (.boolean), "isWord", 6, 5, m0, m', (.inl (some (vI_ r))), G, l, [], true) m0 0 [(0, vR_ (some t)), (1, vR_ i0)] []
  refine a_aload_n 0 dX10_isWord_0 rfl rfl ?_
  obtain ⟨v3, m1, e2, h⟩ := bm_some h
  have he2 := e_X10_place (G := G) hl ht e2
  refine c_I he2.1 (rn_V (n := 0) (As := []) kc_10 ht he2 (lw_V q729 q717 q718 q103 q719) (by decide +kernel) rfl (Nat.le_of_ble_eq_true rfl) (Nat.le_of_ble_eq_true rfl) (Nat.le_of_ble_eq_true rfl) dX10_isWord_1) (fun z => (os_av (As := []) z).2.1) ?_
  refine a_istore_n (ls' := [(2, vI_ v3), (0, vR_ (some t)), (1, vR_ i0)]) dX10_isWord_4 rfl (Nat.le_of_ble_eq_true rfl) rfl ?_
  refine a_iconst (v := 0) dX10_isWord_5 (by decide) ?_
  refine a_istore_n (ls' := [(3, vI_ 0), (2, vI_ v3), (0, vR_ (some t)), (1, vR_ i0)]) dX10_isWord_6 rfl (Nat.le_of_ble_eq_true rfl) rfl ?_
  obtain ⟨k4, e48, h⟩ := jn2_some h
  have hk4 : ∀ (x6 : Int32) (m5 : pm_M), k4 x6 m5 = some (r, m') → AW_ cX10_isWord RX10 (some (.boolean), "isWord", 6, 5, m0, m', (.inl (some (vI_ r))), G, l, [], true) m5 26 [(0, vR_ (some t)), (1, vR_ i0), (2, vI_ v3), (3, vI_ x6)] [] := by
    intro x6 m5 h
    have h := (e48 x6 m5).symm.trans h
    refine a_iload_n 3 dX10_isWord_26 rfl rfl ?_
    refine a_aload_n 1 dX10_isWord_27 rfl rfl ?_
    obtain ⟨a7, e8, f9, h⟩ := gd_some h
    rw [e8]
    obtain ⟨v12, m10, e11, h⟩ := bm_some h
    have he11 := e_J4_length (G := G) hl f9 e11
    refine c_I he11.1 (rn_VT (n := 0) (As := []) f9 he11 (lw_V q733 q734 q735 q104 q736) (by decide +kernel) rfl (Nat.le_of_ble_eq_true rfl) (Nat.le_of_ble_eq_true rfl) (Nat.le_of_ble_eq_true rfl) dX10_isWord_28) (fun z => (os_av (As := []) z).2.1) ?_
    refine a_icmp_eq (tgt := 36) dX10_isWord_31 (by decide) (fun c13 => ?_) (fun c13 => ?_)
    · replace h := ifp_ c13 h
      refine a_iconst (v := 0) dX10_isWord_36 (by decide) ?_
      refine a_istore (ls' := [(4, vI_ 0), (0, vR_ (some t)), (1, vR_ (some a7)), (2, vI_ v3), (3, vI_ x6)]) dX10_isWord_37 (Nat.le_of_ble_eq_true rfl) rfl ?_
      refine aw_pick [1, 2, 3, 4, 0] rfl ?_
      exact w_X10_isWord_L39 hl _ _ _ _ ht f9 _ _ _ h
    · replace h := ifn_ c13 h
      refine a_iconst (v := 0) dX10_isWord_34 (by decide) ?_
      cases h
      exact a_ireturn rfl rfl rfl rfl rfl dX10_isWord_35
  refine aw_pick [2, 3, 1, 0] rfl ?_
  exact w_X10_isWord_L7 hl _ _ _ _ ht hk4 _ _ _ h
def f_X10_which_L2 (F : Nat)  (p1 : pm_A) (p3 : Option pm_A) : Nat → Int32 → pm_M → Option (Int32 × pm_M)
  | 0, _, _ => none
  | n4 + 1, x6, m5 =>
    gd_ 108 p3 fun a7 =>
    if (Int32.ofNat a7.2.1) ≤ x6 then
      some (((-1)), m5)
    else
      iz_ (!(ib_ x6 a7.2.1)) <|
      bm_ (f_X10_isWord F p1 (gR_ m5 a7 x6.toNatClampNeg) m5) fun v14 m12 =>
      if v14 = 0 then
        (f_X10_which_L2 F p1 p3 n4) (x6 + 1) m12
      else
        some (x6, m12)
set_option maxHeartbeats 4000000 in
theorem w_X10_which_L2 {G : xg_T} {l : Launch} (hl : l.stackTraces = false) {F : Nat}    (p1 : pm_A) (p3 : Option pm_A) {m0 m' : pm_M} {r : Int32} (hf2 : p1.1 = 10)  : ∀ (n : Nat) (x6 : Int32) (m5 : pm_M), f_X10_which_L2 F p1 p3 n x6 m5 = some (r, m') → AW_ cX10_which RX10 (some (.int), "which", 7, 3, m0, m', (.inl (some (vI_ r))), G, l, [], true) m5 2 [(0, vR_ (some p1)), (1, vR_ p3), (2, vI_ x6)] [] := by
  intro n
  induction n with
  | zero => intro x6 m5 h; cases h
  | succ n4 ih =>
    intro x6 m5 h
    rw [f_X10_which_L2] at h
    refine a_iload_n 2 dX10_which_2 rfl rfl ?_
    refine a_aload_n 1 dX10_which_3 rfl rfl ?_
    obtain ⟨a7, e8, f9, h⟩ := gd_some h
    rw [e8]
    refine a_alen (by rw [f9]; decide) (by rw [f9]; decide) dX10_which_4 ?_
    refine a_icmp_ge (tgt := 26) dX10_which_5 (by decide) (fun c10 => ?_) (fun c10 => ?_)
    · replace h := ifp_ c10 h
      refine a_iconst (v := (-1)) dX10_which_26 (by decide) ?_
      cases h
      exact a_ireturn rfl rfl rfl rfl rfl dX10_which_27
    · replace h := ifn_ c10 h
      refine a_aload_n 0 dX10_which_8 rfl rfl ?_
      refine a_aload_n 1 dX10_which_9 rfl rfl ?_
      refine a_iload_n 2 dX10_which_10 rfl rfl ?_
      obtain ⟨c11, h⟩ := iz_some h
      refine a_aald (t0 := 8) f9 (by decide) (by decide) rfl (bn_ c11) dX10_which_11 ?_
      obtain ⟨v14, m12, e13, h⟩ := bm_some h
      have he13 := e_X10_isWord (G := G) hl hf2 e13
      refine c_I he13.1 (rn_V (n := 1) (As := [vR_ (gR_ m5 a7 x6.toNatClampNeg)]) kc_10 hf2 he13 (lw_V q725 q726 q727 q103 q728) (by decide +kernel) rfl (Nat.le_of_ble_eq_true rfl) (Nat.le_of_ble_eq_true rfl) (Nat.le_of_ble_eq_true rfl) dX10_which_12) (fun z => (os_av (As := [vR_ (gR_ m5 a7 x6.toNatClampNeg)]) z).2.1) ?_
      refine a_if_eq (tgt := 20) dX10_which_15 (by decide) (fun c15 => ?_) (fun c15 => ?_)
      · replace h := ifp_ c15 h
        refine a_iinc (v := x6 + 1) (ls' := [(2, vI_ (x6 + 1)), (0, vR_ (some p1)), (1, vR_ (some a7))]) 2 dX10_which_20 rfl rfl (Nat.le_of_ble_eq_true rfl) rfl ?_
        refine a_goto (tgt := 2) dX10_which_23 (by decide) ?_
        refine aw_pick [1, 2, 0] rfl ?_
        have q16 := ih _ _ h
        rw [e8] at q16
        exact q16
      · replace h := ifn_ c15 h
        refine a_iload_n 2 dX10_which_18 rfl rfl ?_
        cases h
        exact a_ireturn rfl rfl rfl rfl rfl dX10_which_19
def f_X10_which (F : Nat)  (t : pm_A) (i0 : Option pm_A) (m : pm_M) : Option (Int32 × pm_M) :=
  f_X10_which_L2 F t i0 F 0 m
set_option maxHeartbeats 4000000 in
theorem e_X10_which {G : xg_T} {l : Launch} (hl : l.stackTraces = false) {F : Nat}    {t : pm_A} {i0 : Option pm_A} {m0 m' : pm_M} {r : Int32} (ht : t.1 = 10) (h : f_X10_which F t i0 m0 = some (r, m')) : Cal_ G l yX10_which (ws_ yX10_which cX10_which 3 (some .int)) 7 [vR_ (some t), vR_ i0] m0 (.inl (some (vI_ r))) m' := by
  refine cal_of (by decide +kernel) (Nat.le_of_ble_eq_true rfl) ?_
  unfold f_X10_which at h
  show AW_ cX10_which RX10 (some (.int), "which", 7, 3, m0, m', (.inl (some (vI_ r))), G, l, [], true) m0 0 [(0, vR_ (some t)), (1, vR_ i0)] []
  refine a_iconst (v := 0) dX10_which_0 (by decide) ?_
  refine a_istore_n (ls' := [(2, vI_ 0), (0, vR_ (some t)), (1, vR_ i0)]) dX10_which_1 rfl (Nat.le_of_ble_eq_true rfl) rfl ?_
  refine aw_pick [1, 2, 0] rfl ?_
  exact w_X10_which_L2 hl _ _ ht _ _ _ h
def f_X11_init (F : Nat)  (t : pm_A) (i0 : Int32) (i1 : Int32) (m : pm_M) : Option (Unit × pm_M) :=
  bm_ (f_J1_init_2 F t none none 0 0 m) fun v3 m1 =>
  lt_ (pI_ m1 t 6 i0) fun m4 =>
  lt_ (pI_ m4 t 7 i1) fun m6 =>
  some ((), m6)
set_option maxHeartbeats 4000000 in
theorem e_X11_init {G : xg_T} {l : Launch} (hl : l.stackTraces = false) {F : Nat}    {t : pm_A} {i0 : Int32} {i1 : Int32} {m0 m' : pm_M} {r : Unit} (ht : t.1 = 11) (h : f_X11_init F t i0 i1 m0 = some (r, m')) : Cal_ G l yX11_init (ws_ yX11_init cX11_init 3 none) 4 [vR_ (some t), vI_ i0, vI_ i1] m0 (.inl none) m' := by
  refine cal_of (by decide +kernel) (Nat.le_of_ble_eq_true rfl) ?_
  unfold f_X11_init at h
  show AW_ cX11_init RX11 (none, "<init>", 4, 3, m0, m', (.inl none), G, l, [], true) m0 0 [(0, vR_ (some t)), (1, vI_ i0), (2, vI_ i1)] []
  refine a_aload_n 0 dX11_init_0 rfl rfl ?_
  refine a_null dX11_init_1 ?_
  refine a_null dX11_init_2 ?_
  refine a_iconst (v := 0) dX11_init_3 (by decide) ?_
  refine a_iconst (v := 0) dX11_init_4 (by decide) ?_
  obtain ⟨v3, m1, e2, h⟩ := bm_some h
  have he2 := e_J1_init_2 (G := G) hl ht e2
  refine c_V he2.1 (rn_I (n := 4) (As := [vR_ none, vR_ none, vI_ 0, vI_ 0]) he2 q793 q794 q99 q795 rfl (by decide +kernel) rfl (Nat.le_of_ble_eq_true rfl) (Nat.le_of_ble_eq_true rfl) (Nat.le_of_ble_eq_true rfl) dX11_init_5) (fun z => (os_av (As := [vR_ none, vR_ none, vI_ 0, vI_ 0]) z).2.1) ?_
  refine a_aload_n 0 dX11_init_8 rfl rfl ?_
  refine a_iload_n 1 dX11_init_9 rfl rfl ?_
  obtain ⟨m4, e5, h⟩ := lt_some h
  refine a_putIF kc_11 6 (by decide) rfl ht q799 rfl rfl rfl rfl rfl dX11_init_10 ?_
  rw [← e5]
  refine a_aload_n 0 dX11_init_13 rfl rfl ?_
  refine a_iload_n 2 dX11_init_14 rfl rfl ?_
  obtain ⟨m6, e7, h⟩ := lt_some h
  refine a_putIF kc_11 7 (by decide) rfl ht q801 rfl rfl rfl rfl rfl dX11_init_15 ?_
  rw [← e7]
  cases h
  exact a_return rfl rfl rfl rfl dX11_init_18
def f_X10_skipsWord_L0 (F : Nat)  (p1 : pm_A) : Nat → pm_M → Option (Unit × pm_M)
  | 0, _ => none
  | n3 + 1, m4 =>
    bm_ (f_X10_byteAt F p1 (gI_ m4 p1 2) m4) fun v7 m5 =>
    bm_ (f_X10_isSmall F v7 m5) fun v10 m8 =>
    if v10 = 0 then
      some ((), m8)
    else
      lt_ (pI_ m8 p1 2 ((gI_ m8 p1 2) + 1)) fun m12 =>
      (f_X10_skipsWord_L0 F p1 n3) m12
set_option maxHeartbeats 4000000 in
theorem w_X10_skipsWord_L0 {G : xg_T} {l : Launch} (hl : l.stackTraces = false) {F : Nat}    (p1 : pm_A) {m0 m' : pm_M} {r : Unit} (hf2 : p1.1 = 10)  : ∀ (n : Nat) (m4 : pm_M), f_X10_skipsWord_L0 F p1 n m4 = some (r, m') → AW_ cX10_skipsWord RX10 (none, "skipsWord", 3, 1, m0, m', (.inl none), G, l, [], true) m4 0 [(0, vR_ (some p1))] [] := by
  intro n
  induction n with
  | zero => intro m4 h; cases h
  | succ n3 ih =>
    intro m4 h
    rw [f_X10_skipsWord_L0] at h
    refine a_aload_n 0 dX10_skipsWord_0 rfl rfl ?_
    refine a_aload_n 0 dX10_skipsWord_1 rfl rfl ?_
    refine a_getI kc_10 2 (by decide) rfl hf2 q663 dX10_skipsWord_2 ?_
    obtain ⟨v7, m5, e6, h⟩ := bm_some h
    have he6 := e_X10_byteAt (G := G) hl hf2 e6
    refine c_I he6.1 (rn_V (n := 1) (As := [vI_ (gI_ m4 p1 2)]) kc_10 hf2 he6 (lw_V q708 q710 qs3 q103 q711) (by decide +kernel) rfl (Nat.le_of_ble_eq_true rfl) (Nat.le_of_ble_eq_true rfl) (Nat.le_of_ble_eq_true rfl) dX10_skipsWord_5) (fun z => (os_av (As := [vI_ (gI_ m4 p1 2)]) z).2.1) ?_
    obtain ⟨v10, m8, e9, h⟩ := bm_some h
    have he9 := e_X10_isSmall (G := G) hl e9
    refine c_I he9.1 (rn_S (n := 1) (As := [vI_ v7]) he9 (lw_S q730 q731 q103 q732) (by decide +kernel) rfl (Nat.le_of_ble_eq_true rfl) (Nat.le_of_ble_eq_true rfl) (Nat.le_of_ble_eq_true rfl) dX10_skipsWord_8) (fun z => (os_aS (As := [vI_ v7]) z).2) ?_
    refine a_if_eq (tgt := 27) dX10_skipsWord_11 (by decide) (fun c11 => ?_) (fun c11 => ?_)
    · replace h := ifp_ c11 h
      cases h
      exact a_return rfl rfl rfl rfl dX10_skipsWord_27
    · replace h := ifn_ c11 h
      refine a_aload_n 0 dX10_skipsWord_14 rfl rfl ?_
      refine a_dup dX10_skipsWord_15 rfl ?_
      refine a_getI kc_10 2 (by decide) rfl hf2 q663 dX10_skipsWord_16 ?_
      refine a_iconst (v := 1) dX10_skipsWord_19 (by decide) ?_
      refine a_iadd dX10_skipsWord_20 ?_
      obtain ⟨m12, e13, h⟩ := lt_some h
      refine a_putI kc_10 2 (by decide) rfl hf2 q663 rfl rfl rfl dX10_skipsWord_21 ?_
      rw [← e13]
      refine a_goto (tgt := 0) dX10_skipsWord_24 (by decide) ?_
      exact ih _ h
def f_X10_skipsWord (F : Nat)  (t : pm_A) (m : pm_M) : Option (Unit × pm_M) :=
  f_X10_skipsWord_L0 F t F m
set_option maxHeartbeats 4000000 in
theorem e_X10_skipsWord {G : xg_T} {l : Launch} (hl : l.stackTraces = false) {F : Nat}    {t : pm_A} {m0 m' : pm_M} {r : Unit} (ht : t.1 = 10) (h : f_X10_skipsWord F t m0 = some (r, m')) : Cal_ G l yX10_skipsWord (ws_ yX10_skipsWord cX10_skipsWord 1 none) 3 [vR_ (some t)] m0 (.inl none) m' := by
  refine cal_of (by decide +kernel) (Nat.le_of_ble_eq_true rfl) ?_
  unfold f_X10_skipsWord at h
  show AW_ cX10_skipsWord RX10 (none, "skipsWord", 3, 1, m0, m', (.inl none), G, l, [], true) m0 0 [(0, vR_ (some t))] []
  exact w_X10_skipsWord_L0 hl _ ht _ _ h
def f_X10_isDigit (F : Nat)  (i0 : Int32) (m : pm_M) : Option (Int32 × pm_M) :=
  if i0 < 48 then
    some (0, m)
  else
    if 57 < i0 then
      some (0, m)
    else
      some (1, m)
set_option maxHeartbeats 4000000 in
theorem e_X10_isDigit {G : xg_T} {l : Launch} (hl : l.stackTraces = false) {F : Nat}    {i0 : Int32} {m0 m' : pm_M} {r : Int32} (h : f_X10_isDigit F i0 m0 = some (r, m')) : Cal_ G l yX10_isDigit (ws_ yX10_isDigit cX10_isDigit 1 (some .boolean)) 2 [vI_ i0] m0 (.inl (some (vI_ r))) m' := by
  refine cal_of (by decide +kernel) (Nat.le_of_ble_eq_true rfl) ?_
  unfold f_X10_isDigit at h
  show AW_ cX10_isDigit RX10 (some (.boolean), "isDigit", 2, 1, m0, m', (.inl (some (vI_ r))), G, l, [], true) m0 0 [(0, vI_ i0)] []
  refine a_iload_n 0 dX10_isDigit_0 rfl rfl ?_
  refine a_bipush (v := 48) dX10_isDigit_1 (by decide) ?_
  refine a_icmp_lt (tgt := 16) dX10_isDigit_3 (by decide) (fun c1 => ?_) (fun c1 => ?_)
  · replace h := ifp_ c1 h
    refine a_iconst (v := 0) dX10_isDigit_16 (by decide) ?_
    cases h
    exact a_ireturn rfl rfl rfl rfl rfl dX10_isDigit_17
  · replace h := ifn_ c1 h
    refine a_iload_n 0 dX10_isDigit_6 rfl rfl ?_
    refine a_bipush (v := 57) dX10_isDigit_7 (by decide) ?_
    refine a_icmp_gt (tgt := 16) dX10_isDigit_9 (by decide) (fun c2 => ?_) (fun c2 => ?_)
    · replace h := ifp_ c2 h
      refine a_iconst (v := 0) dX10_isDigit_16 (by decide) ?_
      cases h
      exact a_ireturn rfl rfl rfl rfl rfl dX10_isDigit_17
    · replace h := ifn_ c2 h
      refine a_iconst (v := 1) dX10_isDigit_12 (by decide) ?_
      refine a_goto (tgt := 17) dX10_isDigit_13 (by decide) ?_
      cases h
      exact a_ireturn rfl rfl rfl rfl rfl dX10_isDigit_17
def f_X10_number_L35 (F : Nat)  (p24 : pm_A) (p26 : Int32) (p27 : Int32) (p28 : Int32) (k29 : Int32 → pm_M → Option ((Int32 ⊕ pm_A) × pm_M)) : Nat → Int32 → pm_M → Option ((Int32 ⊕ pm_A) × pm_M)
  | 0, _, _ => none
  | n32 + 1, x34, m33 =>
    bm_ (f_X10_byteAt F p24 (gI_ m33 p24 2) m33) fun v37 m35 =>
    bm_ (f_X10_isDigit F v37 m35) fun v40 m38 =>
    if v40 = 0 then
      k29 x34 m38
    else
      bm_ (f_X10_byteAt F p24 (gI_ m38 p24 2) m38) fun v44 m42 =>
      bm_ (f_J8_min F (((10 * x34) + v44) - 48) 1000000 m42) fun v47 m45 =>
      lt_ (pI_ m45 p24 2 ((gI_ m45 p24 2) + 1)) fun m48 =>
      (f_X10_number_L35 F p24 p26 p27 p28 k29 n32) v47 m48
set_option maxHeartbeats 4000000 in
theorem w_X10_number_L35 {G : xg_T} {l : Launch} (hl : l.stackTraces = false) {F : Nat}    (p24 : pm_A) (p26 : Int32) (p27 : Int32) (p28 : Int32) (k29 : Int32 → pm_M → Option ((Int32 ⊕ pm_A) × pm_M)) {m0 m' : pm_M} {r : (Int32 ⊕ pm_A)} (hf25 : p24.1 = 10) (hk29 : ∀ (x30 : Int32) (m31 : pm_M), k29 x30 m31 = some (r, m') → AW_ cX10_number RX10 (some (.int), "number", 5, 5, m0, m', (oI_ r), G, l, [], true) m31 86 [(1, vI_ p26), (2, vI_ p27), (3, vI_ p28), (4, vI_ x30)] []) : ∀ (n : Nat) (x34 : Int32) (m33 : pm_M), f_X10_number_L35 F p24 p26 p27 p28 k29 n x34 m33 = some (r, m') → AW_ cX10_number RX10 (some (.int), "number", 5, 5, m0, m', (oI_ r), G, l, [], true) m33 35 [(0, vR_ (some p24)), (1, vI_ p26), (2, vI_ p27), (3, vI_ p28), (4, vI_ x34)] [] := by
  intro n
  induction n with
  | zero => intro x34 m33 h; cases h
  | succ n32 ih =>
    intro x34 m33 h
    rw [f_X10_number_L35] at h
    refine a_aload_n 0 dX10_number_35 rfl rfl ?_
    refine a_aload_n 0 dX10_number_36 rfl rfl ?_
    refine a_getI kc_10 2 (by decide) rfl hf25 q663 dX10_number_37 ?_
    obtain ⟨v37, m35, e36, h⟩ := bm_some h
    have he36 := e_X10_byteAt (G := G) hl hf25 e36
    refine c_I he36.1 (rn_V (n := 1) (As := [vI_ (gI_ m33 p24 2)]) kc_10 hf25 he36 (lw_V q708 q710 qs3 q103 q711) (by decide +kernel) rfl (Nat.le_of_ble_eq_true rfl) (Nat.le_of_ble_eq_true rfl) (Nat.le_of_ble_eq_true rfl) dX10_number_40) (fun z => (os_av (As := [vI_ (gI_ m33 p24 2)]) z).2.1) ?_
    obtain ⟨v40, m38, e39, h⟩ := bm_some h
    have he39 := e_X10_isDigit (G := G) hl e39
    refine c_I he39.1 (rn_S (n := 1) (As := [vI_ v37]) he39 (lw_S q821 q822 q103 q823) (by decide +kernel) rfl (Nat.le_of_ble_eq_true rfl) (Nat.le_of_ble_eq_true rfl) (Nat.le_of_ble_eq_true rfl) dX10_number_43) (fun z => (os_aS (As := [vI_ v37]) z).2) ?_
    refine a_if_eq (tgt := 86) dX10_number_46 (by decide) (fun c41 => ?_) (fun c41 => ?_)
    · replace h := ifp_ c41 h
      refine aw_pick [1, 2, 3, 4] rfl ?_
      exact hk29 _ _ h
    · replace h := ifn_ c41 h
      refine a_bipush (v := 10) dX10_number_49 (by decide) ?_
      refine a_iload 4 dX10_number_51 rfl ?_
      refine a_imul dX10_number_53 ?_
      refine a_aload_n 0 dX10_number_54 rfl rfl ?_
      refine a_aload_n 0 dX10_number_55 rfl rfl ?_
      refine a_getI kc_10 2 (by decide) rfl hf25 q663 dX10_number_56 ?_
      obtain ⟨v44, m42, e43, h⟩ := bm_some h
      have he43 := e_X10_byteAt (G := G) hl hf25 e43
      refine c_I he43.1 (rn_V (n := 1) (As := [vI_ (gI_ m38 p24 2)]) kc_10 hf25 he43 (lw_V q708 q710 qs3 q103 q711) (by decide +kernel) rfl (Nat.le_of_ble_eq_true rfl) (Nat.le_of_ble_eq_true rfl) (Nat.le_of_ble_eq_true rfl) dX10_number_59) (fun z => (os_av (As := [vI_ (gI_ m38 p24 2)]) z).2.1) ?_
      refine a_iadd dX10_number_62 ?_
      refine a_bipush (v := 48) dX10_number_63 (by decide) ?_
      refine a_isub dX10_number_65 ?_
      refine a_ldc (v := 1000000) q826 dX10_number_66 ?_
      obtain ⟨v47, m45, e46, h⟩ := bm_some h
      have he46 := e_J8_min (G := G) hl e46
      refine c_I he46.1 (rn_S (n := 2) (As := [vI_ (((10 * x34) + v44) - 48), vI_ 1000000]) he46 (lw_S q827 q521 q109 q522) (by decide +kernel) rfl (Nat.le_of_ble_eq_true rfl) (Nat.le_of_ble_eq_true rfl) (Nat.le_of_ble_eq_true rfl) dX10_number_68) (fun z => (os_aS (As := [vI_ (((10 * x34) + v44) - 48), vI_ 1000000]) z).2) ?_
      refine a_istore (ls' := [(4, vI_ v47), (0, vR_ (some p24)), (1, vI_ p26), (2, vI_ p27), (3, vI_ p28)]) dX10_number_71 (Nat.le_of_ble_eq_true rfl) rfl ?_
      refine a_aload_n 1 dX10_number_73 rfl rfl ?_
      refine a_dup dX10_number_74 rfl ?_
      refine a_getI kc_10 2 (by decide) rfl hf25 q663 dX10_number_75 ?_
      refine a_iconst (v := 1) dX10_number_78 (by decide) ?_
      refine a_iadd dX10_number_79 ?_
      obtain ⟨m48, e49, h⟩ := lt_some h
      refine a_putI kc_10 2 (by decide) rfl hf25 q663 rfl rfl rfl dX10_number_80 ?_
      rw [← e49]
      refine a_goto (tgt := 35) dX10_number_83 (by decide) ?_
      refine aw_pick [1, 2, 3, 4, 0] rfl ?_
      exact ih _ _ h
def f_X10_number (F : Nat)  (t : pm_A) (i0 : Int32) (i1 : Int32) (m : pm_M) : Option ((Int32 ⊕ pm_A) × pm_M) :=
  bm_ (f_X10_place F t m) fun v3 m1 =>
  bm_ (f_X10_byteAt F t (gI_ m1 t 2) m1) fun v6 m4 =>
  bm_ (f_X10_isDigit F v6 m4) fun v9 m7 =>
  if v9 = 0 then
    lt_ (pN_ m7 11 0 8) fun m51 =>
    bm_ (f_X11_init F ((11, 0, gN_ m7)) 1 (gI_ m51 t 2) m51) fun v55 m53 =>
    some (.inr ((11, 0, gN_ m7)), m53)
  else
    jn_ (fun (x13 : Int32) (m12 : pm_M) =>
      jn_ (fun  (m15 : pm_M) =>
        lt_ (pN_ m15 11 0 8) fun m16 =>
        bm_ (f_X11_init F ((11, 0, gN_ m15)) 2 v3 m16) fun v20 m18 =>
        some (.inr ((11, 0, gN_ m15)), m18)
      ) fun k14 =>
      if x13 < i0 then
        k14 m12
      else
        if x13 ≤ i1 then
          some (.inl x13, m12)
        else
          k14 m12
    ) fun k11 =>
    f_X10_number_L35 F t i0 i1 v3 k11 F 0 m7
set_option maxHeartbeats 4000000 in
theorem e_X10_number {G : xg_T} {l : Launch} (hl : l.stackTraces = false) {F : Nat}    {t : pm_A} {i0 : Int32} {i1 : Int32} {m0 m' : pm_M} {r : (Int32 ⊕ pm_A)} (ht : t.1 = 10) (h : f_X10_number F t i0 i1 m0 = some (r, m')) : Cal_ G l yX10_number (ws_ yX10_number cX10_number 5 (some .int)) 5 [vR_ (some t), vI_ i0, vI_ i1] m0 (oI_ r) m' := by
  refine cal_of (by decide +kernel) (Nat.le_of_ble_eq_true rfl) ?_
  unfold f_X10_number at h
  show AW_ cX10_number RX10 (some (.int), "number", 5, 5, m0, m', (oI_ r), G, l, [], true) m0 0 [(0, vR_ (some t)), (1, vI_ i0), (2, vI_ i1)] []
  refine a_aload_n 0 dX10_number_0 rfl rfl ?_
  obtain ⟨v3, m1, e2, h⟩ := bm_some h
  have he2 := e_X10_place (G := G) hl ht e2
  refine c_I he2.1 (rn_V (n := 0) (As := []) kc_10 ht he2 (lw_V q729 q717 q718 q103 q719) (by decide +kernel) rfl (Nat.le_of_ble_eq_true rfl) (Nat.le_of_ble_eq_true rfl) (Nat.le_of_ble_eq_true rfl) dX10_number_1) (fun z => (os_av (As := []) z).2.1) ?_
  refine a_istore_n (ls' := [(3, vI_ v3), (0, vR_ (some t)), (1, vI_ i0), (2, vI_ i1)]) dX10_number_4 rfl (Nat.le_of_ble_eq_true rfl) rfl ?_
  refine a_iconst (v := 0) dX10_number_5 (by decide) ?_
  refine a_istore (ls' := [(4, vI_ 0), (3, vI_ v3), (0, vR_ (some t)), (1, vI_ i0), (2, vI_ i1)]) dX10_number_6 (Nat.le_of_ble_eq_true rfl) rfl ?_
  refine a_aload_n 2 dX10_number_8 rfl rfl ?_
  refine a_aload_n 2 dX10_number_9 rfl rfl ?_
  refine a_getI kc_10 2 (by decide) rfl ht q663 dX10_number_10 ?_
  obtain ⟨v6, m4, e5, h⟩ := bm_some h
  have he5 := e_X10_byteAt (G := G) hl ht e5
  refine c_I he5.1 (rn_V (n := 1) (As := [vI_ (gI_ m1 t 2)]) kc_10 ht he5 (lw_V q708 q710 qs3 q103 q711) (by decide +kernel) rfl (Nat.le_of_ble_eq_true rfl) (Nat.le_of_ble_eq_true rfl) (Nat.le_of_ble_eq_true rfl) dX10_number_13) (fun z => (os_av (As := [vI_ (gI_ m1 t 2)]) z).2.1) ?_
  obtain ⟨v9, m7, e8, h⟩ := bm_some h
  have he8 := e_X10_isDigit (G := G) hl e8
  refine c_I he8.1 (rn_S (n := 1) (As := [vI_ v6]) he8 (lw_S q821 q822 q103 q823) (by decide +kernel) rfl (Nat.le_of_ble_eq_true rfl) (Nat.le_of_ble_eq_true rfl) (Nat.le_of_ble_eq_true rfl) dX10_number_16) (fun z => (os_aS (As := [vI_ v6]) z).2) ?_
  refine a_if_ne (tgt := 35) dX10_number_19 (by decide) (fun c10 => ?_) (fun c10 => ?_)
  · replace h := ifn_ c10 h
    obtain ⟨k11, e50, h⟩ := jn2_some h
    have hk11 : ∀ (x13 : Int32) (m12 : pm_M), k11 x13 m12 = some (r, m') → AW_ cX10_number RX10 (some (.int), "number", 5, 5, m0, m', (oI_ r), G, l, [], true) m12 86 [(1, vI_ i0), (2, vI_ i1), (3, vI_ v3), (4, vI_ x13)] [] := by
      intro x13 m12 h
      have h := (e50 x13 m12).symm.trans h
      refine a_iload 3 dX10_number_86 rfl ?_
      refine a_iload_n 0 dX10_number_88 rfl rfl ?_
      obtain ⟨k14, e23, h⟩ := jn1_some h
      have hk14 : ∀  (m15 : pm_M), k14 m15 = some (r, m') → AW_ cX10_number RX10 (some (.int), "number", 5, 5, m0, m', (oI_ r), G, l, [], true) m15 98 [(3, vI_ v3)] [] := by
        intro m15 h
        have h := (e23 m15).symm.trans h
        obtain ⟨m16, e17, h⟩ := lt_some h
        refine a_new kc_11 q824 q782 q108 dX10_number_98 ?_
        rw [← e17]
        refine a_dup dX10_number_101 rfl ?_
        refine a_iconst (v := 2) dX10_number_102 (by decide) ?_
        refine a_iload_n 0 dX10_number_103 rfl rfl ?_
        obtain ⟨v20, m18, e19, h⟩ := bm_some h
        have he19 := e_X11_init (G := G) hl rfl e19
        refine c_V he19.1 (rn_I (n := 2) (As := [vI_ 2, vI_ v3]) he19 q825 q791 q108 q792 rfl (by decide +kernel) rfl (Nat.le_of_ble_eq_true rfl) (Nat.le_of_ble_eq_true rfl) (Nat.le_of_ble_eq_true rfl) dX10_number_104) (fun z => (os_av (As := [vI_ 2, vI_ v3]) z).2.1) ?_
        refine a_athrow kc_11 rfl dX10_number_107 ?_
        cases h
        exact a_out rfl rfl rfl rfl
      refine a_icmp_lt (tgt := 98) dX10_number_89 (by decide) (fun c21 => ?_) (fun c21 => ?_)
      · replace h := ifp_ c21 h
        refine aw_pick [2] rfl ?_
        exact hk14 _ h
      · replace h := ifn_ c21 h
        refine a_iload 3 dX10_number_92 rfl ?_
        refine a_iload_n 1 dX10_number_94 rfl rfl ?_
        refine a_icmp_le (tgt := 108) dX10_number_95 (by decide) (fun c22 => ?_) (fun c22 => ?_)
        · replace h := ifp_ c22 h
          refine a_iload 3 dX10_number_108 rfl ?_
          cases h
          exact a_ireturn rfl rfl rfl rfl rfl dX10_number_110
        · replace h := ifn_ c22 h
          refine aw_pick [2] rfl ?_
          exact hk14 _ h
    refine aw_pick [2, 3, 4, 1, 0] rfl ?_
    exact w_X10_number_L35 hl _ _ _ _ _ ht hk11 _ _ _ h
  · replace h := ifp_ c10 h
    obtain ⟨m51, e52, h⟩ := lt_some h
    refine a_new kc_11 q824 q782 q108 dX10_number_22 ?_
    rw [← e52]
    refine a_dup dX10_number_25 rfl ?_
    refine a_iconst (v := 1) dX10_number_26 (by decide) ?_
    refine a_aload_n 2 dX10_number_27 rfl rfl ?_
    refine a_getI kc_10 2 (by decide) rfl ht q663 dX10_number_28 ?_
    obtain ⟨v55, m53, e54, h⟩ := bm_some h
    have he54 := e_X11_init (G := G) hl rfl e54
    refine c_V he54.1 (rn_I (n := 2) (As := [vI_ 1, vI_ (gI_ m51 t 2)]) he54 q825 q791 q108 q792 rfl (by decide +kernel) rfl (Nat.le_of_ble_eq_true rfl) (Nat.le_of_ble_eq_true rfl) (Nat.le_of_ble_eq_true rfl) dX10_number_31) (fun z => (os_av (As := [vI_ 1, vI_ (gI_ m51 t 2)]) z).2.1) ?_
    refine a_athrow kc_11 rfl dX10_number_34 ?_
    cases h
    exact a_out rfl rfl rfl rfl
def f_X9_signer (F : Nat)  (t : pm_A) (i0 : Int32) (m : pm_M) : Option ((Unit ⊕ pm_A) × pm_M) :=
  gd_ 6 (gR_ m t 2) fun a1 =>
  gd_ 10 (gR_ m t 1) fun a4 =>
  bt_ (f_X10_number F a4 1 9 m) (fun v9 m7 =>
    gd_ 100 (gR_ m a1 0) fun a12 =>
    iz_ (!(ib_ i0 a12.2.1)) <|
    lt_ (pI_ m7 a12 i0.toNatClampNeg v9) fun m16 =>
    gd_ 6 (gR_ m16 t 2) fun a18 =>
    gd_ 10 (gR_ m16 t 1) fun a21 =>
    bt_ (f_X10_number F a21 0 5 m16) (fun v26 m24 =>
      gd_ 100 (gR_ m16 a18 1) fun a29 =>
      iz_ (!(ib_ i0 a29.2.1)) <|
      lt_ (pI_ m24 a29 i0.toNatClampNeg v26) fun m33 =>
      gd_ 6 (gR_ m33 t 2) fun a35 =>
      gd_ 10 (gR_ m33 t 1) fun a38 =>
      bt_ (f_X10_number F a38 0 4 m33) (fun v43 m41 =>
        gd_ 100 (gR_ m33 a35 2) fun a46 =>
        iz_ (!(ib_ i0 a46.2.1)) <|
        lt_ (pI_ m41 a46 i0.toNatClampNeg v43) fun m50 =>
        gd_ 6 (gR_ m50 t 2) fun a52 =>
        lt_ (pI_ m50 a52 7 ((gI_ m50 a52 7) + 1)) fun m55 =>
        some (.inl (), m55)
      ) fun b45 m44 =>
        some (.inr b45, m44)
    ) fun b28 m27 =>
      some (.inr b28, m27)
  ) fun b11 m10 =>
    some (.inr b11, m10)
set_option maxHeartbeats 4000000 in
theorem e_X9_signer {G : xg_T} {l : Launch} (hl : l.stackTraces = false) {F : Nat}    {t : pm_A} {i0 : Int32} {m0 m' : pm_M} {r : (Unit ⊕ pm_A)} (ht : t.1 = 9) (h : f_X9_signer F t i0 m0 = some (r, m')) : Cal_ G l yX9_signer (ws_ yX9_signer cX9_signer 2 none) 6 [vR_ (some t), vI_ i0] m0 (oV_ r) m' := by
  refine cal_of (by decide +kernel) (Nat.le_of_ble_eq_true rfl) ?_
  unfold f_X9_signer at h
  show AW_ cX9_signer RX9 (none, "signer", 6, 2, m0, m', (oV_ r), G, l, [], true) m0 0 [(0, vR_ (some t)), (1, vI_ i0)] []
  refine a_aload_n 0 dX9_signer_0 rfl rfl ?_
  refine a_getR kc_9 2 (by decide) rfl ht q689 dX9_signer_1 ?_
  obtain ⟨a1, e2, f3, h⟩ := gd_some h
  rw [e2]
  refine a_getRN kc_6 0 (by decide) rfl f3 q217 dX9_signer_4 ?_
  refine a_iload_n 1 dX9_signer_7 rfl rfl ?_
  refine a_aload_n 0 dX9_signer_8 rfl rfl ?_
  refine a_getR kc_9 1 (by decide) rfl ht q688 dX9_signer_9 ?_
  refine a_iconst (v := 1) dX9_signer_12 (by decide) ?_
  refine a_bipush (v := 9) dX9_signer_13 (by decide) ?_
  obtain ⟨a4, e5, f6, h⟩ := gd_some h
  rw [e5]
  rcases bt_some h with ⟨v9, m7, e8, h⟩ | ⟨b11, m10, e8, h⟩
  · have he8 := e_X10_number (G := G) hl f6 e8
    refine c_I (v := v9) he8.1 (rn_V (n := 2) (As := [vI_ 1, vI_ 9]) kc_10 f6 he8 (lw_V q817 q818 q819 q103 q820) (by decide +kernel) rfl (Nat.le_of_ble_eq_true rfl) (Nat.le_of_ble_eq_true rfl) (Nat.le_of_ble_eq_true rfl) dX9_signer_15) (fun z => (os_av (As := [vI_ 1, vI_ 9]) z).2.1) ?_
    obtain ⟨a12, e13, f14, h⟩ := gd_some h
    rw [e13]
    obtain ⟨c15, h⟩ := iz_some h
    obtain ⟨m16, e17, h⟩ := lt_some h
    refine a_iast f14 (bn_ c15) dX9_signer_18 ?_
    rw [← e17]
    refine a_aload_n 0 dX9_signer_19 rfl rfl ?_
    refine a_getR kc_9 2 (by decide) rfl ht q689 dX9_signer_20 ?_
    obtain ⟨a18, e19, f20, h⟩ := gd_some h
    rw [e19]
    refine a_getRN kc_6 1 (by decide) rfl f20 q221 dX9_signer_23 ?_
    refine a_iload_n 1 dX9_signer_26 rfl rfl ?_
    refine a_aload_n 0 dX9_signer_27 rfl rfl ?_
    refine a_getR kc_9 1 (by decide) rfl ht q688 dX9_signer_28 ?_
    refine a_iconst (v := 0) dX9_signer_31 (by decide) ?_
    refine a_iconst (v := 5) dX9_signer_32 (by decide) ?_
    obtain ⟨a21, e22, f23, h⟩ := gd_some h
    rw [e22]
    rcases bt_some h with ⟨v26, m24, e25, h⟩ | ⟨b28, m27, e25, h⟩
    · have he25 := e_X10_number (G := G) hl f23 e25
      refine c_I (v := v26) he25.1 (rn_V (n := 2) (As := [vI_ 0, vI_ 5]) kc_10 f23 he25 (lw_V q817 q818 q819 q103 q820) (by decide +kernel) rfl (Nat.le_of_ble_eq_true rfl) (Nat.le_of_ble_eq_true rfl) (Nat.le_of_ble_eq_true rfl) dX9_signer_33) (fun z => (os_av (As := [vI_ 0, vI_ 5]) z).2.1) ?_
      obtain ⟨a29, e30, f31, h⟩ := gd_some h
      rw [e30]
      obtain ⟨c32, h⟩ := iz_some h
      obtain ⟨m33, e34, h⟩ := lt_some h
      refine a_iast f31 (bn_ c32) dX9_signer_36 ?_
      rw [← e34]
      refine a_aload_n 0 dX9_signer_37 rfl rfl ?_
      refine a_getR kc_9 2 (by decide) rfl ht q689 dX9_signer_38 ?_
      obtain ⟨a35, e36, f37, h⟩ := gd_some h
      rw [e36]
      refine a_getRN kc_6 2 (by decide) rfl f37 q225 dX9_signer_41 ?_
      refine a_iload_n 1 dX9_signer_44 rfl rfl ?_
      refine a_aload_n 0 dX9_signer_45 rfl rfl ?_
      refine a_getR kc_9 1 (by decide) rfl ht q688 dX9_signer_46 ?_
      refine a_iconst (v := 0) dX9_signer_49 (by decide) ?_
      refine a_iconst (v := 4) dX9_signer_50 (by decide) ?_
      obtain ⟨a38, e39, f40, h⟩ := gd_some h
      rw [e39]
      rcases bt_some h with ⟨v43, m41, e42, h⟩ | ⟨b45, m44, e42, h⟩
      · have he42 := e_X10_number (G := G) hl f40 e42
        refine c_I (v := v43) he42.1 (rn_V (n := 2) (As := [vI_ 0, vI_ 4]) kc_10 f40 he42 (lw_V q817 q818 q819 q103 q820) (by decide +kernel) rfl (Nat.le_of_ble_eq_true rfl) (Nat.le_of_ble_eq_true rfl) (Nat.le_of_ble_eq_true rfl) dX9_signer_51) (fun z => (os_av (As := [vI_ 0, vI_ 4]) z).2.1) ?_
        obtain ⟨a46, e47, f48, h⟩ := gd_some h
        rw [e47]
        obtain ⟨c49, h⟩ := iz_some h
        obtain ⟨m50, e51, h⟩ := lt_some h
        refine a_iast f48 (bn_ c49) dX9_signer_54 ?_
        rw [← e51]
        refine a_aload_n 0 dX9_signer_55 rfl rfl ?_
        refine a_getR kc_9 2 (by decide) rfl ht q689 dX9_signer_56 ?_
        refine a_dup dX9_signer_59 rfl ?_
        obtain ⟨a52, e53, f54, h⟩ := gd_some h
        rw [e53]
        refine a_getIN kc_6 7 (by decide) rfl f54 q247 dX9_signer_60 ?_
        refine a_iconst (v := 1) dX9_signer_63 (by decide) ?_
        refine a_iadd dX9_signer_64 ?_
        obtain ⟨m55, e56, h⟩ := lt_some h
        refine a_putIN kc_6 7 (by decide) rfl f54 q247 rfl rfl rfl dX9_signer_65 ?_
        rw [← e56]
        cases h
        exact a_return rfl rfl rfl rfl dX9_signer_68
      · have he42 := e_X10_number (G := G) hl f40 e42
        refine c_X (b := b45) he42.1 (rn_V (n := 2) (As := [vI_ 0, vI_ 4]) kc_10 f40 he42 (lw_V q817 q818 q819 q103 q820) (by decide +kernel) rfl (Nat.le_of_ble_eq_true rfl) (Nat.le_of_ble_eq_true rfl) (Nat.le_of_ble_eq_true rfl) dX9_signer_51) ?_
        cases h
        exact a_out rfl rfl rfl rfl
    · have he25 := e_X10_number (G := G) hl f23 e25
      refine c_X (b := b28) he25.1 (rn_V (n := 2) (As := [vI_ 0, vI_ 5]) kc_10 f23 he25 (lw_V q817 q818 q819 q103 q820) (by decide +kernel) rfl (Nat.le_of_ble_eq_true rfl) (Nat.le_of_ble_eq_true rfl) (Nat.le_of_ble_eq_true rfl) dX9_signer_33) ?_
      cases h
      exact a_out rfl rfl rfl rfl
  · have he8 := e_X10_number (G := G) hl f6 e8
    refine c_X (b := b11) he8.1 (rn_V (n := 2) (As := [vI_ 1, vI_ 9]) kc_10 f6 he8 (lw_V q817 q818 q819 q103 q820) (by decide +kernel) rfl (Nat.le_of_ble_eq_true rfl) (Nat.le_of_ble_eq_true rfl) (Nat.le_of_ble_eq_true rfl) dX9_signer_15) ?_
    cases h
    exact a_out rfl rfl rfl rfl
def f_X9_taker (F : Nat)  (t : pm_A) (i0 : Int32) (m : pm_M) : Option ((Unit ⊕ pm_A) × pm_M) :=
  gd_ 6 (gR_ m t 2) fun a1 =>
  gd_ 10 (gR_ m t 1) fun a4 =>
  bt_ (f_X10_number F a4 0 5 m) (fun v9 m7 =>
    gd_ 100 (gR_ m a1 4) fun a12 =>
    iz_ (!(ib_ i0 a12.2.1)) <|
    lt_ (pI_ m7 a12 i0.toNatClampNeg v9) fun m16 =>
    gd_ 6 (gR_ m16 t 2) fun a18 =>
    gd_ 10 (gR_ m16 t 1) fun a21 =>
    bt_ (f_X10_number F a21 1 40 m16) (fun v26 m24 =>
      gd_ 100 (gR_ m16 a18 5) fun a29 =>
      iz_ (!(ib_ i0 a29.2.1)) <|
      lt_ (pI_ m24 a29 i0.toNatClampNeg v26) fun m33 =>
      gd_ 6 (gR_ m33 t 2) fun a35 =>
      gd_ 10 (gR_ m33 t 1) fun a38 =>
      bt_ (f_X10_number F a38 1 4 m33) (fun v43 m41 =>
        gd_ 100 (gR_ m33 a35 6) fun a46 =>
        iz_ (!(ib_ i0 a46.2.1)) <|
        lt_ (pI_ m41 a46 i0.toNatClampNeg v43) fun m50 =>
        gd_ 6 (gR_ m50 t 2) fun a52 =>
        lt_ (pI_ m50 a52 8 ((gI_ m50 a52 8) + 1)) fun m55 =>
        some (.inl (), m55)
      ) fun b45 m44 =>
        some (.inr b45, m44)
    ) fun b28 m27 =>
      some (.inr b28, m27)
  ) fun b11 m10 =>
    some (.inr b11, m10)
set_option maxHeartbeats 4000000 in
theorem e_X9_taker {G : xg_T} {l : Launch} (hl : l.stackTraces = false) {F : Nat}    {t : pm_A} {i0 : Int32} {m0 m' : pm_M} {r : (Unit ⊕ pm_A)} (ht : t.1 = 9) (h : f_X9_taker F t i0 m0 = some (r, m')) : Cal_ G l yX9_taker (ws_ yX9_taker cX9_taker 2 none) 6 [vR_ (some t), vI_ i0] m0 (oV_ r) m' := by
  refine cal_of (by decide +kernel) (Nat.le_of_ble_eq_true rfl) ?_
  unfold f_X9_taker at h
  show AW_ cX9_taker RX9 (none, "taker", 6, 2, m0, m', (oV_ r), G, l, [], true) m0 0 [(0, vR_ (some t)), (1, vI_ i0)] []
  refine a_aload_n 0 dX9_taker_0 rfl rfl ?_
  refine a_getR kc_9 2 (by decide) rfl ht q689 dX9_taker_1 ?_
  obtain ⟨a1, e2, f3, h⟩ := gd_some h
  rw [e2]
  refine a_getRN kc_6 4 (by decide) rfl f3 q231 dX9_taker_4 ?_
  refine a_iload_n 1 dX9_taker_7 rfl rfl ?_
  refine a_aload_n 0 dX9_taker_8 rfl rfl ?_
  refine a_getR kc_9 1 (by decide) rfl ht q688 dX9_taker_9 ?_
  refine a_iconst (v := 0) dX9_taker_12 (by decide) ?_
  refine a_iconst (v := 5) dX9_taker_13 (by decide) ?_
  obtain ⟨a4, e5, f6, h⟩ := gd_some h
  rw [e5]
  rcases bt_some h with ⟨v9, m7, e8, h⟩ | ⟨b11, m10, e8, h⟩
  · have he8 := e_X10_number (G := G) hl f6 e8
    refine c_I (v := v9) he8.1 (rn_V (n := 2) (As := [vI_ 0, vI_ 5]) kc_10 f6 he8 (lw_V q817 q818 q819 q103 q820) (by decide +kernel) rfl (Nat.le_of_ble_eq_true rfl) (Nat.le_of_ble_eq_true rfl) (Nat.le_of_ble_eq_true rfl) dX9_taker_14) (fun z => (os_av (As := [vI_ 0, vI_ 5]) z).2.1) ?_
    obtain ⟨a12, e13, f14, h⟩ := gd_some h
    rw [e13]
    obtain ⟨c15, h⟩ := iz_some h
    obtain ⟨m16, e17, h⟩ := lt_some h
    refine a_iast f14 (bn_ c15) dX9_taker_17 ?_
    rw [← e17]
    refine a_aload_n 0 dX9_taker_18 rfl rfl ?_
    refine a_getR kc_9 2 (by decide) rfl ht q689 dX9_taker_19 ?_
    obtain ⟨a18, e19, f20, h⟩ := gd_some h
    rw [e19]
    refine a_getRN kc_6 5 (by decide) rfl f20 q235 dX9_taker_22 ?_
    refine a_iload_n 1 dX9_taker_25 rfl rfl ?_
    refine a_aload_n 0 dX9_taker_26 rfl rfl ?_
    refine a_getR kc_9 1 (by decide) rfl ht q688 dX9_taker_27 ?_
    refine a_iconst (v := 1) dX9_taker_30 (by decide) ?_
    refine a_bipush (v := 40) dX9_taker_31 (by decide) ?_
    obtain ⟨a21, e22, f23, h⟩ := gd_some h
    rw [e22]
    rcases bt_some h with ⟨v26, m24, e25, h⟩ | ⟨b28, m27, e25, h⟩
    · have he25 := e_X10_number (G := G) hl f23 e25
      refine c_I (v := v26) he25.1 (rn_V (n := 2) (As := [vI_ 1, vI_ 40]) kc_10 f23 he25 (lw_V q817 q818 q819 q103 q820) (by decide +kernel) rfl (Nat.le_of_ble_eq_true rfl) (Nat.le_of_ble_eq_true rfl) (Nat.le_of_ble_eq_true rfl) dX9_taker_33) (fun z => (os_av (As := [vI_ 1, vI_ 40]) z).2.1) ?_
      obtain ⟨a29, e30, f31, h⟩ := gd_some h
      rw [e30]
      obtain ⟨c32, h⟩ := iz_some h
      obtain ⟨m33, e34, h⟩ := lt_some h
      refine a_iast f31 (bn_ c32) dX9_taker_36 ?_
      rw [← e34]
      refine a_aload_n 0 dX9_taker_37 rfl rfl ?_
      refine a_getR kc_9 2 (by decide) rfl ht q689 dX9_taker_38 ?_
      obtain ⟨a35, e36, f37, h⟩ := gd_some h
      rw [e36]
      refine a_getRN kc_6 6 (by decide) rfl f37 q240 dX9_taker_41 ?_
      refine a_iload_n 1 dX9_taker_44 rfl rfl ?_
      refine a_aload_n 0 dX9_taker_45 rfl rfl ?_
      refine a_getR kc_9 1 (by decide) rfl ht q688 dX9_taker_46 ?_
      refine a_iconst (v := 1) dX9_taker_49 (by decide) ?_
      refine a_iconst (v := 4) dX9_taker_50 (by decide) ?_
      obtain ⟨a38, e39, f40, h⟩ := gd_some h
      rw [e39]
      rcases bt_some h with ⟨v43, m41, e42, h⟩ | ⟨b45, m44, e42, h⟩
      · have he42 := e_X10_number (G := G) hl f40 e42
        refine c_I (v := v43) he42.1 (rn_V (n := 2) (As := [vI_ 1, vI_ 4]) kc_10 f40 he42 (lw_V q817 q818 q819 q103 q820) (by decide +kernel) rfl (Nat.le_of_ble_eq_true rfl) (Nat.le_of_ble_eq_true rfl) (Nat.le_of_ble_eq_true rfl) dX9_taker_51) (fun z => (os_av (As := [vI_ 1, vI_ 4]) z).2.1) ?_
        obtain ⟨a46, e47, f48, h⟩ := gd_some h
        rw [e47]
        obtain ⟨c49, h⟩ := iz_some h
        obtain ⟨m50, e51, h⟩ := lt_some h
        refine a_iast f48 (bn_ c49) dX9_taker_54 ?_
        rw [← e51]
        refine a_aload_n 0 dX9_taker_55 rfl rfl ?_
        refine a_getR kc_9 2 (by decide) rfl ht q689 dX9_taker_56 ?_
        refine a_dup dX9_taker_59 rfl ?_
        obtain ⟨a52, e53, f54, h⟩ := gd_some h
        rw [e53]
        refine a_getIN kc_6 8 (by decide) rfl f54 q251 dX9_taker_60 ?_
        refine a_iconst (v := 1) dX9_taker_63 (by decide) ?_
        refine a_iadd dX9_taker_64 ?_
        obtain ⟨m55, e56, h⟩ := lt_some h
        refine a_putIN kc_6 8 (by decide) rfl f54 q251 rfl rfl rfl dX9_taker_65 ?_
        rw [← e56]
        cases h
        exact a_return rfl rfl rfl rfl dX9_taker_68
      · have he42 := e_X10_number (G := G) hl f40 e42
        refine c_X (b := b45) he42.1 (rn_V (n := 2) (As := [vI_ 1, vI_ 4]) kc_10 f40 he42 (lw_V q817 q818 q819 q103 q820) (by decide +kernel) rfl (Nat.le_of_ble_eq_true rfl) (Nat.le_of_ble_eq_true rfl) (Nat.le_of_ble_eq_true rfl) dX9_taker_51) ?_
        cases h
        exact a_out rfl rfl rfl rfl
    · have he25 := e_X10_number (G := G) hl f23 e25
      refine c_X (b := b28) he25.1 (rn_V (n := 2) (As := [vI_ 1, vI_ 40]) kc_10 f23 he25 (lw_V q817 q818 q819 q103 q820) (by decide +kernel) rfl (Nat.le_of_ble_eq_true rfl) (Nat.le_of_ble_eq_true rfl) (Nat.le_of_ble_eq_true rfl) dX9_taker_33) ?_
      cases h
      exact a_out rfl rfl rfl rfl
  · have he8 := e_X10_number (G := G) hl f6 e8
    refine c_X (b := b11) he8.1 (rn_V (n := 2) (As := [vI_ 0, vI_ 5]) kc_10 f6 he8 (lw_V q817 q818 q819 q103 q820) (by decide +kernel) rfl (Nat.le_of_ble_eq_true rfl) (Nat.le_of_ble_eq_true rfl) (Nat.le_of_ble_eq_true rfl) dX9_taker_14) ?_
    cases h
    exact a_out rfl rfl rfl rfl
def f_X10_sign (F : Nat)  (t : pm_A) (i0 : Int32) (m : pm_M) : Option ((Unit ⊕ pm_A) × pm_M) :=
  bm_ (f_X10_now F t m) fun v3 m1 =>
  if v3 = i0 then
    lt_ (pI_ m1 t 2 ((gI_ m1 t 2) + 1)) fun m5 =>
    some (.inl (), m5)
  else
    lt_ (pN_ m1 11 0 8) fun m7 =>
    bm_ (f_X11_init F ((11, 0, gN_ m1)) 1 (gI_ m7 t 2) m7) fun v11 m9 =>
    some (.inr ((11, 0, gN_ m1)), m9)
set_option maxHeartbeats 4000000 in
theorem e_X10_sign {G : xg_T} {l : Launch} (hl : l.stackTraces = false) {F : Nat}    {t : pm_A} {i0 : Int32} {m0 m' : pm_M} {r : (Unit ⊕ pm_A)} (ht : t.1 = 10) (h : f_X10_sign F t i0 m0 = some (r, m')) : Cal_ G l yX10_sign (ws_ yX10_sign cX10_sign 2 none) 5 [vR_ (some t), vI_ i0] m0 (oV_ r) m' := by
  refine cal_of (by decide +kernel) (Nat.le_of_ble_eq_true rfl) ?_
  unfold f_X10_sign at h
  show AW_ cX10_sign RX10 (none, "sign", 5, 2, m0, m', (oV_ r), G, l, [], true) m0 0 [(0, vR_ (some t)), (1, vI_ i0)] []
  refine a_aload_n 0 dX10_sign_0 rfl rfl ?_
  obtain ⟨v3, m1, e2, h⟩ := bm_some h
  have he2 := e_X10_now (G := G) hl ht e2
  refine c_I he2.1 (rn_V (n := 0) (As := []) kc_10 ht he2 (lw_V q720 q705 q706 q103 q707) (by decide +kernel) rfl (Nat.le_of_ble_eq_true rfl) (Nat.le_of_ble_eq_true rfl) (Nat.le_of_ble_eq_true rfl) dX10_sign_1) (fun z => (os_av (As := []) z).2.1) ?_
  refine a_iload_n 1 dX10_sign_4 rfl rfl ?_
  refine a_icmp_eq (tgt := 21) dX10_sign_5 (by decide) (fun c4 => ?_) (fun c4 => ?_)
  · replace h := ifp_ c4 h
    refine a_aload_n 0 dX10_sign_21 rfl rfl ?_
    refine a_dup dX10_sign_22 rfl ?_
    refine a_getI kc_10 2 (by decide) rfl ht q663 dX10_sign_23 ?_
    refine a_iconst (v := 1) dX10_sign_26 (by decide) ?_
    refine a_iadd dX10_sign_27 ?_
    obtain ⟨m5, e6, h⟩ := lt_some h
    refine a_putI kc_10 2 (by decide) rfl ht q663 rfl rfl rfl dX10_sign_28 ?_
    rw [← e6]
    cases h
    exact a_return rfl rfl rfl rfl dX10_sign_31
  · replace h := ifn_ c4 h
    obtain ⟨m7, e8, h⟩ := lt_some h
    refine a_new kc_11 q824 q782 q108 dX10_sign_8 ?_
    rw [← e8]
    refine a_dup dX10_sign_11 rfl ?_
    refine a_iconst (v := 1) dX10_sign_12 (by decide) ?_
    refine a_aload_n 0 dX10_sign_13 rfl rfl ?_
    refine a_getI kc_10 2 (by decide) rfl ht q663 dX10_sign_14 ?_
    obtain ⟨v11, m9, e10, h⟩ := bm_some h
    have he10 := e_X11_init (G := G) hl rfl e10
    refine c_V he10.1 (rn_I (n := 2) (As := [vI_ 1, vI_ (gI_ m7 t 2)]) he10 q825 q791 q108 q792 rfl (by decide +kernel) rfl (Nat.le_of_ble_eq_true rfl) (Nat.le_of_ble_eq_true rfl) (Nat.le_of_ble_eq_true rfl) dX10_sign_17) (fun z => (os_av (As := [vI_ 1, vI_ (gI_ m7 t 2)]) z).2.1) ?_
    refine a_athrow kc_11 rfl dX10_sign_20 ?_
    cases h
    exact a_out rfl rfl rfl rfl
