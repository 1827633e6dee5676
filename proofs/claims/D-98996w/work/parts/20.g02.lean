/-! PRINTED BY dec.py: X12_product X12_sum X10_ends X12_reads X1_law X0_law X16_init X17_init X18_init X16_signer X19_init X20_init X21_init X22_init X18_adds X23_init X16_again X16_step X16_reads X4_copies -/
set_option maxRecDepth 100000
def f_X12_product_L5 (F : Nat) (z_ : pm_A → pm_M → Option ((Option pm_A ⊕ pm_A) × pm_M)) (p6 : pm_A) : Nat → Option pm_A → pm_M → Option ((Option pm_A ⊕ pm_A) × pm_M)
  | 0, _, _ => none
  | n8 + 1, x10, m9 =>
    gd_ 10 (gR_ m9 p6 1) fun a11 =>
    bm_ (f_X10_takesSign F a11 42 m9) fun v16 m14 =>
    if v16 = 0 then
      gd_ 10 (gR_ m14 p6 1) fun a18 =>
      bm_ (f_X10_takesSign F a18 47 m14) fun v23 m21 =>
      if v23 = 0 then
        some (.inl x10, m21)
      else
        lt_ (pN_ m21 13 0 3) fun m25 =>
        bt_ (f_X12_value F z_ p6 m25) (fun v29 m27 =>
          bm_ (f_X13_init F ((13, 0, gN_ m21)) 47 x10 v29 m27) fun v34 m32 =>
          (f_X12_product_L5 F z_ p6 n8) (some ((13, 0, gN_ m21))) m32
        ) fun b31 m30 =>
          some (.inr b31, m30)
    else
      lt_ (pN_ m14 13 0 3) fun m35 =>
      bt_ (f_X12_value F z_ p6 m35) (fun v39 m37 =>
        bm_ (f_X13_init F ((13, 0, gN_ m14)) 42 x10 v39 m37) fun v44 m42 =>
        (f_X12_product_L5 F z_ p6 n8) (some ((13, 0, gN_ m14))) m42
      ) fun b41 m40 =>
        some (.inr b41, m40)
set_option maxHeartbeats 4000000 in
theorem w_X12_product_L5 {G : xg_T} {l : Launch} (hl : l.stackTraces = false) {F : Nat} {dz : Nat} {z_ : pm_A → pm_M → Option ((Option pm_A ⊕ pm_A) × pm_M)} (hz : ∀ (w0 : pm_A) (m m' : pm_M) (r : (Option pm_A ⊕ pm_A)), w0.1 = 12 → z_ w0 m = some (r, m') → Cal_ G l yX12_sum (ws_ yX12_sum cX12_sum 2 (some (.object "PassagePapers$Term"))) dz [vR_ (some w0)] m (oR_ r) m') (hdz : 8 ≤ dz) (p6 : pm_A) {m0 m' : pm_M} {r : (Option pm_A ⊕ pm_A)} (hf7 : p6.1 = 12)  : ∀ (n : Nat) (x10 : Option pm_A) (m9 : pm_M), f_X12_product_L5 F z_ p6 n x10 m9 = some (r, m') → AW_ cX12_product RX12 (some (.object "PassagePapers$Term"), "product", (dz + 2), 2, m0, m', (oR_ r), G, l, [], true) m9 5 [(0, vR_ (some p6)), (1, vR_ x10)] [] := by
  intro n
  induction n with
  | zero => intro x10 m9 h; cases h
  | succ n8 ih =>
    intro x10 m9 h
    rw [f_X12_product_L5] at h
    refine a_aload_n 0 dX12_product_5 rfl rfl ?_
    refine a_getR kc_12 1 (by decide) rfl hf7 q864 dX12_product_6 ?_
    refine a_bipush (v := 42) dX12_product_9 (by decide) ?_
    obtain ⟨a11, e12, f13, h⟩ := gd_some h
    rw [e12]
    obtain ⟨v16, m14, e15, h⟩ := bm_some h
    have he15 := e_X10_takesSign (G := G) hl f13 e15
    refine c_I he15.1 (rn_V (n := 1) (As := [vI_ 42]) kc_10 f13 he15 (lw_V q938 q939 q940 q103 q941) (by decide +kernel) rfl (by show 4 + 1 ≤ (dz + 2); omega) (Nat.le_of_ble_eq_true rfl) (Nat.le_of_ble_eq_true rfl) dX12_product_11) (fun z => (os_av (As := [vI_ 42]) z).2.1) ?_
    refine a_if_eq (tgt := 35) dX12_product_14 (by decide) (fun c17 => ?_) (fun c17 => ?_)
    · replace h := ifp_ c17 h
      refine a_aload_n 0 dX12_product_35 rfl rfl ?_
      refine a_getR kc_12 1 (by decide) rfl hf7 q864 dX12_product_36 ?_
      refine a_bipush (v := 47) dX12_product_39 (by decide) ?_
      obtain ⟨a18, e19, f20, h⟩ := gd_some h
      rw [e19]
      obtain ⟨v23, m21, e22, h⟩ := bm_some h
      have he22 := e_X10_takesSign (G := G) hl f20 e22
      refine c_I he22.1 (rn_V (n := 1) (As := [vI_ 47]) kc_10 f20 he22 (lw_V q938 q939 q940 q103 q941) (by decide +kernel) rfl (by show 4 + 1 ≤ (dz + 2); omega) (Nat.le_of_ble_eq_true rfl) (Nat.le_of_ble_eq_true rfl) dX12_product_41) (fun z => (os_av (As := [vI_ 47]) z).2.1) ?_
      refine a_if_eq (tgt := 65) dX12_product_44 (by decide) (fun c24 => ?_) (fun c24 => ?_)
      · replace h := ifp_ c24 h
        refine a_aload_n 1 dX12_product_65 rfl rfl ?_
        cases h
        exact a_areturn rfl (Or.inl ⟨_, rfl⟩) rfl rfl rfl dX12_product_66
      · replace h := ifn_ c24 h
        obtain ⟨m25, e26, h⟩ := lt_some h
        refine a_new kc_13 q899 q900 q111 dX12_product_47 ?_
        rw [← e26]
        refine a_dup dX12_product_50 rfl ?_
        refine a_bipush (v := 47) dX12_product_51 (by decide) ?_
        refine a_aload_n 1 dX12_product_53 rfl rfl ?_
        refine a_aload_n 0 dX12_product_54 rfl rfl ?_
        rcases bt_some h with ⟨v29, m27, e28, h⟩ | ⟨b31, m30, e28, h⟩
        · have he28 := e_X12_value (G := G) hl hz hdz hf7 e28
          refine c_R (v := v29) he28.1 (rn_V (n := 0) (As := []) kc_12 hf7 he28 (lw_V q882 q884 qs10 q110 q885) (by decide +kernel) rfl (by show (dz + 1) + 1 ≤ (dz + 2); omega) (Nat.le_of_ble_eq_true rfl) (Nat.le_of_ble_eq_true rfl) dX12_product_55) (fun z => (os_av (As := []) z).2.1) ?_
          obtain ⟨v34, m32, e33, h⟩ := bm_some h
          have he33 := e_X13_init (G := G) hl rfl e33
          refine c_V he33.1 (rn_I (n := 3) (As := [vI_ 47, vR_ x10, vR_ v29]) he33 q901 q902 q111 q903 rfl (by decide +kernel) rfl (by show 2 + 1 ≤ (dz + 2); omega) (Nat.le_of_ble_eq_true rfl) (Nat.le_of_ble_eq_true rfl) dX12_product_58) (fun z => (os_av (As := [vI_ 47, vR_ x10, vR_ v29]) z).2.1) ?_
          refine a_astore_n (ls' := [(1, vR_ (some ((13, 0, gN_ m21)))), (0, vR_ (some p6))]) dX12_product_61 rfl (Nat.le_of_ble_eq_true rfl) rfl ?_
          refine a_goto (tgt := 5) dX12_product_62 (by decide) ?_
          refine aw_pick [1, 0] rfl ?_
          exact ih _ _ h
        · have he28 := e_X12_value (G := G) hl hz hdz hf7 e28
          refine c_X (b := b31) he28.1 (rn_V (n := 0) (As := []) kc_12 hf7 he28 (lw_V q882 q884 qs10 q110 q885) (by decide +kernel) rfl (by show (dz + 1) + 1 ≤ (dz + 2); omega) (Nat.le_of_ble_eq_true rfl) (Nat.le_of_ble_eq_true rfl) dX12_product_55) ?_
          cases h
          exact a_out rfl rfl rfl rfl
    · replace h := ifn_ c17 h
      obtain ⟨m35, e36, h⟩ := lt_some h
      refine a_new kc_13 q899 q900 q111 dX12_product_17 ?_
      rw [← e36]
      refine a_dup dX12_product_20 rfl ?_
      refine a_bipush (v := 42) dX12_product_21 (by decide) ?_
      refine a_aload_n 1 dX12_product_23 rfl rfl ?_
      refine a_aload_n 0 dX12_product_24 rfl rfl ?_
      rcases bt_some h with ⟨v39, m37, e38, h⟩ | ⟨b41, m40, e38, h⟩
      · have he38 := e_X12_value (G := G) hl hz hdz hf7 e38
        refine c_R (v := v39) he38.1 (rn_V (n := 0) (As := []) kc_12 hf7 he38 (lw_V q882 q884 qs10 q110 q885) (by decide +kernel) rfl (by show (dz + 1) + 1 ≤ (dz + 2); omega) (Nat.le_of_ble_eq_true rfl) (Nat.le_of_ble_eq_true rfl) dX12_product_25) (fun z => (os_av (As := []) z).2.1) ?_
        obtain ⟨v44, m42, e43, h⟩ := bm_some h
        have he43 := e_X13_init (G := G) hl rfl e43
        refine c_V he43.1 (rn_I (n := 3) (As := [vI_ 42, vR_ x10, vR_ v39]) he43 q901 q902 q111 q903 rfl (by decide +kernel) rfl (by show 2 + 1 ≤ (dz + 2); omega) (Nat.le_of_ble_eq_true rfl) (Nat.le_of_ble_eq_true rfl) dX12_product_28) (fun z => (os_av (As := [vI_ 42, vR_ x10, vR_ v39]) z).2.1) ?_
        refine a_astore_n (ls' := [(1, vR_ (some ((13, 0, gN_ m14)))), (0, vR_ (some p6))]) dX12_product_31 rfl (Nat.le_of_ble_eq_true rfl) rfl ?_
        refine a_goto (tgt := 5) dX12_product_32 (by decide) ?_
        refine aw_pick [1, 0] rfl ?_
        exact ih _ _ h
      · have he38 := e_X12_value (G := G) hl hz hdz hf7 e38
        refine c_X (b := b41) he38.1 (rn_V (n := 0) (As := []) kc_12 hf7 he38 (lw_V q882 q884 qs10 q110 q885) (by decide +kernel) rfl (by show (dz + 1) + 1 ≤ (dz + 2); omega) (Nat.le_of_ble_eq_true rfl) (Nat.le_of_ble_eq_true rfl) dX12_product_25) ?_
        cases h
        exact a_out rfl rfl rfl rfl
def f_X12_product (F : Nat) (z_ : pm_A → pm_M → Option ((Option pm_A ⊕ pm_A) × pm_M)) (t : pm_A) (m : pm_M) : Option ((Option pm_A ⊕ pm_A) × pm_M) :=
  bt_ (f_X12_value F z_ t m) (fun v3 m1 =>
    f_X12_product_L5 F z_ t F v3 m1
  ) fun b5 m4 =>
    some (.inr b5, m4)
set_option maxHeartbeats 4000000 in
theorem e_X12_product {G : xg_T} {l : Launch} (hl : l.stackTraces = false) {F : Nat} {dz : Nat} {z_ : pm_A → pm_M → Option ((Option pm_A ⊕ pm_A) × pm_M)} (hz : ∀ (w0 : pm_A) (m m' : pm_M) (r : (Option pm_A ⊕ pm_A)), w0.1 = 12 → z_ w0 m = some (r, m') → Cal_ G l yX12_sum (ws_ yX12_sum cX12_sum 2 (some (.object "PassagePapers$Term"))) dz [vR_ (some w0)] m (oR_ r) m') (hdz : 8 ≤ dz) {t : pm_A} {m0 m' : pm_M} {r : (Option pm_A ⊕ pm_A)} (ht : t.1 = 12) (h : f_X12_product F z_ t m0 = some (r, m')) : Cal_ G l yX12_product (ws_ yX12_product cX12_product 2 (some (.object "PassagePapers$Term"))) (dz + 2) [vR_ (some t)] m0 (oR_ r) m' := by
  refine cal_of (by decide +kernel) (Nat.le_of_ble_eq_true rfl) ?_
  unfold f_X12_product at h
  show AW_ cX12_product RX12 (some (.object "PassagePapers$Term"), "product", (dz + 2), 2, m0, m', (oR_ r), G, l, [], true) m0 0 [(0, vR_ (some t))] []
  refine a_aload_n 0 dX12_product_0 rfl rfl ?_
  rcases bt_some h with ⟨v3, m1, e2, h⟩ | ⟨b5, m4, e2, h⟩
  · have he2 := e_X12_value (G := G) hl hz hdz ht e2
    refine c_R (v := v3) he2.1 (rn_V (n := 0) (As := []) kc_12 ht he2 (lw_V q882 q884 qs10 q110 q885) (by decide +kernel) rfl (by show (dz + 1) + 1 ≤ (dz + 2); omega) (Nat.le_of_ble_eq_true rfl) (Nat.le_of_ble_eq_true rfl) dX12_product_1) (fun z => (os_av (As := []) z).2.1) ?_
    refine a_astore_n (ls' := [(1, vR_ v3), (0, vR_ (some t))]) dX12_product_4 rfl (Nat.le_of_ble_eq_true rfl) rfl ?_
    refine aw_pick [1, 0] rfl ?_
    exact w_X12_product_L5 hl hz hdz _ ht _ _ _ h
  · have he2 := e_X12_value (G := G) hl hz hdz ht e2
    refine c_X (b := b5) he2.1 (rn_V (n := 0) (As := []) kc_12 ht he2 (lw_V q882 q884 qs10 q110 q885) (by decide +kernel) rfl (by show (dz + 1) + 1 ≤ (dz + 2); omega) (Nat.le_of_ble_eq_true rfl) (Nat.le_of_ble_eq_true rfl) dX12_product_1) ?_
    cases h
    exact a_out rfl rfl rfl rfl
def f_X12_sum_L5 (F : Nat) (z_ : pm_A → pm_M → Option ((Option pm_A ⊕ pm_A) × pm_M)) (p6 : pm_A) : Nat → Option pm_A → pm_M → Option ((Option pm_A ⊕ pm_A) × pm_M)
  | 0, _, _ => none
  | n8 + 1, x10, m9 =>
    gd_ 10 (gR_ m9 p6 1) fun a11 =>
    bm_ (f_X10_takesSign F a11 43 m9) fun v16 m14 =>
    if v16 = 0 then
      gd_ 10 (gR_ m14 p6 1) fun a18 =>
      bm_ (f_X10_takesSign F a18 45 m14) fun v23 m21 =>
      if v23 = 0 then
        some (.inl x10, m21)
      else
        lt_ (pN_ m21 13 0 3) fun m25 =>
        bt_ (f_X12_product F z_ p6 m25) (fun v29 m27 =>
          bm_ (f_X13_init F ((13, 0, gN_ m21)) 45 x10 v29 m27) fun v34 m32 =>
          (f_X12_sum_L5 F z_ p6 n8) (some ((13, 0, gN_ m21))) m32
        ) fun b31 m30 =>
          some (.inr b31, m30)
    else
      lt_ (pN_ m14 13 0 3) fun m35 =>
      bt_ (f_X12_product F z_ p6 m35) (fun v39 m37 =>
        bm_ (f_X13_init F ((13, 0, gN_ m14)) 43 x10 v39 m37) fun v44 m42 =>
        (f_X12_sum_L5 F z_ p6 n8) (some ((13, 0, gN_ m14))) m42
      ) fun b41 m40 =>
        some (.inr b41, m40)
set_option maxHeartbeats 4000000 in
theorem w_X12_sum_L5 {G : xg_T} {l : Launch} (hl : l.stackTraces = false) {F : Nat} {dz : Nat} {z_ : pm_A → pm_M → Option ((Option pm_A ⊕ pm_A) × pm_M)} (hz : ∀ (w0 : pm_A) (m m' : pm_M) (r : (Option pm_A ⊕ pm_A)), w0.1 = 12 → z_ w0 m = some (r, m') → Cal_ G l yX12_sum (ws_ yX12_sum cX12_sum 2 (some (.object "PassagePapers$Term"))) dz [vR_ (some w0)] m (oR_ r) m') (hdz : 8 ≤ dz) (p6 : pm_A) {m0 m' : pm_M} {r : (Option pm_A ⊕ pm_A)} (hf7 : p6.1 = 12)  : ∀ (n : Nat) (x10 : Option pm_A) (m9 : pm_M), f_X12_sum_L5 F z_ p6 n x10 m9 = some (r, m') → AW_ cX12_sum RX12 (some (.object "PassagePapers$Term"), "sum", (dz + 3), 2, m0, m', (oR_ r), G, l, [], true) m9 5 [(0, vR_ (some p6)), (1, vR_ x10)] [] := by
  intro n
  induction n with
  | zero => intro x10 m9 h; cases h
  | succ n8 ih =>
    intro x10 m9 h
    rw [f_X12_sum_L5] at h
    refine a_aload_n 0 dX12_sum_5 rfl rfl ?_
    refine a_getR kc_12 1 (by decide) rfl hf7 q864 dX12_sum_6 ?_
    refine a_bipush (v := 43) dX12_sum_9 (by decide) ?_
    obtain ⟨a11, e12, f13, h⟩ := gd_some h
    rw [e12]
    obtain ⟨v16, m14, e15, h⟩ := bm_some h
    have he15 := e_X10_takesSign (G := G) hl f13 e15
    refine c_I he15.1 (rn_V (n := 1) (As := [vI_ 43]) kc_10 f13 he15 (lw_V q938 q939 q940 q103 q941) (by decide +kernel) rfl (by show 4 + 1 ≤ (dz + 3); omega) (Nat.le_of_ble_eq_true rfl) (Nat.le_of_ble_eq_true rfl) dX12_sum_11) (fun z => (os_av (As := [vI_ 43]) z).2.1) ?_
    refine a_if_eq (tgt := 35) dX12_sum_14 (by decide) (fun c17 => ?_) (fun c17 => ?_)
    · replace h := ifp_ c17 h
      refine a_aload_n 0 dX12_sum_35 rfl rfl ?_
      refine a_getR kc_12 1 (by decide) rfl hf7 q864 dX12_sum_36 ?_
      refine a_bipush (v := 45) dX12_sum_39 (by decide) ?_
      obtain ⟨a18, e19, f20, h⟩ := gd_some h
      rw [e19]
      obtain ⟨v23, m21, e22, h⟩ := bm_some h
      have he22 := e_X10_takesSign (G := G) hl f20 e22
      refine c_I he22.1 (rn_V (n := 1) (As := [vI_ 45]) kc_10 f20 he22 (lw_V q938 q939 q940 q103 q941) (by decide +kernel) rfl (by show 4 + 1 ≤ (dz + 3); omega) (Nat.le_of_ble_eq_true rfl) (Nat.le_of_ble_eq_true rfl) dX12_sum_41) (fun z => (os_av (As := [vI_ 45]) z).2.1) ?_
      refine a_if_eq (tgt := 65) dX12_sum_44 (by decide) (fun c24 => ?_) (fun c24 => ?_)
      · replace h := ifp_ c24 h
        refine a_aload_n 1 dX12_sum_65 rfl rfl ?_
        cases h
        exact a_areturn rfl (Or.inl ⟨_, rfl⟩) rfl rfl rfl dX12_sum_66
      · replace h := ifn_ c24 h
        obtain ⟨m25, e26, h⟩ := lt_some h
        refine a_new kc_13 q899 q900 q111 dX12_sum_47 ?_
        rw [← e26]
        refine a_dup dX12_sum_50 rfl ?_
        refine a_bipush (v := 45) dX12_sum_51 (by decide) ?_
        refine a_aload_n 1 dX12_sum_53 rfl rfl ?_
        refine a_aload_n 0 dX12_sum_54 rfl rfl ?_
        rcases bt_some h with ⟨v29, m27, e28, h⟩ | ⟨b31, m30, e28, h⟩
        · have he28 := e_X12_product (G := G) hl hz hdz hf7 e28
          refine c_R (v := v29) he28.1 (rn_V (n := 0) (As := []) kc_12 hf7 he28 (lw_V q878 q880 qs9 q110 q881) (by decide +kernel) rfl (by show (dz + 2) + 1 ≤ (dz + 3); omega) (Nat.le_of_ble_eq_true rfl) (Nat.le_of_ble_eq_true rfl) dX12_sum_55) (fun z => (os_av (As := []) z).2.1) ?_
          obtain ⟨v34, m32, e33, h⟩ := bm_some h
          have he33 := e_X13_init (G := G) hl rfl e33
          refine c_V he33.1 (rn_I (n := 3) (As := [vI_ 45, vR_ x10, vR_ v29]) he33 q901 q902 q111 q903 rfl (by decide +kernel) rfl (by show 2 + 1 ≤ (dz + 3); omega) (Nat.le_of_ble_eq_true rfl) (Nat.le_of_ble_eq_true rfl) dX12_sum_58) (fun z => (os_av (As := [vI_ 45, vR_ x10, vR_ v29]) z).2.1) ?_
          refine a_astore_n (ls' := [(1, vR_ (some ((13, 0, gN_ m21)))), (0, vR_ (some p6))]) dX12_sum_61 rfl (Nat.le_of_ble_eq_true rfl) rfl ?_
          refine a_goto (tgt := 5) dX12_sum_62 (by decide) ?_
          refine aw_pick [1, 0] rfl ?_
          exact ih _ _ h
        · have he28 := e_X12_product (G := G) hl hz hdz hf7 e28
          refine c_X (b := b31) he28.1 (rn_V (n := 0) (As := []) kc_12 hf7 he28 (lw_V q878 q880 qs9 q110 q881) (by decide +kernel) rfl (by show (dz + 2) + 1 ≤ (dz + 3); omega) (Nat.le_of_ble_eq_true rfl) (Nat.le_of_ble_eq_true rfl) dX12_sum_55) ?_
          cases h
          exact a_out rfl rfl rfl rfl
    · replace h := ifn_ c17 h
      obtain ⟨m35, e36, h⟩ := lt_some h
      refine a_new kc_13 q899 q900 q111 dX12_sum_17 ?_
      rw [← e36]
      refine a_dup dX12_sum_20 rfl ?_
      refine a_bipush (v := 43) dX12_sum_21 (by decide) ?_
      refine a_aload_n 1 dX12_sum_23 rfl rfl ?_
      refine a_aload_n 0 dX12_sum_24 rfl rfl ?_
      rcases bt_some h with ⟨v39, m37, e38, h⟩ | ⟨b41, m40, e38, h⟩
      · have he38 := e_X12_product (G := G) hl hz hdz hf7 e38
        refine c_R (v := v39) he38.1 (rn_V (n := 0) (As := []) kc_12 hf7 he38 (lw_V q878 q880 qs9 q110 q881) (by decide +kernel) rfl (by show (dz + 2) + 1 ≤ (dz + 3); omega) (Nat.le_of_ble_eq_true rfl) (Nat.le_of_ble_eq_true rfl) dX12_sum_25) (fun z => (os_av (As := []) z).2.1) ?_
        obtain ⟨v44, m42, e43, h⟩ := bm_some h
        have he43 := e_X13_init (G := G) hl rfl e43
        refine c_V he43.1 (rn_I (n := 3) (As := [vI_ 43, vR_ x10, vR_ v39]) he43 q901 q902 q111 q903 rfl (by decide +kernel) rfl (by show 2 + 1 ≤ (dz + 3); omega) (Nat.le_of_ble_eq_true rfl) (Nat.le_of_ble_eq_true rfl) dX12_sum_28) (fun z => (os_av (As := [vI_ 43, vR_ x10, vR_ v39]) z).2.1) ?_
        refine a_astore_n (ls' := [(1, vR_ (some ((13, 0, gN_ m14)))), (0, vR_ (some p6))]) dX12_sum_31 rfl (Nat.le_of_ble_eq_true rfl) rfl ?_
        refine a_goto (tgt := 5) dX12_sum_32 (by decide) ?_
        refine aw_pick [1, 0] rfl ?_
        exact ih _ _ h
      · have he38 := e_X12_product (G := G) hl hz hdz hf7 e38
        refine c_X (b := b41) he38.1 (rn_V (n := 0) (As := []) kc_12 hf7 he38 (lw_V q878 q880 qs9 q110 q881) (by decide +kernel) rfl (by show (dz + 2) + 1 ≤ (dz + 3); omega) (Nat.le_of_ble_eq_true rfl) (Nat.le_of_ble_eq_true rfl) dX12_sum_25) ?_
        cases h
        exact a_out rfl rfl rfl rfl
def b_X12_sum (F : Nat) (z_ : pm_A → pm_M → Option ((Option pm_A ⊕ pm_A) × pm_M)) (t : pm_A) (m : pm_M) : Option ((Option pm_A ⊕ pm_A) × pm_M) :=
  bt_ (f_X12_product F z_ t m) (fun v3 m1 =>
    f_X12_sum_L5 F z_ t F v3 m1
  ) fun b5 m4 =>
    some (.inr b5, m4)
set_option maxHeartbeats 4000000 in
theorem eb_X12_sum {G : xg_T} {l : Launch} (hl : l.stackTraces = false) {F : Nat} {dz : Nat} {z_ : pm_A → pm_M → Option ((Option pm_A ⊕ pm_A) × pm_M)} (hz : ∀ (w0 : pm_A) (m m' : pm_M) (r : (Option pm_A ⊕ pm_A)), w0.1 = 12 → z_ w0 m = some (r, m') → Cal_ G l yX12_sum (ws_ yX12_sum cX12_sum 2 (some (.object "PassagePapers$Term"))) dz [vR_ (some w0)] m (oR_ r) m') (hdz : 8 ≤ dz) {t : pm_A} {m0 m' : pm_M} {r : (Option pm_A ⊕ pm_A)} (ht : t.1 = 12) (h : b_X12_sum F z_ t m0 = some (r, m')) : Cal_ G l yX12_sum (ws_ yX12_sum cX12_sum 2 (some (.object "PassagePapers$Term"))) (dz + 3) [vR_ (some t)] m0 (oR_ r) m' := by
  refine cal_of (by decide +kernel) (Nat.le_of_ble_eq_true rfl) ?_
  unfold b_X12_sum at h
  show AW_ cX12_sum RX12 (some (.object "PassagePapers$Term"), "sum", (dz + 3), 2, m0, m', (oR_ r), G, l, [], true) m0 0 [(0, vR_ (some t))] []
  refine a_aload_n 0 dX12_sum_0 rfl rfl ?_
  rcases bt_some h with ⟨v3, m1, e2, h⟩ | ⟨b5, m4, e2, h⟩
  · have he2 := e_X12_product (G := G) hl hz hdz ht e2
    refine c_R (v := v3) he2.1 (rn_V (n := 0) (As := []) kc_12 ht he2 (lw_V q878 q880 qs9 q110 q881) (by decide +kernel) rfl (by show (dz + 2) + 1 ≤ (dz + 3); omega) (Nat.le_of_ble_eq_true rfl) (Nat.le_of_ble_eq_true rfl) dX12_sum_1) (fun z => (os_av (As := []) z).2.1) ?_
    refine a_astore_n (ls' := [(1, vR_ v3), (0, vR_ (some t))]) dX12_sum_4 rfl (Nat.le_of_ble_eq_true rfl) rfl ?_
    refine aw_pick [1, 0] rfl ?_
    exact w_X12_sum_L5 hl hz hdz _ ht _ _ _ h
  · have he2 := e_X12_product (G := G) hl hz hdz ht e2
    refine c_X (b := b5) he2.1 (rn_V (n := 0) (As := []) kc_12 ht he2 (lw_V q878 q880 qs9 q110 q881) (by decide +kernel) rfl (by show (dz + 2) + 1 ≤ (dz + 3); omega) (Nat.le_of_ble_eq_true rfl) (Nat.le_of_ble_eq_true rfl) dX12_sum_1) ?_
    cases h
    exact a_out rfl rfl rfl rfl
def f_X12_sum (F : Nat) : Nat → pm_A → pm_M → Option ((Option pm_A ⊕ pm_A) × pm_M)
  | 0, _, _ => none
  | D + 1, t, m => b_X12_sum F (f_X12_sum F D) t m
theorem er_X12_sum {G : xg_T} {l : Launch} (hl : l.stackTraces = false) {F : Nat} : ∀ (D : Nat) (t : pm_A) (m m' : pm_M) (r : (Option pm_A ⊕ pm_A)), t.1 = 12 → f_X12_sum F D t m = some (r, m') → Cal_ G l yX12_sum (ws_ yX12_sum cX12_sum 2 (some (.object "PassagePapers$Term"))) (3 * D + 8) [vR_ (some t)] m (oR_ r) m' := by
  intro D
  induction D with
  | zero => intro t m m' r ht h; cases h
  | succ D ih =>
    intro t m m' r ht h
    have h : b_X12_sum F (f_X12_sum F D) t m = some (r, m') := h
    have q := eb_X12_sum (dz := 3 * D + 8) hl ih (by omega) ht h
    rw [show 3 * (D + 1) + 8 = 3 * D + 8 + 3 by omega]
    exact q
theorem e_X12_sum {G : xg_T} {l : Launch} (hl : l.stackTraces = false) {F : Nat} {t : pm_A} {m m' : pm_M} {r : (Option pm_A ⊕ pm_A)} (ht : t.1 = 12) (h : f_X12_sum F 10 t m = some (r, m')) : Cal_ G l yX12_sum (ws_ yX12_sum cX12_sum 2 (some (.object "PassagePapers$Term"))) 38 [vR_ (some t)] m (oR_ r) m' := er_X12_sum hl 10 _ _ _ _ ht h
def f_X10_ends (F : Nat)  (t : pm_A) (m : pm_M) : Option ((Unit ⊕ pm_A) × pm_M) :=
  bm_ (f_X10_now F t m) fun v3 m1 =>
  if v3 = ((-1)) then
    some (.inl (), m1)
  else
    lt_ (pN_ m1 11 0 8) fun m5 =>
    bm_ (f_X11_init F ((11, 0, gN_ m1)) 1 (gI_ m5 t 2) m5) fun v9 m7 =>
    some (.inr ((11, 0, gN_ m1)), m7)
set_option maxHeartbeats 4000000 in
theorem e_X10_ends {G : xg_T} {l : Launch} (hl : l.stackTraces = false) {F : Nat}    {t : pm_A} {m0 m' : pm_M} {r : (Unit ⊕ pm_A)} (ht : t.1 = 10) (h : f_X10_ends F t m0 = some (r, m')) : Cal_ G l yX10_ends (ws_ yX10_ends cX10_ends 1 none) 5 [vR_ (some t)] m0 (oV_ r) m' := by
  refine cal_of (by decide +kernel) (Nat.le_of_ble_eq_true rfl) ?_
  unfold f_X10_ends at h
  show AW_ cX10_ends RX10 (none, "ends", 5, 1, m0, m', (oV_ r), G, l, [], true) m0 0 [(0, vR_ (some t))] []
  refine a_aload_n 0 dX10_ends_0 rfl rfl ?_
  obtain ⟨v3, m1, e2, h⟩ := bm_some h
  have he2 := e_X10_now (G := G) hl ht e2
  refine c_I he2.1 (rn_V (n := 0) (As := []) kc_10 ht he2 (lw_V q720 q705 q706 q103 q707) (by decide +kernel) rfl (Nat.le_of_ble_eq_true rfl) (Nat.le_of_ble_eq_true rfl) (Nat.le_of_ble_eq_true rfl) dX10_ends_1) (fun z => (os_av (As := []) z).2.1) ?_
  refine a_iconst (v := (-1)) dX10_ends_4 (by decide) ?_
  refine a_icmp_eq (tgt := 21) dX10_ends_5 (by decide) (fun c4 => ?_) (fun c4 => ?_)
  · replace h := ifp_ c4 h
    cases h
    exact a_return rfl rfl rfl rfl dX10_ends_21
  · replace h := ifn_ c4 h
    obtain ⟨m5, e6, h⟩ := lt_some h
    refine a_new kc_11 q824 q782 q108 dX10_ends_8 ?_
    rw [← e6]
    refine a_dup dX10_ends_11 rfl ?_
    refine a_iconst (v := 1) dX10_ends_12 (by decide) ?_
    refine a_aload_n 0 dX10_ends_13 rfl rfl ?_
    refine a_getI kc_10 2 (by decide) rfl ht q663 dX10_ends_14 ?_
    obtain ⟨v9, m7, e8, h⟩ := bm_some h
    have he8 := e_X11_init (G := G) hl rfl e8
    refine c_V he8.1 (rn_I (n := 2) (As := [vI_ 1, vI_ (gI_ m5 t 2)]) he8 q825 q791 q108 q792 rfl (by decide +kernel) rfl (Nat.le_of_ble_eq_true rfl) (Nat.le_of_ble_eq_true rfl) (Nat.le_of_ble_eq_true rfl) dX10_ends_17) (fun z => (os_av (As := [vI_ 1, vI_ (gI_ m5 t 2)]) z).2.1) ?_
    refine a_athrow kc_11 rfl dX10_ends_20 ?_
    cases h
    exact a_out rfl rfl rfl rfl
def f_X12_reads (F : Nat)  (t : pm_A) (m : pm_M) : Option ((Option pm_A ⊕ pm_A) × pm_M) :=
  bt_ (f_X12_sum F 10 t m) (fun v3 m1 =>
    gd_ 10 (gR_ m1 t 1) fun a6 =>
    bt_ (f_X10_ends F a6 m1) (fun v11 m9 =>
      some (.inl v3, m9)
    ) fun b13 m12 =>
      some (.inr b13, m12)
  ) fun b5 m4 =>
    some (.inr b5, m4)
set_option maxHeartbeats 4000000 in
theorem e_X12_reads {G : xg_T} {l : Launch} (hl : l.stackTraces = false) {F : Nat}    {t : pm_A} {m0 m' : pm_M} {r : (Option pm_A ⊕ pm_A)} (ht : t.1 = 12) (h : f_X12_reads F t m0 = some (r, m')) : Cal_ G l yX12_reads (ws_ yX12_reads cX12_reads 2 (some (.object "PassagePapers$Term"))) 39 [vR_ (some t)] m0 (oR_ r) m' := by
  refine cal_of (by decide +kernel) (Nat.le_of_ble_eq_true rfl) ?_
  unfold f_X12_reads at h
  show AW_ cX12_reads RX12 (some (.object "PassagePapers$Term"), "reads", 39, 2, m0, m', (oR_ r), G, l, [], true) m0 0 [(0, vR_ (some t))] []
  refine a_aload_n 0 dX12_reads_0 rfl rfl ?_
  rcases bt_some h with ⟨v3, m1, e2, h⟩ | ⟨b5, m4, e2, h⟩
  · have he2 := e_X12_sum (G := G) hl ht e2
    refine c_R (v := v3) he2.1 (rn_V (n := 0) (As := []) kc_12 ht he2 (lw_V q874 q876 qs8 q110 q877) (by decide +kernel) rfl (Nat.le_of_ble_eq_true rfl) (Nat.le_of_ble_eq_true rfl) (Nat.le_of_ble_eq_true rfl) dX12_reads_1) (fun z => (os_av (As := []) z).2.1) ?_
    refine a_astore_n (ls' := [(1, vR_ v3), (0, vR_ (some t))]) dX12_reads_4 rfl (Nat.le_of_ble_eq_true rfl) rfl ?_
    refine a_aload_n 1 dX12_reads_5 rfl rfl ?_
    refine a_getR kc_12 1 (by decide) rfl ht q864 dX12_reads_6 ?_
    obtain ⟨a6, e7, f8, h⟩ := gd_some h
    rw [e7]
    rcases bt_some h with ⟨v11, m9, e10, h⟩ | ⟨b13, m12, e10, h⟩
    · have he10 := e_X10_ends (G := G) hl f8 e10
      refine c_V he10.1 (rn_V (n := 0) (As := []) kc_10 f8 he10 (lw_V q942 q943 q944 q103 q945) (by decide +kernel) rfl (Nat.le_of_ble_eq_true rfl) (Nat.le_of_ble_eq_true rfl) (Nat.le_of_ble_eq_true rfl) dX12_reads_9) (fun z => (os_av (As := []) z).2.1) ?_
      refine a_aload_n 0 dX12_reads_12 rfl rfl ?_
      cases h
      exact a_areturn rfl (Or.inl ⟨_, rfl⟩) rfl rfl rfl dX12_reads_13
    · have he10 := e_X10_ends (G := G) hl f8 e10
      refine c_X (b := b13) he10.1 (rn_V (n := 0) (As := []) kc_10 f8 he10 (lw_V q942 q943 q944 q103 q945) (by decide +kernel) rfl (Nat.le_of_ble_eq_true rfl) (Nat.le_of_ble_eq_true rfl) (Nat.le_of_ble_eq_true rfl) dX12_reads_9) ?_
      cases h
      exact a_out rfl rfl rfl rfl
  · have he2 := e_X12_sum (G := G) hl ht e2
    refine c_X (b := b5) he2.1 (rn_V (n := 0) (As := []) kc_12 ht he2 (lw_V q874 q876 qs8 q110 q877) (by decide +kernel) rfl (Nat.le_of_ble_eq_true rfl) (Nat.le_of_ble_eq_true rfl) (Nat.le_of_ble_eq_true rfl) dX12_reads_1) ?_
    cases h
    exact a_out rfl rfl rfl rfl
def f_X1_law (F : Nat)  (t : pm_A) (i0 : Int32) (i1 : Int32) (m : pm_M) : Option ((Int32 ⊕ pm_A) × pm_M) :=
  bt_ (f_X1_within F t i0 0 1 m) (fun v3 m1 =>
    bm_ (f_J8_min F (gI_ m1 t 13) 150 m1) fun v8 m6 =>
    bt_ (f_X1_within F t i1 0 v8 m6) (fun v11 m9 =>
      gd_ 2 (gR_ m9 t 1) fun a14 =>
      lt_ (pN_ m9 12 0 2) fun m17 =>
      bm_ (f_X1_reader F t i1 m17) fun v21 m19 =>
      bm_ (f_X12_init F ((12, 0, gN_ m9)) v21 m19) fun v24 m22 =>
      bt_ (f_X12_reads F ((12, 0, gN_ m9)) m22) (fun v27 m25 =>
        gd_ 106 (gR_ m9 a14 0) fun a30 =>
        iz_ (!(ib_ i0 a30.2.1)) <|
        nn_ v27 fun a34 =>
        iz_ (!(decide (a34.1 = 14 ∨ a34.1 = 15 ∨ a34.1 = 13))) <|
        lt_ (pR_ m25 a30 i0.toNatClampNeg (some a34)) fun m37 =>
        some (.inl 1, m37)
      ) fun b29 m28 =>
        if b29.1 = 11 then
          bm_ (f_X1_faulty F t (some b29) m28) fun v43 m41 =>
          some (.inl v43, m41)
        else
        none
    ) fun b13 m12 =>
      some (.inr b13, m12)
  ) fun b5 m4 =>
    some (.inr b5, m4)
set_option maxHeartbeats 4000000 in
theorem e_X1_law {G : xg_T} {l : Launch} (hl : l.stackTraces = false) {F : Nat}    {t : pm_A} {i0 : Int32} {i1 : Int32} {m0 m' : pm_M} {r : (Int32 ⊕ pm_A)} (ht : t.1 = 1) (h : f_X1_law F t i0 i1 m0 = some (r, m')) : Cal_ G l yX1_law (wsW_ yX1_law cX1_law 4 (some .int) [(23, 47, 50, 110)]) 40 [vR_ (some t), vI_ i0, vI_ i1] m0 (oI_ r) m' := by
  refine cal_ofH (by decide +kernel) (Nat.le_of_ble_eq_true rfl) ?_
  unfold f_X1_law at h
  show AW_ cX1_law RX1 (some (.int), "law", 40, 4, m0, m', (oI_ r), G, l, [(23, 47, 50, 110)], true) m0 0 [(0, vR_ (some t)), (1, vI_ i0), (2, vI_ i1)] []
  refine a_aload_n 0 dX1_law_0 rfl rfl ?_
  refine a_iload_n 1 dX1_law_1 rfl rfl ?_
  refine a_iconst (v := 0) dX1_law_2 (by decide) ?_
  refine a_iconst (v := 1) dX1_law_3 (by decide) ?_
  rcases bt_some h with ⟨v3, m1, e2, h⟩ | ⟨b5, m4, e2, h⟩
  · have he2 := e_X1_within (G := G) hl ht e2
    refine c_V he2.1 (rn_V (n := 3) (As := [vI_ i0, vI_ 0, vI_ 1]) kc_1 ht he2 (lw_V q581 q583 qs0 q90 q584) (by decide +kernel) rfl (Nat.le_of_ble_eq_true rfl) (Nat.le_of_ble_eq_true rfl) (Nat.le_of_ble_eq_true rfl) dX1_law_4) (fun z => (os_av (As := [vI_ i0, vI_ 0, vI_ 1]) z).2.1) ?_
    refine a_aload_n 0 dX1_law_7 rfl rfl ?_
    refine a_iload_n 2 dX1_law_8 rfl rfl ?_
    refine a_iconst (v := 0) dX1_law_9 (by decide) ?_
    refine a_aload_n 0 dX1_law_10 rfl rfl ?_
    refine a_getI kc_1 13 (by decide) rfl ht q401 dX1_law_11 ?_
    refine a_sipush (v := 150) dX1_law_14 (by decide) ?_
    obtain ⟨v8, m6, e7, h⟩ := bm_some h
    have he7 := e_J8_min (G := G) hl e7
    refine c_I he7.1 (rn_S (n := 2) (As := [vI_ (gI_ m1 t 13), vI_ 150]) he7 (lw_S q847 q521 q109 q522) (by decide +kernel) rfl (Nat.le_of_ble_eq_true rfl) (Nat.le_of_ble_eq_true rfl) (Nat.le_of_ble_eq_true rfl) dX1_law_17) (fun z => (os_aS (As := [vI_ (gI_ m1 t 13), vI_ 150]) z).2) ?_
    rcases bt_some h with ⟨v11, m9, e10, h⟩ | ⟨b13, m12, e10, h⟩
    · have he10 := e_X1_within (G := G) hl ht e10
      refine c_V he10.1 (rn_V (n := 3) (As := [vI_ i1, vI_ 0, vI_ v8]) kc_1 ht he10 (lw_V q581 q583 qs0 q90 q584) (by decide +kernel) rfl (Nat.le_of_ble_eq_true rfl) (Nat.le_of_ble_eq_true rfl) (Nat.le_of_ble_eq_true rfl) dX1_law_20) (fun z => (os_av (As := [vI_ i1, vI_ 0, vI_ v8]) z).2.1) ?_
      refine a_aload_n 0 dX1_law_23 rfl rfl ?_
      refine a_getR kc_1 1 (by decide) rfl ht q389 dX1_law_24 ?_
      obtain ⟨a14, e15, f16, h⟩ := gd_some h
      rw [e15]
      refine a_getRN kc_2 0 (by decide) rfl f16 q143 dX1_law_27 ?_
      refine a_iload_n 1 dX1_law_30 rfl rfl ?_
      obtain ⟨m17, e18, h⟩ := lt_some h
      refine a_new kc_12 q848 q849 q110 dX1_law_31 ?_
      rw [← e18]
      refine a_dup dX1_law_34 rfl ?_
      refine a_aload_n 0 dX1_law_35 rfl rfl ?_
      refine a_iload_n 2 dX1_law_36 rfl rfl ?_
      obtain ⟨v21, m19, e20, h⟩ := bm_some h
      have he20 := e_X1_reader (G := G) hl ht e20
      refine c_R he20.1 (rn_V (n := 1) (As := [vI_ i1]) kc_1 ht he20 (lw_V q651 q653 qs2 q90 q654) (by decide +kernel) rfl (Nat.le_of_ble_eq_true rfl) (Nat.le_of_ble_eq_true rfl) (Nat.le_of_ble_eq_true rfl) dX1_law_37) (fun z => (os_av (As := [vI_ i1]) z).2.1) ?_
      obtain ⟨v24, m22, e23, h⟩ := bm_some h
      have he23 := e_X12_init (G := G) hl rfl e23
      refine c_V he23.1 (rn_I (n := 1) (As := [vR_ v21]) he23 q850 q851 q110 q852 rfl (by decide +kernel) rfl (Nat.le_of_ble_eq_true rfl) (Nat.le_of_ble_eq_true rfl) (Nat.le_of_ble_eq_true rfl) dX1_law_40) (fun z => (os_av (As := [vR_ v21]) z).2.1) ?_
      rcases bt_some h with ⟨v27, m25, e26, h⟩ | ⟨b29, m28, e26, h⟩
      · have he26 := e_X12_reads (G := G) hl rfl e26
        refine c_R (v := v27) he26.1 (rn_V (n := 0) (As := []) kc_12 rfl he26 (lw_V q870 q871 q872 q110 q873) (by decide +kernel) rfl (Nat.le_of_ble_eq_true rfl) (Nat.le_of_ble_eq_true rfl) (Nat.le_of_ble_eq_true rfl) dX1_law_43) (fun z => (os_av (As := []) z).2.1) ?_
        obtain ⟨a30, e31, f32, h⟩ := gd_some h
        rw [e31]
        obtain ⟨c33, h⟩ := iz_some h
        obtain ⟨a34, e35, h⟩ := nn_some h
        rw [e35]
        obtain ⟨c36, h⟩ := iz_some h
        obtain ⟨m37, e38, h⟩ := lt_some h
        have hk39 : AW_ cX1_law RX1 (some (.int), "law", 40, 4, m0, m', (oI_ r), G, l, [(23, 47, 50, 110)], true) m37 47 [(0, vR_ (some t)), (1, vI_ i0), (2, vI_ i1)] [] := by
          refine a_goto (tgt := 57) dX1_law_47 (by decide) ?_
          refine a_iconst (v := 1) dX1_law_57 (by decide) ?_
          cases h
          exact a_ireturn rfl rfl rfl rfl rfl dX1_law_58
        rcases of_decide_eq_true (bn_ c36) with q | q | q
        · refine a_aast (t0 := 6) kc_14 f32 (by decide) (by decide) rfl q (Or.inl q496) (bn_ c33) dX1_law_46 ?_
          rw [← e38]
          exact hk39
        · refine a_aast (t0 := 6) kc_15 f32 (by decide) (by decide) rfl q (Or.inl q502) (bn_ c33) dX1_law_46 ?_
          rw [← e38]
          exact hk39
        · refine a_aast (t0 := 6) kc_13 f32 (by decide) (by decide) rfl q (Or.inl q512) (bn_ c33) dX1_law_46 ?_
          rw [← e38]
          exact hk39
      · have he26 := e_X12_reads (G := G) hl rfl e26
        refine c_X (b := b29) he26.1 (rn_V (n := 0) (As := []) kc_12 rfl he26 (lw_V q870 q871 q872 q110 q873) (by decide +kernel) rfl (Nat.le_of_ble_eq_true rfl) (Nat.le_of_ble_eq_true rfl) (Nat.le_of_ble_eq_true rfl) dX1_law_43) ?_
        by_cases c40 : b29.1 = 11
        · replace h := ifp_ c40 h
          refine a_catch [] ⟨23, 47, 50, 110⟩ [] rfl (fun z hz => nomatch hz) rfl (by decide) q580 (by rw [c40]; exact q783) ?_
          refine a_astore_n (ls' := [(3, vR_ (some b29)), (0, vR_ (some t)), (1, vI_ i0), (2, vI_ i1)]) dX1_law_50 rfl (Nat.le_of_ble_eq_true rfl) rfl ?_
          refine a_aload_n 1 dX1_law_51 rfl rfl ?_
          refine a_aload_n 0 dX1_law_52 rfl rfl ?_
          obtain ⟨v43, m41, e42, h⟩ := bm_some h
          have he42 := e_X1_faulty (G := G) hl ht e42
          refine c_I he42.1 (rn_V (n := 1) (As := [vR_ (some b29)]) kc_1 ht he42 (lw_V q836 q838 qs7 q90 q839) (by decide +kernel) rfl (Nat.le_of_ble_eq_true rfl) (Nat.le_of_ble_eq_true rfl) (Nat.le_of_ble_eq_true rfl) dX1_law_53) (fun z => (os_av (As := [vR_ (some b29)]) z).2.1) ?_
          cases h
          exact a_ireturn rfl rfl rfl rfl rfl dX1_law_56
        replace h := ifn_ c40 h
        cases h
    · have he10 := e_X1_within (G := G) hl ht e10
      refine c_X (b := b13) he10.1 (rn_V (n := 3) (As := [vI_ i1, vI_ 0, vI_ v8]) kc_1 ht he10 (lw_V q581 q583 qs0 q90 q584) (by decide +kernel) rfl (Nat.le_of_ble_eq_true rfl) (Nat.le_of_ble_eq_true rfl) (Nat.le_of_ble_eq_true rfl) dX1_law_20) ?_
      cases h
      exact a_out rfl rfl rfl rfl
  · have he2 := e_X1_within (G := G) hl ht e2
    refine c_X (b := b5) he2.1 (rn_V (n := 3) (As := [vI_ i0, vI_ 0, vI_ 1]) kc_1 ht he2 (lw_V q581 q583 qs0 q90 q584) (by decide +kernel) rfl (Nat.le_of_ble_eq_true rfl) (Nat.le_of_ble_eq_true rfl) (Nat.le_of_ble_eq_true rfl) dX1_law_4) ?_
    cases h
    exact a_out rfl rfl rfl rfl
def f_X0_law (F : Nat)  (i0 : Option pm_A) (i1 : Int32) (i2 : Int32) (i3 : Option pm_A) (m : pm_M) : Option (Int32 × pm_M) :=
  gd_ 1 i0 fun a1 =>
  bt_ (f_X1_law F a1 i1 i2 m) (fun v6 m4 =>
    gd_ 103 i3 fun a9 =>
    iz_ (!(ib_ 0 a9.2.1)) <|
    lt_ (pL_ m4 a9 ((0 : Int32).toNatClampNeg) v6.toInt64) fun m13 =>
    some (0, m13)
  ) fun b8 m7 =>
    if b8.1 = 25 then
      some (1, m7)
    else
    none
set_option maxHeartbeats 4000000 in
theorem e_X0_law {G : xg_T} {l : Launch} (hl : l.stackTraces = false) {F : Nat}    {i0 : Option pm_A} {i1 : Int32} {i2 : Int32} {i3 : Option pm_A} {m0 m' : pm_M} {r : Int32} (h : f_X0_law F i0 i1 i2 i3 m0 = some (r, m')) : Cal_ G l yX0_law (wsW_ yX0_law cX0_law 5 (some .int) [(0, 10, 13, 13)]) 41 [vR_ i0, vI_ i1, vI_ i2, vR_ i3] m0 (.inl (some (vI_ r))) m' := by
  refine cal_ofH (by decide +kernel) (Nat.le_of_ble_eq_true rfl) ?_
  unfold f_X0_law at h
  show AW_ cX0_law RX0 (some (.int), "law", 41, 5, m0, m', (.inl (some (vI_ r))), G, l, [(0, 10, 13, 13)], true) m0 0 [(0, vR_ i0), (1, vI_ i1), (2, vI_ i2), (3, vR_ i3)] []
  refine a_aload_n 3 dX0_law_0 rfl rfl ?_
  refine a_iconst (v := 0) dX0_law_1 (by decide) ?_
  refine a_aload_n 0 dX0_law_2 rfl rfl ?_
  refine a_iload_n 1 dX0_law_3 rfl rfl ?_
  refine a_iload_n 2 dX0_law_4 rfl rfl ?_
  obtain ⟨a1, e2, f3, h⟩ := gd_some h
  rw [e2]
  rcases bt_some h with ⟨v6, m4, e5, h⟩ | ⟨b8, m7, e5, h⟩
  · have he5 := e_X1_law (G := G) hl f3 e5
    refine c_I (v := v6) he5.1 (rn_VH (n := 2) (As := [vI_ i1, vI_ i2]) kc_1 f3 he5 (lw_VW q843 q844 q845 q90 q846) (by decide +kernel) rfl (Nat.le_of_ble_eq_true rfl) (Nat.le_of_ble_eq_true rfl) (Nat.le_of_ble_eq_true rfl) dX0_law_5) (fun z => (os_av (As := [vI_ i1, vI_ i2]) z).2.1) ?_
    refine a_i2l dX0_law_8 ?_
    obtain ⟨a9, e10, f11, h⟩ := gd_some h
    rw [e10]
    obtain ⟨c12, h⟩ := iz_some h
    obtain ⟨m13, e14, h⟩ := lt_some h
    refine a_last f11 (bn_ c12) dX0_law_9 ?_
    rw [← e14]
    refine a_goto (tgt := 17) dX0_law_10 (by decide) ?_
    refine a_iconst (v := 0) dX0_law_17 (by decide) ?_
    cases h
    exact a_ireturn rfl rfl rfl rfl rfl dX0_law_18
  · have he5 := e_X1_law (G := G) hl f3 e5
    refine c_X (b := b8) he5.1 (rn_VH (n := 2) (As := [vI_ i1, vI_ i2]) kc_1 f3 he5 (lw_VW q843 q844 q845 q90 q846) (by decide +kernel) rfl (Nat.le_of_ble_eq_true rfl) (Nat.le_of_ble_eq_true rfl) (Nat.le_of_ble_eq_true rfl) dX0_law_5) ?_
    by_cases c15 : b8.1 = 25
    · replace h := ifp_ c15 h
      refine a_catch [] ⟨0, 10, 13, 13⟩ [] rfl (fun z hz => nomatch hz) rfl (by decide) q575 (by rw [c15]; exact q587) ?_
      refine a_astore (ls' := [(4, vR_ (some b8)), (0, vR_ (some a1)), (1, vI_ i1), (2, vI_ i2), (3, vR_ i3)]) dX0_law_13 (Nat.le_of_ble_eq_true rfl) rfl ?_
      refine a_iconst (v := 1) dX0_law_15 (by decide) ?_
      cases h
      exact a_ireturn rfl rfl rfl rfl rfl dX0_law_16
    replace h := ifn_ c15 h
    cases h
def f_X16_init (F : Nat)  (t : pm_A) (i0 : Option pm_A) (i1 : Option pm_A) (m : pm_M) : Option (Unit × pm_M) :=
  lt_ (pN_ m 108 9 9) fun m1 =>
  iz_ (!(ib_ 0 ((108, 9, gN_ m)).2.1)) <|
  lt_ (pR_ m1 ((108, 9, gN_ m)) ((0 : Int32).toNatClampNeg) (some ((200, 0, 17)))) fun m4 =>
  iz_ (!(ib_ 1 ((108, 9, gN_ m)).2.1)) <|
  lt_ (pR_ m4 ((108, 9, gN_ m)) ((1 : Int32).toNatClampNeg) (some ((200, 0, 9)))) fun m7 =>
  iz_ (!(ib_ 2 ((108, 9, gN_ m)).2.1)) <|
  lt_ (pR_ m7 ((108, 9, gN_ m)) ((2 : Int32).toNatClampNeg) (some ((200, 0, 3)))) fun m10 =>
  iz_ (!(ib_ 3 ((108, 9, gN_ m)).2.1)) <|
  lt_ (pR_ m10 ((108, 9, gN_ m)) ((3 : Int32).toNatClampNeg) (some ((200, 0, 12)))) fun m13 =>
  iz_ (!(ib_ 4 ((108, 9, gN_ m)).2.1)) <|
  lt_ (pR_ m13 ((108, 9, gN_ m)) ((4 : Int32).toNatClampNeg) (some ((200, 0, 13)))) fun m16 =>
  iz_ (!(ib_ 5 ((108, 9, gN_ m)).2.1)) <|
  lt_ (pR_ m16 ((108, 9, gN_ m)) ((5 : Int32).toNatClampNeg) (some ((200, 0, 0)))) fun m19 =>
  iz_ (!(ib_ 6 ((108, 9, gN_ m)).2.1)) <|
  lt_ (pR_ m19 ((108, 9, gN_ m)) ((6 : Int32).toNatClampNeg) (some ((200, 0, 7)))) fun m22 =>
  iz_ (!(ib_ 7 ((108, 9, gN_ m)).2.1)) <|
  lt_ (pR_ m22 ((108, 9, gN_ m)) ((7 : Int32).toNatClampNeg) (some ((200, 0, 21)))) fun m25 =>
  iz_ (!(ib_ 8 ((108, 9, gN_ m)).2.1)) <|
  lt_ (pR_ m25 ((108, 9, gN_ m)) ((8 : Int32).toNatClampNeg) (some ((200, 0, 2)))) fun m28 =>
  lt_ (pR_ m28 t 0 (some ((108, 9, gN_ m)))) fun m30 =>
  lt_ (pR_ m30 t 1 i0) fun m32 =>
  lt_ (pR_ m32 t 2 i1) fun m34 =>
  some ((), m34)
set_option maxHeartbeats 4000000 in
theorem e_X16_init {G : xg_T} {l : Launch} (hl : l.stackTraces = false) {F : Nat}    {t : pm_A} {i0 : Option pm_A} {i1 : Option pm_A} {m0 m' : pm_M} {r : Unit} (ht : t.1 = 16) (h : f_X16_init F t i0 i1 m0 = some (r, m')) : Cal_ G l yX16_init (ws_ yX16_init cX16_init 3 none) 2 [vR_ (some t), vR_ i0, vR_ i1] m0 (.inl none) m' := by
  refine cal_of (by decide +kernel) (Nat.le_of_ble_eq_true rfl) ?_
  unfold f_X16_init at h
  show AW_ cX16_init RX16 (none, "<init>", 2, 3, m0, m', (.inl none), G, l, [], true) m0 0 [(0, vR_ (some t)), (1, vR_ i0), (2, vR_ i1)] []
  refine a_aload_n 0 dX16_init_0 rfl rfl ?_
  refine a_obj q958 q132 q133 (Nat.le_of_ble_eq_true rfl) (Nat.le_of_ble_eq_true rfl) dX16_init_1 ?_
  refine a_aload_n 0 dX16_init_4 rfl rfl ?_
  refine a_bipush (v := 9) dX16_init_5 (by decide) ?_
  obtain ⟨m1, e2, h⟩ := lt_some h
  refine a_newq (t0 := 8) (C := "java/lang/String") (N := 9) (by decide) (by decide) rfl (by decide +kernel) q959 (by decide) rfl (by decide) dX16_init_7 ?_
  rw [← e2]
  refine a_dup dX16_init_10 rfl ?_
  refine a_iconst (v := 0) dX16_init_11 (by decide) ?_
  refine a_ldcS (n := 17) (tx := "strike") (by decide +kernel) (by decide) dX16_init_12 ?_
  obtain ⟨c3, h⟩ := iz_some h
  obtain ⟨m4, e5, h⟩ := lt_some h
  refine a_aastS rfl rfl (bn_ c3) dX16_init_14 ?_
  rw [← e5]
  refine a_dup dX16_init_15 rfl ?_
  refine a_iconst (v := 1) dX16_init_16 (by decide) ?_
  refine a_ldcS (n := 9) (tx := "lose") (by decide +kernel) (by decide) dX16_init_17 ?_
  obtain ⟨c6, h⟩ := iz_some h
  obtain ⟨m7, e8, h⟩ := lt_some h
  refine a_aastS rfl rfl (bn_ c6) dX16_init_19 ?_
  rw [← e8]
  refine a_dup dX16_init_20 rfl ?_
  refine a_iconst (v := 2) dX16_init_21 (by decide) ?_
  refine a_ldcS (n := 3) (tx := "copy") (by decide +kernel) (by decide) dX16_init_22 ?_
  obtain ⟨c9, h⟩ := iz_some h
  obtain ⟨m10, e11, h⟩ := lt_some h
  refine a_aastS rfl rfl (bn_ c9) dX16_init_24 ?_
  rw [← e11]
  refine a_dup dX16_init_25 rfl ?_
  refine a_iconst (v := 3) dX16_init_26 (by decide) ?_
  refine a_ldcS (n := 12) (tx := "pay") (by decide +kernel) (by decide) dX16_init_27 ?_
  obtain ⟨c12, h⟩ := iz_some h
  obtain ⟨m13, e14, h⟩ := lt_some h
  refine a_aastS rfl rfl (bn_ c12) dX16_init_29 ?_
  rw [← e14]
  refine a_dup dX16_init_30 rfl ?_
  refine a_iconst (v := 4) dX16_init_31 (by decide) ?_
  refine a_ldcS (n := 13) (tx := "place") (by decide +kernel) (by decide) dX16_init_32 ?_
  obtain ⟨c15, h⟩ := iz_some h
  obtain ⟨m16, e17, h⟩ := lt_some h
  refine a_aastS rfl rfl (bn_ c15) dX16_init_34 ?_
  rw [← e17]
  refine a_dup dX16_init_35 rfl ?_
  refine a_iconst (v := 5) dX16_init_36 (by decide) ?_
  refine a_ldcS (n := 0) (tx := "add") (by decide +kernel) (by decide) dX16_init_37 ?_
  obtain ⟨c18, h⟩ := iz_some h
  obtain ⟨m19, e20, h⟩ := lt_some h
  refine a_aastS rfl rfl (bn_ c18) dX16_init_39 ?_
  rw [← e20]
  refine a_dup dX16_init_40 rfl ?_
  refine a_bipush (v := 6) dX16_init_41 (by decide) ?_
  refine a_ldcS (n := 7) (tx := "land") (by decide +kernel) (by decide) dX16_init_43 ?_
  obtain ⟨c21, h⟩ := iz_some h
  obtain ⟨m22, e23, h⟩ := lt_some h
  refine a_aastS rfl rfl (bn_ c21) dX16_init_45 ?_
  rw [← e23]
  refine a_dup dX16_init_46 rfl ?_
  refine a_bipush (v := 7) dX16_init_47 (by decide) ?_
  refine a_ldcS (n := 21) (tx := "week") (by decide +kernel) (by decide) dX16_init_49 ?_
  obtain ⟨c24, h⟩ := iz_some h
  obtain ⟨m25, e26, h⟩ := lt_some h
  refine a_aastS rfl rfl (bn_ c24) dX16_init_51 ?_
  rw [← e26]
  refine a_dup dX16_init_52 rfl ?_
  refine a_bipush (v := 8) dX16_init_53 (by decide) ?_
  refine a_ldcS (n := 2) (tx := "again") (by decide +kernel) (by decide) dX16_init_55 ?_
  obtain ⟨c27, h⟩ := iz_some h
  obtain ⟨m28, e29, h⟩ := lt_some h
  refine a_aastS rfl rfl (bn_ c27) dX16_init_57 ?_
  rw [← e29]
  obtain ⟨m30, e31, h⟩ := lt_some h
  refine a_putRF kc_16 0 (by decide) rfl ht q969 rfl rfl rfl na_arr dX16_init_58 ?_
  rw [← e31]
  refine a_aload_n 0 dX16_init_61 rfl rfl ?_
  refine a_aload_n 1 dX16_init_62 rfl rfl ?_
  obtain ⟨m32, e33, h⟩ := lt_some h
  refine a_putRF kc_16 1 (by decide) rfl ht q970 rfl rfl rfl na_obj dX16_init_63 ?_
  rw [← e33]
  refine a_aload_n 0 dX16_init_66 rfl rfl ?_
  refine a_aload_n 2 dX16_init_67 rfl rfl ?_
  obtain ⟨m34, e35, h⟩ := lt_some h
  refine a_putRF kc_16 2 (by decide) rfl ht q971 rfl rfl rfl na_obj dX16_init_68 ?_
  rw [← e35]
  cases h
  exact a_return rfl rfl rfl rfl dX16_init_71
def f_X17_init (F : Nat)  (t : pm_A) (m : pm_M) : Option (Unit × pm_M) :=
  some ((), m)
set_option maxHeartbeats 4000000 in
theorem e_X17_init {G : xg_T} {l : Launch} (hl : l.stackTraces = false) {F : Nat}    {t : pm_A} {m0 m' : pm_M} {r : Unit} (h : f_X17_init F t m0 = some (r, m')) : Cal_ G l yX17_init (ws_ yX17_init cX17_init 1 none) 2 [vR_ (some t)] m0 (.inl none) m' := by
  refine cal_of (by decide +kernel) (Nat.le_of_ble_eq_true rfl) ?_
  unfold f_X17_init at h
  show AW_ cX17_init RX17 (none, "<init>", 2, 1, m0, m', (.inl none), G, l, [], true) m0 0 [(0, vR_ (some t))] []
  refine a_aload_n 0 dX17_init_0 rfl rfl ?_
  refine a_obj q991 q132 q133 (Nat.le_of_ble_eq_true rfl) (Nat.le_of_ble_eq_true rfl) dX17_init_1 ?_
  cases h
  exact a_return rfl rfl rfl rfl dX17_init_4
def f_X18_init (F : Nat)  (t : pm_A) (i0 : Int32) (m : pm_M) : Option (Unit × pm_M) :=
  bm_ (f_X17_init F t m) fun v3 m1 =>
  lt_ (pN_ m1 107 4 4) fun m4 =>
  lt_ (pR_ m4 t 1 (some ((107, 4, gN_ m1)))) fun m6 =>
  lt_ (pI_ m6 t 0 i0) fun m8 =>
  some ((), m8)
set_option maxHeartbeats 4000000 in
theorem e_X18_init {G : xg_T} {l : Launch} (hl : l.stackTraces = false) {F : Nat}    {t : pm_A} {i0 : Int32} {m0 m' : pm_M} {r : Unit} (ht : t.1 = 18) (h : f_X18_init F t i0 m0 = some (r, m')) : Cal_ G l yX18_init (ws_ yX18_init cX18_init 2 none) 3 [vR_ (some t), vI_ i0] m0 (.inl none) m' := by
  refine cal_of (by decide +kernel) (Nat.le_of_ble_eq_true rfl) ?_
  unfold f_X18_init at h
  show AW_ cX18_init RX18 (none, "<init>", 3, 2, m0, m', (.inl none), G, l, [], true) m0 0 [(0, vR_ (some t)), (1, vI_ i0)] []
  refine a_aload_n 0 dX18_init_0 rfl rfl ?_
  obtain ⟨v3, m1, e2, h⟩ := bm_some h
  have he2 := e_X17_init (G := G) hl e2
  refine c_V he2.1 (rn_IN (n := 0) (As := []) he2 q988 q989 q115 q990 rfl (by decide +kernel) rfl (Nat.le_of_ble_eq_true rfl) (Nat.le_of_ble_eq_true rfl) (Nat.le_of_ble_eq_true rfl) dX18_init_1) (fun z => (os_av (As := []) z).2.1) ?_
  refine a_aload_n 0 dX18_init_4 rfl rfl ?_
  refine a_iconst (v := 4) dX18_init_5 (by decide) ?_
  obtain ⟨m4, e5, h⟩ := lt_some h
  refine a_newq (t0 := 7) (C := "PassagePapers$Step") (N := 4) (by decide) (by decide) rfl (by decide +kernel) q992 (by decide) rfl (by decide) dX18_init_6 ?_
  rw [← e5]
  obtain ⟨m6, e7, h⟩ := lt_some h
  refine a_putR kc_18 1 (by decide) rfl ht q995 rfl na_arr dX18_init_9 ?_
  rw [← e7]
  refine a_aload_n 0 dX18_init_12 rfl rfl ?_
  refine a_iload_n 1 dX18_init_13 rfl rfl ?_
  obtain ⟨m8, e9, h⟩ := lt_some h
  refine a_putIF kc_18 0 (by decide) rfl ht q994 rfl rfl rfl rfl rfl dX18_init_14 ?_
  rw [← e9]
  cases h
  exact a_return rfl rfl rfl rfl dX18_init_17
def f_X16_signer (F : Nat)  (t : pm_A) (m : pm_M) : Option ((Int32 ⊕ pm_A) × pm_M) :=
  gd_ 6 (gR_ m t 2) fun a1 =>
  gd_ 10 (gR_ m t 1) fun a4 =>
  bt_ (f_X10_number F a4 0 ((gI_ m a1 7) - 1) m) (fun v9 m7 =>
    some (.inl v9, m7)
  ) fun b11 m10 =>
    some (.inr b11, m10)
set_option maxHeartbeats 4000000 in
theorem e_X16_signer {G : xg_T} {l : Launch} (hl : l.stackTraces = false) {F : Nat}    {t : pm_A} {m0 m' : pm_M} {r : (Int32 ⊕ pm_A)} (ht : t.1 = 16) (h : f_X16_signer F t m0 = some (r, m')) : Cal_ G l yX16_signer (ws_ yX16_signer cX16_signer 1 (some .int)) 6 [vR_ (some t)] m0 (oI_ r) m' := by
  refine cal_of (by decide +kernel) (Nat.le_of_ble_eq_true rfl) ?_
  unfold f_X16_signer at h
  show AW_ cX16_signer RX16 (some (.int), "signer", 6, 1, m0, m', (oI_ r), G, l, [], true) m0 0 [(0, vR_ (some t))] []
  refine a_aload_n 0 dX16_signer_0 rfl rfl ?_
  refine a_getR kc_16 1 (by decide) rfl ht q970 dX16_signer_1 ?_
  refine a_iconst (v := 0) dX16_signer_4 (by decide) ?_
  refine a_aload_n 0 dX16_signer_5 rfl rfl ?_
  refine a_getR kc_16 2 (by decide) rfl ht q971 dX16_signer_6 ?_
  obtain ⟨a1, e2, f3, h⟩ := gd_some h
  rw [e2]
  refine a_getIN kc_6 7 (by decide) rfl f3 q246 dX16_signer_9 ?_
  refine a_iconst (v := 1) dX16_signer_12 (by decide) ?_
  refine a_isub dX16_signer_13 ?_
  obtain ⟨a4, e5, f6, h⟩ := gd_some h
  rw [e5]
  rcases bt_some h with ⟨v9, m7, e8, h⟩ | ⟨b11, m10, e8, h⟩
  · have he8 := e_X10_number (G := G) hl f6 e8
    refine c_I (v := v9) he8.1 (rn_V (n := 2) (As := [vI_ 0, vI_ ((gI_ m0 a1 7) - 1)]) kc_10 f6 he8 (lw_V q1021 q818 q819 q103 q820) (by decide +kernel) rfl (Nat.le_of_ble_eq_true rfl) (Nat.le_of_ble_eq_true rfl) (Nat.le_of_ble_eq_true rfl) dX16_signer_14) (fun z => (os_av (As := [vI_ 0, vI_ ((gI_ m0 a1 7) - 1)]) z).2.1) ?_
    cases h
    exact a_ireturn rfl rfl rfl rfl rfl dX16_signer_17
  · have he8 := e_X10_number (G := G) hl f6 e8
    refine c_X (b := b11) he8.1 (rn_V (n := 2) (As := [vI_ 0, vI_ ((gI_ m0 a1 7) - 1)]) kc_10 f6 he8 (lw_V q1021 q818 q819 q103 q820) (by decide +kernel) rfl (Nat.le_of_ble_eq_true rfl) (Nat.le_of_ble_eq_true rfl) (Nat.le_of_ble_eq_true rfl) dX16_signer_14) ?_
    cases h
    exact a_out rfl rfl rfl rfl
def f_X19_init (F : Nat)  (t : pm_A) (i0 : Int32) (i1 : Int32) (m : pm_M) : Option (Unit × pm_M) :=
  bm_ (f_X17_init F t m) fun v3 m1 =>
  lt_ (pI_ m1 t 0 i0) fun m4 =>
  lt_ (pI_ m4 t 1 i1) fun m6 =>
  some ((), m6)
set_option maxHeartbeats 4000000 in
theorem e_X19_init {G : xg_T} {l : Launch} (hl : l.stackTraces = false) {F : Nat}    {t : pm_A} {i0 : Int32} {i1 : Int32} {m0 m' : pm_M} {r : Unit} (ht : t.1 = 19) (h : f_X19_init F t i0 i1 m0 = some (r, m')) : Cal_ G l yX19_init (ws_ yX19_init cX19_init 3 none) 3 [vR_ (some t), vI_ i0, vI_ i1] m0 (.inl none) m' := by
  refine cal_of (by decide +kernel) (Nat.le_of_ble_eq_true rfl) ?_
  unfold f_X19_init at h
  show AW_ cX19_init RX19 (none, "<init>", 3, 3, m0, m', (.inl none), G, l, [], true) m0 0 [(0, vR_ (some t)), (1, vI_ i0), (2, vI_ i1)] []
  refine a_aload_n 0 dX19_init_0 rfl rfl ?_
  obtain ⟨v3, m1, e2, h⟩ := bm_some h
  have he2 := e_X17_init (G := G) hl e2
  refine c_V he2.1 (rn_IN (n := 0) (As := []) he2 q1025 q989 q115 q990 rfl (by decide +kernel) rfl (Nat.le_of_ble_eq_true rfl) (Nat.le_of_ble_eq_true rfl) (Nat.le_of_ble_eq_true rfl) dX19_init_1) (fun z => (os_av (As := []) z).2.1) ?_
  refine a_aload_n 0 dX19_init_4 rfl rfl ?_
  refine a_iload_n 1 dX19_init_5 rfl rfl ?_
  obtain ⟨m4, e5, h⟩ := lt_some h
  refine a_putIF kc_19 0 (by decide) rfl ht q1026 rfl rfl rfl rfl rfl dX19_init_6 ?_
  rw [← e5]
  refine a_aload_n 0 dX19_init_9 rfl rfl ?_
  refine a_iload_n 2 dX19_init_10 rfl rfl ?_
  obtain ⟨m6, e7, h⟩ := lt_some h
  refine a_putIF kc_19 1 (by decide) rfl ht q1027 rfl rfl rfl rfl rfl dX19_init_11 ?_
  rw [← e7]
  cases h
  exact a_return rfl rfl rfl rfl dX19_init_14
def f_X20_init (F : Nat)  (t : pm_A) (i0 : Int32) (i1 : Int32) (m : pm_M) : Option (Unit × pm_M) :=
  bm_ (f_X17_init F t m) fun v3 m1 =>
  lt_ (pI_ m1 t 0 i0) fun m4 =>
  lt_ (pI_ m4 t 1 i1) fun m6 =>
  some ((), m6)
set_option maxHeartbeats 4000000 in
theorem e_X20_init {G : xg_T} {l : Launch} (hl : l.stackTraces = false) {F : Nat}    {t : pm_A} {i0 : Int32} {i1 : Int32} {m0 m' : pm_M} {r : Unit} (ht : t.1 = 20) (h : f_X20_init F t i0 i1 m0 = some (r, m')) : Cal_ G l yX20_init (ws_ yX20_init cX20_init 3 none) 3 [vR_ (some t), vI_ i0, vI_ i1] m0 (.inl none) m' := by
  refine cal_of (by decide +kernel) (Nat.le_of_ble_eq_true rfl) ?_
  unfold f_X20_init at h
  show AW_ cX20_init RX20 (none, "<init>", 3, 3, m0, m', (.inl none), G, l, [], true) m0 0 [(0, vR_ (some t)), (1, vI_ i0), (2, vI_ i1)] []
  refine a_aload_n 0 dX20_init_0 rfl rfl ?_
  obtain ⟨v3, m1, e2, h⟩ := bm_some h
  have he2 := e_X17_init (G := G) hl e2
  refine c_V he2.1 (rn_IN (n := 0) (As := []) he2 q1038 q989 q115 q990 rfl (by decide +kernel) rfl (Nat.le_of_ble_eq_true rfl) (Nat.le_of_ble_eq_true rfl) (Nat.le_of_ble_eq_true rfl) dX20_init_1) (fun z => (os_av (As := []) z).2.1) ?_
  refine a_aload_n 0 dX20_init_4 rfl rfl ?_
  refine a_iload_n 1 dX20_init_5 rfl rfl ?_
  obtain ⟨m4, e5, h⟩ := lt_some h
  refine a_putIF kc_20 0 (by decide) rfl ht q1039 rfl rfl rfl rfl rfl dX20_init_6 ?_
  rw [← e5]
  refine a_aload_n 0 dX20_init_9 rfl rfl ?_
  refine a_iload_n 2 dX20_init_10 rfl rfl ?_
  obtain ⟨m6, e7, h⟩ := lt_some h
  refine a_putIF kc_20 1 (by decide) rfl ht q1040 rfl rfl rfl rfl rfl dX20_init_11 ?_
  rw [← e7]
  cases h
  exact a_return rfl rfl rfl rfl dX20_init_14
def f_X21_init (F : Nat)  (t : pm_A) (m : pm_M) : Option (Unit × pm_M) :=
  bm_ (f_X17_init F t m) fun v3 m1 =>
  some ((), m1)
set_option maxHeartbeats 4000000 in
theorem e_X21_init {G : xg_T} {l : Launch} (hl : l.stackTraces = false) {F : Nat}    {t : pm_A} {m0 m' : pm_M} {r : Unit} (ht : t.1 = 21) (h : f_X21_init F t m0 = some (r, m')) : Cal_ G l yX21_init (ws_ yX21_init cX21_init 1 none) 3 [vR_ (some t)] m0 (.inl none) m' := by
  refine cal_of (by decide +kernel) (Nat.le_of_ble_eq_true rfl) ?_
  unfold f_X21_init at h
  show AW_ cX21_init RX21 (none, "<init>", 3, 1, m0, m', (.inl none), G, l, [], true) m0 0 [(0, vR_ (some t))] []
  refine a_aload_n 0 dX21_init_0 rfl rfl ?_
  obtain ⟨v3, m1, e2, h⟩ := bm_some h
  have he2 := e_X17_init (G := G) hl e2
  refine c_V he2.1 (rn_IN (n := 0) (As := []) he2 q1051 q989 q115 q990 rfl (by decide +kernel) rfl (Nat.le_of_ble_eq_true rfl) (Nat.le_of_ble_eq_true rfl) (Nat.le_of_ble_eq_true rfl) dX21_init_1) (fun z => (os_av (As := []) z).2.1) ?_
  cases h
  exact a_return rfl rfl rfl rfl dX21_init_4
def f_X22_init (F : Nat)  (t : pm_A) (m : pm_M) : Option (Unit × pm_M) :=
  bm_ (f_X17_init F t m) fun v3 m1 =>
  some ((), m1)
set_option maxHeartbeats 4000000 in
theorem e_X22_init {G : xg_T} {l : Launch} (hl : l.stackTraces = false) {F : Nat}    {t : pm_A} {m0 m' : pm_M} {r : Unit} (ht : t.1 = 22) (h : f_X22_init F t m0 = some (r, m')) : Cal_ G l yX22_init (ws_ yX22_init cX22_init 1 none) 3 [vR_ (some t)] m0 (.inl none) m' := by
  refine cal_of (by decide +kernel) (Nat.le_of_ble_eq_true rfl) ?_
  unfold f_X22_init at h
  show AW_ cX22_init RX22 (none, "<init>", 3, 1, m0, m', (.inl none), G, l, [], true) m0 0 [(0, vR_ (some t))] []
  refine a_aload_n 0 dX22_init_0 rfl rfl ?_
  obtain ⟨v3, m1, e2, h⟩ := bm_some h
  have he2 := e_X17_init (G := G) hl e2
  refine c_V he2.1 (rn_IN (n := 0) (As := []) he2 q1058 q989 q115 q990 rfl (by decide +kernel) rfl (Nat.le_of_ble_eq_true rfl) (Nat.le_of_ble_eq_true rfl) (Nat.le_of_ble_eq_true rfl) dX22_init_1) (fun z => (os_av (As := []) z).2.1) ?_
  cases h
  exact a_return rfl rfl rfl rfl dX22_init_4
def f_X18_adds_L24 (F : Nat)  (p26 : pm_A) (p28 : Option pm_A) (p29 : pm_A) (k31 : pm_M → Option (Unit × pm_M)) : Nat → Int32 → pm_M → Option (Unit × pm_M)
  | 0, _, _ => none
  | n33 + 1, x35, m34 =>
    if (gI_ m34 p26 2) ≤ x35 then
      k31 m34
    else
      gd_ 107 (gR_ m34 p26 1) fun a37 =>
      iz_ (!(ib_ x35 a37.2.1)) <|
      iz_ (!(ib_ x35 p29.2.1)) <|
      nn_ (gR_ m34 a37 x35.toNatClampNeg) fun a42 =>
      iz_ (!(decide (a42.1 = 18 ∨ a42.1 = 19 ∨ a42.1 = 20 ∨ a42.1 = 21 ∨ a42.1 = 22 ∨ a42.1 = 23))) <|
      lt_ (pR_ m34 p29 x35.toNatClampNeg (some a42)) fun m45 =>
      (f_X18_adds_L24 F p26 p28 p29 k31 n33) (x35 + 1) m45
set_option maxHeartbeats 4000000 in
theorem w_X18_adds_L24 {G : xg_T} {l : Launch} (hl : l.stackTraces = false) {F : Nat}    (p26 : pm_A) (p28 : Option pm_A) (p29 : pm_A) (k31 : pm_M → Option (Unit × pm_M)) {m0 m' : pm_M} {r : Unit} (hf27 : p26.1 = 18) (hf30 : p29.1 = 107) (hk31 : ∀ (m32 : pm_M), k31 m32 = some (r, m') → AW_ cX18_adds RX18 (none, "adds", 2, 4, m0, m', (.inl none), G, l, [], true) m32 47 [(0, vR_ (some p26)), (1, vR_ p28), (2, vR_ (some p29))] []) : ∀ (n : Nat) (x35 : Int32) (m34 : pm_M), f_X18_adds_L24 F p26 p28 p29 k31 n x35 m34 = some (r, m') → AW_ cX18_adds RX18 (none, "adds", 2, 4, m0, m', (.inl none), G, l, [], true) m34 24 [(0, vR_ (some p26)), (1, vR_ p28), (2, vR_ (some p29)), (3, vI_ x35)] [] := by
  intro n
  induction n with
  | zero => intro x35 m34 h; cases h
  | succ n33 ih =>
    intro x35 m34 h
    rw [f_X18_adds_L24] at h
    refine a_iload_n 3 dX18_adds_24 rfl rfl ?_
    refine a_aload_n 0 dX18_adds_25 rfl rfl ?_
    refine a_getI kc_18 2 (by decide) rfl hf27 q996 dX18_adds_26 ?_
    refine a_icmp_ge (tgt := 47) dX18_adds_29 (by decide) (fun c36 => ?_) (fun c36 => ?_)
    · replace h := ifp_ c36 h
      refine aw_pick [0, 1, 2] rfl ?_
      exact hk31 _ h
    · replace h := ifn_ c36 h
      refine a_aload_n 2 dX18_adds_32 rfl rfl ?_
      refine a_iload_n 3 dX18_adds_33 rfl rfl ?_
      refine a_aload_n 0 dX18_adds_34 rfl rfl ?_
      refine a_getR kc_18 1 (by decide) rfl hf27 q995 dX18_adds_35 ?_
      refine a_iload_n 3 dX18_adds_38 rfl rfl ?_
      obtain ⟨a37, e38, f39, h⟩ := gd_some h
      rw [e38]
      obtain ⟨c40, h⟩ := iz_some h
      refine a_aald (t0 := 7) f39 (by decide) (by decide) rfl (bn_ c40) dX18_adds_39 ?_
      obtain ⟨c41, h⟩ := iz_some h
      obtain ⟨a42, e43, h⟩ := nn_some h
      rw [e43]
      obtain ⟨c44, h⟩ := iz_some h
      obtain ⟨m45, e46, h⟩ := lt_some h
      have hk47 : AW_ cX18_adds RX18 (none, "adds", 2, 4, m0, m', (.inl none), G, l, [], true) m45 41 [(0, vR_ (some p26)), (1, vR_ p28), (2, vR_ (some p29)), (3, vI_ x35)] [] := by
        refine a_iinc (v := x35 + 1) (ls' := [(3, vI_ (x35 + 1)), (0, vR_ (some p26)), (1, vR_ p28), (2, vR_ (some p29))]) 3 dX18_adds_41 rfl rfl (Nat.le_of_ble_eq_true rfl) rfl ?_
        refine a_goto (tgt := 24) dX18_adds_44 (by decide) ?_
        refine aw_pick [1, 2, 3, 0] rfl ?_
        exact ih _ _ h
      rcases of_decide_eq_true (bn_ c44) with q | q | q | q | q | q
      · refine a_aast (t0 := 7) kc_18 hf30 (by decide) (by decide) rfl q (Or.inl q2221) (bn_ c41) dX18_adds_40 ?_
        rw [← e46]
        exact hk47
      · refine a_aast (t0 := 7) kc_19 hf30 (by decide) (by decide) rfl q (Or.inl q2222) (bn_ c41) dX18_adds_40 ?_
        rw [← e46]
        exact hk47
      · refine a_aast (t0 := 7) kc_20 hf30 (by decide) (by decide) rfl q (Or.inl q2223) (bn_ c41) dX18_adds_40 ?_
        rw [← e46]
        exact hk47
      · refine a_aast (t0 := 7) kc_21 hf30 (by decide) (by decide) rfl q (Or.inl q2224) (bn_ c41) dX18_adds_40 ?_
        rw [← e46]
        exact hk47
      · refine a_aast (t0 := 7) kc_22 hf30 (by decide) (by decide) rfl q (Or.inl q2225) (bn_ c41) dX18_adds_40 ?_
        rw [← e46]
        exact hk47
      · refine a_aast (t0 := 7) kc_23 hf30 (by decide) (by decide) rfl q (Or.inl q2226) (bn_ c41) dX18_adds_40 ?_
        rw [← e46]
        exact hk47
def f_X18_adds (F : Nat)  (t : pm_A) (i0 : Option pm_A) (m : pm_M) : Option (Unit × pm_M) :=
  gd_ 107 (gR_ m t 1) fun a1 =>
  jn_ (fun  (m5 : pm_M) =>
    lt_ (pI_ m5 t 2 ((gI_ m5 t 2) + 1)) fun m6 =>
    gd_ 107 (gR_ m5 t 1) fun a8 =>
    iz_ (!(ib_ (gI_ m5 t 2) a8.2.1)) <|
    nn_ i0 fun a12 =>
    iz_ (!(decide (a12.1 = 18 ∨ a12.1 = 19 ∨ a12.1 = 20 ∨ a12.1 = 21 ∨ a12.1 = 22 ∨ a12.1 = 23))) <|
    lt_ (pR_ m6 a8 ((gI_ m5 t 2).toNatClampNeg) (some a12)) fun m15 =>
    some ((), m15)
  ) fun k4 =>
  if (gI_ m t 2) = (Int32.ofNat a1.2.1) then
    iz_ (!(sz_ (2 * (gI_ m t 2)))) <|
    lt_ (pN_ m 107 ((2 * (gI_ m t 2)).toNatClampNeg) ((2 * (gI_ m t 2)).toNatClampNeg)) fun m20 =>
    jn_ (fun  (m23 : pm_M) =>
      lt_ (pR_ m23 t 1 (some ((107, (2 * (gI_ m t 2)).toNatClampNeg, gN_ m)))) fun m24 =>
      k4 m24
    ) fun k22 =>
    f_X18_adds_L24 F t i0 ((107, (2 * (gI_ m t 2)).toNatClampNeg, gN_ m)) k22 F 0 m20
  else
    k4 m
set_option maxHeartbeats 4000000 in
theorem e_X18_adds {G : xg_T} {l : Launch} (hl : l.stackTraces = false) {F : Nat}    {t : pm_A} {i0 : Option pm_A} {m0 m' : pm_M} {r : Unit} (ht : t.1 = 18) (h : f_X18_adds F t i0 m0 = some (r, m')) : Cal_ G l yX18_adds (ws_ yX18_adds cX18_adds 4 none) 2 [vR_ (some t), vR_ i0] m0 (.inl none) m' := by
  refine cal_of (by decide +kernel) (Nat.le_of_ble_eq_true rfl) ?_
  unfold f_X18_adds at h
  show AW_ cX18_adds RX18 (none, "adds", 2, 4, m0, m', (.inl none), G, l, [], true) m0 0 [(0, vR_ (some t)), (1, vR_ i0)] []
  refine a_aload_n 0 dX18_adds_0 rfl rfl ?_
  refine a_getI kc_18 2 (by decide) rfl ht q996 dX18_adds_1 ?_
  refine a_aload_n 0 dX18_adds_4 rfl rfl ?_
  refine a_getR kc_18 1 (by decide) rfl ht q995 dX18_adds_5 ?_
  obtain ⟨a1, e2, f3, h⟩ := gd_some h
  rw [e2]
  refine a_alen (by rw [f3]; decide) (by rw [f3]; decide) dX18_adds_8 ?_
  obtain ⟨k4, e49, h⟩ := jn1_some h
  have hk4 : ∀  (m5 : pm_M), k4 m5 = some (r, m') → AW_ cX18_adds RX18 (none, "adds", 2, 4, m0, m', (.inl none), G, l, [], true) m5 52 [(0, vR_ (some t)), (1, vR_ i0)] [] := by
    intro m5 h
    have h := (e49 m5).symm.trans h
    refine a_aload_n 0 dX18_adds_52 rfl rfl ?_
    refine a_getR kc_18 1 (by decide) rfl ht q995 dX18_adds_53 ?_
    refine a_aload_n 0 dX18_adds_56 rfl rfl ?_
    refine a_dup dX18_adds_57 rfl ?_
    refine a_getI kc_18 2 (by decide) rfl ht q996 dX18_adds_58 ?_
    refine a_dup_x1 dX18_adds_61 rfl rfl ?_
    refine a_iconst (v := 1) dX18_adds_62 (by decide) ?_
    refine a_iadd dX18_adds_63 ?_
    obtain ⟨m6, e7, h⟩ := lt_some h
    refine a_putI kc_18 2 (by decide) rfl ht q996 rfl rfl rfl dX18_adds_64 ?_
    rw [← e7]
    refine a_aload_n 1 dX18_adds_67 rfl rfl ?_
    obtain ⟨a8, e9, f10, h⟩ := gd_some h
    rw [e9]
    obtain ⟨c11, h⟩ := iz_some h
    obtain ⟨a12, e13, h⟩ := nn_some h
    rw [e13]
    obtain ⟨c14, h⟩ := iz_some h
    obtain ⟨m15, e16, h⟩ := lt_some h
    have hk17 : AW_ cX18_adds RX18 (none, "adds", 2, 4, m0, m', (.inl none), G, l, [], true) m15 69 [(0, vR_ (some t)), (1, vR_ (some a12))] [] := by
      cases h
      exact a_return rfl rfl rfl rfl dX18_adds_69
    rcases of_decide_eq_true (bn_ c14) with q | q | q | q | q | q
    · refine a_aast (t0 := 7) kc_18 f10 (by decide) (by decide) rfl q (Or.inl q2221) (bn_ c11) dX18_adds_68 ?_
      rw [← e16]
      exact hk17
    · refine a_aast (t0 := 7) kc_19 f10 (by decide) (by decide) rfl q (Or.inl q2222) (bn_ c11) dX18_adds_68 ?_
      rw [← e16]
      exact hk17
    · refine a_aast (t0 := 7) kc_20 f10 (by decide) (by decide) rfl q (Or.inl q2223) (bn_ c11) dX18_adds_68 ?_
      rw [← e16]
      exact hk17
    · refine a_aast (t0 := 7) kc_21 f10 (by decide) (by decide) rfl q (Or.inl q2224) (bn_ c11) dX18_adds_68 ?_
      rw [← e16]
      exact hk17
    · refine a_aast (t0 := 7) kc_22 f10 (by decide) (by decide) rfl q (Or.inl q2225) (bn_ c11) dX18_adds_68 ?_
      rw [← e16]
      exact hk17
    · refine a_aast (t0 := 7) kc_23 f10 (by decide) (by decide) rfl q (Or.inl q2226) (bn_ c11) dX18_adds_68 ?_
      rw [← e16]
      exact hk17
  refine a_icmp_ne (tgt := 52) dX18_adds_9 (by decide) (fun c18 => ?_) (fun c18 => ?_)
  · replace h := ifn_ c18 h
    exact hk4 _ h
  · replace h := ifp_ c18 h
    refine a_iconst (v := 2) dX18_adds_12 (by decide) ?_
    refine a_aload_n 0 dX18_adds_13 rfl rfl ?_
    refine a_getI kc_18 2 (by decide) rfl ht q996 dX18_adds_14 ?_
    refine a_imul dX18_adds_17 ?_
    obtain ⟨c19, h⟩ := iz_some h
    have c19 := sz_ok (bn_ c19)
    obtain ⟨m20, e21, h⟩ := lt_some h
    refine a_newq (t0 := 7) (C := "PassagePapers$Step") (N := (2 * (gI_ m0 t 2)).toNatClampNeg) (by decide) (by decide) rfl (by decide +kernel) q992 c19.1 rfl c19.2 dX18_adds_18 ?_
    rw [← e21]
    refine a_astore_n (ls' := [(2, vR_ (some ((107, (2 * (gI_ m0 t 2)).toNatClampNeg, gN_ m0)))), (0, vR_ (some t)), (1, vR_ i0)]) dX18_adds_21 rfl (Nat.le_of_ble_eq_true rfl) rfl ?_
    refine a_iconst (v := 0) dX18_adds_22 (by decide) ?_
    refine a_istore_n (ls' := [(3, vI_ 0), (2, vR_ (some ((107, (2 * (gI_ m0 t 2)).toNatClampNeg, gN_ m0)))), (0, vR_ (some t)), (1, vR_ i0)]) dX18_adds_23 rfl (Nat.le_of_ble_eq_true rfl) rfl ?_
    obtain ⟨k22, e48, h⟩ := jn1_some h
    have hk22 : ∀  (m23 : pm_M), k22 m23 = some (r, m') → AW_ cX18_adds RX18 (none, "adds", 2, 4, m0, m', (.inl none), G, l, [], true) m23 47 [(0, vR_ (some t)), (1, vR_ i0), (2, vR_ (some ((107, (2 * (gI_ m0 t 2)).toNatClampNeg, gN_ m0))))] [] := by
      intro m23 h
      have h := (e48 m23).symm.trans h
      refine a_aload_n 0 dX18_adds_47 rfl rfl ?_
      refine a_aload_n 2 dX18_adds_48 rfl rfl ?_
      obtain ⟨m24, e25, h⟩ := lt_some h
      refine a_putR kc_18 1 (by decide) rfl ht q995 rfl na_arr dX18_adds_49 ?_
      rw [← e25]
      refine aw_pick [0, 1] rfl ?_
      exact hk4 _ h
    refine aw_pick [2, 3, 1, 0] rfl ?_
    exact w_X18_adds_L24 hl _ _ _ _ ht rfl hk22 _ _ _ h
def f_X23_init (F : Nat)  (t : pm_A) (i0 : Int32) (i1 : Int32) (m : pm_M) : Option (Unit × pm_M) :=
  bm_ (f_X17_init F t m) fun v3 m1 =>
  lt_ (pI_ m1 t 0 i0) fun m4 =>
  lt_ (pI_ m4 t 1 i1) fun m6 =>
  some ((), m6)
set_option maxHeartbeats 4000000 in
theorem e_X23_init {G : xg_T} {l : Launch} (hl : l.stackTraces = false) {F : Nat}    {t : pm_A} {i0 : Int32} {i1 : Int32} {m0 m' : pm_M} {r : Unit} (ht : t.1 = 23) (h : f_X23_init F t i0 i1 m0 = some (r, m')) : Cal_ G l yX23_init (ws_ yX23_init cX23_init 3 none) 3 [vR_ (some t), vI_ i0, vI_ i1] m0 (.inl none) m' := by
  refine cal_of (by decide +kernel) (Nat.le_of_ble_eq_true rfl) ?_
  unfold f_X23_init at h
  show AW_ cX23_init RX23 (none, "<init>", 3, 3, m0, m', (.inl none), G, l, [], true) m0 0 [(0, vR_ (some t)), (1, vI_ i0), (2, vI_ i1)] []
  refine a_aload_n 0 dX23_init_0 rfl rfl ?_
  obtain ⟨v3, m1, e2, h⟩ := bm_some h
  have he2 := e_X17_init (G := G) hl e2
  refine c_V he2.1 (rn_IN (n := 0) (As := []) he2 q1076 q989 q115 q990 rfl (by decide +kernel) rfl (Nat.le_of_ble_eq_true rfl) (Nat.le_of_ble_eq_true rfl) (Nat.le_of_ble_eq_true rfl) dX23_init_1) (fun z => (os_av (As := []) z).2.1) ?_
  refine a_aload_n 0 dX23_init_4 rfl rfl ?_
  refine a_iload_n 1 dX23_init_5 rfl rfl ?_
  obtain ⟨m4, e5, h⟩ := lt_some h
  refine a_putIF kc_23 0 (by decide) rfl ht q1077 rfl rfl rfl rfl rfl dX23_init_6 ?_
  rw [← e5]
  refine a_aload_n 0 dX23_init_9 rfl rfl ?_
  refine a_iload_n 2 dX23_init_10 rfl rfl ?_
  obtain ⟨m6, e7, h⟩ := lt_some h
  refine a_putIF kc_23 1 (by decide) rfl ht q1078 rfl rfl rfl rfl rfl dX23_init_11 ?_
  rw [← e7]
  cases h
  exact a_return rfl rfl rfl rfl dX23_init_14
def f_X16_again_L27 (F : Nat) (z_ : pm_A → pm_M → Option ((Option pm_A ⊕ pm_A) × pm_M)) (p30 : pm_A) (p32 : pm_A) (k34 : pm_M → Option ((Option pm_A ⊕ pm_A) × pm_M)) : Nat → pm_M → Option ((Option pm_A ⊕ pm_A) × pm_M)
  | 0, _ => none
  | n36 + 1, m37 =>
    gd_ 10 (gR_ m37 p30 1) fun a38 =>
    bm_ (f_X10_takesSign F a38 93 m37) fun v43 m41 =>
    if v43 = 0 then
      bt_ (z_ p30 m41) (fun v47 m45 =>
        bm_ (f_X18_adds F p32 v47 m45) fun v52 m50 =>
        (f_X16_again_L27 F z_ p30 p32 k34 n36) m50
      ) fun b49 m48 =>
        some (.inr b49, m48)
    else
      k34 m41
set_option maxHeartbeats 4000000 in
theorem w_X16_again_L27 {G : xg_T} {l : Launch} (hl : l.stackTraces = false) {F : Nat} {dz : Nat} {z_ : pm_A → pm_M → Option ((Option pm_A ⊕ pm_A) × pm_M)} (hz : ∀ (w0 : pm_A) (m m' : pm_M) (r : (Option pm_A ⊕ pm_A)), w0.1 = 16 → z_ w0 m = some (r, m') → Cal_ G l yX16_step (ws_ yX16_step cX16_step 3 (some (.object "PassagePapers$Step"))) dz [vR_ (some w0)] m (oR_ r) m') (hdz : 8 ≤ dz) (p30 : pm_A) (p32 : pm_A) (k34 : pm_M → Option ((Option pm_A ⊕ pm_A) × pm_M)) {m0 m' : pm_M} {r : (Option pm_A ⊕ pm_A)} (hf31 : p30.1 = 16) (hf33 : p32.1 = 18) (hk34 : ∀ (m35 : pm_M), k34 m35 = some (r, m') → AW_ cX16_again RX16 (some (.object "PassagePapers$Row"), "again", (dz + 1), 2, m0, m', (oR_ r), G, l, [], true) m35 50 [(0, vR_ (some p30)), (1, vR_ (some p32))] []) : ∀ (n : Nat) (m37 : pm_M), f_X16_again_L27 F z_ p30 p32 k34 n m37 = some (r, m') → AW_ cX16_again RX16 (some (.object "PassagePapers$Row"), "again", (dz + 1), 2, m0, m', (oR_ r), G, l, [], true) m37 27 [(0, vR_ (some p30)), (1, vR_ (some p32))] [] := by
  intro n
  induction n with
  | zero => intro m37 h; cases h
  | succ n36 ih =>
    intro m37 h
    rw [f_X16_again_L27] at h
    refine a_aload_n 0 dX16_again_27 rfl rfl ?_
    refine a_getR kc_16 1 (by decide) rfl hf31 q970 dX16_again_28 ?_
    refine a_bipush (v := 93) dX16_again_31 (by decide) ?_
    obtain ⟨a38, e39, f40, h⟩ := gd_some h
    rw [e39]
    obtain ⟨v43, m41, e42, h⟩ := bm_some h
    have he42 := e_X10_takesSign (G := G) hl f40 e42
    refine c_I he42.1 (rn_V (n := 1) (As := [vI_ 93]) kc_10 f40 he42 (lw_V q1065 q939 q940 q103 q941) (by decide +kernel) rfl (by show 4 + 1 ≤ (dz + 1); omega) (Nat.le_of_ble_eq_true rfl) (Nat.le_of_ble_eq_true rfl) dX16_again_33) (fun z => (os_av (As := [vI_ 93]) z).2.1) ?_
    refine a_if_ne (tgt := 50) dX16_again_36 (by decide) (fun c44 => ?_) (fun c44 => ?_)
    · replace h := ifn_ c44 h
      exact hk34 _ h
    · replace h := ifp_ c44 h
      refine a_aload_n 1 dX16_again_39 rfl rfl ?_
      refine a_aload_n 0 dX16_again_40 rfl rfl ?_
      rcases bt_some h with ⟨v47, m45, e46, h⟩ | ⟨b49, m48, e46, h⟩
      · have he46 := hz _ _ _ _ hf31 e46
        refine c_R (v := v47) he46.1 (rn_V (n := 0) (As := []) kc_16 hf31 he46 (lw_V q1005 q1007 qs11 q114 q1008) (by decide +kernel) rfl (by show dz + 1 ≤ (dz + 1); omega) (Nat.le_of_ble_eq_true rfl) (Nat.le_of_ble_eq_true rfl) dX16_again_41) (fun z => (os_av (As := []) z).2.1) ?_
        obtain ⟨v52, m50, e51, h⟩ := bm_some h
        have he51 := e_X18_adds (G := G) hl hf33 e51
        refine c_V he51.1 (rn_V (n := 1) (As := [vR_ v47]) kc_18 hf33 he51 (lw_V q1066 q1067 q1068 q116 q1069) (by decide +kernel) rfl (by show 2 + 1 ≤ (dz + 1); omega) (Nat.le_of_ble_eq_true rfl) (Nat.le_of_ble_eq_true rfl) dX16_again_44) (fun z => (os_av (As := [vR_ v47]) z).2.1) ?_
        refine a_goto (tgt := 27) dX16_again_47 (by decide) ?_
        exact ih _ h
      · have he46 := hz _ _ _ _ hf31 e46
        refine c_X (b := b49) he46.1 (rn_V (n := 0) (As := []) kc_16 hf31 he46 (lw_V q1005 q1007 qs11 q114 q1008) (by decide +kernel) rfl (by show dz + 1 ≤ (dz + 1); omega) (Nat.le_of_ble_eq_true rfl) (Nat.le_of_ble_eq_true rfl) dX16_again_41) ?_
        cases h
        exact a_out rfl rfl rfl rfl
def f_X16_again (F : Nat) (z_ : pm_A → pm_M → Option ((Option pm_A ⊕ pm_A) × pm_M)) (t : pm_A) (m : pm_M) : Option ((Option pm_A ⊕ pm_A) × pm_M) :=
  lt_ (pN_ m 18 0 3) fun m1 =>
  gd_ 10 (gR_ m1 t 1) fun a3 =>
  bt_ (f_X10_number F a3 0 60 m1) (fun v8 m6 =>
    bm_ (f_X18_init F ((18, 0, gN_ m)) v8 m6) fun v13 m11 =>
    gd_ 10 (gR_ m11 t 1) fun a14 =>
    bt_ (f_X10_sign F a14 91 m11) (fun v19 m17 =>
      jn_ (fun  (m23 : pm_M) =>
        gd_ 10 (gR_ m23 t 1) fun a24 =>
        bm_ (f_X10_closes F a24 m23) fun v29 m27 =>
        some (.inl (some ((18, 0, gN_ m))), m27)
      ) fun k22 =>
      f_X16_again_L27 F z_ t ((18, 0, gN_ m)) k22 F m17
    ) fun b21 m20 =>
      some (.inr b21, m20)
  ) fun b10 m9 =>
    some (.inr b10, m9)
set_option maxHeartbeats 4000000 in
theorem e_X16_again {G : xg_T} {l : Launch} (hl : l.stackTraces = false) {F : Nat} {dz : Nat} {z_ : pm_A → pm_M → Option ((Option pm_A ⊕ pm_A) × pm_M)} (hz : ∀ (w0 : pm_A) (m m' : pm_M) (r : (Option pm_A ⊕ pm_A)), w0.1 = 16 → z_ w0 m = some (r, m') → Cal_ G l yX16_step (ws_ yX16_step cX16_step 3 (some (.object "PassagePapers$Step"))) dz [vR_ (some w0)] m (oR_ r) m') (hdz : 8 ≤ dz) {t : pm_A} {m0 m' : pm_M} {r : (Option pm_A ⊕ pm_A)} (ht : t.1 = 16) (h : f_X16_again F z_ t m0 = some (r, m')) : Cal_ G l yX16_again (ws_ yX16_again cX16_again 2 (some (.object "PassagePapers$Row"))) (dz + 1) [vR_ (some t)] m0 (oR_ r) m' := by
  refine cal_of (by decide +kernel) (Nat.le_of_ble_eq_true rfl) ?_
  unfold f_X16_again at h
  show AW_ cX16_again RX16 (some (.object "PassagePapers$Row"), "again", (dz + 1), 2, m0, m', (oR_ r), G, l, [], true) m0 0 [(0, vR_ (some t))] []
  obtain ⟨m1, e2, h⟩ := lt_some h
  refine a_new kc_18 q983 q984 q116 dX16_again_0 ?_
  rw [← e2]
  refine a_dup dX16_again_3 rfl ?_
  refine a_aload_n 0 dX16_again_4 rfl rfl ?_
  refine a_getR kc_16 1 (by decide) rfl ht q970 dX16_again_5 ?_
  refine a_iconst (v := 0) dX16_again_8 (by decide) ?_
  refine a_bipush (v := 60) dX16_again_9 (by decide) ?_
  obtain ⟨a3, e4, f5, h⟩ := gd_some h
  rw [e4]
  rcases bt_some h with ⟨v8, m6, e7, h⟩ | ⟨b10, m9, e7, h⟩
  · have he7 := e_X10_number (G := G) hl f5 e7
    refine c_I (v := v8) he7.1 (rn_V (n := 2) (As := [vI_ 0, vI_ 60]) kc_10 f5 he7 (lw_V q1021 q818 q819 q103 q820) (by decide +kernel) rfl (by show 5 + 1 ≤ (dz + 1); omega) (Nat.le_of_ble_eq_true rfl) (Nat.le_of_ble_eq_true rfl) dX16_again_11) (fun z => (os_av (As := [vI_ 0, vI_ 60]) z).2.1) ?_
    obtain ⟨v13, m11, e12, h⟩ := bm_some h
    have he12 := e_X18_init (G := G) hl rfl e12
    refine c_V he12.1 (rn_I (n := 1) (As := [vI_ v8]) he12 q985 q986 q116 q987 rfl (by decide +kernel) rfl (by show 3 + 1 ≤ (dz + 1); omega) (Nat.le_of_ble_eq_true rfl) (Nat.le_of_ble_eq_true rfl) dX16_again_14) (fun z => (os_av (As := [vI_ v8]) z).2.1) ?_
    refine a_astore_n (ls' := [(1, vR_ (some ((18, 0, gN_ m0)))), (0, vR_ (some t))]) dX16_again_17 rfl (Nat.le_of_ble_eq_true rfl) rfl ?_
    refine a_aload_n 1 dX16_again_18 rfl rfl ?_
    refine a_getR kc_16 1 (by decide) rfl ht q970 dX16_again_19 ?_
    refine a_bipush (v := 91) dX16_again_22 (by decide) ?_
    obtain ⟨a14, e15, f16, h⟩ := gd_some h
    rw [e15]
    rcases bt_some h with ⟨v19, m17, e18, h⟩ | ⟨b21, m20, e18, h⟩
    · have he18 := e_X10_sign (G := G) hl f16 e18
      refine c_V he18.1 (rn_V (n := 1) (As := [vI_ 91]) kc_10 f16 he18 (lw_V q1064 q833 q834 q103 q835) (by decide +kernel) rfl (by show 5 + 1 ≤ (dz + 1); omega) (Nat.le_of_ble_eq_true rfl) (Nat.le_of_ble_eq_true rfl) dX16_again_24) (fun z => (os_av (As := [vI_ 91]) z).2.1) ?_
      obtain ⟨k22, e53, h⟩ := jn1_some h
      have hk22 : ∀  (m23 : pm_M), k22 m23 = some (r, m') → AW_ cX16_again RX16 (some (.object "PassagePapers$Row"), "again", (dz + 1), 2, m0, m', (oR_ r), G, l, [], true) m23 50 [(0, vR_ (some t)), (1, vR_ (some ((18, 0, gN_ m0))))] [] := by
        intro m23 h
        have h := (e53 m23).symm.trans h
        refine a_aload_n 0 dX16_again_50 rfl rfl ?_
        refine a_getR kc_16 1 (by decide) rfl ht q970 dX16_again_51 ?_
        obtain ⟨a24, e25, f26, h⟩ := gd_some h
        rw [e25]
        obtain ⟨v29, m27, e28, h⟩ := bm_some h
        have he28 := e_X10_closes (G := G) hl f26 e28
        refine c_V he28.1 (rn_V (n := 0) (As := []) kc_10 f26 he28 (lw_V q1070 q896 q897 q103 q898) (by decide +kernel) rfl (by show 2 + 1 ≤ (dz + 1); omega) (Nat.le_of_ble_eq_true rfl) (Nat.le_of_ble_eq_true rfl) dX16_again_54) (fun z => (os_av (As := []) z).2.1) ?_
        refine a_aload_n 1 dX16_again_57 rfl rfl ?_
        cases h
        exact a_areturn rfl (Or.inl ⟨_, rfl⟩) rfl rfl rfl dX16_again_58
      refine aw_pick [1, 0] rfl ?_
      exact w_X16_again_L27 hl hz hdz _ _ _ ht rfl hk22 _ _ h
    · have he18 := e_X10_sign (G := G) hl f16 e18
      refine c_X (b := b21) he18.1 (rn_V (n := 1) (As := [vI_ 91]) kc_10 f16 he18 (lw_V q1064 q833 q834 q103 q835) (by decide +kernel) rfl (by show 5 + 1 ≤ (dz + 1); omega) (Nat.le_of_ble_eq_true rfl) (Nat.le_of_ble_eq_true rfl) dX16_again_24) ?_
      cases h
      exact a_out rfl rfl rfl rfl
  · have he7 := e_X10_number (G := G) hl f5 e7
    refine c_X (b := b10) he7.1 (rn_V (n := 2) (As := [vI_ 0, vI_ 60]) kc_10 f5 he7 (lw_V q1021 q818 q819 q103 q820) (by decide +kernel) rfl (by show 5 + 1 ≤ (dz + 1); omega) (Nat.le_of_ble_eq_true rfl) (Nat.le_of_ble_eq_true rfl) dX16_again_11) ?_
    cases h
    exact a_out rfl rfl rfl rfl
def b_X16_step (F : Nat) (z_ : pm_A → pm_M → Option ((Option pm_A ⊕ pm_A) × pm_M)) (t : pm_A) (m : pm_M) : Option ((Option pm_A ⊕ pm_A) × pm_M) :=
  gd_ 10 (gR_ m t 1) fun a1 =>
  bm_ (f_X10_which F a1 (gR_ m t 0) m) fun v6 m4 =>
  if v6 = ((-1)) then
    lt_ (pN_ m4 11 0 8) fun m107 =>
    gd_ 10 (gR_ m107 t 1) fun a109 =>
    bm_ (f_X10_place F a109 m107) fun v114 m112 =>
    bm_ (f_X11_init F ((11, 0, gN_ m4)) 1 v114 m112) fun v117 m115 =>
    some (.inr ((11, 0, gN_ m4)), m115)
  else
    jn_ (fun  (m9 : pm_M) =>
      gd_ 10 (gR_ m9 t 1) fun a10 =>
      bm_ (f_X10_skipsWord F a10 m9) fun v15 m13 =>
      jn_ (fun (x18 : Option pm_A) (m17 : pm_M) =>
        gd_ 10 (gR_ m17 t 1) fun a19 =>
        bt_ (f_X10_sign F a19 59 m17) (fun v24 m22 =>
          some (.inl x18, m22)
        ) fun b26 m25 =>
          some (.inr b26, m25)
      ) fun k16 =>
      if v6.toInt = 4 then
        lt_ (pN_ m13 19 0 2) fun m28 =>
        bt_ (f_X16_signer F t m28) (fun v32 m30 =>
          gd_ 6 (gR_ m30 t 2) fun a35 =>
          gd_ 10 (gR_ m30 t 1) fun a38 =>
          bt_ (f_X10_number F a38 0 ((gI_ m30 a35 8) - 1) m30) (fun v43 m41 =>
            bm_ (f_X19_init F ((19, 0, gN_ m13)) v32 v43 m41) fun v48 m46 =>
            k16 (some ((19, 0, gN_ m13))) m46
          ) fun b45 m44 =>
            some (.inr b45, m44)
        ) fun b34 m33 =>
          some (.inr b34, m33)
      else
      if v6.toInt = 5 then
        lt_ (pN_ m13 20 0 2) fun m50 =>
        bt_ (f_X16_signer F t m50) (fun v54 m52 =>
          gd_ 10 (gR_ m52 t 1) fun a57 =>
          bt_ (f_X10_number F a57 1 24 m52) (fun v62 m60 =>
            bm_ (f_X20_init F ((20, 0, gN_ m13)) v54 v62 m60) fun v67 m65 =>
            k16 (some ((20, 0, gN_ m13))) m65
          ) fun b64 m63 =>
            some (.inr b64, m63)
        ) fun b56 m55 =>
          some (.inr b56, m55)
      else
      if v6.toInt = 6 then
        lt_ (pN_ m13 21 0 0) fun m69 =>
        bm_ (f_X21_init F ((21, 0, gN_ m13)) m69) fun v73 m71 =>
        k16 (some ((21, 0, gN_ m13))) m71
      else
      if v6.toInt = 7 then
        lt_ (pN_ m13 22 0 0) fun m75 =>
        bm_ (f_X22_init F ((22, 0, gN_ m13)) m75) fun v79 m77 =>
        k16 (some ((22, 0, gN_ m13))) m77
      else
      if v6.toInt = 8 then
        bt_ (f_X16_again F z_ t m13) (fun v83 m81 =>
          k16 v83 m81
        ) fun b85 m84 =>
          some (.inr b85, m84)
      else
        lt_ (pN_ m13 23 0 2) fun m86 =>
        bt_ (f_X16_signer F t m86) (fun v90 m88 =>
          bm_ (f_X23_init F ((23, 0, gN_ m13)) v6 v90 m88) fun v95 m93 =>
          k16 (some ((23, 0, gN_ m13))) m93
        ) fun b92 m91 =>
          some (.inr b92, m91)
    ) fun k8 =>
    if v6 = 8 then
      gd_ 10 (gR_ m4 t 1) fun a98 =>
      bt_ (f_X10_opens F a98 m4) (fun v103 m101 =>
        k8 m101
      ) fun b105 m104 =>
        some (.inr b105, m104)
    else
      k8 m4
set_option maxHeartbeats 4000000 in
theorem eb_X16_step {G : xg_T} {l : Launch} (hl : l.stackTraces = false) {F : Nat} {dz : Nat} {z_ : pm_A → pm_M → Option ((Option pm_A ⊕ pm_A) × pm_M)} (hz : ∀ (w0 : pm_A) (m m' : pm_M) (r : (Option pm_A ⊕ pm_A)), w0.1 = 16 → z_ w0 m = some (r, m') → Cal_ G l yX16_step (ws_ yX16_step cX16_step 3 (some (.object "PassagePapers$Step"))) dz [vR_ (some w0)] m (oR_ r) m') (hdz : 8 ≤ dz) {t : pm_A} {m0 m' : pm_M} {r : (Option pm_A ⊕ pm_A)} (ht : t.1 = 16) (h : b_X16_step F z_ t m0 = some (r, m')) : Cal_ G l yX16_step (ws_ yX16_step cX16_step 3 (some (.object "PassagePapers$Step"))) (dz + 2) [vR_ (some t)] m0 (oR_ r) m' := by
  refine cal_of (by decide +kernel) (Nat.le_of_ble_eq_true rfl) ?_
  unfold b_X16_step at h
  show AW_ cX16_step RX16 (some (.object "PassagePapers$Step"), "step", (dz + 2), 3, m0, m', (oR_ r), G, l, [], true) m0 0 [(0, vR_ (some t))] []
  refine a_aload_n 0 dX16_step_0 rfl rfl ?_
  refine a_getR kc_16 1 (by decide) rfl ht q970 dX16_step_1 ?_
  refine a_aload_n 0 dX16_step_4 rfl rfl ?_
  refine a_getR kc_16 0 (by decide) rfl ht q969 dX16_step_5 ?_
  obtain ⟨a1, e2, f3, h⟩ := gd_some h
  rw [e2]
  obtain ⟨v6, m4, e5, h⟩ := bm_some h
  have he5 := e_X10_which (G := G) hl f3 e5
  refine c_I he5.1 (rn_V (n := 1) (As := [vR_ (gR_ m0 t 0)]) kc_10 f3 he5 (lw_V q1009 q722 q723 q103 q724) (by decide +kernel) rfl (by show 7 + 1 ≤ (dz + 2); omega) (Nat.le_of_ble_eq_true rfl) (Nat.le_of_ble_eq_true rfl) dX16_step_8) (fun z => (os_av (As := [vR_ (gR_ m0 t 0)]) z).2.1) ?_
  refine a_istore_n (ls' := [(1, vI_ v6), (0, vR_ (some t))]) dX16_step_11 rfl (Nat.le_of_ble_eq_true rfl) rfl ?_
  refine a_iload_n 0 dX16_step_12 rfl rfl ?_
  refine a_iconst (v := (-1)) dX16_step_13 (by decide) ?_
  refine a_icmp_ne (tgt := 33) dX16_step_14 (by decide) (fun c7 => ?_) (fun c7 => ?_)
  · replace h := ifn_ c7 h
    refine a_iload_n 0 dX16_step_33 rfl rfl ?_
    refine a_bipush (v := 8) dX16_step_34 (by decide) ?_
    obtain ⟨k8, e106, h⟩ := jn1_some h
    have hk8 : ∀  (m9 : pm_M), k8 m9 = some (r, m') → AW_ cX16_step RX16 (some (.object "PassagePapers$Step"), "step", (dz + 2), 3, m0, m', (oR_ r), G, l, [], true) m9 46 [(0, vR_ (some t)), (1, vI_ v6)] [] := by
      intro m9 h
      have h := (e106 m9).symm.trans h
      refine a_aload_n 0 dX16_step_46 rfl rfl ?_
      refine a_getR kc_16 1 (by decide) rfl ht q970 dX16_step_47 ?_
      obtain ⟨a10, e11, f12, h⟩ := gd_some h
      rw [e11]
      obtain ⟨v15, m13, e14, h⟩ := bm_some h
      have he14 := e_X10_skipsWord (G := G) hl f12 e14
      refine c_V he14.1 (rn_V (n := 0) (As := []) kc_10 f12 he14 (lw_V q1014 q810 q811 q103 q812) (by decide +kernel) rfl (by show 3 + 1 ≤ (dz + 2); omega) (Nat.le_of_ble_eq_true rfl) (Nat.le_of_ble_eq_true rfl) dX16_step_50) (fun z => (os_av (As := []) z).2.1) ?_
      refine a_null dX16_step_53 ?_
      refine a_astore_n (ls' := [(2, vR_ none), (0, vR_ (some t)), (1, vI_ v6)]) dX16_step_54 rfl (Nat.le_of_ble_eq_true rfl) rfl ?_
      refine a_iload_n 2 dX16_step_55 rfl rfl ?_
      obtain ⟨k16, e96, h⟩ := jn2_some h
      have hk16 : ∀ (x18 : Option pm_A) (m17 : pm_M), k16 x18 m17 = some (r, m') → AW_ cX16_step RX16 (some (.object "PassagePapers$Step"), "step", (dz + 2), 3, m0, m', (oR_ r), G, l, [], true) m17 192 [(0, vR_ (some t)), (2, vR_ x18)] [] := by
        intro x18 m17 h
        have h := (e96 x18 m17).symm.trans h
        refine a_aload_n 0 dX16_step_192 rfl rfl ?_
        refine a_getR kc_16 1 (by decide) rfl ht q970 dX16_step_193 ?_
        refine a_bipush (v := 59) dX16_step_196 (by decide) ?_
        obtain ⟨a19, e20, f21, h⟩ := gd_some h
        rw [e20]
        rcases bt_some h with ⟨v24, m22, e23, h⟩ | ⟨b26, m25, e23, h⟩
        · have he23 := e_X10_sign (G := G) hl f21 e23
          refine c_V he23.1 (rn_V (n := 1) (As := [vI_ 59]) kc_10 f21 he23 (lw_V q1064 q833 q834 q103 q835) (by decide +kernel) rfl (by show 5 + 1 ≤ (dz + 2); omega) (Nat.le_of_ble_eq_true rfl) (Nat.le_of_ble_eq_true rfl) dX16_step_198) (fun z => (os_av (As := [vI_ 59]) z).2.1) ?_
          refine a_aload_n 1 dX16_step_201 rfl rfl ?_
          cases h
          exact a_areturn rfl (Or.inl ⟨_, rfl⟩) rfl rfl rfl dX16_step_202
        · have he23 := e_X10_sign (G := G) hl f21 e23
          refine c_X (b := b26) he23.1 (rn_V (n := 1) (As := [vI_ 59]) kc_10 f21 he23 (lw_V q1064 q833 q834 q103 q835) (by decide +kernel) rfl (by show 5 + 1 ≤ (dz + 2); omega) (Nat.le_of_ble_eq_true rfl) (Nat.le_of_ble_eq_true rfl) dX16_step_198) ?_
          cases h
          exact a_out rfl rfl rfl rfl
      by_cases c27 : v6.toInt = 4
      · replace h := ifp_ c27 h
        refine a_tabIn (tgt := 92) dX16_step_56 (by rw [c27]; decide) (by rw [c27]; decide) (by rw [c27]; rfl) (by decide) ?_
        obtain ⟨m28, e29, h⟩ := lt_some h
        refine a_new kc_19 q1015 q1016 q117 dX16_step_92 ?_
        rw [← e29]
        refine a_dup dX16_step_95 rfl ?_
        refine a_aload_n 1 dX16_step_96 rfl rfl ?_
        rcases bt_some h with ⟨v32, m30, e31, h⟩ | ⟨b34, m33, e31, h⟩
        · have he31 := e_X16_signer (G := G) hl ht e31
          refine c_I (v := v32) he31.1 (rn_V (n := 0) (As := []) kc_16 ht he31 (lw_V q1017 q1019 qs12 q114 q1020) (by decide +kernel) rfl (by show 6 + 1 ≤ (dz + 2); omega) (Nat.le_of_ble_eq_true rfl) (Nat.le_of_ble_eq_true rfl) dX16_step_97) (fun z => (os_av (As := []) z).2.1) ?_
          refine a_aload_n 1 dX16_step_100 rfl rfl ?_
          refine a_getR kc_16 1 (by decide) rfl ht q970 dX16_step_101 ?_
          refine a_iconst (v := 0) dX16_step_104 (by decide) ?_
          refine a_aload_n 1 dX16_step_105 rfl rfl ?_
          refine a_getR kc_16 2 (by decide) rfl ht q971 dX16_step_106 ?_
          obtain ⟨a35, e36, f37, h⟩ := gd_some h
          rw [e36]
          refine a_getIN kc_6 8 (by decide) rfl f37 q252 dX16_step_109 ?_
          refine a_iconst (v := 1) dX16_step_112 (by decide) ?_
          refine a_isub dX16_step_113 ?_
          obtain ⟨a38, e39, f40, h⟩ := gd_some h
          rw [e39]
          rcases bt_some h with ⟨v43, m41, e42, h⟩ | ⟨b45, m44, e42, h⟩
          · have he42 := e_X10_number (G := G) hl f40 e42
            refine c_I (v := v43) he42.1 (rn_V (n := 2) (As := [vI_ 0, vI_ ((gI_ m30 a35 8) - 1)]) kc_10 f40 he42 (lw_V q1021 q818 q819 q103 q820) (by decide +kernel) rfl (by show 5 + 1 ≤ (dz + 2); omega) (Nat.le_of_ble_eq_true rfl) (Nat.le_of_ble_eq_true rfl) dX16_step_114) (fun z => (os_av (As := [vI_ 0, vI_ ((gI_ m30 a35 8) - 1)]) z).2.1) ?_
            obtain ⟨v48, m46, e47, h⟩ := bm_some h
            have he47 := e_X19_init (G := G) hl rfl e47
            refine c_V he47.1 (rn_I (n := 2) (As := [vI_ v32, vI_ v43]) he47 q1022 q1023 q117 q1024 rfl (by decide +kernel) rfl (by show 3 + 1 ≤ (dz + 2); omega) (Nat.le_of_ble_eq_true rfl) (Nat.le_of_ble_eq_true rfl) dX16_step_117) (fun z => (os_av (As := [vI_ v32, vI_ v43]) z).2.1) ?_
            refine a_astore_n (ls' := [(2, vR_ (some ((19, 0, gN_ m13)))), (0, vR_ (some t)), (1, vI_ v6)]) dX16_step_120 rfl (Nat.le_of_ble_eq_true rfl) rfl ?_
            refine a_goto (tgt := 192) dX16_step_121 (by decide) ?_
            refine aw_pick [1, 0] rfl ?_
            exact hk16 _ _ h
          · have he42 := e_X10_number (G := G) hl f40 e42
            refine c_X (b := b45) he42.1 (rn_V (n := 2) (As := [vI_ 0, vI_ ((gI_ m30 a35 8) - 1)]) kc_10 f40 he42 (lw_V q1021 q818 q819 q103 q820) (by decide +kernel) rfl (by show 5 + 1 ≤ (dz + 2); omega) (Nat.le_of_ble_eq_true rfl) (Nat.le_of_ble_eq_true rfl) dX16_step_114) ?_
            cases h
            exact a_out rfl rfl rfl rfl
        · have he31 := e_X16_signer (G := G) hl ht e31
          refine c_X (b := b34) he31.1 (rn_V (n := 0) (As := []) kc_16 ht he31 (lw_V q1017 q1019 qs12 q114 q1020) (by decide +kernel) rfl (by show 6 + 1 ≤ (dz + 2); omega) (Nat.le_of_ble_eq_true rfl) (Nat.le_of_ble_eq_true rfl) dX16_step_97) ?_
          cases h
          exact a_out rfl rfl rfl rfl
      replace h := ifn_ c27 h
      by_cases c49 : v6.toInt = 5
      · replace h := ifp_ c49 h
        refine a_tabIn (tgt := 124) dX16_step_56 (by rw [c49]; decide) (by rw [c49]; decide) (by rw [c49]; rfl) (by decide) ?_
        obtain ⟨m50, e51, h⟩ := lt_some h
        refine a_new kc_20 q1033 q1034 q118 dX16_step_124 ?_
        rw [← e51]
        refine a_dup dX16_step_127 rfl ?_
        refine a_aload_n 1 dX16_step_128 rfl rfl ?_
        rcases bt_some h with ⟨v54, m52, e53, h⟩ | ⟨b56, m55, e53, h⟩
        · have he53 := e_X16_signer (G := G) hl ht e53
          refine c_I (v := v54) he53.1 (rn_V (n := 0) (As := []) kc_16 ht he53 (lw_V q1017 q1019 qs12 q114 q1020) (by decide +kernel) rfl (by show 6 + 1 ≤ (dz + 2); omega) (Nat.le_of_ble_eq_true rfl) (Nat.le_of_ble_eq_true rfl) dX16_step_129) (fun z => (os_av (As := []) z).2.1) ?_
          refine a_aload_n 1 dX16_step_132 rfl rfl ?_
          refine a_getR kc_16 1 (by decide) rfl ht q970 dX16_step_133 ?_
          refine a_iconst (v := 1) dX16_step_136 (by decide) ?_
          refine a_bipush (v := 24) dX16_step_137 (by decide) ?_
          obtain ⟨a57, e58, f59, h⟩ := gd_some h
          rw [e58]
          rcases bt_some h with ⟨v62, m60, e61, h⟩ | ⟨b64, m63, e61, h⟩
          · have he61 := e_X10_number (G := G) hl f59 e61
            refine c_I (v := v62) he61.1 (rn_V (n := 2) (As := [vI_ 1, vI_ 24]) kc_10 f59 he61 (lw_V q1021 q818 q819 q103 q820) (by decide +kernel) rfl (by show 5 + 1 ≤ (dz + 2); omega) (Nat.le_of_ble_eq_true rfl) (Nat.le_of_ble_eq_true rfl) dX16_step_139) (fun z => (os_av (As := [vI_ 1, vI_ 24]) z).2.1) ?_
            obtain ⟨v67, m65, e66, h⟩ := bm_some h
            have he66 := e_X20_init (G := G) hl rfl e66
            refine c_V he66.1 (rn_I (n := 2) (As := [vI_ v54, vI_ v62]) he66 q1035 q1036 q118 q1037 rfl (by decide +kernel) rfl (by show 3 + 1 ≤ (dz + 2); omega) (Nat.le_of_ble_eq_true rfl) (Nat.le_of_ble_eq_true rfl) dX16_step_142) (fun z => (os_av (As := [vI_ v54, vI_ v62]) z).2.1) ?_
            refine a_astore_n (ls' := [(2, vR_ (some ((20, 0, gN_ m13)))), (0, vR_ (some t)), (1, vI_ v6)]) dX16_step_145 rfl (Nat.le_of_ble_eq_true rfl) rfl ?_
            refine a_goto (tgt := 192) dX16_step_146 (by decide) ?_
            refine aw_pick [1, 0] rfl ?_
            exact hk16 _ _ h
          · have he61 := e_X10_number (G := G) hl f59 e61
            refine c_X (b := b64) he61.1 (rn_V (n := 2) (As := [vI_ 1, vI_ 24]) kc_10 f59 he61 (lw_V q1021 q818 q819 q103 q820) (by decide +kernel) rfl (by show 5 + 1 ≤ (dz + 2); omega) (Nat.le_of_ble_eq_true rfl) (Nat.le_of_ble_eq_true rfl) dX16_step_139) ?_
            cases h
            exact a_out rfl rfl rfl rfl
        · have he53 := e_X16_signer (G := G) hl ht e53
          refine c_X (b := b56) he53.1 (rn_V (n := 0) (As := []) kc_16 ht he53 (lw_V q1017 q1019 qs12 q114 q1020) (by decide +kernel) rfl (by show 6 + 1 ≤ (dz + 2); omega) (Nat.le_of_ble_eq_true rfl) (Nat.le_of_ble_eq_true rfl) dX16_step_129) ?_
          cases h
          exact a_out rfl rfl rfl rfl
      replace h := ifn_ c49 h
      by_cases c68 : v6.toInt = 6
      · replace h := ifp_ c68 h
        refine a_tabIn (tgt := 149) dX16_step_56 (by rw [c68]; decide) (by rw [c68]; decide) (by rw [c68]; rfl) (by decide) ?_
        obtain ⟨m69, e70, h⟩ := lt_some h
        refine a_new kc_21 q1046 q1047 q119 dX16_step_149 ?_
        rw [← e70]
        refine a_dup dX16_step_152 rfl ?_
        obtain ⟨v73, m71, e72, h⟩ := bm_some h
        have he72 := e_X21_init (G := G) hl rfl e72
        refine c_V he72.1 (rn_IN (n := 0) (As := []) he72 q1048 q1049 q119 q1050 rfl (by decide +kernel) rfl (by show 3 + 1 ≤ (dz + 2); omega) (Nat.le_of_ble_eq_true rfl) (Nat.le_of_ble_eq_true rfl) dX16_step_153) (fun z => (os_av (As := []) z).2.1) ?_
        refine a_astore_n (ls' := [(2, vR_ (some ((21, 0, gN_ m13)))), (0, vR_ (some t)), (1, vI_ v6)]) dX16_step_156 rfl (Nat.le_of_ble_eq_true rfl) rfl ?_
        refine a_goto (tgt := 192) dX16_step_157 (by decide) ?_
        refine aw_pick [1, 0] rfl ?_
        exact hk16 _ _ h
      replace h := ifn_ c68 h
      by_cases c74 : v6.toInt = 7
      · replace h := ifp_ c74 h
        refine a_tabIn (tgt := 160) dX16_step_56 (by rw [c74]; decide) (by rw [c74]; decide) (by rw [c74]; rfl) (by decide) ?_
        obtain ⟨m75, e76, h⟩ := lt_some h
        refine a_new kc_22 q1053 q1054 q120 dX16_step_160 ?_
        rw [← e76]
        refine a_dup dX16_step_163 rfl ?_
        obtain ⟨v79, m77, e78, h⟩ := bm_some h
        have he78 := e_X22_init (G := G) hl rfl e78
        refine c_V he78.1 (rn_IN (n := 0) (As := []) he78 q1055 q1056 q120 q1057 rfl (by decide +kernel) rfl (by show 3 + 1 ≤ (dz + 2); omega) (Nat.le_of_ble_eq_true rfl) (Nat.le_of_ble_eq_true rfl) dX16_step_164) (fun z => (os_av (As := []) z).2.1) ?_
        refine a_astore_n (ls' := [(2, vR_ (some ((22, 0, gN_ m13)))), (0, vR_ (some t)), (1, vI_ v6)]) dX16_step_167 rfl (Nat.le_of_ble_eq_true rfl) rfl ?_
        refine a_goto (tgt := 192) dX16_step_168 (by decide) ?_
        refine aw_pick [1, 0] rfl ?_
        exact hk16 _ _ h
      replace h := ifn_ c74 h
      by_cases c80 : v6.toInt = 8
      · replace h := ifp_ c80 h
        refine a_tabIn (tgt := 171) dX16_step_56 (by rw [c80]; decide) (by rw [c80]; decide) (by rw [c80]; rfl) (by decide) ?_
        refine a_aload_n 1 dX16_step_171 rfl rfl ?_
        rcases bt_some h with ⟨v83, m81, e82, h⟩ | ⟨b85, m84, e82, h⟩
        · have he82 := e_X16_again (G := G) hl hz hdz ht e82
          refine c_R (v := v83) he82.1 (rn_V (n := 0) (As := []) kc_16 ht he82 (lw_V q1060 q1062 qs13 q114 q1063) (by decide +kernel) rfl (by show (dz + 1) + 1 ≤ (dz + 2); omega) (Nat.le_of_ble_eq_true rfl) (Nat.le_of_ble_eq_true rfl) dX16_step_172) (fun z => (os_av (As := []) z).2.1) ?_
          refine a_astore_n (ls' := [(2, vR_ v83), (0, vR_ (some t)), (1, vI_ v6)]) dX16_step_175 rfl (Nat.le_of_ble_eq_true rfl) rfl ?_
          refine a_goto (tgt := 192) dX16_step_176 (by decide) ?_
          refine aw_pick [1, 0] rfl ?_
          exact hk16 _ _ h
        · have he82 := e_X16_again (G := G) hl hz hdz ht e82
          refine c_X (b := b85) he82.1 (rn_V (n := 0) (As := []) kc_16 ht he82 (lw_V q1060 q1062 qs13 q114 q1063) (by decide +kernel) rfl (by show (dz + 1) + 1 ≤ (dz + 2); omega) (Nat.le_of_ble_eq_true rfl) (Nat.le_of_ble_eq_true rfl) dX16_step_172) ?_
          cases h
          exact a_out rfl rfl rfl rfl
      replace h := ifn_ c80 h
      refine a_tabOut (tgt := 179) dX16_step_56 (by omega) (by decide) ?_
      obtain ⟨m86, e87, h⟩ := lt_some h
      refine a_new kc_23 q1071 q1072 q121 dX16_step_179 ?_
      rw [← e87]
      refine a_dup dX16_step_182 rfl ?_
      refine a_iload_n 2 dX16_step_183 rfl rfl ?_
      refine a_aload_n 1 dX16_step_184 rfl rfl ?_
      rcases bt_some h with ⟨v90, m88, e89, h⟩ | ⟨b92, m91, e89, h⟩
      · have he89 := e_X16_signer (G := G) hl ht e89
        refine c_I (v := v90) he89.1 (rn_V (n := 0) (As := []) kc_16 ht he89 (lw_V q1017 q1019 qs12 q114 q1020) (by decide +kernel) rfl (by show 6 + 1 ≤ (dz + 2); omega) (Nat.le_of_ble_eq_true rfl) (Nat.le_of_ble_eq_true rfl) dX16_step_185) (fun z => (os_av (As := []) z).2.1) ?_
        obtain ⟨v95, m93, e94, h⟩ := bm_some h
        have he94 := e_X23_init (G := G) hl rfl e94
        refine c_V he94.1 (rn_I (n := 2) (As := [vI_ v6, vI_ v90]) he94 q1073 q1074 q121 q1075 rfl (by decide +kernel) rfl (by show 3 + 1 ≤ (dz + 2); omega) (Nat.le_of_ble_eq_true rfl) (Nat.le_of_ble_eq_true rfl) dX16_step_188) (fun z => (os_av (As := [vI_ v6, vI_ v90]) z).2.1) ?_
        refine a_astore_n (ls' := [(2, vR_ (some ((23, 0, gN_ m13)))), (0, vR_ (some t)), (1, vI_ v6)]) dX16_step_191 rfl (Nat.le_of_ble_eq_true rfl) rfl ?_
        refine aw_pick [1, 0] rfl ?_
        exact hk16 _ _ h
      · have he89 := e_X16_signer (G := G) hl ht e89
        refine c_X (b := b92) he89.1 (rn_V (n := 0) (As := []) kc_16 ht he89 (lw_V q1017 q1019 qs12 q114 q1020) (by decide +kernel) rfl (by show 6 + 1 ≤ (dz + 2); omega) (Nat.le_of_ble_eq_true rfl) (Nat.le_of_ble_eq_true rfl) dX16_step_185) ?_
        cases h
        exact a_out rfl rfl rfl rfl
    refine a_icmp_ne (tgt := 46) dX16_step_36 (by decide) (fun c97 => ?_) (fun c97 => ?_)
    · replace h := ifn_ c97 h
      refine aw_pick [1, 0] rfl ?_
      exact hk8 _ h
    · replace h := ifp_ c97 h
      refine a_aload_n 1 dX16_step_39 rfl rfl ?_
      refine a_getR kc_16 1 (by decide) rfl ht q970 dX16_step_40 ?_
      obtain ⟨a98, e99, f100, h⟩ := gd_some h
      rw [e99]
      rcases bt_some h with ⟨v103, m101, e102, h⟩ | ⟨b105, m104, e102, h⟩
      · have he102 := e_X10_opens (G := G) hl f100 e102
        refine c_V he102.1 (rn_V (n := 0) (As := []) kc_10 f100 he102 (lw_V q1013 q890 q891 q103 q892) (by decide +kernel) rfl (by show 5 + 1 ≤ (dz + 2); omega) (Nat.le_of_ble_eq_true rfl) (Nat.le_of_ble_eq_true rfl) dX16_step_43) (fun z => (os_av (As := []) z).2.1) ?_
        refine aw_pick [1, 0] rfl ?_
        exact hk8 _ h
      · have he102 := e_X10_opens (G := G) hl f100 e102
        refine c_X (b := b105) he102.1 (rn_V (n := 0) (As := []) kc_10 f100 he102 (lw_V q1013 q890 q891 q103 q892) (by decide +kernel) rfl (by show 5 + 1 ≤ (dz + 2); omega) (Nat.le_of_ble_eq_true rfl) (Nat.le_of_ble_eq_true rfl) dX16_step_43) ?_
        cases h
        exact a_out rfl rfl rfl rfl
  · replace h := ifp_ c7 h
    obtain ⟨m107, e108, h⟩ := lt_some h
    refine a_new kc_11 q1010 q782 q108 dX16_step_17 ?_
    rw [← e108]
    refine a_dup dX16_step_20 rfl ?_
    refine a_iconst (v := 1) dX16_step_21 (by decide) ?_
    refine a_aload_n 1 dX16_step_22 rfl rfl ?_
    refine a_getR kc_16 1 (by decide) rfl ht q970 dX16_step_23 ?_
    obtain ⟨a109, e110, f111, h⟩ := gd_some h
    rw [e110]
    obtain ⟨v114, m112, e113, h⟩ := bm_some h
    have he113 := e_X10_place (G := G) hl f111 e113
    refine c_I he113.1 (rn_V (n := 0) (As := []) kc_10 f111 he113 (lw_V q1011 q717 q718 q103 q719) (by decide +kernel) rfl (by show 4 + 1 ≤ (dz + 2); omega) (Nat.le_of_ble_eq_true rfl) (Nat.le_of_ble_eq_true rfl) dX16_step_26) (fun z => (os_av (As := []) z).2.1) ?_
    obtain ⟨v117, m115, e116, h⟩ := bm_some h
    have he116 := e_X11_init (G := G) hl rfl e116
    refine c_V he116.1 (rn_I (n := 2) (As := [vI_ 1, vI_ v114]) he116 q1012 q791 q108 q792 rfl (by decide +kernel) rfl (by show 4 + 1 ≤ (dz + 2); omega) (Nat.le_of_ble_eq_true rfl) (Nat.le_of_ble_eq_true rfl) dX16_step_29) (fun z => (os_av (As := [vI_ 1, vI_ v114]) z).2.1) ?_
    refine a_athrow kc_11 rfl dX16_step_32 ?_
    cases h
    exact a_out rfl rfl rfl rfl
def f_X16_step (F : Nat) : Nat → pm_A → pm_M → Option ((Option pm_A ⊕ pm_A) × pm_M)
  | 0, _, _ => none
  | D + 1, t, m => b_X16_step F (f_X16_step F D) t m
theorem er_X16_step {G : xg_T} {l : Launch} (hl : l.stackTraces = false) {F : Nat} : ∀ (D : Nat) (t : pm_A) (m m' : pm_M) (r : (Option pm_A ⊕ pm_A)), t.1 = 16 → f_X16_step F D t m = some (r, m') → Cal_ G l yX16_step (ws_ yX16_step cX16_step 3 (some (.object "PassagePapers$Step"))) (2 * D + 8) [vR_ (some t)] m (oR_ r) m' := by
  intro D
  induction D with
  | zero => intro t m m' r ht h; cases h
  | succ D ih =>
    intro t m m' r ht h
    have h : b_X16_step F (f_X16_step F D) t m = some (r, m') := h
    have q := eb_X16_step (dz := 2 * D + 8) hl ih (by omega) ht h
    rw [show 2 * (D + 1) + 8 = 2 * D + 8 + 2 by omega]
    exact q
theorem e_X16_step {G : xg_T} {l : Launch} (hl : l.stackTraces = false) {F : Nat} {t : pm_A} {m m' : pm_M} {r : (Option pm_A ⊕ pm_A)} (ht : t.1 = 16) (h : f_X16_step F 10 t m = some (r, m')) : Cal_ G l yX16_step (ws_ yX16_step cX16_step 3 (some (.object "PassagePapers$Step"))) 28 [vR_ (some t)] m (oR_ r) m' := er_X16_step hl 10 _ _ _ _ ht h
def f_X16_reads_L9 (F : Nat)  (p6 : pm_A) (p8 : pm_A) : Nat → pm_M → Option ((Option pm_A ⊕ pm_A) × pm_M)
  | 0, _ => none
  | n10 + 1, m11 =>
    gd_ 10 (gR_ m11 p6 1) fun a12 =>
    bm_ (f_X10_now F a12 m11) fun v17 m15 =>
    if v17 = ((-1)) then
      some (.inl (some p8), m15)
    else
      bt_ (f_X16_step F 10 p6 m15) (fun v21 m19 =>
        bm_ (f_X18_adds F p8 v21 m19) fun v26 m24 =>
        (f_X16_reads_L9 F p6 p8 n10) m24
      ) fun b23 m22 =>
        some (.inr b23, m22)
set_option maxHeartbeats 4000000 in
theorem w_X16_reads_L9 {G : xg_T} {l : Launch} (hl : l.stackTraces = false) {F : Nat}    (p6 : pm_A) (p8 : pm_A) {m0 m' : pm_M} {r : (Option pm_A ⊕ pm_A)} (hf7 : p6.1 = 16) (hf9 : p8.1 = 18)  : ∀ (n : Nat) (m11 : pm_M), f_X16_reads_L9 F p6 p8 n m11 = some (r, m') → AW_ cX16_reads RX16 (some (.object "PassagePapers$Row"), "reads", 29, 2, m0, m', (oR_ r), G, l, [], true) m11 9 [(0, vR_ (some p6)), (1, vR_ (some p8))] [] := by
  intro n
  induction n with
  | zero => intro m11 h; cases h
  | succ n10 ih =>
    intro m11 h
    rw [f_X16_reads_L9] at h
    refine a_aload_n 0 dX16_reads_9 rfl rfl ?_
    refine a_getR kc_16 1 (by decide) rfl hf7 q970 dX16_reads_10 ?_
    obtain ⟨a12, e13, f14, h⟩ := gd_some h
    rw [e13]
    obtain ⟨v17, m15, e16, h⟩ := bm_some h
    have he16 := e_X10_now (G := G) hl f14 e16
    refine c_I he16.1 (rn_V (n := 0) (As := []) kc_10 f14 he16 (lw_V q1004 q705 q706 q103 q707) (by decide +kernel) rfl (Nat.le_of_ble_eq_true rfl) (Nat.le_of_ble_eq_true rfl) (Nat.le_of_ble_eq_true rfl) dX16_reads_13) (fun z => (os_av (As := []) z).2.1) ?_
    refine a_iconst (v := (-1)) dX16_reads_16 (by decide) ?_
    refine a_icmp_eq (tgt := 31) dX16_reads_17 (by decide) (fun c18 => ?_) (fun c18 => ?_)
    · replace h := ifp_ c18 h
      refine a_aload_n 1 dX16_reads_31 rfl rfl ?_
      cases h
      exact a_areturn rfl (Or.inl ⟨_, rfl⟩) rfl rfl rfl dX16_reads_32
    · replace h := ifn_ c18 h
      refine a_aload_n 1 dX16_reads_20 rfl rfl ?_
      refine a_aload_n 0 dX16_reads_21 rfl rfl ?_
      rcases bt_some h with ⟨v21, m19, e20, h⟩ | ⟨b23, m22, e20, h⟩
      · have he20 := e_X16_step (G := G) hl hf7 e20
        refine c_R (v := v21) he20.1 (rn_V (n := 0) (As := []) kc_16 hf7 he20 (lw_V q1005 q1007 qs11 q114 q1008) (by decide +kernel) rfl (Nat.le_of_ble_eq_true rfl) (Nat.le_of_ble_eq_true rfl) (Nat.le_of_ble_eq_true rfl) dX16_reads_22) (fun z => (os_av (As := []) z).2.1) ?_
        obtain ⟨v26, m24, e25, h⟩ := bm_some h
        have he25 := e_X18_adds (G := G) hl hf9 e25
        refine c_V he25.1 (rn_V (n := 1) (As := [vR_ v21]) kc_18 hf9 he25 (lw_V q1066 q1067 q1068 q116 q1069) (by decide +kernel) rfl (Nat.le_of_ble_eq_true rfl) (Nat.le_of_ble_eq_true rfl) (Nat.le_of_ble_eq_true rfl) dX16_reads_25) (fun z => (os_av (As := [vR_ v21]) z).2.1) ?_
        refine a_goto (tgt := 9) dX16_reads_28 (by decide) ?_
        exact ih _ h
      · have he20 := e_X16_step (G := G) hl hf7 e20
        refine c_X (b := b23) he20.1 (rn_V (n := 0) (As := []) kc_16 hf7 he20 (lw_V q1005 q1007 qs11 q114 q1008) (by decide +kernel) rfl (Nat.le_of_ble_eq_true rfl) (Nat.le_of_ble_eq_true rfl) (Nat.le_of_ble_eq_true rfl) dX16_reads_22) ?_
        cases h
        exact a_out rfl rfl rfl rfl
def f_X16_reads (F : Nat)  (t : pm_A) (m : pm_M) : Option ((Option pm_A ⊕ pm_A) × pm_M) :=
  lt_ (pN_ m 18 0 3) fun m1 =>
  bm_ (f_X18_init F ((18, 0, gN_ m)) 1 m1) fun v5 m3 =>
  f_X16_reads_L9 F t ((18, 0, gN_ m)) F m3
set_option maxHeartbeats 4000000 in
theorem e_X16_reads {G : xg_T} {l : Launch} (hl : l.stackTraces = false) {F : Nat}    {t : pm_A} {m0 m' : pm_M} {r : (Option pm_A ⊕ pm_A)} (ht : t.1 = 16) (h : f_X16_reads F t m0 = some (r, m')) : Cal_ G l yX16_reads (ws_ yX16_reads cX16_reads 2 (some (.object "PassagePapers$Row"))) 29 [vR_ (some t)] m0 (oR_ r) m' := by
  refine cal_of (by decide +kernel) (Nat.le_of_ble_eq_true rfl) ?_
  unfold f_X16_reads at h
  show AW_ cX16_reads RX16 (some (.object "PassagePapers$Row"), "reads", 29, 2, m0, m', (oR_ r), G, l, [], true) m0 0 [(0, vR_ (some t))] []
  obtain ⟨m1, e2, h⟩ := lt_some h
  refine a_new kc_18 q983 q984 q116 dX16_reads_0 ?_
  rw [← e2]
  refine a_dup dX16_reads_3 rfl ?_
  refine a_iconst (v := 1) dX16_reads_4 (by decide) ?_
  obtain ⟨v5, m3, e4, h⟩ := bm_some h
  have he4 := e_X18_init (G := G) hl rfl e4
  refine c_V he4.1 (rn_I (n := 1) (As := [vI_ 1]) he4 q985 q986 q116 q987 rfl (by decide +kernel) rfl (Nat.le_of_ble_eq_true rfl) (Nat.le_of_ble_eq_true rfl) (Nat.le_of_ble_eq_true rfl) dX16_reads_5) (fun z => (os_av (As := [vI_ 1]) z).2.1) ?_
  refine a_astore_n (ls' := [(1, vR_ (some ((18, 0, gN_ m0)))), (0, vR_ (some t))]) dX16_reads_8 rfl (Nat.le_of_ble_eq_true rfl) rfl ?_
  refine aw_pick [1, 0] rfl ?_
  exact w_X16_reads_L9 hl _ _ ht rfl _ _ h
def f_X4_copies (F : Nat)  (i0 : Option pm_A) (i1 : Option pm_A) (m : pm_M) : Option (Unit × pm_M) :=
  gd_ 100 i0 fun a1 =>
  gd_ 100 i1 fun a4 =>
  iz_ (!(decide (0 + 8 ≤ a1.2.1) && decide (0 + 8 ≤ a4.2.1))) <|
  lt_ (pC_ m a1 0 a4 0 8) fun m8 =>
  some ((), m8)
set_option maxHeartbeats 4000000 in
theorem e_X4_copies {G : xg_T} {l : Launch} (hl : l.stackTraces = false) {F : Nat}    {i0 : Option pm_A} {i1 : Option pm_A} {m0 m' : pm_M} {r : Unit} (h : f_X4_copies F i0 i1 m0 = some (r, m')) : Cal_ G l yX4_copies (ws_ yX4_copies cX4_copies 2 none) 2 [vR_ i0, vR_ i1] m0 (.inl none) m' := by
  refine cal_of (by decide +kernel) (Nat.le_of_ble_eq_true rfl) ?_
  unfold f_X4_copies at h
  show AW_ cX4_copies RX4 (none, "copies", 2, 2, m0, m', (.inl none), G, l, [], true) m0 0 [(0, vR_ i0), (1, vR_ i1)] []
  refine a_aload_n 0 dX4_copies_0 rfl rfl ?_
  refine a_iconst (v := 0) dX4_copies_1 (by decide) ?_
  refine a_aload_n 1 dX4_copies_2 rfl rfl ?_
  refine a_iconst (v := 0) dX4_copies_3 (by decide) ?_
  refine a_bipush (v := 8) dX4_copies_4 (by decide) ?_
  obtain ⟨a1, e2, f3, h⟩ := gd_some h
  rw [e2]
  obtain ⟨a4, e5, f6, h⟩ := gd_some h
  rw [e5]
  obtain ⟨c7, h⟩ := iz_some h
  have c7 := da_ok (bn_ c7)
  obtain ⟨m8, e9, h⟩ := lt_some h
  refine a_cpyI q557 f3 f6 (by decide) (by decide) (by decide) c7.1 c7.2 (Nat.le_of_ble_eq_true rfl) (Nat.le_of_ble_eq_true rfl) dX4_copies_6 ?_
  rw [show pC_ _ _ (Int32.toNatClampNeg 0) _ (Int32.toNatClampNeg 0) (Int32.toNatClampNeg 8) = pC_ _ _ 0 _ 0 8 from rfl, ← e9]
  cases h
  exact a_return rfl rfl rfl rfl dX4_copies_9
