/-! PRINTED BY dec.py: X4_init X3_init X7_init X1_init X1_feed X1_fault X1_undo X1_held X1_parted X1_hunger X3_as X1_image X1_restore X1_status X1_count X8_thrown X8_clears X8_copies -/
set_option maxRecDepth 100000
def f_X4_init (F : Nat)  (t : pm_A) (i0 : Option pm_A) (m : pm_M) : Option (Unit × pm_M) :=
  lt_ (pN_ m 100 8 8) fun m1 =>
  lt_ (pR_ m1 t 0 (some ((100, 8, gN_ m)))) fun m3 =>
  lt_ (pN_ m3 100 8 8) fun m5 =>
  lt_ (pR_ m5 t 1 (some ((100, 8, gN_ m3)))) fun m7 =>
  lt_ (pN_ m7 100 8 8) fun m9 =>
  lt_ (pR_ m9 t 2 (some ((100, 8, gN_ m7)))) fun m11 =>
  lt_ (pN_ m11 100 8 8) fun m13 =>
  lt_ (pR_ m13 t 3 (some ((100, 8, gN_ m11)))) fun m15 =>
  lt_ (pN_ m15 100 8 8) fun m17 =>
  lt_ (pR_ m17 t 4 (some ((100, 8, gN_ m15)))) fun m19 =>
  lt_ (pN_ m19 100 8 8) fun m21 =>
  lt_ (pR_ m21 t 5 (some ((100, 8, gN_ m19)))) fun m23 =>
  lt_ (pN_ m23 100 8 8) fun m25 =>
  lt_ (pR_ m25 t 6 (some ((100, 8, gN_ m23)))) fun m27 =>
  lt_ (pN_ m27 102 8 8) fun m29 =>
  lt_ (pR_ m29 t 7 (some ((102, 8, gN_ m27)))) fun m31 =>
  lt_ (pN_ m31 5 0 8) fun m33 =>
  bm_ (f_X5_init F ((5, 0, gN_ m31)) m33) fun v37 m35 =>
  lt_ (pR_ m35 t 8 (some ((5, 0, gN_ m31)))) fun m38 =>
  lt_ (pN_ m38 6 0 11) fun m40 =>
  bm_ (f_X6_init F ((6, 0, gN_ m38)) m40) fun v44 m42 =>
  lt_ (pR_ m42 t 10 (some ((6, 0, gN_ m38)))) fun m45 =>
  lt_ (pR_ m45 t 9 i0) fun m47 =>
  some ((), m47)
set_option maxHeartbeats 4000000 in
theorem e_X4_init {G : xg_T} {l : Launch} (hl : l.stackTraces = false) {F : Nat}    {t : pm_A} {i0 : Option pm_A} {m0 m' : pm_M} {r : Unit} (ht : t.1 = 4) (h : f_X4_init F t i0 m0 = some (r, m')) : Cal_ G l yX4_init (ws_ yX4_init cX4_init 2 none) 3 [vR_ (some t), vR_ i0] m0 (.inl none) m' := by
  refine cal_of (by decide +kernel) (Nat.le_of_ble_eq_true rfl) ?_
  unfold f_X4_init at h
  show AW_ cX4_init RX4 (none, "<init>", 3, 2, m0, m', (.inl none), G, l, [], true) m0 0 [(0, vR_ (some t)), (1, vR_ i0)] []
  refine a_aload_n 0 dX4_init_0 rfl rfl ?_
  refine a_obj q160 q132 q133 (Nat.le_of_ble_eq_true rfl) (Nat.le_of_ble_eq_true rfl) dX4_init_1 ?_
  refine a_aload_n 0 dX4_init_4 rfl rfl ?_
  refine a_bipush (v := 8) dX4_init_5 (by decide) ?_
  obtain ⟨m1, e2, h⟩ := lt_some h
  refine a_newI (N := 8) q208 (by decide) rfl (by decide) dX4_init_7 ?_
  rw [← e2]
  obtain ⟨m3, e4, h⟩ := lt_some h
  refine a_putRF kc_4 0 (by decide) rfl ht q283 rfl rfl rfl na_arr dX4_init_9 ?_
  rw [← e4]
  refine a_aload_n 0 dX4_init_12 rfl rfl ?_
  refine a_bipush (v := 8) dX4_init_13 (by decide) ?_
  obtain ⟨m5, e6, h⟩ := lt_some h
  refine a_newI (N := 8) q208 (by decide) rfl (by decide) dX4_init_15 ?_
  rw [← e6]
  obtain ⟨m7, e8, h⟩ := lt_some h
  refine a_putRF kc_4 1 (by decide) rfl ht q286 rfl rfl rfl na_arr dX4_init_17 ?_
  rw [← e8]
  refine a_aload_n 0 dX4_init_20 rfl rfl ?_
  refine a_bipush (v := 8) dX4_init_21 (by decide) ?_
  obtain ⟨m9, e10, h⟩ := lt_some h
  refine a_newI (N := 8) q208 (by decide) rfl (by decide) dX4_init_23 ?_
  rw [← e10]
  obtain ⟨m11, e12, h⟩ := lt_some h
  refine a_putRF kc_4 2 (by decide) rfl ht q288 rfl rfl rfl na_arr dX4_init_25 ?_
  rw [← e12]
  refine a_aload_n 0 dX4_init_28 rfl rfl ?_
  refine a_bipush (v := 8) dX4_init_29 (by decide) ?_
  obtain ⟨m13, e14, h⟩ := lt_some h
  refine a_newI (N := 8) q208 (by decide) rfl (by decide) dX4_init_31 ?_
  rw [← e14]
  obtain ⟨m15, e16, h⟩ := lt_some h
  refine a_putRF kc_4 3 (by decide) rfl ht q290 rfl rfl rfl na_arr dX4_init_33 ?_
  rw [← e16]
  refine a_aload_n 0 dX4_init_36 rfl rfl ?_
  refine a_bipush (v := 8) dX4_init_37 (by decide) ?_
  obtain ⟨m17, e18, h⟩ := lt_some h
  refine a_newI (N := 8) q208 (by decide) rfl (by decide) dX4_init_39 ?_
  rw [← e18]
  obtain ⟨m19, e20, h⟩ := lt_some h
  refine a_putRF kc_4 4 (by decide) rfl ht q292 rfl rfl rfl na_arr dX4_init_41 ?_
  rw [← e20]
  refine a_aload_n 0 dX4_init_44 rfl rfl ?_
  refine a_bipush (v := 8) dX4_init_45 (by decide) ?_
  obtain ⟨m21, e22, h⟩ := lt_some h
  refine a_newI (N := 8) q208 (by decide) rfl (by decide) dX4_init_47 ?_
  rw [← e22]
  obtain ⟨m23, e24, h⟩ := lt_some h
  refine a_putRF kc_4 5 (by decide) rfl ht q294 rfl rfl rfl na_arr dX4_init_49 ?_
  rw [← e24]
  refine a_aload_n 0 dX4_init_52 rfl rfl ?_
  refine a_bipush (v := 8) dX4_init_53 (by decide) ?_
  obtain ⟨m25, e26, h⟩ := lt_some h
  refine a_newI (N := 8) q208 (by decide) rfl (by decide) dX4_init_55 ?_
  rw [← e26]
  obtain ⟨m27, e28, h⟩ := lt_some h
  refine a_putRF kc_4 6 (by decide) rfl ht q295 rfl rfl rfl na_arr dX4_init_57 ?_
  rw [← e28]
  refine a_aload_n 0 dX4_init_60 rfl rfl ?_
  refine a_bipush (v := 8) dX4_init_61 (by decide) ?_
  obtain ⟨m29, e30, h⟩ := lt_some h
  refine a_newZ (N := 8) q209 (by decide) rfl (by decide) dX4_init_63 ?_
  rw [← e30]
  obtain ⟨m31, e32, h⟩ := lt_some h
  refine a_putRF kc_4 7 (by decide) rfl ht q297 rfl rfl rfl na_arr dX4_init_65 ?_
  rw [← e32]
  refine a_aload_n 0 dX4_init_68 rfl rfl ?_
  obtain ⟨m33, e34, h⟩ := lt_some h
  refine a_new kc_5 q161 q162 q94 dX4_init_69 ?_
  rw [← e34]
  refine a_dup dX4_init_72 rfl ?_
  obtain ⟨v37, m35, e36, h⟩ := bm_some h
  have he36 := e_X5_init (G := G) hl rfl e36
  refine c_V he36.1 (rn_IN (n := 0) (As := []) he36 q163 q164 q94 q165 rfl (by decide +kernel) rfl (Nat.le_of_ble_eq_true rfl) (Nat.le_of_ble_eq_true rfl) (Nat.le_of_ble_eq_true rfl) dX4_init_73) (fun z => (os_av (As := []) z).2.1) ?_
  obtain ⟨m38, e39, h⟩ := lt_some h
  refine a_putRF kc_4 8 (by decide) rfl ht q299 rfl rfl rfl na_obj dX4_init_76 ?_
  rw [← e39]
  refine a_aload_n 0 dX4_init_79 rfl rfl ?_
  obtain ⟨m40, e41, h⟩ := lt_some h
  refine a_new kc_6 q210 q211 q95 dX4_init_80 ?_
  rw [← e41]
  refine a_dup dX4_init_83 rfl ?_
  obtain ⟨v44, m42, e43, h⟩ := bm_some h
  have he43 := e_X6_init (G := G) hl rfl e43
  refine c_V he43.1 (rn_IN (n := 0) (As := []) he43 q212 q213 q95 q214 rfl (by decide +kernel) rfl (Nat.le_of_ble_eq_true rfl) (Nat.le_of_ble_eq_true rfl) (Nat.le_of_ble_eq_true rfl) dX4_init_84) (fun z => (os_av (As := []) z).2.1) ?_
  obtain ⟨m45, e46, h⟩ := lt_some h
  refine a_putR kc_4 10 (by decide) rfl ht q301 rfl na_obj dX4_init_87 ?_
  rw [← e46]
  refine a_aload_n 0 dX4_init_90 rfl rfl ?_
  refine a_aload_n 1 dX4_init_91 rfl rfl ?_
  obtain ⟨m47, e48, h⟩ := lt_some h
  refine a_putRF kc_4 9 (by decide) rfl ht q300 rfl rfl rfl na_obj dX4_init_92 ?_
  rw [← e48]
  cases h
  exact a_return rfl rfl rfl rfl dX4_init_95
def f_X3_init_L15 (F : Nat)  (p5 : pm_A) (p7 : Option pm_A) : Nat → Int32 → pm_M → Option (Unit × pm_M)
  | 0, _, _ => none
  | n8 + 1, x10, m9 =>
    if 16 < x10 then
      some ((), m9)
    else
      lt_ (pN_ m9 4 0 14) fun m12 =>
      bm_ (f_X4_init F ((4, 0, gN_ m9)) p7 m12) fun v16 m14 =>
      gd_ 105 (gR_ m9 p5 0) fun a17 =>
      iz_ (!(ib_ x10 a17.2.1)) <|
      lt_ (pR_ m14 a17 x10.toNatClampNeg (some ((4, 0, gN_ m9)))) fun m21 =>
      (f_X3_init_L15 F p5 p7 n8) (x10 + 1) m21
set_option maxHeartbeats 4000000 in
theorem w_X3_init_L15 {G : xg_T} {l : Launch} (hl : l.stackTraces = false) {F : Nat}    (p5 : pm_A) (p7 : Option pm_A) {m0 m' : pm_M} {r : Unit} (hf6 : p5.1 = 3)  : ∀ (n : Nat) (x10 : Int32) (m9 : pm_M), f_X3_init_L15 F p5 p7 n x10 m9 = some (r, m') → AW_ cX3_init RX3 (none, "<init>", 4, 3, m0, m', (.inl none), G, l, [], true) m9 15 [(0, vR_ (some p5)), (1, vR_ p7), (2, vI_ x10)] [] := by
  intro n
  induction n with
  | zero => intro x10 m9 h; cases h
  | succ n8 ih =>
    intro x10 m9 h
    rw [f_X3_init_L15] at h
    refine a_iload_n 2 dX3_init_15 rfl rfl ?_
    refine a_bipush (v := 16) dX3_init_16 (by decide) ?_
    refine a_icmp_gt (tgt := 41) dX3_init_18 (by decide) (fun c11 => ?_) (fun c11 => ?_)
    · replace h := ifp_ c11 h
      cases h
      exact a_return rfl rfl rfl rfl dX3_init_41
    · replace h := ifn_ c11 h
      refine a_aload_n 0 dX3_init_21 rfl rfl ?_
      refine a_getR kc_3 0 (by decide) rfl hf6 q338 dX3_init_22 ?_
      refine a_iload_n 2 dX3_init_25 rfl rfl ?_
      obtain ⟨m12, e13, h⟩ := lt_some h
      refine a_new kc_4 q154 q156 q93 dX3_init_26 ?_
      rw [← e13]
      refine a_dup dX3_init_29 rfl ?_
      refine a_aload_n 1 dX3_init_30 rfl rfl ?_
      obtain ⟨v16, m14, e15, h⟩ := bm_some h
      have he15 := e_X4_init (G := G) hl rfl e15
      refine c_V he15.1 (rn_I (n := 1) (As := [vR_ p7]) he15 q157 q158 q93 q159 rfl (by decide +kernel) rfl (Nat.le_of_ble_eq_true rfl) (Nat.le_of_ble_eq_true rfl) (Nat.le_of_ble_eq_true rfl) dX3_init_31) (fun z => (os_av (As := [vR_ p7]) z).2.1) ?_
      obtain ⟨a17, e18, f19, h⟩ := gd_some h
      rw [e18]
      obtain ⟨c20, h⟩ := iz_some h
      obtain ⟨m21, e22, h⟩ := lt_some h
      refine a_aast (t0 := 5) kc_4 f19 (by decide) (by decide) rfl rfl (Or.inr rfl) (bn_ c20) dX3_init_34 ?_
      rw [← e22]
      refine a_iinc (v := x10 + 1) (ls' := [(2, vI_ (x10 + 1)), (0, vR_ (some p5)), (1, vR_ p7)]) 2 dX3_init_35 rfl rfl (Nat.le_of_ble_eq_true rfl) rfl ?_
      refine a_goto (tgt := 15) dX3_init_38 (by decide) ?_
      refine aw_pick [1, 2, 0] rfl ?_
      exact ih _ _ h
def f_X3_init (F : Nat)  (t : pm_A) (i0 : Option pm_A) (m : pm_M) : Option (Unit × pm_M) :=
  lt_ (pN_ m 105 17 17) fun m1 =>
  lt_ (pR_ m1 t 0 (some ((105, 17, gN_ m)))) fun m3 =>
  f_X3_init_L15 F t i0 F 0 m3
set_option maxHeartbeats 4000000 in
theorem e_X3_init {G : xg_T} {l : Launch} (hl : l.stackTraces = false) {F : Nat}    {t : pm_A} {i0 : Option pm_A} {m0 m' : pm_M} {r : Unit} (ht : t.1 = 3) (h : f_X3_init F t i0 m0 = some (r, m')) : Cal_ G l yX3_init (ws_ yX3_init cX3_init 3 none) 4 [vR_ (some t), vR_ i0] m0 (.inl none) m' := by
  refine cal_of (by decide +kernel) (Nat.le_of_ble_eq_true rfl) ?_
  unfold f_X3_init at h
  show AW_ cX3_init RX3 (none, "<init>", 4, 3, m0, m', (.inl none), G, l, [], true) m0 0 [(0, vR_ (some t)), (1, vR_ i0)] []
  refine a_aload_n 0 dX3_init_0 rfl rfl ?_
  refine a_obj q153 q132 q133 (Nat.le_of_ble_eq_true rfl) (Nat.le_of_ble_eq_true rfl) dX3_init_1 ?_
  refine a_aload_n 0 dX3_init_4 rfl rfl ?_
  refine a_bipush (v := 17) dX3_init_5 (by decide) ?_
  obtain ⟨m1, e2, h⟩ := lt_some h
  refine a_newq (t0 := 5) (C := "PassagePapers$State") (N := 17) (by decide) (by decide) rfl (by decide +kernel) q154 (by decide) rfl (by decide) dX3_init_7 ?_
  rw [← e2]
  obtain ⟨m3, e4, h⟩ := lt_some h
  refine a_putRF kc_3 0 (by decide) rfl ht q338 rfl rfl rfl na_arr dX3_init_10 ?_
  rw [← e4]
  refine a_iconst (v := 0) dX3_init_13 (by decide) ?_
  refine a_istore_n (ls' := [(2, vI_ 0), (0, vR_ (some t)), (1, vR_ i0)]) dX3_init_14 rfl (Nat.le_of_ble_eq_true rfl) rfl ?_
  refine aw_pick [1, 2, 0] rfl ?_
  exact w_X3_init_L15 hl _ _ ht _ _ _ h
def f_X7_init (F : Nat)  (t : pm_A) (m : pm_M) : Option (Unit × pm_M) :=
  lt_ (pN_ m 100 8 8) fun m1 =>
  lt_ (pR_ m1 t 0 (some ((100, 8, gN_ m)))) fun m3 =>
  lt_ (pN_ m3 100 8 8) fun m5 =>
  lt_ (pR_ m5 t 1 (some ((100, 8, gN_ m3)))) fun m7 =>
  lt_ (pN_ m7 100 5 5) fun m9 =>
  lt_ (pR_ m9 t 2 (some ((100, 5, gN_ m7)))) fun m11 =>
  lt_ (pN_ m11 100 9 9) fun m13 =>
  lt_ (pR_ m13 t 3 (some ((100, 9, gN_ m11)))) fun m15 =>
  some ((), m15)
set_option maxHeartbeats 4000000 in
theorem e_X7_init {G : xg_T} {l : Launch} (hl : l.stackTraces = false) {F : Nat}    {t : pm_A} {m0 m' : pm_M} {r : Unit} (ht : t.1 = 7) (h : f_X7_init F t m0 = some (r, m')) : Cal_ G l yX7_init (ws_ yX7_init cX7_init 1 none) 2 [vR_ (some t)] m0 (.inl none) m' := by
  refine cal_of (by decide +kernel) (Nat.le_of_ble_eq_true rfl) ?_
  unfold f_X7_init at h
  show AW_ cX7_init RX7 (none, "<init>", 2, 1, m0, m', (.inl none), G, l, [], true) m0 0 [(0, vR_ (some t))] []
  refine a_aload_n 0 dX7_init_0 rfl rfl ?_
  refine a_obj q354 q132 q133 (Nat.le_of_ble_eq_true rfl) (Nat.le_of_ble_eq_true rfl) dX7_init_1 ?_
  refine a_aload_n 0 dX7_init_4 rfl rfl ?_
  refine a_bipush (v := 8) dX7_init_5 (by decide) ?_
  obtain ⟨m1, e2, h⟩ := lt_some h
  refine a_newI (N := 8) q208 (by decide) rfl (by decide) dX7_init_7 ?_
  rw [← e2]
  obtain ⟨m3, e4, h⟩ := lt_some h
  refine a_putRF kc_7 0 (by decide) rfl ht q355 rfl rfl rfl na_arr dX7_init_9 ?_
  rw [← e4]
  refine a_aload_n 0 dX7_init_12 rfl rfl ?_
  refine a_bipush (v := 8) dX7_init_13 (by decide) ?_
  obtain ⟨m5, e6, h⟩ := lt_some h
  refine a_newI (N := 8) q208 (by decide) rfl (by decide) dX7_init_15 ?_
  rw [← e6]
  obtain ⟨m7, e8, h⟩ := lt_some h
  refine a_putRF kc_7 1 (by decide) rfl ht q356 rfl rfl rfl na_arr dX7_init_17 ?_
  rw [← e8]
  refine a_aload_n 0 dX7_init_20 rfl rfl ?_
  refine a_iconst (v := 5) dX7_init_21 (by decide) ?_
  obtain ⟨m9, e10, h⟩ := lt_some h
  refine a_newI (N := 5) q208 (by decide) rfl (by decide) dX7_init_22 ?_
  rw [← e10]
  obtain ⟨m11, e12, h⟩ := lt_some h
  refine a_putRF kc_7 2 (by decide) rfl ht q358 rfl rfl rfl na_arr dX7_init_24 ?_
  rw [← e12]
  refine a_aload_n 0 dX7_init_27 rfl rfl ?_
  refine a_bipush (v := 9) dX7_init_28 (by decide) ?_
  obtain ⟨m13, e14, h⟩ := lt_some h
  refine a_newI (N := 9) q208 (by decide) rfl (by decide) dX7_init_30 ?_
  rw [← e14]
  obtain ⟨m15, e16, h⟩ := lt_some h
  refine a_putRF kc_7 3 (by decide) rfl ht q359 rfl rfl rfl na_arr dX7_init_32 ?_
  rw [← e16]
  cases h
  exact a_return rfl rfl rfl rfl dX7_init_35
def f_X1_init (F : Nat)  (t : pm_A) (m : pm_M) : Option (Unit × pm_M) :=
  lt_ (pN_ m 101 600 600) fun m1 =>
  lt_ (pR_ m1 t 0 (some ((101, 600, gN_ m)))) fun m3 =>
  lt_ (pN_ m3 2 0 1) fun m5 =>
  bm_ (f_X2_init F ((2, 0, gN_ m3)) m5) fun v9 m7 =>
  lt_ (pR_ m7 t 1 (some ((2, 0, gN_ m3)))) fun m10 =>
  lt_ (pN_ m10 3 0 2) fun m12 =>
  bm_ (f_X3_init F ((3, 0, gN_ m10)) (gR_ m12 t 1) m12) fun v16 m14 =>
  lt_ (pR_ m14 t 2 (some ((3, 0, gN_ m10)))) fun m17 =>
  lt_ (pN_ m17 104 3 3) fun m19 =>
  lt_ (pN_ m19 3 0 2) fun m21 =>
  bm_ (f_X3_init F ((3, 0, gN_ m19)) (gR_ m21 t 1) m21) fun v25 m23 =>
  iz_ (!(ib_ 0 ((104, 3, gN_ m17)).2.1)) <|
  lt_ (pR_ m23 ((104, 3, gN_ m17)) ((0 : Int32).toNatClampNeg) (some ((3, 0, gN_ m19)))) fun m27 =>
  lt_ (pN_ m27 3 0 2) fun m29 =>
  bm_ (f_X3_init F ((3, 0, gN_ m27)) (gR_ m29 t 1) m29) fun v33 m31 =>
  iz_ (!(ib_ 1 ((104, 3, gN_ m17)).2.1)) <|
  lt_ (pR_ m31 ((104, 3, gN_ m17)) ((1 : Int32).toNatClampNeg) (some ((3, 0, gN_ m27)))) fun m35 =>
  lt_ (pN_ m35 3 0 2) fun m37 =>
  bm_ (f_X3_init F ((3, 0, gN_ m35)) (gR_ m37 t 1) m37) fun v41 m39 =>
  iz_ (!(ib_ 2 ((104, 3, gN_ m17)).2.1)) <|
  lt_ (pR_ m39 ((104, 3, gN_ m17)) ((2 : Int32).toNatClampNeg) (some ((3, 0, gN_ m35)))) fun m43 =>
  lt_ (pR_ m43 t 3 (some ((104, 3, gN_ m17)))) fun m45 =>
  lt_ (pN_ m45 4 0 14) fun m47 =>
  bm_ (f_X4_init F ((4, 0, gN_ m45)) (gR_ m47 t 1) m47) fun v51 m49 =>
  lt_ (pR_ m49 t 4 (some ((4, 0, gN_ m45)))) fun m52 =>
  lt_ (pN_ m52 7 0 6) fun m54 =>
  bm_ (f_X7_init F ((7, 0, gN_ m52)) m54) fun v58 m56 =>
  lt_ (pR_ m56 t 5 (some ((7, 0, gN_ m52)))) fun m59 =>
  lt_ (pN_ m59 5 0 8) fun m61 =>
  bm_ (f_X5_init F ((5, 0, gN_ m59)) m61) fun v65 m63 =>
  lt_ (pR_ m63 t 6 (some ((5, 0, gN_ m59)))) fun m66 =>
  lt_ (pN_ m66 100 2 2) fun m68 =>
  lt_ (pR_ m68 t 7 (some ((100, 2, gN_ m66)))) fun m70 =>
  lt_ (pN_ m70 100 8 8) fun m72 =>
  lt_ (pR_ m72 t 8 (some ((100, 8, gN_ m70)))) fun m74 =>
  lt_ (pN_ m74 100 8 8) fun m76 =>
  lt_ (pR_ m76 t 9 (some ((100, 8, gN_ m74)))) fun m78 =>
  lt_ (pN_ m78 100 5 5) fun m80 =>
  lt_ (pR_ m80 t 10 (some ((100, 5, gN_ m78)))) fun m82 =>
  lt_ (pN_ m82 100 1000 1000) fun m84 =>
  lt_ (pR_ m84 t 11 (some ((100, 1000, gN_ m82)))) fun m86 =>
  lt_ (pN_ m86 6 0 11) fun m88 =>
  bm_ (f_X6_init F ((6, 0, gN_ m86)) m88) fun v92 m90 =>
  lt_ (pR_ m90 t 12 (some ((6, 0, gN_ m86)))) fun m93 =>
  lt_ (pI_ m93 t 14 ((-1))) fun m95 =>
  gd_ 3 (gR_ m95 t 2) fun a97 =>
  bm_ (f_X3_now F a97 m95) fun v102 m100 =>
  gd_ 4 v102 fun a103 =>
  bm_ (f_X4_begins F a103 (gR_ m100 t 12) m100) fun v108 m106 =>
  some ((), m106)
set_option maxHeartbeats 4000000 in
theorem e_X1_init {G : xg_T} {l : Launch} (hl : l.stackTraces = false) {F : Nat}    {t : pm_A} {m0 m' : pm_M} {r : Unit} (ht : t.1 = 1) (h : f_X1_init F t m0 = some (r, m')) : Cal_ G l yX1_init (ws_ yX1_init cX1_init 1 none) 5 [vR_ (some t)] m0 (.inl none) m' := by
  refine cal_of (by decide +kernel) (Nat.le_of_ble_eq_true rfl) ?_
  unfold f_X1_init at h
  show AW_ cX1_init RX1 (none, "<init>", 5, 1, m0, m', (.inl none), G, l, [], true) m0 0 [(0, vR_ (some t))] []
  refine a_aload_n 0 dX1_init_0 rfl rfl ?_
  refine a_obj q131 q132 q133 (Nat.le_of_ble_eq_true rfl) (Nat.le_of_ble_eq_true rfl) dX1_init_1 ?_
  refine a_aload_n 0 dX1_init_4 rfl rfl ?_
  refine a_sipush (v := 600) dX1_init_5 (by decide) ?_
  obtain ⟨m1, e2, h⟩ := lt_some h
  refine a_newB (N := 600) q147 (by decide) rfl (by decide) dX1_init_8 ?_
  rw [← e2]
  obtain ⟨m3, e4, h⟩ := lt_some h
  refine a_putRF kc_1 0 (by decide) rfl ht q388 rfl rfl rfl na_arr dX1_init_10 ?_
  rw [← e4]
  refine a_aload_n 0 dX1_init_13 rfl rfl ?_
  obtain ⟨m5, e6, h⟩ := lt_some h
  refine a_new kc_2 q134 q135 q91 dX1_init_14 ?_
  rw [← e6]
  refine a_dup dX1_init_17 rfl ?_
  obtain ⟨v9, m7, e8, h⟩ := bm_some h
  have he8 := e_X2_init (G := G) hl rfl e8
  refine c_V he8.1 (rn_IN (n := 0) (As := []) he8 q136 q137 q91 q138 rfl (by decide +kernel) rfl (Nat.le_of_ble_eq_true rfl) (Nat.le_of_ble_eq_true rfl) (Nat.le_of_ble_eq_true rfl) dX1_init_18) (fun z => (os_av (As := []) z).2.1) ?_
  obtain ⟨m10, e11, h⟩ := lt_some h
  refine a_putRF kc_1 1 (by decide) rfl ht q389 rfl rfl rfl na_obj dX1_init_21 ?_
  rw [← e11]
  refine a_aload_n 0 dX1_init_24 rfl rfl ?_
  obtain ⟨m12, e13, h⟩ := lt_some h
  refine a_new kc_3 q148 q149 q92 dX1_init_25 ?_
  rw [← e13]
  refine a_dup dX1_init_28 rfl ?_
  refine a_aload_n 0 dX1_init_29 rfl rfl ?_
  refine a_getR kc_1 1 (by decide) rfl ht q389 dX1_init_30 ?_
  obtain ⟨v16, m14, e15, h⟩ := bm_some h
  have he15 := e_X3_init (G := G) hl rfl e15
  refine c_V he15.1 (rn_I (n := 1) (As := [vR_ (gR_ m12 t 1)]) he15 q150 q151 q92 q152 rfl (by decide +kernel) rfl (Nat.le_of_ble_eq_true rfl) (Nat.le_of_ble_eq_true rfl) (Nat.le_of_ble_eq_true rfl) dX1_init_33) (fun z => (os_av (As := [vR_ (gR_ m12 t 1)]) z).2.1) ?_
  obtain ⟨m17, e18, h⟩ := lt_some h
  refine a_putRF kc_1 2 (by decide) rfl ht q390 rfl rfl rfl na_obj dX1_init_36 ?_
  rw [← e18]
  refine a_aload_n 0 dX1_init_39 rfl rfl ?_
  refine a_iconst (v := 3) dX1_init_40 (by decide) ?_
  obtain ⟨m19, e20, h⟩ := lt_some h
  refine a_newq (t0 := 4) (C := "PassagePapers$Kept") (N := 3) (by decide) (by decide) rfl (by decide +kernel) q148 (by decide) rfl (by decide) dX1_init_41 ?_
  rw [← e20]
  refine a_dup dX1_init_44 rfl ?_
  refine a_iconst (v := 0) dX1_init_45 (by decide) ?_
  obtain ⟨m21, e22, h⟩ := lt_some h
  refine a_new kc_3 q148 q149 q92 dX1_init_46 ?_
  rw [← e22]
  refine a_dup dX1_init_49 rfl ?_
  refine a_aload_n 0 dX1_init_50 rfl rfl ?_
  refine a_getR kc_1 1 (by decide) rfl ht q389 dX1_init_51 ?_
  obtain ⟨v25, m23, e24, h⟩ := bm_some h
  have he24 := e_X3_init (G := G) hl rfl e24
  refine c_V he24.1 (rn_I (n := 1) (As := [vR_ (gR_ m21 t 1)]) he24 q150 q151 q92 q152 rfl (by decide +kernel) rfl (Nat.le_of_ble_eq_true rfl) (Nat.le_of_ble_eq_true rfl) (Nat.le_of_ble_eq_true rfl) dX1_init_54) (fun z => (os_av (As := [vR_ (gR_ m21 t 1)]) z).2.1) ?_
  obtain ⟨c26, h⟩ := iz_some h
  obtain ⟨m27, e28, h⟩ := lt_some h
  refine a_aast (t0 := 4) kc_3 rfl (by decide) (by decide) rfl rfl (Or.inr rfl) (bn_ c26) dX1_init_57 ?_
  rw [← e28]
  refine a_dup dX1_init_58 rfl ?_
  refine a_iconst (v := 1) dX1_init_59 (by decide) ?_
  obtain ⟨m29, e30, h⟩ := lt_some h
  refine a_new kc_3 q148 q149 q92 dX1_init_60 ?_
  rw [← e30]
  refine a_dup dX1_init_63 rfl ?_
  refine a_aload_n 0 dX1_init_64 rfl rfl ?_
  refine a_getR kc_1 1 (by decide) rfl ht q389 dX1_init_65 ?_
  obtain ⟨v33, m31, e32, h⟩ := bm_some h
  have he32 := e_X3_init (G := G) hl rfl e32
  refine c_V he32.1 (rn_I (n := 1) (As := [vR_ (gR_ m29 t 1)]) he32 q150 q151 q92 q152 rfl (by decide +kernel) rfl (Nat.le_of_ble_eq_true rfl) (Nat.le_of_ble_eq_true rfl) (Nat.le_of_ble_eq_true rfl) dX1_init_68) (fun z => (os_av (As := [vR_ (gR_ m29 t 1)]) z).2.1) ?_
  obtain ⟨c34, h⟩ := iz_some h
  obtain ⟨m35, e36, h⟩ := lt_some h
  refine a_aast (t0 := 4) kc_3 rfl (by decide) (by decide) rfl rfl (Or.inr rfl) (bn_ c34) dX1_init_71 ?_
  rw [← e36]
  refine a_dup dX1_init_72 rfl ?_
  refine a_iconst (v := 2) dX1_init_73 (by decide) ?_
  obtain ⟨m37, e38, h⟩ := lt_some h
  refine a_new kc_3 q148 q149 q92 dX1_init_74 ?_
  rw [← e38]
  refine a_dup dX1_init_77 rfl ?_
  refine a_aload_n 0 dX1_init_78 rfl rfl ?_
  refine a_getR kc_1 1 (by decide) rfl ht q389 dX1_init_79 ?_
  obtain ⟨v41, m39, e40, h⟩ := bm_some h
  have he40 := e_X3_init (G := G) hl rfl e40
  refine c_V he40.1 (rn_I (n := 1) (As := [vR_ (gR_ m37 t 1)]) he40 q150 q151 q92 q152 rfl (by decide +kernel) rfl (Nat.le_of_ble_eq_true rfl) (Nat.le_of_ble_eq_true rfl) (Nat.le_of_ble_eq_true rfl) dX1_init_82) (fun z => (os_av (As := [vR_ (gR_ m37 t 1)]) z).2.1) ?_
  obtain ⟨c42, h⟩ := iz_some h
  obtain ⟨m43, e44, h⟩ := lt_some h
  refine a_aast (t0 := 4) kc_3 rfl (by decide) (by decide) rfl rfl (Or.inr rfl) (bn_ c42) dX1_init_85 ?_
  rw [← e44]
  obtain ⟨m45, e46, h⟩ := lt_some h
  refine a_putRF kc_1 3 (by decide) rfl ht q391 rfl rfl rfl na_arr dX1_init_86 ?_
  rw [← e46]
  refine a_aload_n 0 dX1_init_89 rfl rfl ?_
  obtain ⟨m47, e48, h⟩ := lt_some h
  refine a_new kc_4 q347 q156 q93 dX1_init_90 ?_
  rw [← e48]
  refine a_dup dX1_init_93 rfl ?_
  refine a_aload_n 0 dX1_init_94 rfl rfl ?_
  refine a_getR kc_1 1 (by decide) rfl ht q389 dX1_init_95 ?_
  obtain ⟨v51, m49, e50, h⟩ := bm_some h
  have he50 := e_X4_init (G := G) hl rfl e50
  refine c_V he50.1 (rn_I (n := 1) (As := [vR_ (gR_ m47 t 1)]) he50 q348 q158 q93 q159 rfl (by decide +kernel) rfl (Nat.le_of_ble_eq_true rfl) (Nat.le_of_ble_eq_true rfl) (Nat.le_of_ble_eq_true rfl) dX1_init_98) (fun z => (os_av (As := [vR_ (gR_ m47 t 1)]) z).2.1) ?_
  obtain ⟨m52, e53, h⟩ := lt_some h
  refine a_putRF kc_1 4 (by decide) rfl ht q392 rfl rfl rfl na_obj dX1_init_101 ?_
  rw [← e53]
  refine a_aload_n 0 dX1_init_104 rfl rfl ?_
  obtain ⟨m54, e55, h⟩ := lt_some h
  refine a_new kc_7 q349 q350 q96 dX1_init_105 ?_
  rw [← e55]
  refine a_dup dX1_init_108 rfl ?_
  obtain ⟨v58, m56, e57, h⟩ := bm_some h
  have he57 := e_X7_init (G := G) hl rfl e57
  refine c_V he57.1 (rn_IN (n := 0) (As := []) he57 q351 q352 q96 q353 rfl (by decide +kernel) rfl (Nat.le_of_ble_eq_true rfl) (Nat.le_of_ble_eq_true rfl) (Nat.le_of_ble_eq_true rfl) dX1_init_109) (fun z => (os_av (As := []) z).2.1) ?_
  obtain ⟨m59, e60, h⟩ := lt_some h
  refine a_putRF kc_1 5 (by decide) rfl ht q393 rfl rfl rfl na_obj dX1_init_112 ?_
  rw [← e60]
  refine a_aload_n 0 dX1_init_115 rfl rfl ?_
  obtain ⟨m61, e62, h⟩ := lt_some h
  refine a_new kc_5 q376 q162 q94 dX1_init_116 ?_
  rw [← e62]
  refine a_dup dX1_init_119 rfl ?_
  obtain ⟨v65, m63, e64, h⟩ := bm_some h
  have he64 := e_X5_init (G := G) hl rfl e64
  refine c_V he64.1 (rn_IN (n := 0) (As := []) he64 q377 q164 q94 q165 rfl (by decide +kernel) rfl (Nat.le_of_ble_eq_true rfl) (Nat.le_of_ble_eq_true rfl) (Nat.le_of_ble_eq_true rfl) dX1_init_120) (fun z => (os_av (As := []) z).2.1) ?_
  obtain ⟨m66, e67, h⟩ := lt_some h
  refine a_putRF kc_1 6 (by decide) rfl ht q394 rfl rfl rfl na_obj dX1_init_123 ?_
  rw [← e67]
  refine a_aload_n 0 dX1_init_126 rfl rfl ?_
  refine a_iconst (v := 2) dX1_init_127 (by decide) ?_
  obtain ⟨m68, e69, h⟩ := lt_some h
  refine a_newI (N := 2) q208 (by decide) rfl (by decide) dX1_init_128 ?_
  rw [← e69]
  obtain ⟨m70, e71, h⟩ := lt_some h
  refine a_putRF kc_1 7 (by decide) rfl ht q395 rfl rfl rfl na_arr dX1_init_130 ?_
  rw [← e71]
  refine a_aload_n 0 dX1_init_133 rfl rfl ?_
  refine a_bipush (v := 8) dX1_init_134 (by decide) ?_
  obtain ⟨m72, e73, h⟩ := lt_some h
  refine a_newI (N := 8) q208 (by decide) rfl (by decide) dX1_init_136 ?_
  rw [← e73]
  obtain ⟨m74, e75, h⟩ := lt_some h
  refine a_putRF kc_1 8 (by decide) rfl ht q396 rfl rfl rfl na_arr dX1_init_138 ?_
  rw [← e75]
  refine a_aload_n 0 dX1_init_141 rfl rfl ?_
  refine a_bipush (v := 8) dX1_init_142 (by decide) ?_
  obtain ⟨m76, e77, h⟩ := lt_some h
  refine a_newI (N := 8) q208 (by decide) rfl (by decide) dX1_init_144 ?_
  rw [← e77]
  obtain ⟨m78, e79, h⟩ := lt_some h
  refine a_putRF kc_1 9 (by decide) rfl ht q397 rfl rfl rfl na_arr dX1_init_146 ?_
  rw [← e79]
  refine a_aload_n 0 dX1_init_149 rfl rfl ?_
  refine a_iconst (v := 5) dX1_init_150 (by decide) ?_
  obtain ⟨m80, e81, h⟩ := lt_some h
  refine a_newI (N := 5) q208 (by decide) rfl (by decide) dX1_init_151 ?_
  rw [← e81]
  obtain ⟨m82, e83, h⟩ := lt_some h
  refine a_putRF kc_1 10 (by decide) rfl ht q398 rfl rfl rfl na_arr dX1_init_153 ?_
  rw [← e83]
  refine a_aload_n 0 dX1_init_156 rfl rfl ?_
  refine a_sipush (v := 1000) dX1_init_157 (by decide) ?_
  obtain ⟨m84, e85, h⟩ := lt_some h
  refine a_newI (N := 1000) q208 (by decide) rfl (by decide) dX1_init_160 ?_
  rw [← e85]
  obtain ⟨m86, e87, h⟩ := lt_some h
  refine a_putRF kc_1 11 (by decide) rfl ht q399 rfl rfl rfl na_arr dX1_init_162 ?_
  rw [← e87]
  refine a_aload_n 0 dX1_init_165 rfl rfl ?_
  obtain ⟨m88, e89, h⟩ := lt_some h
  refine a_new kc_6 q378 q211 q95 dX1_init_166 ?_
  rw [← e89]
  refine a_dup dX1_init_169 rfl ?_
  obtain ⟨v92, m90, e91, h⟩ := bm_some h
  have he91 := e_X6_init (G := G) hl rfl e91
  refine c_V he91.1 (rn_IN (n := 0) (As := []) he91 q379 q213 q95 q214 rfl (by decide +kernel) rfl (Nat.le_of_ble_eq_true rfl) (Nat.le_of_ble_eq_true rfl) (Nat.le_of_ble_eq_true rfl) dX1_init_170) (fun z => (os_av (As := []) z).2.1) ?_
  obtain ⟨m93, e94, h⟩ := lt_some h
  refine a_putR kc_1 12 (by decide) rfl ht q400 rfl na_obj dX1_init_173 ?_
  rw [← e94]
  refine a_aload_n 0 dX1_init_176 rfl rfl ?_
  refine a_iconst (v := (-1)) dX1_init_177 (by decide) ?_
  obtain ⟨m95, e96, h⟩ := lt_some h
  refine a_putI kc_1 14 (by decide) rfl ht q402 rfl rfl rfl dX1_init_178 ?_
  rw [← e96]
  refine a_aload_n 0 dX1_init_181 rfl rfl ?_
  refine a_getR kc_1 2 (by decide) rfl ht q390 dX1_init_182 ?_
  obtain ⟨a97, e98, f99, h⟩ := gd_some h
  rw [e98]
  obtain ⟨v102, m100, e101, h⟩ := bm_some h
  have he101 := e_X3_now (G := G) hl f99 e101
  refine c_R he101.1 (rn_V (n := 0) (As := []) kc_3 f99 he101 (lw_V q380 q381 q382 q92 q383) (by decide +kernel) rfl (Nat.le_of_ble_eq_true rfl) (Nat.le_of_ble_eq_true rfl) (Nat.le_of_ble_eq_true rfl) dX1_init_185) (fun z => (os_av (As := []) z).2.1) ?_
  refine a_aload_n 0 dX1_init_188 rfl rfl ?_
  refine a_getR kc_1 12 (by decide) rfl ht q400 dX1_init_189 ?_
  obtain ⟨a103, e104, f105, h⟩ := gd_some h
  rw [e104]
  obtain ⟨v108, m106, e107, h⟩ := bm_some h
  have he107 := e_X4_begins (G := G) hl f105 e107
  refine c_V he107.1 (rn_V (n := 1) (As := [vR_ (gR_ m100 t 12)]) kc_4 f105 he107 (lw_V q384 q385 q386 q93 q387) (by decide +kernel) rfl (Nat.le_of_ble_eq_true rfl) (Nat.le_of_ble_eq_true rfl) (Nat.le_of_ble_eq_true rfl) dX1_init_192) (fun z => (os_av (As := [vR_ (gR_ m100 t 12)]) z).2.1) ?_
  cases h
  exact a_return rfl rfl rfl rfl dX1_init_195
def f_X1_feed_L45 (F : Nat)  (p19 : pm_A) (p21 : pm_A) : Nat → Int32 → pm_M → Option (Int32 × pm_M)
  | 0, _, _ => none
  | n23 + 1, x25, m24 =>
    if 20 ≤ x25 then
      some ((gI_ m24 p19 13), m24)
    else
      lt_ (pI_ m24 p19 13 ((gI_ m24 p19 13) + 1)) fun m27 =>
      iz_ (!(ib_ (x25 / 4) p21.2.1)) <|
      gd_ 101 (gR_ m24 p19 0) fun a30 =>
      iz_ (!(ib_ (gI_ m24 p19 13) a30.2.1)) <|
      lt_ (pI_ m27 a30 ((gI_ m24 p19 13).toNatClampNeg) (vp_nar .byte (((gI_ m27 p21 (x25 / 4).toNatClampNeg) >>> ((24 - (8 * (x25 - x25 / 4 * 4))) &&& 31)).toInt8.toInt32))) fun m34 =>
      (f_X1_feed_L45 F p19 p21 n23) (x25 + 1) m34
set_option maxHeartbeats 4000000 in
theorem w_X1_feed_L45 {G : xg_T} {l : Launch} (hl : l.stackTraces = false) {F : Nat}    (p19 : pm_A) (p21 : pm_A) {m0 m' : pm_M} {r : Int32} (hf20 : p19.1 = 1) (hf22 : p21.1 = 100)  : ∀ (n : Nat) (x25 : Int32) (m24 : pm_M), f_X1_feed_L45 F p19 p21 n x25 m24 = some (r, m') → AW_ cX1_feed RX1 (some (.int), "feed", 2, 8, m0, m', (.inl (some (vI_ r))), G, l, [], true) m24 45 [(0, vR_ (some p19)), (6, vR_ (some p21)), (7, vI_ x25)] [] := by
  intro n
  induction n with
  | zero => intro x25 m24 h; cases h
  | succ n23 ih =>
    intro x25 m24 h
    rw [f_X1_feed_L45] at h
    refine a_iload 2 dX1_feed_45 rfl ?_
    refine a_bipush (v := 20) dX1_feed_47 (by decide) ?_
    refine a_icmp_ge (tgt := 93) dX1_feed_49 (by decide) (fun c26 => ?_) (fun c26 => ?_)
    · replace h := ifp_ c26 h
      refine a_aload_n 0 dX1_feed_93 rfl rfl ?_
      refine a_getI kc_1 13 (by decide) rfl hf20 q401 dX1_feed_94 ?_
      cases h
      exact a_ireturn rfl rfl rfl rfl rfl dX1_feed_97
    · replace h := ifn_ c26 h
      refine a_aload_n 0 dX1_feed_52 rfl rfl ?_
      refine a_getR kc_1 0 (by decide) rfl hf20 q388 dX1_feed_53 ?_
      refine a_aload_n 0 dX1_feed_56 rfl rfl ?_
      refine a_dup dX1_feed_57 rfl ?_
      refine a_getI kc_1 13 (by decide) rfl hf20 q401 dX1_feed_58 ?_
      refine a_dup_x1 dX1_feed_61 rfl rfl ?_
      refine a_iconst (v := 1) dX1_feed_62 (by decide) ?_
      refine a_iadd dX1_feed_63 ?_
      obtain ⟨m27, e28, h⟩ := lt_some h
      refine a_putI kc_1 13 (by decide) rfl hf20 q401 rfl rfl rfl dX1_feed_64 ?_
      rw [← e28]
      refine a_aload 1 dX1_feed_67 rfl ?_
      refine a_iload 2 dX1_feed_69 rfl ?_
      refine a_iconst (v := 4) dX1_feed_71 (by decide) ?_
      refine a_idiv dX1_feed_72 (by decide) ?_
      obtain ⟨c29, h⟩ := iz_some h
      refine a_iald hf22 (bn_ c29) dX1_feed_73 ?_
      refine a_bipush (v := 24) dX1_feed_74 (by decide) ?_
      refine a_bipush (v := 8) dX1_feed_76 (by decide) ?_
      refine a_iload 2 dX1_feed_78 rfl ?_
      refine a_iconst (v := 4) dX1_feed_80 (by decide) ?_
      refine a_irem dX1_feed_81 (by decide) ?_
      refine a_imul dX1_feed_82 ?_
      refine a_isub dX1_feed_83 ?_
      refine a_ishr dX1_feed_84 ?_
      refine a_i2b dX1_feed_85 ?_
      obtain ⟨a30, e31, f32, h⟩ := gd_some h
      rw [e31]
      obtain ⟨c33, h⟩ := iz_some h
      obtain ⟨m34, e35, h⟩ := lt_some h
      refine a_bast f32 (bn_ c33) dX1_feed_86 ?_
      rw [← e35]
      refine a_iinc (v := x25 + 1) (ls' := [(7, vI_ (x25 + 1)), (0, vR_ (some p19)), (6, vR_ (some p21))]) 2 dX1_feed_87 rfl rfl (Nat.le_of_ble_eq_true rfl) rfl ?_
      refine a_goto (tgt := 45) dX1_feed_90 (by decide) ?_
      refine aw_pick [1, 2, 0] rfl ?_
      exact ih _ _ h
def f_X1_feed (F : Nat)  (t : pm_A) (i0 : Int32) (i1 : Int32) (i2 : Int32) (i3 : Int32) (i4 : Int32) (m : pm_M) : Option (Int32 × pm_M) :=
  if ((gI_ m t 13) + 20) ≤ 600 then
    lt_ (pN_ m 100 5 5) fun m2 =>
    iz_ (!(ib_ 0 ((100, 5, gN_ m)).2.1)) <|
    lt_ (pI_ m2 ((100, 5, gN_ m)) ((0 : Int32).toNatClampNeg) i0) fun m5 =>
    iz_ (!(ib_ 1 ((100, 5, gN_ m)).2.1)) <|
    lt_ (pI_ m5 ((100, 5, gN_ m)) ((1 : Int32).toNatClampNeg) i1) fun m8 =>
    iz_ (!(ib_ 2 ((100, 5, gN_ m)).2.1)) <|
    lt_ (pI_ m8 ((100, 5, gN_ m)) ((2 : Int32).toNatClampNeg) i2) fun m11 =>
    iz_ (!(ib_ 3 ((100, 5, gN_ m)).2.1)) <|
    lt_ (pI_ m11 ((100, 5, gN_ m)) ((3 : Int32).toNatClampNeg) i3) fun m14 =>
    iz_ (!(ib_ 4 ((100, 5, gN_ m)).2.1)) <|
    lt_ (pI_ m14 ((100, 5, gN_ m)) ((4 : Int32).toNatClampNeg) i4) fun m17 =>
    f_X1_feed_L45 F t ((100, 5, gN_ m)) F 0 m17
  else
    some (((-1)), m)
set_option maxHeartbeats 4000000 in
theorem e_X1_feed {G : xg_T} {l : Launch} (hl : l.stackTraces = false) {F : Nat}    {t : pm_A} {i0 : Int32} {i1 : Int32} {i2 : Int32} {i3 : Int32} {i4 : Int32} {m0 m' : pm_M} {r : Int32} (ht : t.1 = 1) (h : f_X1_feed F t i0 i1 i2 i3 i4 m0 = some (r, m')) : Cal_ G l yX1_feed (ws_ yX1_feed cX1_feed 8 (some .int)) 2 [vR_ (some t), vI_ i0, vI_ i1, vI_ i2, vI_ i3, vI_ i4] m0 (.inl (some (vI_ r))) m' := by
  refine cal_of (by decide +kernel) (Nat.le_of_ble_eq_true rfl) ?_
  unfold f_X1_feed at h
  show AW_ cX1_feed RX1 (some (.int), "feed", 2, 8, m0, m', (.inl (some (vI_ r))), G, l, [], true) m0 0 [(0, vR_ (some t)), (1, vI_ i0), (2, vI_ i1), (3, vI_ i2), (4, vI_ i3), (5, vI_ i4)] []
  refine a_aload_n 0 dX1_feed_0 rfl rfl ?_
  refine a_getI kc_1 13 (by decide) rfl ht q401 dX1_feed_1 ?_
  refine a_bipush (v := 20) dX1_feed_4 (by decide) ?_
  refine a_iadd dX1_feed_6 ?_
  refine a_sipush (v := 600) dX1_feed_7 (by decide) ?_
  refine a_icmp_le (tgt := 15) dX1_feed_10 (by decide) (fun c1 => ?_) (fun c1 => ?_)
  · replace h := ifp_ c1 h
    refine a_iconst (v := 5) dX1_feed_15 (by decide) ?_
    obtain ⟨m2, e3, h⟩ := lt_some h
    refine a_newI (N := 5) q208 (by decide) rfl (by decide) dX1_feed_16 ?_
    rw [← e3]
    refine a_dup dX1_feed_18 rfl ?_
    refine a_iconst (v := 0) dX1_feed_19 (by decide) ?_
    refine a_iload_n 1 dX1_feed_20 rfl rfl ?_
    obtain ⟨c4, h⟩ := iz_some h
    obtain ⟨m5, e6, h⟩ := lt_some h
    refine a_iast rfl (bn_ c4) dX1_feed_21 ?_
    rw [← e6]
    refine a_dup dX1_feed_22 rfl ?_
    refine a_iconst (v := 1) dX1_feed_23 (by decide) ?_
    refine a_iload_n 2 dX1_feed_24 rfl rfl ?_
    obtain ⟨c7, h⟩ := iz_some h
    obtain ⟨m8, e9, h⟩ := lt_some h
    refine a_iast rfl (bn_ c7) dX1_feed_25 ?_
    rw [← e9]
    refine a_dup dX1_feed_26 rfl ?_
    refine a_iconst (v := 2) dX1_feed_27 (by decide) ?_
    refine a_iload_n 3 dX1_feed_28 rfl rfl ?_
    obtain ⟨c10, h⟩ := iz_some h
    obtain ⟨m11, e12, h⟩ := lt_some h
    refine a_iast rfl (bn_ c10) dX1_feed_29 ?_
    rw [← e12]
    refine a_dup dX1_feed_30 rfl ?_
    refine a_iconst (v := 3) dX1_feed_31 (by decide) ?_
    refine a_iload 4 dX1_feed_32 rfl ?_
    obtain ⟨c13, h⟩ := iz_some h
    obtain ⟨m14, e15, h⟩ := lt_some h
    refine a_iast rfl (bn_ c13) dX1_feed_34 ?_
    rw [← e15]
    refine a_dup dX1_feed_35 rfl ?_
    refine a_iconst (v := 4) dX1_feed_36 (by decide) ?_
    refine a_iload 5 dX1_feed_37 rfl ?_
    obtain ⟨c16, h⟩ := iz_some h
    obtain ⟨m17, e18, h⟩ := lt_some h
    refine a_iast rfl (bn_ c16) dX1_feed_39 ?_
    rw [← e18]
    refine a_astore (ls' := [(6, vR_ (some ((100, 5, gN_ m0)))), (0, vR_ (some t)), (1, vI_ i0), (2, vI_ i1), (3, vI_ i2), (4, vI_ i3), (5, vI_ i4)]) dX1_feed_40 (Nat.le_of_ble_eq_true rfl) rfl ?_
    refine a_iconst (v := 0) dX1_feed_42 (by decide) ?_
    refine a_istore (ls' := [(7, vI_ 0), (6, vR_ (some ((100, 5, gN_ m0)))), (0, vR_ (some t)), (1, vI_ i0), (2, vI_ i1), (3, vI_ i2), (4, vI_ i3), (5, vI_ i4)]) dX1_feed_43 (Nat.le_of_ble_eq_true rfl) rfl ?_
    refine aw_pick [2, 1, 0] rfl ?_
    exact w_X1_feed_L45 hl _ _ ht rfl _ _ _ h
  · replace h := ifn_ c1 h
    refine a_iconst (v := (-1)) dX1_feed_13 (by decide) ?_
    cases h
    exact a_ireturn rfl rfl rfl rfl rfl dX1_feed_14
def f_X1_fault (F : Nat)  (t : pm_A) (m : pm_M) : Option (Int32 × pm_M) :=
  some ((gI_ m t 14), m)
set_option maxHeartbeats 4000000 in
theorem e_X1_fault {G : xg_T} {l : Launch} (hl : l.stackTraces = false) {F : Nat}    {t : pm_A} {m0 m' : pm_M} {r : Int32} (ht : t.1 = 1) (h : f_X1_fault F t m0 = some (r, m')) : Cal_ G l yX1_fault (ws_ yX1_fault cX1_fault 1 (some .int)) 2 [vR_ (some t)] m0 (.inl (some (vI_ r))) m' := by
  refine cal_of (by decide +kernel) (Nat.le_of_ble_eq_true rfl) ?_
  unfold f_X1_fault at h
  show AW_ cX1_fault RX1 (some (.int), "fault", 2, 1, m0, m', (.inl (some (vI_ r))), G, l, [], true) m0 0 [(0, vR_ (some t))] []
  refine a_aload_n 0 dX1_fault_0 rfl rfl ?_
  refine a_getI kc_1 14 (by decide) rfl ht q402 dX1_fault_1 ?_
  cases h
  exact a_ireturn rfl rfl rfl rfl rfl dX1_fault_4
def f_X1_undo (F : Nat)  (t : pm_A) (m : pm_M) : Option (Int32 × pm_M) :=
  gd_ 3 (gR_ m t 2) fun a1 =>
  if (gI_ m a1 1) = 0 then
    some (((-1)), m)
  else
    lt_ (pI_ m t 16 0) fun m5 =>
    gd_ 3 (gR_ m5 t 2) fun a7 =>
    lt_ (pI_ m5 a7 1 ((gI_ m5 a7 1) - 1)) fun m10 =>
    some (((gI_ m5 a7 1) - 1), m10)
set_option maxHeartbeats 4000000 in
theorem e_X1_undo {G : xg_T} {l : Launch} (hl : l.stackTraces = false) {F : Nat}    {t : pm_A} {m0 m' : pm_M} {r : Int32} (ht : t.1 = 1) (h : f_X1_undo F t m0 = some (r, m')) : Cal_ G l yX1_undo (ws_ yX1_undo cX1_undo 1 (some .int)) 2 [vR_ (some t)] m0 (.inl (some (vI_ r))) m' := by
  refine cal_of (by decide +kernel) (Nat.le_of_ble_eq_true rfl) ?_
  unfold f_X1_undo at h
  show AW_ cX1_undo RX1 (some (.int), "undo", 2, 1, m0, m', (.inl (some (vI_ r))), G, l, [], true) m0 0 [(0, vR_ (some t))] []
  refine a_aload_n 0 dX1_undo_0 rfl rfl ?_
  refine a_getR kc_1 2 (by decide) rfl ht q390 dX1_undo_1 ?_
  obtain ⟨a1, e2, f3, h⟩ := gd_some h
  rw [e2]
  refine a_getIN kc_3 1 (by decide) rfl f3 q340 dX1_undo_4 ?_
  refine a_if_ne (tgt := 12) dX1_undo_7 (by decide) (fun c4 => ?_) (fun c4 => ?_)
  · replace h := ifn_ c4 h
    refine a_aload_n 0 dX1_undo_12 rfl rfl ?_
    refine a_iconst (v := 0) dX1_undo_13 (by decide) ?_
    obtain ⟨m5, e6, h⟩ := lt_some h
    refine a_putI kc_1 16 (by decide) rfl ht q404 rfl rfl rfl dX1_undo_14 ?_
    rw [← e6]
    refine a_aload_n 0 dX1_undo_17 rfl rfl ?_
    refine a_getR kc_1 2 (by decide) rfl ht q390 dX1_undo_18 ?_
    refine a_dup dX1_undo_21 rfl ?_
    obtain ⟨a7, e8, f9, h⟩ := gd_some h
    rw [e8]
    refine a_getIN kc_3 1 (by decide) rfl f9 q340 dX1_undo_22 ?_
    refine a_iconst (v := 1) dX1_undo_25 (by decide) ?_
    refine a_isub dX1_undo_26 ?_
    refine a_dup_x1 dX1_undo_27 rfl rfl ?_
    obtain ⟨m10, e11, h⟩ := lt_some h
    refine a_putIN kc_3 1 (by decide) rfl f9 q340 rfl rfl rfl dX1_undo_28 ?_
    rw [← e11]
    cases h
    exact a_ireturn rfl rfl rfl rfl rfl dX1_undo_31
  · replace h := ifp_ c4 h
    refine a_iconst (v := (-1)) dX1_undo_10 (by decide) ?_
    cases h
    exact a_ireturn rfl rfl rfl rfl rfl dX1_undo_11
def f_X1_held_L4 (F : Nat)  (p1 : pm_A) : Nat → Int32 → Int32 → pm_M → Option (Int32 × pm_M)
  | 0, _, _, _ => none
  | n3 + 1, x5, x6, m4 =>
    gd_ 6 (gR_ m4 p1 12) fun a7 =>
    if (gI_ m4 a7 7) ≤ x6 then
      some (x5, m4)
    else
      gd_ 3 (gR_ m4 p1 2) fun a11 =>
      bm_ (f_X3_now F a11 m4) fun v16 m14 =>
      gd_ 4 v16 fun a17 =>
      bm_ (f_X4_isBound F a17 x6 m14) fun v22 m20 =>
      if v22 = 0 then
        (f_X1_held_L4 F p1 n3) x5 (x6 + 1) m20
      else
        gd_ 3 (gR_ m20 p1 2) fun a24 =>
        bm_ (f_X3_now F a24 m20) fun v29 m27 =>
        gd_ 4 v29 fun a30 =>
        bm_ (f_X4_owesBy F a30 x6 1 m27) fun v35 m33 =>
        if v35 = 0 then
          (f_X1_held_L4 F p1 n3) (x5 ||| ((1 : Int32) <<< (x6 &&& 31))) (x6 + 1) m33
        else
          (f_X1_held_L4 F p1 n3) x5 (x6 + 1) m33
set_option maxHeartbeats 4000000 in
theorem w_X1_held_L4 {G : xg_T} {l : Launch} (hl : l.stackTraces = false) {F : Nat}    (p1 : pm_A) {m0 m' : pm_M} {r : Int32} (hf2 : p1.1 = 1)  : ∀ (n : Nat) (x5 : Int32) (x6 : Int32) (m4 : pm_M), f_X1_held_L4 F p1 n x5 x6 m4 = some (r, m') → AW_ cX1_held RX1 (some (.int), "held", 169, 3, m0, m', (.inl (some (vI_ r))), G, l, [], true) m4 4 [(0, vR_ (some p1)), (1, vI_ x5), (2, vI_ x6)] [] := by
  intro n
  induction n with
  | zero => intro x5 x6 m4 h; cases h
  | succ n3 ih =>
    intro x5 x6 m4 h
    rw [f_X1_held_L4] at h
    refine a_iload_n 2 dX1_held_4 rfl rfl ?_
    refine a_aload_n 0 dX1_held_5 rfl rfl ?_
    refine a_getR kc_1 12 (by decide) rfl hf2 q400 dX1_held_6 ?_
    obtain ⟨a7, e8, f9, h⟩ := gd_some h
    rw [e8]
    refine a_getIN kc_6 7 (by decide) rfl f9 q244 dX1_held_9 ?_
    refine a_icmp_ge (tgt := 56) dX1_held_12 (by decide) (fun c10 => ?_) (fun c10 => ?_)
    · replace h := ifp_ c10 h
      refine a_iload_n 1 dX1_held_56 rfl rfl ?_
      cases h
      exact a_ireturn rfl rfl rfl rfl rfl dX1_held_57
    · replace h := ifn_ c10 h
      refine a_aload_n 0 dX1_held_15 rfl rfl ?_
      refine a_getR kc_1 2 (by decide) rfl hf2 q390 dX1_held_16 ?_
      obtain ⟨a11, e12, f13, h⟩ := gd_some h
      rw [e12]
      obtain ⟨v16, m14, e15, h⟩ := bm_some h
      have he15 := e_X3_now (G := G) hl f13 e15
      refine c_R he15.1 (rn_V (n := 0) (As := []) kc_3 f13 he15 (lw_V q380 q381 q382 q92 q383) (by decide +kernel) rfl (Nat.le_of_ble_eq_true rfl) (Nat.le_of_ble_eq_true rfl) (Nat.le_of_ble_eq_true rfl) dX1_held_19) (fun z => (os_av (As := []) z).2.1) ?_
      refine a_iload_n 2 dX1_held_22 rfl rfl ?_
      obtain ⟨a17, e18, f19, h⟩ := gd_some h
      rw [e18]
      obtain ⟨v22, m20, e21, h⟩ := bm_some h
      have he21 := e_X4_isBound (G := G) hl f19 e21
      refine c_I he21.1 (rn_V (n := 1) (As := [vI_ x6]) kc_4 f19 he21 (lw_V q462 q463 q464 q93 q465) (by decide +kernel) rfl (Nat.le_of_ble_eq_true rfl) (Nat.le_of_ble_eq_true rfl) (Nat.le_of_ble_eq_true rfl) dX1_held_23) (fun z => (os_av (As := [vI_ x6]) z).2.1) ?_
      refine a_if_eq (tgt := 50) dX1_held_26 (by decide) (fun c23 => ?_) (fun c23 => ?_)
      · replace h := ifp_ c23 h
        refine a_iinc (v := x6 + 1) (ls' := [(2, vI_ (x6 + 1)), (0, vR_ (some p1)), (1, vI_ x5)]) 2 dX1_held_50 rfl rfl (Nat.le_of_ble_eq_true rfl) rfl ?_
        refine a_goto (tgt := 4) dX1_held_53 (by decide) ?_
        refine aw_pick [1, 2, 0] rfl ?_
        exact ih _ _ _ h
      · replace h := ifn_ c23 h
        refine a_aload_n 0 dX1_held_29 rfl rfl ?_
        refine a_getR kc_1 2 (by decide) rfl hf2 q390 dX1_held_30 ?_
        obtain ⟨a24, e25, f26, h⟩ := gd_some h
        rw [e25]
        obtain ⟨v29, m27, e28, h⟩ := bm_some h
        have he28 := e_X3_now (G := G) hl f26 e28
        refine c_R he28.1 (rn_V (n := 0) (As := []) kc_3 f26 he28 (lw_V q380 q381 q382 q92 q383) (by decide +kernel) rfl (Nat.le_of_ble_eq_true rfl) (Nat.le_of_ble_eq_true rfl) (Nat.le_of_ble_eq_true rfl) dX1_held_33) (fun z => (os_av (As := []) z).2.1) ?_
        refine a_iload_n 2 dX1_held_36 rfl rfl ?_
        refine a_iconst (v := 1) dX1_held_37 (by decide) ?_
        obtain ⟨a30, e31, f32, h⟩ := gd_some h
        rw [e31]
        obtain ⟨v35, m33, e34, h⟩ := bm_some h
        have he34 := e_X4_owesBy (G := G) hl f32 e34
        refine c_I he34.1 (rn_V (n := 2) (As := [vI_ x6, vI_ 1]) kc_4 f32 he34 (lw_V q466 q467 q468 q93 q469) (by decide +kernel) rfl (Nat.le_of_ble_eq_true rfl) (Nat.le_of_ble_eq_true rfl) (Nat.le_of_ble_eq_true rfl) dX1_held_38) (fun z => (os_av (As := [vI_ x6, vI_ 1]) z).2.1) ?_
        refine a_if_ne (tgt := 50) dX1_held_41 (by decide) (fun c36 => ?_) (fun c36 => ?_)
        · replace h := ifn_ c36 h
          refine a_iinc (v := x6 + 1) (ls' := [(2, vI_ (x6 + 1)), (0, vR_ (some p1)), (1, vI_ x5)]) 2 dX1_held_50 rfl rfl (Nat.le_of_ble_eq_true rfl) rfl ?_
          refine a_goto (tgt := 4) dX1_held_53 (by decide) ?_
          refine aw_pick [1, 2, 0] rfl ?_
          exact ih _ _ _ h
        · replace h := ifp_ c36 h
          refine a_iload_n 1 dX1_held_44 rfl rfl ?_
          refine a_iconst (v := 1) dX1_held_45 (by decide) ?_
          refine a_iload_n 2 dX1_held_46 rfl rfl ?_
          refine a_ishl dX1_held_47 ?_
          refine a_ior dX1_held_48 ?_
          refine a_istore_n (ls' := [(1, vI_ (x5 ||| ((1 : Int32) <<< (x6 &&& 31)))), (0, vR_ (some p1)), (2, vI_ x6)]) dX1_held_49 rfl (Nat.le_of_ble_eq_true rfl) rfl ?_
          refine a_iinc (v := x6 + 1) (ls' := [(2, vI_ (x6 + 1)), (1, vI_ (x5 ||| ((1 : Int32) <<< (x6 &&& 31)))), (0, vR_ (some p1))]) 2 dX1_held_50 rfl rfl (Nat.le_of_ble_eq_true rfl) rfl ?_
          refine a_goto (tgt := 4) dX1_held_53 (by decide) ?_
          refine aw_pick [2, 1, 0] rfl ?_
          exact ih _ _ _ h
def f_X1_held (F : Nat)  (t : pm_A) (m : pm_M) : Option (Int32 × pm_M) :=
  f_X1_held_L4 F t F 0 0 m
set_option maxHeartbeats 4000000 in
theorem e_X1_held {G : xg_T} {l : Launch} (hl : l.stackTraces = false) {F : Nat}    {t : pm_A} {m0 m' : pm_M} {r : Int32} (ht : t.1 = 1) (h : f_X1_held F t m0 = some (r, m')) : Cal_ G l yX1_held (ws_ yX1_held cX1_held 3 (some .int)) 169 [vR_ (some t)] m0 (.inl (some (vI_ r))) m' := by
  refine cal_of (by decide +kernel) (Nat.le_of_ble_eq_true rfl) ?_
  unfold f_X1_held at h
  show AW_ cX1_held RX1 (some (.int), "held", 169, 3, m0, m', (.inl (some (vI_ r))), G, l, [], true) m0 0 [(0, vR_ (some t))] []
  refine a_iconst (v := 0) dX1_held_0 (by decide) ?_
  refine a_istore_n (ls' := [(1, vI_ 0), (0, vR_ (some t))]) dX1_held_1 rfl (Nat.le_of_ble_eq_true rfl) rfl ?_
  refine a_iconst (v := 0) dX1_held_2 (by decide) ?_
  refine a_istore_n (ls' := [(2, vI_ 0), (1, vI_ 0), (0, vR_ (some t))]) dX1_held_3 rfl (Nat.le_of_ble_eq_true rfl) rfl ?_
  refine aw_pick [2, 1, 0] rfl ?_
  exact w_X1_held_L4 hl _ ht _ _ _ _ h
def f_X1_parted_L26 (F : Nat)  (p21 : pm_A) (p23 : Option pm_A) (p24 : Int32) (k25 : Int32 → pm_M → Option (Int32 × pm_M)) : Nat → Int32 → Int32 → pm_M → Option (Int32 × pm_M)
  | 0, _, _, _ => none
  | n28 + 1, x30, x31, m29 =>
    if p24 ≤ x31 then
      k25 x30 m29
    else
      gd_ 6 (gR_ m29 p21 12) fun a33 =>
      bm_ (f_X6_kinOf F a33 p24 m29) fun v38 m36 =>
      if ((v38 >>> (x31 &&& 31)) &&& 1) = 1 then
        gd_ 4 p23 fun a40 =>
        bm_ (f_X4_isBound F a40 p24 m36) fun v45 m43 =>
        if v45 = 0 then
          (f_X1_parted_L26 F p21 p23 p24 k25 n28) x30 (x31 + 1) m43
        else
          bm_ (f_X4_isBound F a40 x31 m43) fun v50 m48 =>
          if v50 = 0 then
            (f_X1_parted_L26 F p21 p23 p24 k25 n28) x30 (x31 + 1) m48
          else
            gd_ 100 (gR_ m48 a40 1) fun a53 =>
            iz_ (!(ib_ p24 a53.2.1)) <|
            gd_ 100 (gR_ m48 a40 1) fun a57 =>
            iz_ (!(ib_ x31 a57.2.1)) <|
            if (gI_ m48 a53 p24.toNatClampNeg) = (gI_ m48 a57 x31.toNatClampNeg) then
              (f_X1_parted_L26 F p21 p23 p24 k25 n28) x30 (x31 + 1) m48
            else
              (f_X1_parted_L26 F p21 p23 p24 k25 n28) (x30 + 1) (x31 + 1) m48
      else
        (f_X1_parted_L26 F p21 p23 p24 k25 n28) x30 (x31 + 1) m36
set_option maxHeartbeats 4000000 in
theorem w_X1_parted_L26 {G : xg_T} {l : Launch} (hl : l.stackTraces = false) {F : Nat}    (p21 : pm_A) (p23 : Option pm_A) (p24 : Int32) (k25 : Int32 → pm_M → Option (Int32 × pm_M)) {m0 m' : pm_M} {r : Int32} (hf22 : p21.1 = 1) (hk25 : ∀ (x26 : Int32) (m27 : pm_M), k25 x26 m27 = some (r, m') → AW_ cX1_parted RX1 (some (.int), "parted", 3, 5, m0, m', (.inl (some (vI_ r))), G, l, [], true) m27 91 [(0, vR_ (some p21)), (1, vR_ p23), (2, vI_ x26), (3, vI_ p24)] []) : ∀ (n : Nat) (x30 : Int32) (x31 : Int32) (m29 : pm_M), f_X1_parted_L26 F p21 p23 p24 k25 n x30 x31 m29 = some (r, m') → AW_ cX1_parted RX1 (some (.int), "parted", 3, 5, m0, m', (.inl (some (vI_ r))), G, l, [], true) m29 26 [(0, vR_ (some p21)), (1, vR_ p23), (2, vI_ x30), (3, vI_ p24), (4, vI_ x31)] [] := by
  intro n
  induction n with
  | zero => intro x30 x31 m29 h; cases h
  | succ n28 ih =>
    intro x30 x31 m29 h
    rw [f_X1_parted_L26] at h
    refine a_iload 4 dX1_parted_26 rfl ?_
    refine a_iload_n 3 dX1_parted_28 rfl rfl ?_
    refine a_icmp_ge (tgt := 91) dX1_parted_29 (by decide) (fun c32 => ?_) (fun c32 => ?_)
    · replace h := ifp_ c32 h
      refine aw_pick [0, 1, 2, 3] rfl ?_
      exact hk25 _ _ h
    · replace h := ifn_ c32 h
      refine a_aload_n 0 dX1_parted_32 rfl rfl ?_
      refine a_getR kc_1 12 (by decide) rfl hf22 q400 dX1_parted_33 ?_
      refine a_iload_n 3 dX1_parted_36 rfl rfl ?_
      obtain ⟨a33, e34, f35, h⟩ := gd_some h
      rw [e34]
      obtain ⟨v38, m36, e37, h⟩ := bm_some h
      have he37 := e_X6_kinOf (G := G) hl f35 e37
      refine c_I he37.1 (rn_V (n := 1) (As := [vI_ p24]) kc_6 f35 he37 (lw_V q533 q479 q480 q95 q481) (by decide +kernel) rfl (Nat.le_of_ble_eq_true rfl) (Nat.le_of_ble_eq_true rfl) (Nat.le_of_ble_eq_true rfl) dX1_parted_37) (fun z => (os_av (As := [vI_ p24]) z).2.1) ?_
      refine a_iload 4 dX1_parted_40 rfl ?_
      refine a_ishr dX1_parted_42 ?_
      refine a_iconst (v := 1) dX1_parted_43 (by decide) ?_
      refine a_iand dX1_parted_44 ?_
      refine a_iconst (v := 1) dX1_parted_45 (by decide) ?_
      refine a_icmp_ne (tgt := 85) dX1_parted_46 (by decide) (fun c39 => ?_) (fun c39 => ?_)
      · replace h := ifn_ c39 h
        refine a_iinc (v := x31 + 1) (ls' := [(4, vI_ (x31 + 1)), (0, vR_ (some p21)), (1, vR_ p23), (2, vI_ x30), (3, vI_ p24)]) 4 dX1_parted_85 rfl rfl (Nat.le_of_ble_eq_true rfl) rfl ?_
        refine a_goto (tgt := 26) dX1_parted_88 (by decide) ?_
        refine aw_pick [1, 2, 3, 4, 0] rfl ?_
        exact ih _ _ _ h
      · replace h := ifp_ c39 h
        refine a_aload_n 1 dX1_parted_49 rfl rfl ?_
        refine a_iload_n 3 dX1_parted_50 rfl rfl ?_
        obtain ⟨a40, e41, f42, h⟩ := gd_some h
        rw [e41]
        obtain ⟨v45, m43, e44, h⟩ := bm_some h
        have he44 := e_X4_isBound (G := G) hl f42 e44
        refine c_I he44.1 (rn_V (n := 1) (As := [vI_ p24]) kc_4 f42 he44 (lw_V q462 q463 q464 q93 q465) (by decide +kernel) rfl (Nat.le_of_ble_eq_true rfl) (Nat.le_of_ble_eq_true rfl) (Nat.le_of_ble_eq_true rfl) dX1_parted_51) (fun z => (os_av (As := [vI_ p24]) z).2.1) ?_
        refine a_if_eq (tgt := 85) dX1_parted_54 (by decide) (fun c46 => ?_) (fun c46 => ?_)
        · replace h := ifp_ c46 h
          refine a_iinc (v := x31 + 1) (ls' := [(4, vI_ (x31 + 1)), (0, vR_ (some p21)), (1, vR_ (some a40)), (2, vI_ x30), (3, vI_ p24)]) 4 dX1_parted_85 rfl rfl (Nat.le_of_ble_eq_true rfl) rfl ?_
          refine a_goto (tgt := 26) dX1_parted_88 (by decide) ?_
          refine aw_pick [1, 2, 3, 4, 0] rfl ?_
          have q47 := ih _ _ _ h
          rw [e41] at q47
          exact q47
        · replace h := ifn_ c46 h
          refine a_aload_n 1 dX1_parted_57 rfl rfl ?_
          refine a_iload 4 dX1_parted_58 rfl ?_
          obtain ⟨v50, m48, e49, h⟩ := bm_some h
          have he49 := e_X4_isBound (G := G) hl f42 e49
          refine c_I he49.1 (rn_V (n := 1) (As := [vI_ x31]) kc_4 f42 he49 (lw_V q462 q463 q464 q93 q465) (by decide +kernel) rfl (Nat.le_of_ble_eq_true rfl) (Nat.le_of_ble_eq_true rfl) (Nat.le_of_ble_eq_true rfl) dX1_parted_60) (fun z => (os_av (As := [vI_ x31]) z).2.1) ?_
          refine a_if_eq (tgt := 85) dX1_parted_63 (by decide) (fun c51 => ?_) (fun c51 => ?_)
          · replace h := ifp_ c51 h
            refine a_iinc (v := x31 + 1) (ls' := [(4, vI_ (x31 + 1)), (0, vR_ (some p21)), (1, vR_ (some a40)), (2, vI_ x30), (3, vI_ p24)]) 4 dX1_parted_85 rfl rfl (Nat.le_of_ble_eq_true rfl) rfl ?_
            refine a_goto (tgt := 26) dX1_parted_88 (by decide) ?_
            refine aw_pick [1, 2, 3, 4, 0] rfl ?_
            have q52 := ih _ _ _ h
            rw [e41] at q52
            exact q52
          · replace h := ifn_ c51 h
            refine a_aload_n 1 dX1_parted_66 rfl rfl ?_
            refine a_getRN kc_4 1 (by decide) rfl f42 q287 dX1_parted_67 ?_
            refine a_iload_n 3 dX1_parted_70 rfl rfl ?_
            obtain ⟨a53, e54, f55, h⟩ := gd_some h
            rw [e54]
            obtain ⟨c56, h⟩ := iz_some h
            refine a_iald f55 (bn_ c56) dX1_parted_71 ?_
            refine a_aload_n 1 dX1_parted_72 rfl rfl ?_
            refine a_getRN kc_4 1 (by decide) rfl f42 q287 dX1_parted_73 ?_
            refine a_iload 4 dX1_parted_76 rfl ?_
            obtain ⟨a57, e58, f59, h⟩ := gd_some h
            rw [e58]
            obtain ⟨c60, h⟩ := iz_some h
            refine a_iald f59 (bn_ c60) dX1_parted_78 ?_
            refine a_icmp_eq (tgt := 85) dX1_parted_79 (by decide) (fun c61 => ?_) (fun c61 => ?_)
            · replace h := ifp_ c61 h
              refine a_iinc (v := x31 + 1) (ls' := [(4, vI_ (x31 + 1)), (0, vR_ (some p21)), (1, vR_ (some a40)), (2, vI_ x30), (3, vI_ p24)]) 4 dX1_parted_85 rfl rfl (Nat.le_of_ble_eq_true rfl) rfl ?_
              refine a_goto (tgt := 26) dX1_parted_88 (by decide) ?_
              refine aw_pick [1, 2, 3, 4, 0] rfl ?_
              have q62 := ih _ _ _ h
              rw [e41] at q62
              exact q62
            · replace h := ifn_ c61 h
              refine a_iinc (v := x30 + 1) (ls' := [(2, vI_ (x30 + 1)), (0, vR_ (some p21)), (1, vR_ (some a40)), (3, vI_ p24), (4, vI_ x31)]) 2 dX1_parted_82 rfl rfl (Nat.le_of_ble_eq_true rfl) rfl ?_
              refine a_iinc (v := x31 + 1) (ls' := [(4, vI_ (x31 + 1)), (2, vI_ (x30 + 1)), (0, vR_ (some p21)), (1, vR_ (some a40)), (3, vI_ p24)]) 4 dX1_parted_85 rfl rfl (Nat.le_of_ble_eq_true rfl) rfl ?_
              refine a_goto (tgt := 26) dX1_parted_88 (by decide) ?_
              refine aw_pick [2, 3, 1, 4, 0] rfl ?_
              have q63 := ih _ _ _ h
              rw [e41] at q63
              exact q63
def f_X1_parted_L12 (F : Nat)  (p7 : pm_A) (p9 : Option pm_A) : Nat → Int32 → Int32 → pm_M → Option (Int32 × pm_M)
  | 0, _, _, _ => none
  | n10 + 1, x12, x13, m11 =>
    gd_ 6 (gR_ m11 p7 12) fun a14 =>
    if (gI_ m11 a14 7) ≤ x13 then
      some (x12, m11)
    else
      jn_ (fun (x20 : Int32) (m19 : pm_M) =>
        (f_X1_parted_L12 F p7 p9 n10) x20 (x13 + 1) m19
      ) fun k18 =>
      f_X1_parted_L26 F p7 p9 x13 k18 F x12 0 m11
set_option maxHeartbeats 4000000 in
theorem w_X1_parted_L12 {G : xg_T} {l : Launch} (hl : l.stackTraces = false) {F : Nat}    (p7 : pm_A) (p9 : Option pm_A) {m0 m' : pm_M} {r : Int32} (hf8 : p7.1 = 1)  : ∀ (n : Nat) (x12 : Int32) (x13 : Int32) (m11 : pm_M), f_X1_parted_L12 F p7 p9 n x12 x13 m11 = some (r, m') → AW_ cX1_parted RX1 (some (.int), "parted", 3, 5, m0, m', (.inl (some (vI_ r))), G, l, [], true) m11 12 [(0, vR_ (some p7)), (1, vR_ p9), (2, vI_ x12), (3, vI_ x13)] [] := by
  intro n
  induction n with
  | zero => intro x12 x13 m11 h; cases h
  | succ n10 ih =>
    intro x12 x13 m11 h
    rw [f_X1_parted_L12] at h
    refine a_iload_n 3 dX1_parted_12 rfl rfl ?_
    refine a_aload_n 0 dX1_parted_13 rfl rfl ?_
    refine a_getR kc_1 12 (by decide) rfl hf8 q400 dX1_parted_14 ?_
    obtain ⟨a14, e15, f16, h⟩ := gd_some h
    rw [e15]
    refine a_getIN kc_6 7 (by decide) rfl f16 q244 dX1_parted_17 ?_
    refine a_icmp_ge (tgt := 97) dX1_parted_20 (by decide) (fun c17 => ?_) (fun c17 => ?_)
    · replace h := ifp_ c17 h
      refine a_iload_n 2 dX1_parted_97 rfl rfl ?_
      cases h
      exact a_ireturn rfl rfl rfl rfl rfl dX1_parted_98
    · replace h := ifn_ c17 h
      refine a_iconst (v := 0) dX1_parted_23 (by decide) ?_
      refine a_istore (ls' := [(4, vI_ 0), (0, vR_ (some p7)), (1, vR_ p9), (2, vI_ x12), (3, vI_ x13)]) dX1_parted_24 (Nat.le_of_ble_eq_true rfl) rfl ?_
      obtain ⟨k18, e64, h⟩ := jn2_some h
      have hk18 : ∀ (x20 : Int32) (m19 : pm_M), k18 x20 m19 = some (r, m') → AW_ cX1_parted RX1 (some (.int), "parted", 3, 5, m0, m', (.inl (some (vI_ r))), G, l, [], true) m19 91 [(0, vR_ (some p7)), (1, vR_ p9), (2, vI_ x20), (3, vI_ x13)] [] := by
        intro x20 m19 h
        have h := (e64 x20 m19).symm.trans h
        refine a_iinc (v := x13 + 1) (ls' := [(3, vI_ (x13 + 1)), (0, vR_ (some p7)), (1, vR_ p9), (2, vI_ x20)]) 3 dX1_parted_91 rfl rfl (Nat.le_of_ble_eq_true rfl) rfl ?_
        refine a_goto (tgt := 12) dX1_parted_94 (by decide) ?_
        refine aw_pick [1, 2, 3, 0] rfl ?_
        exact ih _ _ _ h
      refine aw_pick [1, 2, 3, 4, 0] rfl ?_
      exact w_X1_parted_L26 hl _ _ _ _ hf8 hk18 _ _ _ _ h
def f_X1_parted (F : Nat)  (t : pm_A) (m : pm_M) : Option (Int32 × pm_M) :=
  gd_ 3 (gR_ m t 2) fun a1 =>
  bm_ (f_X3_now F a1 m) fun v6 m4 =>
  f_X1_parted_L12 F t v6 F 0 0 m4
set_option maxHeartbeats 4000000 in
theorem e_X1_parted {G : xg_T} {l : Launch} (hl : l.stackTraces = false) {F : Nat}    {t : pm_A} {m0 m' : pm_M} {r : Int32} (ht : t.1 = 1) (h : f_X1_parted F t m0 = some (r, m')) : Cal_ G l yX1_parted (ws_ yX1_parted cX1_parted 5 (some .int)) 3 [vR_ (some t)] m0 (.inl (some (vI_ r))) m' := by
  refine cal_of (by decide +kernel) (Nat.le_of_ble_eq_true rfl) ?_
  unfold f_X1_parted at h
  show AW_ cX1_parted RX1 (some (.int), "parted", 3, 5, m0, m', (.inl (some (vI_ r))), G, l, [], true) m0 0 [(0, vR_ (some t))] []
  refine a_aload_n 0 dX1_parted_0 rfl rfl ?_
  refine a_getR kc_1 2 (by decide) rfl ht q390 dX1_parted_1 ?_
  obtain ⟨a1, e2, f3, h⟩ := gd_some h
  rw [e2]
  obtain ⟨v6, m4, e5, h⟩ := bm_some h
  have he5 := e_X3_now (G := G) hl f3 e5
  refine c_R he5.1 (rn_V (n := 0) (As := []) kc_3 f3 he5 (lw_V q380 q381 q382 q92 q383) (by decide +kernel) rfl (Nat.le_of_ble_eq_true rfl) (Nat.le_of_ble_eq_true rfl) (Nat.le_of_ble_eq_true rfl) dX1_parted_4) (fun z => (os_av (As := []) z).2.1) ?_
  refine a_astore_n (ls' := [(1, vR_ v6), (0, vR_ (some t))]) dX1_parted_7 rfl (Nat.le_of_ble_eq_true rfl) rfl ?_
  refine a_iconst (v := 0) dX1_parted_8 (by decide) ?_
  refine a_istore_n (ls' := [(2, vI_ 0), (1, vR_ v6), (0, vR_ (some t))]) dX1_parted_9 rfl (Nat.le_of_ble_eq_true rfl) rfl ?_
  refine a_iconst (v := 0) dX1_parted_10 (by decide) ?_
  refine a_istore_n (ls' := [(3, vI_ 0), (2, vI_ 0), (1, vR_ v6), (0, vR_ (some t))]) dX1_parted_11 rfl (Nat.le_of_ble_eq_true rfl) rfl ?_
  refine aw_pick [3, 2, 1, 0] rfl ?_
  exact w_X1_parted_L12 hl _ _ ht _ _ _ _ h
def f_X1_hunger (F : Nat)  (t : pm_A) (m : pm_M) : Option (Int32 × pm_M) :=
  gd_ 3 (gR_ m t 2) fun a1 =>
  bm_ (f_X3_now F a1 m) fun v6 m4 =>
  gd_ 4 v6 fun a7 =>
  bm_ (f_X4_many F a7 0 m4) fun v12 m10 =>
  jn_ (fun (y15 : Int32) (m14 : pm_M) =>
    if y15 ≤ 99 then
      some (y15, m14)
    else
      some (((-1)), m14)
  ) fun k13 =>
  if v12 = 0 then
    k13 100 m10
  else
    bm_ (f_X4_many F a7 0 m10) fun v20 m18 =>
    iz_ (decide (v20 = 0)) <|
    k13 ((gI_ m10 a7 12) / v20) m18
set_option maxHeartbeats 4000000 in
theorem e_X1_hunger {G : xg_T} {l : Launch} (hl : l.stackTraces = false) {F : Nat}    {t : pm_A} {m0 m' : pm_M} {r : Int32} (ht : t.1 = 1) (h : f_X1_hunger F t m0 = some (r, m')) : Cal_ G l yX1_hunger (ws_ yX1_hunger cX1_hunger 3 (some .int)) 3 [vR_ (some t)] m0 (.inl (some (vI_ r))) m' := by
  refine cal_of (by decide +kernel) (Nat.le_of_ble_eq_true rfl) ?_
  unfold f_X1_hunger at h
  show AW_ cX1_hunger RX1 (some (.int), "hunger", 3, 3, m0, m', (.inl (some (vI_ r))), G, l, [], true) m0 0 [(0, vR_ (some t))] []
  refine a_aload_n 0 dX1_hunger_0 rfl rfl ?_
  refine a_getR kc_1 2 (by decide) rfl ht q390 dX1_hunger_1 ?_
  obtain ⟨a1, e2, f3, h⟩ := gd_some h
  rw [e2]
  obtain ⟨v6, m4, e5, h⟩ := bm_some h
  have he5 := e_X3_now (G := G) hl f3 e5
  refine c_R he5.1 (rn_V (n := 0) (As := []) kc_3 f3 he5 (lw_V q380 q381 q382 q92 q383) (by decide +kernel) rfl (Nat.le_of_ble_eq_true rfl) (Nat.le_of_ble_eq_true rfl) (Nat.le_of_ble_eq_true rfl) dX1_hunger_4) (fun z => (os_av (As := []) z).2.1) ?_
  refine a_astore_n (ls' := [(1, vR_ v6), (0, vR_ (some t))]) dX1_hunger_7 rfl (Nat.le_of_ble_eq_true rfl) rfl ?_
  refine a_aload_n 0 dX1_hunger_8 rfl rfl ?_
  refine a_iconst (v := 0) dX1_hunger_9 (by decide) ?_
  obtain ⟨a7, e8, f9, h⟩ := gd_some h
  rw [e8]
  obtain ⟨v12, m10, e11, h⟩ := bm_some h
  have he11 := e_X4_many (G := G) hl f9 e11
  refine c_I he11.1 (rn_V (n := 1) (As := [vI_ 0]) kc_4 f9 he11 (lw_V q538 q539 q540 q93 q541) (by decide +kernel) rfl (Nat.le_of_ble_eq_true rfl) (Nat.le_of_ble_eq_true rfl) (Nat.le_of_ble_eq_true rfl) dX1_hunger_10) (fun z => (os_av (As := [vI_ 0]) z).2.1) ?_
  obtain ⟨k13, e22, h⟩ := jn2_some h
  have hk13 : ∀ (y15 : Int32) (m14 : pm_M), k13 y15 m14 = some (r, m') → AW_ cX1_hunger RX1 (some (.int), "hunger", 3, 3, m0, m', (.inl (some (vI_ r))), G, l, [], true) m14 31 [] [vI_ y15] := by
    intro y15 m14 h
    have h := (e22 y15 m14).symm.trans h
    refine a_istore_n (ls' := [(2, vI_ y15)]) dX1_hunger_31 rfl (Nat.le_of_ble_eq_true rfl) rfl ?_
    refine a_iload_n 0 dX1_hunger_32 rfl rfl ?_
    refine a_bipush (v := 99) dX1_hunger_33 (by decide) ?_
    refine a_icmp_le (tgt := 42) dX1_hunger_35 (by decide) (fun c16 => ?_) (fun c16 => ?_)
    · replace h := ifp_ c16 h
      refine a_iload_n 0 dX1_hunger_42 rfl rfl ?_
      cases h
      exact a_ireturn rfl rfl rfl rfl rfl dX1_hunger_43
    · replace h := ifn_ c16 h
      refine a_iconst (v := (-1)) dX1_hunger_38 (by decide) ?_
      refine a_goto (tgt := 43) dX1_hunger_39 (by decide) ?_
      cases h
      exact a_ireturn rfl rfl rfl rfl rfl dX1_hunger_43
  refine a_if_ne (tgt := 21) dX1_hunger_13 (by decide) (fun c17 => ?_) (fun c17 => ?_)
  · replace h := ifn_ c17 h
    refine a_aload_n 0 dX1_hunger_21 rfl rfl ?_
    refine a_getIN kc_4 12 (by decide) rfl f9 q306 dX1_hunger_22 ?_
    refine a_aload_n 0 dX1_hunger_25 rfl rfl ?_
    refine a_iconst (v := 0) dX1_hunger_26 (by decide) ?_
    obtain ⟨v20, m18, e19, h⟩ := bm_some h
    have he19 := e_X4_many (G := G) hl f9 e19
    refine c_I he19.1 (rn_V (n := 1) (As := [vI_ 0]) kc_4 f9 he19 (lw_V q538 q539 q540 q93 q541) (by decide +kernel) rfl (Nat.le_of_ble_eq_true rfl) (Nat.le_of_ble_eq_true rfl) (Nat.le_of_ble_eq_true rfl) dX1_hunger_27) (fun z => (os_av (As := [vI_ 0]) z).2.1) ?_
    obtain ⟨c21, h⟩ := iz_some h
    refine a_idiv dX1_hunger_30 (of_decide_eq_false c21) ?_
    refine aw_pick [] rfl ?_
    exact hk13 _ _ h
  · replace h := ifp_ c17 h
    refine a_bipush (v := 100) dX1_hunger_16 (by decide) ?_
    refine a_goto (tgt := 31) dX1_hunger_18 (by decide) ?_
    refine aw_pick [] rfl ?_
    exact hk13 _ _ h
def f_X3_as_L10 (F : Nat)  (p6 : pm_A) (p8 : pm_A) : Nat → Int32 → pm_M → Option (Unit × pm_M)
  | 0, _, _ => none
  | n10 + 1, x12, m11 =>
    if (gI_ m11 p6 1) < x12 then
      some ((), m11)
    else
      gd_ 105 (gR_ m11 p6 0) fun a14 =>
      iz_ (!(ib_ x12 a14.2.1)) <|
      gd_ 105 (gR_ m11 p8 0) fun a18 =>
      iz_ (!(ib_ x12 a18.2.1)) <|
      gd_ 4 (gR_ m11 a14 x12.toNatClampNeg) fun a22 =>
      bm_ (f_X4_as F a22 (gR_ m11 a18 x12.toNatClampNeg) m11) fun v27 m25 =>
      (f_X3_as_L10 F p6 p8 n10) (x12 + 1) m25
set_option maxHeartbeats 4000000 in
theorem w_X3_as_L10 {G : xg_T} {l : Launch} (hl : l.stackTraces = false) {F : Nat}    (p6 : pm_A) (p8 : pm_A) {m0 m' : pm_M} {r : Unit} (hf7 : p6.1 = 3) (hf9 : p8.1 = 3)  : ∀ (n : Nat) (x12 : Int32) (m11 : pm_M), f_X3_as_L10 F p6 p8 n x12 m11 = some (r, m') → AW_ cX3_as RX3 (none, "as", 4, 3, m0, m', (.inl none), G, l, [], true) m11 10 [(0, vR_ (some p6)), (1, vR_ (some p8)), (2, vI_ x12)] [] := by
  intro n
  induction n with
  | zero => intro x12 m11 h; cases h
  | succ n10 ih =>
    intro x12 m11 h
    rw [f_X3_as_L10] at h
    refine a_iload_n 2 dX3_as_10 rfl rfl ?_
    refine a_aload_n 0 dX3_as_11 rfl rfl ?_
    refine a_getI kc_3 1 (by decide) rfl hf7 q339 dX3_as_12 ?_
    refine a_icmp_gt (tgt := 40) dX3_as_15 (by decide) (fun c13 => ?_) (fun c13 => ?_)
    · replace h := ifp_ c13 h
      cases h
      exact a_return rfl rfl rfl rfl dX3_as_40
    · replace h := ifn_ c13 h
      refine a_aload_n 0 dX3_as_18 rfl rfl ?_
      refine a_getR kc_3 0 (by decide) rfl hf7 q338 dX3_as_19 ?_
      refine a_iload_n 2 dX3_as_22 rfl rfl ?_
      obtain ⟨a14, e15, f16, h⟩ := gd_some h
      rw [e15]
      obtain ⟨c17, h⟩ := iz_some h
      refine a_aald (t0 := 5) f16 (by decide) (by decide) rfl (bn_ c17) dX3_as_23 ?_
      refine a_aload_n 1 dX3_as_24 rfl rfl ?_
      refine a_getR kc_3 0 (by decide) rfl hf9 q338 dX3_as_25 ?_
      refine a_iload_n 2 dX3_as_28 rfl rfl ?_
      obtain ⟨a18, e19, f20, h⟩ := gd_some h
      rw [e19]
      obtain ⟨c21, h⟩ := iz_some h
      refine a_aald (t0 := 5) f20 (by decide) (by decide) rfl (bn_ c21) dX3_as_29 ?_
      obtain ⟨a22, e23, f24, h⟩ := gd_some h
      rw [e23]
      obtain ⟨v27, m25, e26, h⟩ := bm_some h
      have he26 := e_X4_as (G := G) hl f24 e26
      refine c_R he26.1 (rn_V (n := 1) (As := [vR_ (gR_ m11 a18 x12.toNatClampNeg)]) kc_4 f24 he26 (lw_V q550 q551 q552 q93 q553) (by decide +kernel) rfl (Nat.le_of_ble_eq_true rfl) (Nat.le_of_ble_eq_true rfl) (Nat.le_of_ble_eq_true rfl) dX3_as_30) (fun z => (os_av (As := [vR_ (gR_ m11 a18 x12.toNatClampNeg)]) z).2.1) ?_
      refine a_pop dX3_as_33 rfl ?_
      refine a_iinc (v := x12 + 1) (ls' := [(2, vI_ (x12 + 1)), (0, vR_ (some p6)), (1, vR_ (some p8))]) 2 dX3_as_34 rfl rfl (Nat.le_of_ble_eq_true rfl) rfl ?_
      refine a_goto (tgt := 10) dX3_as_37 (by decide) ?_
      refine aw_pick [1, 2, 0] rfl ?_
      exact ih _ _ h
def f_X3_as (F : Nat)  (t : pm_A) (i0 : Option pm_A) (m : pm_M) : Option (Unit × pm_M) :=
  gd_ 3 i0 fun a1 =>
  lt_ (pI_ m t 1 (gI_ m a1 1)) fun m4 =>
  f_X3_as_L10 F t a1 F 0 m4
set_option maxHeartbeats 4000000 in
theorem e_X3_as {G : xg_T} {l : Launch} (hl : l.stackTraces = false) {F : Nat}    {t : pm_A} {i0 : Option pm_A} {m0 m' : pm_M} {r : Unit} (ht : t.1 = 3) (h : f_X3_as F t i0 m0 = some (r, m')) : Cal_ G l yX3_as (ws_ yX3_as cX3_as 3 none) 4 [vR_ (some t), vR_ i0] m0 (.inl none) m' := by
  refine cal_of (by decide +kernel) (Nat.le_of_ble_eq_true rfl) ?_
  unfold f_X3_as at h
  show AW_ cX3_as RX3 (none, "as", 4, 3, m0, m', (.inl none), G, l, [], true) m0 0 [(0, vR_ (some t)), (1, vR_ i0)] []
  refine a_aload_n 0 dX3_as_0 rfl rfl ?_
  refine a_aload_n 1 dX3_as_1 rfl rfl ?_
  obtain ⟨a1, e2, f3, h⟩ := gd_some h
  rw [e2]
  refine a_getI kc_3 1 (by decide) rfl f3 q339 dX3_as_2 ?_
  obtain ⟨m4, e5, h⟩ := lt_some h
  refine a_putI kc_3 1 (by decide) rfl ht q339 rfl rfl rfl dX3_as_5 ?_
  rw [← e5]
  refine a_iconst (v := 0) dX3_as_8 (by decide) ?_
  refine a_istore_n (ls' := [(2, vI_ 0), (0, vR_ (some t)), (1, vR_ (some a1))]) dX3_as_9 rfl (Nat.le_of_ble_eq_true rfl) rfl ?_
  refine aw_pick [1, 2, 0] rfl ?_
  exact w_X3_as_L10 hl _ _ ht f3 _ _ _ h
def f_X1_image (F : Nat)  (t : pm_A) (m : pm_M) : Option (Int32 × pm_M) :=
  if (gI_ m t 17) = 3 then
    some (((-1)), m)
  else
    gd_ 104 (gR_ m t 3) fun a2 =>
    iz_ (!(ib_ (gI_ m t 17) a2.2.1)) <|
    gd_ 3 (gR_ m a2 (gI_ m t 17).toNatClampNeg) fun a6 =>
    bm_ (f_X3_as F a6 (gR_ m t 2) m) fun v11 m9 =>
    lt_ (pI_ m9 t 17 ((gI_ m9 t 17) + 1)) fun m12 =>
    some (((gI_ m9 t 17) + 1), m12)
set_option maxHeartbeats 4000000 in
theorem e_X1_image {G : xg_T} {l : Launch} (hl : l.stackTraces = false) {F : Nat}    {t : pm_A} {m0 m' : pm_M} {r : Int32} (ht : t.1 = 1) (h : f_X1_image F t m0 = some (r, m')) : Cal_ G l yX1_image (ws_ yX1_image cX1_image 1 (some .int)) 5 [vR_ (some t)] m0 (.inl (some (vI_ r))) m' := by
  refine cal_of (by decide +kernel) (Nat.le_of_ble_eq_true rfl) ?_
  unfold f_X1_image at h
  show AW_ cX1_image RX1 (some (.int), "image", 5, 1, m0, m', (.inl (some (vI_ r))), G, l, [], true) m0 0 [(0, vR_ (some t))] []
  refine a_aload_n 0 dX1_image_0 rfl rfl ?_
  refine a_getI kc_1 17 (by decide) rfl ht q405 dX1_image_1 ?_
  refine a_iconst (v := 3) dX1_image_4 (by decide) ?_
  refine a_icmp_ne (tgt := 10) dX1_image_5 (by decide) (fun c1 => ?_) (fun c1 => ?_)
  · replace h := ifn_ c1 h
    refine a_aload_n 0 dX1_image_10 rfl rfl ?_
    refine a_getR kc_1 3 (by decide) rfl ht q391 dX1_image_11 ?_
    refine a_aload_n 0 dX1_image_14 rfl rfl ?_
    refine a_getI kc_1 17 (by decide) rfl ht q405 dX1_image_15 ?_
    obtain ⟨a2, e3, f4, h⟩ := gd_some h
    rw [e3]
    obtain ⟨c5, h⟩ := iz_some h
    refine a_aald (t0 := 4) f4 (by decide) (by decide) rfl (bn_ c5) dX1_image_18 ?_
    refine a_aload_n 0 dX1_image_19 rfl rfl ?_
    refine a_getR kc_1 2 (by decide) rfl ht q390 dX1_image_20 ?_
    obtain ⟨a6, e7, f8, h⟩ := gd_some h
    rw [e7]
    obtain ⟨v11, m9, e10, h⟩ := bm_some h
    have he10 := e_X3_as (G := G) hl f8 e10
    refine c_V he10.1 (rn_V (n := 1) (As := [vR_ (gR_ m0 t 2)]) kc_3 f8 he10 (lw_V q546 q547 q548 q92 q549) (by decide +kernel) rfl (Nat.le_of_ble_eq_true rfl) (Nat.le_of_ble_eq_true rfl) (Nat.le_of_ble_eq_true rfl) dX1_image_23) (fun z => (os_av (As := [vR_ (gR_ m0 t 2)]) z).2.1) ?_
    refine a_aload_n 0 dX1_image_26 rfl rfl ?_
    refine a_dup dX1_image_27 rfl ?_
    refine a_getI kc_1 17 (by decide) rfl ht q405 dX1_image_28 ?_
    refine a_iconst (v := 1) dX1_image_31 (by decide) ?_
    refine a_iadd dX1_image_32 ?_
    refine a_dup_x1 dX1_image_33 rfl rfl ?_
    obtain ⟨m12, e13, h⟩ := lt_some h
    refine a_putI kc_1 17 (by decide) rfl ht q405 rfl rfl rfl dX1_image_34 ?_
    rw [← e13]
    cases h
    exact a_ireturn rfl rfl rfl rfl rfl dX1_image_37
  · replace h := ifp_ c1 h
    refine a_iconst (v := (-1)) dX1_image_8 (by decide) ?_
    cases h
    exact a_ireturn rfl rfl rfl rfl rfl dX1_image_9
def f_X1_restore (F : Nat)  (t : pm_A) (m : pm_M) : Option (Int32 × pm_M) :=
  if (gI_ m t 17) = 0 then
    some (((-1)), m)
  else
    lt_ (pI_ m t 17 ((gI_ m t 17) - 1)) fun m2 =>
    gd_ 104 (gR_ m t 3) fun a4 =>
    iz_ (!(ib_ ((gI_ m t 17) - 1) a4.2.1)) <|
    gd_ 3 (gR_ m t 2) fun a8 =>
    bm_ (f_X3_as F a8 (gR_ m2 a4 ((gI_ m t 17) - 1).toNatClampNeg) m2) fun v13 m11 =>
    lt_ (pI_ m11 t 16 0) fun m14 =>
    some ((gI_ m14 t 17), m14)
set_option maxHeartbeats 4000000 in
theorem e_X1_restore {G : xg_T} {l : Launch} (hl : l.stackTraces = false) {F : Nat}    {t : pm_A} {m0 m' : pm_M} {r : Int32} (ht : t.1 = 1) (h : f_X1_restore F t m0 = some (r, m')) : Cal_ G l yX1_restore (ws_ yX1_restore cX1_restore 1 (some .int)) 5 [vR_ (some t)] m0 (.inl (some (vI_ r))) m' := by
  refine cal_of (by decide +kernel) (Nat.le_of_ble_eq_true rfl) ?_
  unfold f_X1_restore at h
  show AW_ cX1_restore RX1 (some (.int), "restore", 5, 1, m0, m', (.inl (some (vI_ r))), G, l, [], true) m0 0 [(0, vR_ (some t))] []
  refine a_aload_n 0 dX1_restore_0 rfl rfl ?_
  refine a_getI kc_1 17 (by decide) rfl ht q405 dX1_restore_1 ?_
  refine a_if_ne (tgt := 9) dX1_restore_4 (by decide) (fun c1 => ?_) (fun c1 => ?_)
  · replace h := ifn_ c1 h
    refine a_aload_n 0 dX1_restore_9 rfl rfl ?_
    refine a_getR kc_1 2 (by decide) rfl ht q390 dX1_restore_10 ?_
    refine a_aload_n 0 dX1_restore_13 rfl rfl ?_
    refine a_getR kc_1 3 (by decide) rfl ht q391 dX1_restore_14 ?_
    refine a_aload_n 0 dX1_restore_17 rfl rfl ?_
    refine a_dup dX1_restore_18 rfl ?_
    refine a_getI kc_1 17 (by decide) rfl ht q405 dX1_restore_19 ?_
    refine a_iconst (v := 1) dX1_restore_22 (by decide) ?_
    refine a_isub dX1_restore_23 ?_
    refine a_dup_x1 dX1_restore_24 rfl rfl ?_
    obtain ⟨m2, e3, h⟩ := lt_some h
    refine a_putI kc_1 17 (by decide) rfl ht q405 rfl rfl rfl dX1_restore_25 ?_
    rw [← e3]
    obtain ⟨a4, e5, f6, h⟩ := gd_some h
    rw [e5]
    obtain ⟨c7, h⟩ := iz_some h
    refine a_aald (t0 := 4) f6 (by decide) (by decide) rfl (bn_ c7) dX1_restore_28 ?_
    obtain ⟨a8, e9, f10, h⟩ := gd_some h
    rw [e9]
    obtain ⟨v13, m11, e12, h⟩ := bm_some h
    have he12 := e_X3_as (G := G) hl f10 e12
    refine c_V he12.1 (rn_V (n := 1) (As := [vR_ (gR_ m2 a4 ((gI_ m0 t 17) - 1).toNatClampNeg)]) kc_3 f10 he12 (lw_V q546 q547 q548 q92 q549) (by decide +kernel) rfl (Nat.le_of_ble_eq_true rfl) (Nat.le_of_ble_eq_true rfl) (Nat.le_of_ble_eq_true rfl) dX1_restore_29) (fun z => (os_av (As := [vR_ (gR_ m2 a4 ((gI_ m0 t 17) - 1).toNatClampNeg)]) z).2.1) ?_
    refine a_aload_n 0 dX1_restore_32 rfl rfl ?_
    refine a_iconst (v := 0) dX1_restore_33 (by decide) ?_
    obtain ⟨m14, e15, h⟩ := lt_some h
    refine a_putI kc_1 16 (by decide) rfl ht q404 rfl rfl rfl dX1_restore_34 ?_
    rw [← e15]
    refine a_aload_n 0 dX1_restore_37 rfl rfl ?_
    refine a_getI kc_1 17 (by decide) rfl ht q405 dX1_restore_38 ?_
    cases h
    exact a_ireturn rfl rfl rfl rfl rfl dX1_restore_41
  · replace h := ifp_ c1 h
    refine a_iconst (v := (-1)) dX1_restore_7 (by decide) ?_
    cases h
    exact a_ireturn rfl rfl rfl rfl rfl dX1_restore_8
def f_X1_status (F : Nat)  (t : pm_A) (i0 : Int32) (m : pm_M) : Option (Int32 × pm_M) :=
  if i0 < 0 then
    some (((-1)), m)
  else
    if i0 ≤ 1 then
      gd_ 100 (gR_ m t 7) fun a3 =>
      iz_ (!(ib_ i0 a3.2.1)) <|
      some ((gI_ m a3 i0.toNatClampNeg), m)
    else
      some (((-1)), m)
set_option maxHeartbeats 4000000 in
theorem e_X1_status {G : xg_T} {l : Launch} (hl : l.stackTraces = false) {F : Nat}    {t : pm_A} {i0 : Int32} {m0 m' : pm_M} {r : Int32} (ht : t.1 = 1) (h : f_X1_status F t i0 m0 = some (r, m')) : Cal_ G l yX1_status (ws_ yX1_status cX1_status 2 (some .int)) 2 [vR_ (some t), vI_ i0] m0 (.inl (some (vI_ r))) m' := by
  refine cal_of (by decide +kernel) (Nat.le_of_ble_eq_true rfl) ?_
  unfold f_X1_status at h
  show AW_ cX1_status RX1 (some (.int), "status", 2, 2, m0, m', (.inl (some (vI_ r))), G, l, [], true) m0 0 [(0, vR_ (some t)), (1, vI_ i0)] []
  refine a_iload_n 1 dX1_status_0 rfl rfl ?_
  refine a_if_lt (tgt := 9) dX1_status_1 (by decide) (fun c1 => ?_) (fun c1 => ?_)
  · replace h := ifp_ c1 h
    refine a_iconst (v := (-1)) dX1_status_9 (by decide) ?_
    refine a_goto (tgt := 19) dX1_status_10 (by decide) ?_
    cases h
    exact a_ireturn rfl rfl rfl rfl rfl dX1_status_19
  · replace h := ifn_ c1 h
    refine a_iload_n 1 dX1_status_4 rfl rfl ?_
    refine a_iconst (v := 1) dX1_status_5 (by decide) ?_
    refine a_icmp_le (tgt := 13) dX1_status_6 (by decide) (fun c2 => ?_) (fun c2 => ?_)
    · replace h := ifp_ c2 h
      refine a_aload_n 0 dX1_status_13 rfl rfl ?_
      refine a_getR kc_1 7 (by decide) rfl ht q395 dX1_status_14 ?_
      refine a_iload_n 1 dX1_status_17 rfl rfl ?_
      obtain ⟨a3, e4, f5, h⟩ := gd_some h
      rw [e4]
      obtain ⟨c6, h⟩ := iz_some h
      refine a_iald f5 (bn_ c6) dX1_status_18 ?_
      cases h
      exact a_ireturn rfl rfl rfl rfl rfl dX1_status_19
    · replace h := ifn_ c2 h
      refine a_iconst (v := (-1)) dX1_status_9 (by decide) ?_
      refine a_goto (tgt := 19) dX1_status_10 (by decide) ?_
      cases h
      exact a_ireturn rfl rfl rfl rfl rfl dX1_status_19
def f_X1_count (F : Nat)  (t : pm_A) (i0 : Int32) (m : pm_M) : Option (Int32 × pm_M) :=
  if i0 = 0 then
    some ((gI_ m t 17), m)
  else
    if i0 = 1 then
      some ((gI_ m t 13), m)
    else
      if i0 = 2 then
        gd_ 3 (gR_ m t 2) fun a4 =>
        some ((gI_ m a4 1), m)
      else
        some (((-1)), m)
set_option maxHeartbeats 4000000 in
theorem e_X1_count {G : xg_T} {l : Launch} (hl : l.stackTraces = false) {F : Nat}    {t : pm_A} {i0 : Int32} {m0 m' : pm_M} {r : Int32} (ht : t.1 = 1) (h : f_X1_count F t i0 m0 = some (r, m')) : Cal_ G l yX1_count (ws_ yX1_count cX1_count 2 (some .int)) 2 [vR_ (some t), vI_ i0] m0 (.inl (some (vI_ r))) m' := by
  refine cal_of (by decide +kernel) (Nat.le_of_ble_eq_true rfl) ?_
  unfold f_X1_count at h
  show AW_ cX1_count RX1 (some (.int), "count", 2, 2, m0, m', (.inl (some (vI_ r))), G, l, [], true) m0 0 [(0, vR_ (some t)), (1, vI_ i0)] []
  refine a_iload_n 1 dX1_count_0 rfl rfl ?_
  refine a_if_ne (tgt := 11) dX1_count_1 (by decide) (fun c1 => ?_) (fun c1 => ?_)
  · replace h := ifn_ c1 h
    refine a_iload_n 1 dX1_count_11 rfl rfl ?_
    refine a_iconst (v := 1) dX1_count_12 (by decide) ?_
    refine a_icmp_ne (tgt := 23) dX1_count_13 (by decide) (fun c2 => ?_) (fun c2 => ?_)
    · replace h := ifn_ c2 h
      refine a_iload_n 1 dX1_count_23 rfl rfl ?_
      refine a_iconst (v := 2) dX1_count_24 (by decide) ?_
      refine a_icmp_ne (tgt := 38) dX1_count_25 (by decide) (fun c3 => ?_) (fun c3 => ?_)
      · replace h := ifn_ c3 h
        refine a_iconst (v := (-1)) dX1_count_38 (by decide) ?_
        cases h
        exact a_ireturn rfl rfl rfl rfl rfl dX1_count_39
      · replace h := ifp_ c3 h
        refine a_aload_n 0 dX1_count_28 rfl rfl ?_
        refine a_getR kc_1 2 (by decide) rfl ht q390 dX1_count_29 ?_
        obtain ⟨a4, e5, f6, h⟩ := gd_some h
        rw [e5]
        refine a_getIN kc_3 1 (by decide) rfl f6 q340 dX1_count_32 ?_
        refine a_goto (tgt := 39) dX1_count_35 (by decide) ?_
        cases h
        exact a_ireturn rfl rfl rfl rfl rfl dX1_count_39
    · replace h := ifp_ c2 h
      refine a_aload_n 0 dX1_count_16 rfl rfl ?_
      refine a_getI kc_1 13 (by decide) rfl ht q401 dX1_count_17 ?_
      refine a_goto (tgt := 39) dX1_count_20 (by decide) ?_
      cases h
      exact a_ireturn rfl rfl rfl rfl rfl dX1_count_39
  · replace h := ifp_ c1 h
    refine a_aload_n 0 dX1_count_4 rfl rfl ?_
    refine a_getI kc_1 17 (by decide) rfl ht q405 dX1_count_5 ?_
    refine a_goto (tgt := 39) dX1_count_8 (by decide) ?_
    cases h
    exact a_ireturn rfl rfl rfl rfl rfl dX1_count_39
def f_X8_thrown (F : Nat)  (t : pm_A) (m : pm_M) : Option (Int32 × pm_M) :=
  some ((gI_ m t 0), m)
set_option maxHeartbeats 4000000 in
theorem e_X8_thrown {G : xg_T} {l : Launch} (hl : l.stackTraces = false) {F : Nat}    {t : pm_A} {m0 m' : pm_M} {r : Int32} (ht : t.1 = 8) (h : f_X8_thrown F t m0 = some (r, m')) : Cal_ G l yX8_thrown (ws_ yX8_thrown cX8_thrown 1 (some .int)) 2 [vR_ (some t)] m0 (.inl (some (vI_ r))) m' := by
  refine cal_of (by decide +kernel) (Nat.le_of_ble_eq_true rfl) ?_
  unfold f_X8_thrown at h
  show AW_ cX8_thrown RX8 (some (.int), "thrown", 2, 1, m0, m', (.inl (some (vI_ r))), G, l, [], true) m0 0 [(0, vR_ (some t))] []
  refine a_aload_n 0 dX8_thrown_0 rfl rfl ?_
  refine a_getI kc_8 0 (by decide) rfl ht q1554 dX8_thrown_1 ?_
  cases h
  exact a_ireturn rfl rfl rfl rfl rfl dX8_thrown_4
def f_X8_clears (F : Nat)  (t : pm_A) (m : pm_M) : Option (Unit × pm_M) :=
  lt_ (pI_ m t 14 0) fun m1 =>
  lt_ (pI_ m1 t 15 0) fun m3 =>
  lt_ (pI_ m3 t 16 60) fun m5 =>
  lt_ (pI_ m5 t 17 8) fun m7 =>
  some ((), m7)
set_option maxHeartbeats 4000000 in
theorem e_X8_clears {G : xg_T} {l : Launch} (hl : l.stackTraces = false) {F : Nat}    {t : pm_A} {m0 m' : pm_M} {r : Unit} (ht : t.1 = 8) (h : f_X8_clears F t m0 = some (r, m')) : Cal_ G l yX8_clears (ws_ yX8_clears cX8_clears 1 none) 2 [vR_ (some t)] m0 (.inl none) m' := by
  refine cal_of (by decide +kernel) (Nat.le_of_ble_eq_true rfl) ?_
  unfold f_X8_clears at h
  show AW_ cX8_clears RX8 (none, "clears", 2, 1, m0, m', (.inl none), G, l, [], true) m0 0 [(0, vR_ (some t))] []
  refine a_aload_n 0 dX8_clears_0 rfl rfl ?_
  refine a_iconst (v := 0) dX8_clears_1 (by decide) ?_
  obtain ⟨m1, e2, h⟩ := lt_some h
  refine a_putI kc_8 14 (by decide) rfl ht q1568 rfl rfl rfl dX8_clears_2 ?_
  rw [← e2]
  refine a_aload_n 0 dX8_clears_5 rfl rfl ?_
  refine a_iconst (v := 0) dX8_clears_6 (by decide) ?_
  obtain ⟨m3, e4, h⟩ := lt_some h
  refine a_putI kc_8 15 (by decide) rfl ht q1569 rfl rfl rfl dX8_clears_7 ?_
  rw [← e4]
  refine a_aload_n 0 dX8_clears_10 rfl rfl ?_
  refine a_bipush (v := 60) dX8_clears_11 (by decide) ?_
  obtain ⟨m5, e6, h⟩ := lt_some h
  refine a_putI kc_8 16 (by decide) rfl ht q1570 rfl rfl rfl dX8_clears_13 ?_
  rw [← e6]
  refine a_aload_n 0 dX8_clears_16 rfl rfl ?_
  refine a_bipush (v := 8) dX8_clears_17 (by decide) ?_
  obtain ⟨m7, e8, h⟩ := lt_some h
  refine a_putI kc_8 17 (by decide) rfl ht q1571 rfl rfl rfl dX8_clears_19 ?_
  rw [← e8]
  cases h
  exact a_return rfl rfl rfl rfl dX8_clears_22
def f_X8_copies_L3 (F : Nat)  (p1 : Option pm_A) (p2 : Option pm_A) (p3 : Int32) : Nat → Int32 → pm_M → Option (Unit × pm_M)
  | 0, _, _ => none
  | n4 + 1, x6, m5 =>
    if p3 ≤ x6 then
      some ((), m5)
    else
      gd_ 100 p1 fun a8 =>
      iz_ (!(ib_ x6 a8.2.1)) <|
      gd_ 100 p2 fun a12 =>
      iz_ (!(ib_ x6 a12.2.1)) <|
      lt_ (pI_ m5 a12 x6.toNatClampNeg (gI_ m5 a8 x6.toNatClampNeg)) fun m16 =>
      (f_X8_copies_L3 F p1 p2 p3 n4) (x6 + 1) m16
set_option maxHeartbeats 4000000 in
theorem w_X8_copies_L3 {G : xg_T} {l : Launch} (hl : l.stackTraces = false) {F : Nat}    (p1 : Option pm_A) (p2 : Option pm_A) (p3 : Int32) {m0 m' : pm_M} {r : Unit}   : ∀ (n : Nat) (x6 : Int32) (m5 : pm_M), f_X8_copies_L3 F p1 p2 p3 n x6 m5 = some (r, m') → AW_ cX8_copies RX8 (none, "copies", 2, 5, m0, m', (.inl none), G, l, [], true) m5 3 [(1, vR_ p1), (2, vR_ p2), (3, vI_ p3), (4, vI_ x6)] [] := by
  intro n
  induction n with
  | zero => intro x6 m5 h; cases h
  | succ n4 ih =>
    intro x6 m5 h
    rw [f_X8_copies_L3] at h
    refine a_iload 3 dX8_copies_3 rfl ?_
    refine a_iload_n 2 dX8_copies_5 rfl rfl ?_
    refine a_icmp_ge (tgt := 23) dX8_copies_6 (by decide) (fun c7 => ?_) (fun c7 => ?_)
    · replace h := ifp_ c7 h
      cases h
      exact a_return rfl rfl rfl rfl dX8_copies_23
    · replace h := ifn_ c7 h
      refine a_aload_n 1 dX8_copies_9 rfl rfl ?_
      refine a_iload 3 dX8_copies_10 rfl ?_
      refine a_aload_n 0 dX8_copies_12 rfl rfl ?_
      refine a_iload 3 dX8_copies_13 rfl ?_
      obtain ⟨a8, e9, f10, h⟩ := gd_some h
      rw [e9]
      obtain ⟨c11, h⟩ := iz_some h
      refine a_iald f10 (bn_ c11) dX8_copies_15 ?_
      obtain ⟨a12, e13, f14, h⟩ := gd_some h
      rw [e13]
      obtain ⟨c15, h⟩ := iz_some h
      obtain ⟨m16, e17, h⟩ := lt_some h
      refine a_iast f14 (bn_ c15) dX8_copies_16 ?_
      rw [← e17]
      refine a_iinc (v := x6 + 1) (ls' := [(4, vI_ (x6 + 1)), (1, vR_ (some a8)), (2, vR_ (some a12)), (3, vI_ p3)]) 3 dX8_copies_17 rfl rfl (Nat.le_of_ble_eq_true rfl) rfl ?_
      refine a_goto (tgt := 3) dX8_copies_20 (by decide) ?_
      refine aw_pick [1, 2, 3, 0] rfl ?_
      have q18 := ih _ _ h
      rw [e9, e13] at q18
      exact q18
def f_X8_copies (F : Nat)  (t : pm_A) (i0 : Option pm_A) (i1 : Option pm_A) (i2 : Int32) (m : pm_M) : Option (Unit × pm_M) :=
  f_X8_copies_L3 F i0 i1 i2 F 0 m
set_option maxHeartbeats 4000000 in
theorem e_X8_copies {G : xg_T} {l : Launch} (hl : l.stackTraces = false) {F : Nat}    {t : pm_A} {i0 : Option pm_A} {i1 : Option pm_A} {i2 : Int32} {m0 m' : pm_M} {r : Unit} (ht : t.1 = 8) (h : f_X8_copies F t i0 i1 i2 m0 = some (r, m')) : Cal_ G l yX8_copies (ws_ yX8_copies cX8_copies 5 none) 2 [vR_ (some t), vR_ i0, vR_ i1, vI_ i2] m0 (.inl none) m' := by
  refine cal_of (by decide +kernel) (Nat.le_of_ble_eq_true rfl) ?_
  unfold f_X8_copies at h
  show AW_ cX8_copies RX8 (none, "copies", 2, 5, m0, m', (.inl none), G, l, [], true) m0 0 [(0, vR_ (some t)), (1, vR_ i0), (2, vR_ i1), (3, vI_ i2)] []
  refine a_iconst (v := 0) dX8_copies_0 (by decide) ?_
  refine a_istore (ls' := [(4, vI_ 0), (0, vR_ (some t)), (1, vR_ i0), (2, vR_ i1), (3, vI_ i2)]) dX8_copies_1 (Nat.le_of_ble_eq_true rfl) rfl ?_
  refine aw_pick [2, 3, 4, 0] rfl ?_
  exact w_X8_copies_L3 hl _ _ _ _ _ _ h
