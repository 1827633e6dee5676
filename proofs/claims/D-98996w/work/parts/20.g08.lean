/-! PRINTED BY dec.py: X1_terms X0_terms X1_counts X1_isTold X1_ask X0_ask X1_odd X1_rights X1_whole X1_part X1_court X0_court X1_witnesses X0_witnesses X1_loan X0_loan -/
set_option maxRecDepth 100000
def f_X1_terms_L36 (F : Nat)  (p44 : pm_A) (p46 : Int32) (p47 : Int32) (p48 : Int32) (k49 : Int32 → Int32 → Int32 → Int32 → pm_M → Option ((Int32 ⊕ pm_A) × pm_M)) : Nat → Int32 → Int32 → Int32 → Int32 → Int32 → pm_M → Option ((Int32 ⊕ pm_A) × pm_M)
  | 0, _, _, _, _, _, _ => none
  | n55 + 1, x57, x58, x59, x60, x61, m56 =>
    if 24 < x61 then
      k49 x57 x58 x59 x60 m56
    else
      gd_ 3 (gR_ m56 p44 2) fun a63 =>
      bm_ (f_X3_now F a63 m56) fun v68 m66 =>
      gd_ 4 v68 fun a69 =>
      bm_ (f_X4_asksBy F a69 p46 p48 x61 0 m66) fun v74 m72 =>
      bm_ (f_X1_isSaid F p44 v74 m72) fun v77 m75 =>
      if v77 = 0 then
        (f_X1_terms_L36 F p44 p46 p47 p48 k49 n55) x57 x58 x59 x60 (x61 + 1) m75
      else
        jn_ (fun (x81 : Int32) (m80 : pm_M) =>
          jn_ (fun (y84 : Int32) (m83 : pm_M) =>
            bm_ (f_J8_max F x60 v74 m83) fun v87 m85 =>
            (f_X1_terms_L36 F p44 p46 p47 p48 k49 n55) (x57 + 1) x81 y84 v87 (x61 + 1) m85
          ) fun k82 =>
          if x59 = ((-1)) then
            k82 v74 m80
          else
            bm_ (f_J8_min F x59 v74 m80) fun v91 m89 =>
            k82 v91 m89
        ) fun k79 =>
        if x57 = 0 then
          k79 ((100 * p48) + x61) m75
        else
          k79 x58 m75
set_option maxHeartbeats 4000000 in
theorem w_X1_terms_L36 {G : xg_T} {l : Launch} (hl : l.stackTraces = false) {F : Nat}    (p44 : pm_A) (p46 : Int32) (p47 : Int32) (p48 : Int32) (k49 : Int32 → Int32 → Int32 → Int32 → pm_M → Option ((Int32 ⊕ pm_A) × pm_M)) {m0 m' : pm_M} {r : (Int32 ⊕ pm_A)} (hf45 : p44.1 = 1) (hk49 : ∀ (x50 : Int32) (x51 : Int32) (x52 : Int32) (x53 : Int32) (m54 : pm_M), k49 x50 x51 x52 x53 m54 = some (r, m') → AW_ cX1_terms RX1 (some (.int), "terms", 167, 10, m0, m', (oI_ r), G, l, [], true) m54 125 [(0, vR_ (some p44)), (1, vI_ p46), (2, vI_ p47), (3, vI_ x50), (4, vI_ x51), (5, vI_ x52), (6, vI_ x53), (7, vI_ p48)] []) : ∀ (n : Nat) (x57 : Int32) (x58 : Int32) (x59 : Int32) (x60 : Int32) (x61 : Int32) (m56 : pm_M), f_X1_terms_L36 F p44 p46 p47 p48 k49 n x57 x58 x59 x60 x61 m56 = some (r, m') → AW_ cX1_terms RX1 (some (.int), "terms", 167, 10, m0, m', (oI_ r), G, l, [], true) m56 36 [(0, vR_ (some p44)), (1, vI_ p46), (2, vI_ p47), (3, vI_ x57), (4, vI_ x58), (5, vI_ x59), (6, vI_ x60), (7, vI_ p48), (8, vI_ x61)] [] := by
  intro n
  induction n with
  | zero => intro x57 x58 x59 x60 x61 m56 h; cases h
  | succ n55 ih =>
    intro x57 x58 x59 x60 x61 m56 h
    rw [f_X1_terms_L36] at h
    refine a_iload 8 dX1_terms_36 rfl ?_
    refine a_bipush (v := 24) dX1_terms_38 (by decide) ?_
    refine a_icmp_gt (tgt := 125) dX1_terms_40 (by decide) (fun c62 => ?_) (fun c62 => ?_)
    · replace h := ifp_ c62 h
      refine aw_pick [0, 1, 2, 3, 4, 5, 6, 7] rfl ?_
      exact hk49 _ _ _ _ _ h
    · replace h := ifn_ c62 h
      refine a_aload_n 0 dX1_terms_43 rfl rfl ?_
      refine a_getR kc_1 2 (by decide) rfl hf45 q390 dX1_terms_44 ?_
      obtain ⟨a63, e64, f65, h⟩ := gd_some h
      rw [e64]
      obtain ⟨v68, m66, e67, h⟩ := bm_some h
      have he67 := e_X3_now (G := G) hl f65 e67
      refine c_R he67.1 (rn_V (n := 0) (As := []) kc_3 f65 he67 (lw_V q380 q381 q382 q92 q383) (by decide +kernel) rfl (Nat.le_of_ble_eq_true rfl) (Nat.le_of_ble_eq_true rfl) (Nat.le_of_ble_eq_true rfl) dX1_terms_47) (fun z => (os_av (As := []) z).2.1) ?_
      refine a_iload_n 1 dX1_terms_50 rfl rfl ?_
      refine a_iload 7 dX1_terms_51 rfl ?_
      refine a_iload 8 dX1_terms_53 rfl ?_
      refine a_iconst (v := 0) dX1_terms_55 (by decide) ?_
      obtain ⟨a69, e70, f71, h⟩ := gd_some h
      rw [e70]
      obtain ⟨v74, m72, e73, h⟩ := bm_some h
      have he73 := e_X4_asksBy (G := G) hl f71 e73
      refine c_I he73.1 (rn_V (n := 4) (As := [vI_ p46, vI_ p48, vI_ x61, vI_ 0]) kc_4 f71 he73 (lw_V q1420 q475 q476 q93 q477) (by decide +kernel) rfl (Nat.le_of_ble_eq_true rfl) (Nat.le_of_ble_eq_true rfl) (Nat.le_of_ble_eq_true rfl) dX1_terms_56) (fun z => (os_av (As := [vI_ p46, vI_ p48, vI_ x61, vI_ 0]) z).2.1) ?_
      refine a_istore (ls' := [(9, vI_ v74), (0, vR_ (some p44)), (1, vI_ p46), (2, vI_ p47), (3, vI_ x57), (4, vI_ x58), (5, vI_ x59), (6, vI_ x60), (7, vI_ p48), (8, vI_ x61)]) dX1_terms_59 (Nat.le_of_ble_eq_true rfl) rfl ?_
      refine a_aload_n 1 dX1_terms_61 rfl rfl ?_
      refine a_iload 0 dX1_terms_62 rfl ?_
      obtain ⟨v77, m75, e76, h⟩ := bm_some h
      have he76 := e_X1_isSaid (G := G) hl hf45 e76
      refine c_I he76.1 (rn_V (n := 1) (As := [vI_ v74]) kc_1 hf45 he76 (lw_V q1421 q1423 qs22 q90 q1424) (by decide +kernel) rfl (Nat.le_of_ble_eq_true rfl) (Nat.le_of_ble_eq_true rfl) (Nat.le_of_ble_eq_true rfl) dX1_terms_64) (fun z => (os_av (As := [vI_ v74]) z).2.1) ?_
      refine a_if_ne (tgt := 73) dX1_terms_67 (by decide) (fun c78 => ?_) (fun c78 => ?_)
      · replace h := ifn_ c78 h
        refine a_iload_n 4 dX1_terms_73 rfl rfl ?_
        refine a_iinc (v := x57 + 1) (ls' := [(3, vI_ (x57 + 1)), (9, vI_ v74), (0, vR_ (some p44)), (1, vI_ p46), (2, vI_ p47), (4, vI_ x58), (5, vI_ x59), (6, vI_ x60), (7, vI_ p48), (8, vI_ x61)]) 4 dX1_terms_74 rfl rfl (Nat.le_of_ble_eq_true rfl) rfl ?_
        obtain ⟨k79, e94, h⟩ := jn2_some h
        have hk79 : ∀ (x81 : Int32) (m80 : pm_M), k79 x81 m80 = some (r, m') → AW_ cX1_terms RX1 (some (.int), "terms", 167, 10, m0, m', (oI_ r), G, l, [], true) m80 90 [(0, vR_ (some p44)), (1, vI_ p46), (2, vI_ p47), (3, vI_ (x57 + 1)), (4, vI_ x81), (5, vI_ x59), (6, vI_ x60), (7, vI_ p48), (8, vI_ x61), (9, vI_ v74)] [] := by
          intro x81 m80 h
          have h := (e94 x81 m80).symm.trans h
          refine a_iload 5 dX1_terms_90 rfl ?_
          refine a_iconst (v := (-1)) dX1_terms_92 (by decide) ?_
          obtain ⟨k82, e92, h⟩ := jn2_some h
          have hk82 : ∀ (y84 : Int32) (m83 : pm_M), k82 y84 m83 = some (r, m') → AW_ cX1_terms RX1 (some (.int), "terms", 167, 10, m0, m', (oI_ r), G, l, [], true) m83 108 [(0, vR_ (some p44)), (1, vI_ p46), (2, vI_ p47), (3, vI_ (x57 + 1)), (4, vI_ x81), (6, vI_ x60), (7, vI_ p48), (8, vI_ x61), (9, vI_ v74)] [vI_ y84] := by
            intro y84 m83 h
            have h := (e92 y84 m83).symm.trans h
            refine a_istore (ls' := [(5, vI_ y84), (0, vR_ (some p44)), (1, vI_ p46), (2, vI_ p47), (3, vI_ (x57 + 1)), (4, vI_ x81), (6, vI_ x60), (7, vI_ p48), (8, vI_ x61), (9, vI_ v74)]) dX1_terms_108 (Nat.le_of_ble_eq_true rfl) rfl ?_
            refine a_iload 6 dX1_terms_110 rfl ?_
            refine a_iload 9 dX1_terms_112 rfl ?_
            obtain ⟨v87, m85, e86, h⟩ := bm_some h
            have he86 := e_J8_max (G := G) hl e86
            refine c_I he86.1 (rn_S (n := 2) (As := [vI_ x60, vI_ v74]) he86 (lw_S q1425 q524 q109 q525) (by decide +kernel) rfl (Nat.le_of_ble_eq_true rfl) (Nat.le_of_ble_eq_true rfl) (Nat.le_of_ble_eq_true rfl) dX1_terms_114) (fun z => (os_aS (As := [vI_ x60, vI_ v74]) z).2) ?_
            refine a_istore (ls' := [(6, vI_ v87), (5, vI_ y84), (0, vR_ (some p44)), (1, vI_ p46), (2, vI_ p47), (3, vI_ (x57 + 1)), (4, vI_ x81), (7, vI_ p48), (8, vI_ x61), (9, vI_ v74)]) dX1_terms_117 (Nat.le_of_ble_eq_true rfl) rfl ?_
            refine a_iinc (v := x61 + 1) (ls' := [(8, vI_ (x61 + 1)), (6, vI_ v87), (5, vI_ y84), (0, vR_ (some p44)), (1, vI_ p46), (2, vI_ p47), (3, vI_ (x57 + 1)), (4, vI_ x81), (7, vI_ p48), (9, vI_ v74)]) 8 dX1_terms_119 rfl rfl (Nat.le_of_ble_eq_true rfl) rfl ?_
            refine a_goto (tgt := 36) dX1_terms_122 (by decide) ?_
            refine aw_pick [3, 4, 5, 6, 7, 2, 1, 8, 0] rfl ?_
            exact ih _ _ _ _ _ _ h
          refine a_icmp_ne (tgt := 101) dX1_terms_93 (by decide) (fun c88 => ?_) (fun c88 => ?_)
          · replace h := ifn_ c88 h
            refine a_iload 5 dX1_terms_101 rfl ?_
            refine a_iload 9 dX1_terms_103 rfl ?_
            obtain ⟨v91, m89, e90, h⟩ := bm_some h
            have he90 := e_J8_min (G := G) hl e90
            refine c_I he90.1 (rn_S (n := 2) (As := [vI_ x59, vI_ v74]) he90 (lw_S q847 q521 q109 q522) (by decide +kernel) rfl (Nat.le_of_ble_eq_true rfl) (Nat.le_of_ble_eq_true rfl) (Nat.le_of_ble_eq_true rfl) dX1_terms_105) (fun z => (os_aS (As := [vI_ x59, vI_ v74]) z).2) ?_
            refine aw_pick [0, 1, 2, 3, 4, 6, 7, 8, 9] rfl ?_
            exact hk82 _ _ h
          · replace h := ifp_ c88 h
            refine a_iload 9 dX1_terms_96 rfl ?_
            refine a_goto (tgt := 108) dX1_terms_98 (by decide) ?_
            refine aw_pick [0, 1, 2, 3, 4, 6, 7, 8, 9] rfl ?_
            exact hk82 _ _ h
        refine a_if_ne (tgt := 90) dX1_terms_77 (by decide) (fun c93 => ?_) (fun c93 => ?_)
        · replace h := ifn_ c93 h
          refine aw_pick [2, 3, 4, 0, 5, 6, 7, 8, 9, 1] rfl ?_
          exact hk79 _ _ h
        · replace h := ifp_ c93 h
          refine a_bipush (v := 100) dX1_terms_80 (by decide) ?_
          refine a_iload 8 dX1_terms_82 rfl ?_
          refine a_imul dX1_terms_84 ?_
          refine a_iload 9 dX1_terms_85 rfl ?_
          refine a_iadd dX1_terms_87 ?_
          refine a_istore (ls' := [(4, vI_ ((100 * p48) + x61)), (3, vI_ (x57 + 1)), (9, vI_ v74), (0, vR_ (some p44)), (1, vI_ p46), (2, vI_ p47), (5, vI_ x59), (6, vI_ x60), (7, vI_ p48), (8, vI_ x61)]) dX1_terms_88 (Nat.le_of_ble_eq_true rfl) rfl ?_
          refine aw_pick [3, 4, 5, 1, 0, 6, 7, 8, 9, 2] rfl ?_
          exact hk79 _ _ h
      · replace h := ifp_ c78 h
        refine a_goto (tgt := 119) dX1_terms_70 (by decide) ?_
        refine a_iinc (v := x61 + 1) (ls' := [(8, vI_ (x61 + 1)), (9, vI_ v74), (0, vR_ (some p44)), (1, vI_ p46), (2, vI_ p47), (3, vI_ x57), (4, vI_ x58), (5, vI_ x59), (6, vI_ x60), (7, vI_ p48)]) 9 dX1_terms_119 rfl rfl (Nat.le_of_ble_eq_true rfl) rfl ?_
        refine a_goto (tgt := 36) dX1_terms_122 (by decide) ?_
        refine aw_pick [2, 3, 4, 5, 6, 7, 8, 9, 0] rfl ?_
        exact ih _ _ _ _ _ _ h
def f_X1_terms_L26 (F : Nat)  (p20 : pm_A) (p22 : Int32) (p23 : Int32) (k24 : Int32 → Int32 → Int32 → Int32 → pm_M → Option ((Int32 ⊕ pm_A) × pm_M)) : Nat → Int32 → Int32 → Int32 → Int32 → Int32 → pm_M → Option ((Int32 ⊕ pm_A) × pm_M)
  | 0, _, _, _, _, _, _ => none
  | n30 + 1, x32, x33, x34, x35, x36, m31 =>
    if 9 < x36 then
      k24 x32 x33 x34 x35 m31
    else
      jn_ (fun (x40 : Int32) (x41 : Int32) (x42 : Int32) (x43 : Int32) (m39 : pm_M) =>
        (f_X1_terms_L26 F p20 p22 p23 k24 n30) x40 x41 x42 x43 (x36 + 1) m39
      ) fun k38 =>
      f_X1_terms_L36 F p20 p22 p23 x36 k38 F x32 x33 x34 x35 0 m31
set_option maxHeartbeats 4000000 in
theorem w_X1_terms_L26 {G : xg_T} {l : Launch} (hl : l.stackTraces = false) {F : Nat}    (p20 : pm_A) (p22 : Int32) (p23 : Int32) (k24 : Int32 → Int32 → Int32 → Int32 → pm_M → Option ((Int32 ⊕ pm_A) × pm_M)) {m0 m' : pm_M} {r : (Int32 ⊕ pm_A)} (hf21 : p20.1 = 1) (hk24 : ∀ (x25 : Int32) (x26 : Int32) (x27 : Int32) (x28 : Int32) (m29 : pm_M), k24 x25 x26 x27 x28 m29 = some (r, m') → AW_ cX1_terms RX1 (some (.int), "terms", 167, 10, m0, m', (oI_ r), G, l, [], true) m29 131 [(2, vI_ p23), (3, vI_ x25), (4, vI_ x26), (5, vI_ x27), (6, vI_ x28)] []) : ∀ (n : Nat) (x32 : Int32) (x33 : Int32) (x34 : Int32) (x35 : Int32) (x36 : Int32) (m31 : pm_M), f_X1_terms_L26 F p20 p22 p23 k24 n x32 x33 x34 x35 x36 m31 = some (r, m') → AW_ cX1_terms RX1 (some (.int), "terms", 167, 10, m0, m', (oI_ r), G, l, [], true) m31 26 [(0, vR_ (some p20)), (1, vI_ p22), (2, vI_ p23), (3, vI_ x32), (4, vI_ x33), (5, vI_ x34), (6, vI_ x35), (7, vI_ x36)] [] := by
  intro n
  induction n with
  | zero => intro x32 x33 x34 x35 x36 m31 h; cases h
  | succ n30 ih =>
    intro x32 x33 x34 x35 x36 m31 h
    rw [f_X1_terms_L26] at h
    refine a_iload 7 dX1_terms_26 rfl ?_
    refine a_bipush (v := 9) dX1_terms_28 (by decide) ?_
    refine a_icmp_gt (tgt := 131) dX1_terms_30 (by decide) (fun c37 => ?_) (fun c37 => ?_)
    · replace h := ifp_ c37 h
      refine aw_pick [2, 3, 4, 5, 6] rfl ?_
      exact hk24 _ _ _ _ _ h
    · replace h := ifn_ c37 h
      refine a_iconst (v := 0) dX1_terms_33 (by decide) ?_
      refine a_istore (ls' := [(8, vI_ 0), (0, vR_ (some p20)), (1, vI_ p22), (2, vI_ p23), (3, vI_ x32), (4, vI_ x33), (5, vI_ x34), (6, vI_ x35), (7, vI_ x36)]) dX1_terms_34 (Nat.le_of_ble_eq_true rfl) rfl ?_
      obtain ⟨k38, e95, h⟩ := jn5_some h
      have hk38 : ∀ (x40 : Int32) (x41 : Int32) (x42 : Int32) (x43 : Int32) (m39 : pm_M), k38 x40 x41 x42 x43 m39 = some (r, m') → AW_ cX1_terms RX1 (some (.int), "terms", 167, 10, m0, m', (oI_ r), G, l, [], true) m39 125 [(0, vR_ (some p20)), (1, vI_ p22), (2, vI_ p23), (3, vI_ x40), (4, vI_ x41), (5, vI_ x42), (6, vI_ x43), (7, vI_ x36)] [] := by
        intro x40 x41 x42 x43 m39 h
        have h := (e95 x40 x41 x42 x43 m39).symm.trans h
        refine a_iinc (v := x36 + 1) (ls' := [(7, vI_ (x36 + 1)), (0, vR_ (some p20)), (1, vI_ p22), (2, vI_ p23), (3, vI_ x40), (4, vI_ x41), (5, vI_ x42), (6, vI_ x43)]) 7 dX1_terms_125 rfl rfl (Nat.le_of_ble_eq_true rfl) rfl ?_
        refine a_goto (tgt := 26) dX1_terms_128 (by decide) ?_
        refine aw_pick [1, 2, 3, 4, 5, 6, 7, 0] rfl ?_
        exact ih _ _ _ _ _ _ h
      refine aw_pick [1, 2, 3, 4, 5, 6, 7, 8, 0] rfl ?_
      exact w_X1_terms_L36 hl _ _ _ _ _ hf21 hk38 _ _ _ _ _ _ _ h
def f_X1_terms (F : Nat)  (t : pm_A) (i0 : Int32) (i1 : Int32) (m : pm_M) : Option ((Int32 ⊕ pm_A) × pm_M) :=
  bt_ (f_X1_signerOf F t i0 m) (fun v3 m1 =>
    bt_ (f_X1_within F t i1 0 3 m1) (fun v8 m6 =>
      jn_ (fun (x13 : Int32) (x14 : Int32) (x15 : Int32) (x16 : Int32) (m12 : pm_M) =>
        if i1 = 0 then
          some (.inl x13, m12)
        else
          if i1 = 1 then
            some (.inl x14, m12)
          else
            if i1 = 2 then
              some (.inl x15, m12)
            else
              some (.inl x16, m12)
      ) fun k11 =>
      f_X1_terms_L26 F t i0 i1 k11 F 0 ((-1)) ((-1)) ((-1)) 1 m6
    ) fun b10 m9 =>
      some (.inr b10, m9)
  ) fun b5 m4 =>
    some (.inr b5, m4)
set_option maxHeartbeats 4000000 in
theorem e_X1_terms {G : xg_T} {l : Launch} (hl : l.stackTraces = false) {F : Nat}    {t : pm_A} {i0 : Int32} {i1 : Int32} {m0 m' : pm_M} {r : (Int32 ⊕ pm_A)} (ht : t.1 = 1) (h : f_X1_terms F t i0 i1 m0 = some (r, m')) : Cal_ G l yX1_terms (ws_ yX1_terms cX1_terms 10 (some .int)) 167 [vR_ (some t), vI_ i0, vI_ i1] m0 (oI_ r) m' := by
  refine cal_of (by decide +kernel) (Nat.le_of_ble_eq_true rfl) ?_
  unfold f_X1_terms at h
  show AW_ cX1_terms RX1 (some (.int), "terms", 167, 10, m0, m', (oI_ r), G, l, [], true) m0 0 [(0, vR_ (some t)), (1, vI_ i0), (2, vI_ i1)] []
  refine a_aload_n 0 dX1_terms_0 rfl rfl ?_
  refine a_iload_n 1 dX1_terms_1 rfl rfl ?_
  rcases bt_some h with ⟨v3, m1, e2, h⟩ | ⟨b5, m4, e2, h⟩
  · have he2 := e_X1_signerOf (G := G) hl ht e2
    refine c_V he2.1 (rn_V (n := 1) (As := [vI_ i0]) kc_1 ht he2 (lw_V q1234 q1236 qs15 q90 q1237) (by decide +kernel) rfl (Nat.le_of_ble_eq_true rfl) (Nat.le_of_ble_eq_true rfl) (Nat.le_of_ble_eq_true rfl) dX1_terms_2) (fun z => (os_av (As := [vI_ i0]) z).2.1) ?_
    refine a_aload_n 0 dX1_terms_5 rfl rfl ?_
    refine a_iload_n 2 dX1_terms_6 rfl rfl ?_
    refine a_iconst (v := 0) dX1_terms_7 (by decide) ?_
    refine a_iconst (v := 3) dX1_terms_8 (by decide) ?_
    rcases bt_some h with ⟨v8, m6, e7, h⟩ | ⟨b10, m9, e7, h⟩
    · have he7 := e_X1_within (G := G) hl ht e7
      refine c_V he7.1 (rn_V (n := 3) (As := [vI_ i1, vI_ 0, vI_ 3]) kc_1 ht he7 (lw_V q581 q583 qs0 q90 q584) (by decide +kernel) rfl (Nat.le_of_ble_eq_true rfl) (Nat.le_of_ble_eq_true rfl) (Nat.le_of_ble_eq_true rfl) dX1_terms_9) (fun z => (os_av (As := [vI_ i1, vI_ 0, vI_ 3]) z).2.1) ?_
      refine a_iconst (v := 0) dX1_terms_12 (by decide) ?_
      refine a_istore_n (ls' := [(3, vI_ 0), (0, vR_ (some t)), (1, vI_ i0), (2, vI_ i1)]) dX1_terms_13 rfl (Nat.le_of_ble_eq_true rfl) rfl ?_
      refine a_iconst (v := (-1)) dX1_terms_14 (by decide) ?_
      refine a_istore (ls' := [(4, vI_ ((-1))), (3, vI_ 0), (0, vR_ (some t)), (1, vI_ i0), (2, vI_ i1)]) dX1_terms_15 (Nat.le_of_ble_eq_true rfl) rfl ?_
      refine a_iconst (v := (-1)) dX1_terms_17 (by decide) ?_
      refine a_istore (ls' := [(5, vI_ ((-1))), (4, vI_ ((-1))), (3, vI_ 0), (0, vR_ (some t)), (1, vI_ i0), (2, vI_ i1)]) dX1_terms_18 (Nat.le_of_ble_eq_true rfl) rfl ?_
      refine a_iconst (v := (-1)) dX1_terms_20 (by decide) ?_
      refine a_istore (ls' := [(6, vI_ ((-1))), (5, vI_ ((-1))), (4, vI_ ((-1))), (3, vI_ 0), (0, vR_ (some t)), (1, vI_ i0), (2, vI_ i1)]) dX1_terms_21 (Nat.le_of_ble_eq_true rfl) rfl ?_
      refine a_iconst (v := 1) dX1_terms_23 (by decide) ?_
      refine a_istore (ls' := [(7, vI_ 1), (6, vI_ ((-1))), (5, vI_ ((-1))), (4, vI_ ((-1))), (3, vI_ 0), (0, vR_ (some t)), (1, vI_ i0), (2, vI_ i1)]) dX1_terms_24 (Nat.le_of_ble_eq_true rfl) rfl ?_
      obtain ⟨k11, e96, h⟩ := jn5_some h
      have hk11 : ∀ (x13 : Int32) (x14 : Int32) (x15 : Int32) (x16 : Int32) (m12 : pm_M), k11 x13 x14 x15 x16 m12 = some (r, m') → AW_ cX1_terms RX1 (some (.int), "terms", 167, 10, m0, m', (oI_ r), G, l, [], true) m12 131 [(2, vI_ i1), (3, vI_ x13), (4, vI_ x14), (5, vI_ x15), (6, vI_ x16)] [] := by
        intro x13 x14 x15 x16 m12 h
        have h := (e96 x13 x14 x15 x16 m12).symm.trans h
        refine a_iload_n 0 dX1_terms_131 rfl rfl ?_
        refine a_if_ne (tgt := 139) dX1_terms_132 (by decide) (fun c17 => ?_) (fun c17 => ?_)
        · replace h := ifn_ c17 h
          refine a_iload_n 0 dX1_terms_139 rfl rfl ?_
          refine a_iconst (v := 1) dX1_terms_140 (by decide) ?_
          refine a_icmp_ne (tgt := 149) dX1_terms_141 (by decide) (fun c18 => ?_) (fun c18 => ?_)
          · replace h := ifn_ c18 h
            refine a_iload_n 0 dX1_terms_149 rfl rfl ?_
            refine a_iconst (v := 2) dX1_terms_150 (by decide) ?_
            refine a_icmp_ne (tgt := 159) dX1_terms_151 (by decide) (fun c19 => ?_) (fun c19 => ?_)
            · replace h := ifn_ c19 h
              refine a_iload 4 dX1_terms_159 rfl ?_
              cases h
              exact a_ireturn rfl rfl rfl rfl rfl dX1_terms_161
            · replace h := ifp_ c19 h
              refine a_iload 3 dX1_terms_154 rfl ?_
              refine a_goto (tgt := 161) dX1_terms_156 (by decide) ?_
              cases h
              exact a_ireturn rfl rfl rfl rfl rfl dX1_terms_161
          · replace h := ifp_ c18 h
            refine a_iload 2 dX1_terms_144 rfl ?_
            refine a_goto (tgt := 161) dX1_terms_146 (by decide) ?_
            cases h
            exact a_ireturn rfl rfl rfl rfl rfl dX1_terms_161
        · replace h := ifp_ c17 h
          refine a_iload_n 1 dX1_terms_135 rfl rfl ?_
          refine a_goto (tgt := 161) dX1_terms_136 (by decide) ?_
          cases h
          exact a_ireturn rfl rfl rfl rfl rfl dX1_terms_161
      refine aw_pick [5, 6, 7, 4, 3, 2, 1, 0] rfl ?_
      exact w_X1_terms_L26 hl _ _ _ _ ht hk11 _ _ _ _ _ _ _ h
    · have he7 := e_X1_within (G := G) hl ht e7
      refine c_X (b := b10) he7.1 (rn_V (n := 3) (As := [vI_ i1, vI_ 0, vI_ 3]) kc_1 ht he7 (lw_V q581 q583 qs0 q90 q584) (by decide +kernel) rfl (Nat.le_of_ble_eq_true rfl) (Nat.le_of_ble_eq_true rfl) (Nat.le_of_ble_eq_true rfl) dX1_terms_9) ?_
      cases h
      exact a_out rfl rfl rfl rfl
  · have he2 := e_X1_signerOf (G := G) hl ht e2
    refine c_X (b := b5) he2.1 (rn_V (n := 1) (As := [vI_ i0]) kc_1 ht he2 (lw_V q1234 q1236 qs15 q90 q1237) (by decide +kernel) rfl (Nat.le_of_ble_eq_true rfl) (Nat.le_of_ble_eq_true rfl) (Nat.le_of_ble_eq_true rfl) dX1_terms_2) ?_
    cases h
    exact a_out rfl rfl rfl rfl
def f_X0_terms (F : Nat)  (i0 : Option pm_A) (i1 : Int32) (i2 : Int32) (i3 : Option pm_A) (m : pm_M) : Option (Int32 × pm_M) :=
  gd_ 1 i0 fun a1 =>
  bt_ (f_X1_terms F a1 i1 i2 m) (fun v6 m4 =>
    gd_ 103 i3 fun a9 =>
    iz_ (!(ib_ 0 a9.2.1)) <|
    lt_ (pL_ m4 a9 ((0 : Int32).toNatClampNeg) v6.toInt64) fun m13 =>
    some (0, m13)
  ) fun b8 m7 =>
    if b8.1 = 26 then
      some (1, m7)
    else
    if b8.1 = 25 then
      some (2, m7)
    else
    none
set_option maxHeartbeats 4000000 in
theorem e_X0_terms {G : xg_T} {l : Launch} (hl : l.stackTraces = false) {F : Nat}    {i0 : Option pm_A} {i1 : Int32} {i2 : Int32} {i3 : Option pm_A} {m0 m' : pm_M} {r : Int32} (h : f_X0_terms F i0 i1 i2 i3 m0 = some (r, m')) : Cal_ G l yX0_terms (wsW_ yX0_terms cX0_terms 5 (some .int) [(0, 10, 13, 31), (0, 10, 17, 13)]) 168 [vR_ i0, vI_ i1, vI_ i2, vR_ i3] m0 (.inl (some (vI_ r))) m' := by
  refine cal_ofH (by decide +kernel) (Nat.le_of_ble_eq_true rfl) ?_
  unfold f_X0_terms at h
  show AW_ cX0_terms RX0 (some (.int), "terms", 168, 5, m0, m', (.inl (some (vI_ r))), G, l, [(0, 10, 13, 31), (0, 10, 17, 13)], true) m0 0 [(0, vR_ i0), (1, vI_ i1), (2, vI_ i2), (3, vR_ i3)] []
  refine a_aload_n 3 dX0_terms_0 rfl rfl ?_
  refine a_iconst (v := 0) dX0_terms_1 (by decide) ?_
  refine a_aload_n 0 dX0_terms_2 rfl rfl ?_
  refine a_iload_n 1 dX0_terms_3 rfl rfl ?_
  refine a_iload_n 2 dX0_terms_4 rfl rfl ?_
  obtain ⟨a1, e2, f3, h⟩ := gd_some h
  rw [e2]
  rcases bt_some h with ⟨v6, m4, e5, h⟩ | ⟨b8, m7, e5, h⟩
  · have he5 := e_X1_terms (G := G) hl f3 e5
    refine c_I (v := v6) he5.1 (rn_V (n := 2) (As := [vI_ i1, vI_ i2]) kc_1 f3 he5 (lw_V q1416 q1417 q1418 q90 q1419) (by decide +kernel) rfl (Nat.le_of_ble_eq_true rfl) (Nat.le_of_ble_eq_true rfl) (Nat.le_of_ble_eq_true rfl) dX0_terms_5) (fun z => (os_av (As := [vI_ i1, vI_ i2]) z).2.1) ?_
    refine a_i2l dX0_terms_8 ?_
    obtain ⟨a9, e10, f11, h⟩ := gd_some h
    rw [e10]
    obtain ⟨c12, h⟩ := iz_some h
    obtain ⟨m13, e14, h⟩ := lt_some h
    refine a_last f11 (bn_ c12) dX0_terms_9 ?_
    rw [← e14]
    refine a_goto (tgt := 21) dX0_terms_10 (by decide) ?_
    refine a_iconst (v := 0) dX0_terms_21 (by decide) ?_
    cases h
    exact a_ireturn rfl rfl rfl rfl rfl dX0_terms_22
  · have he5 := e_X1_terms (G := G) hl f3 e5
    refine c_X (b := b8) he5.1 (rn_V (n := 2) (As := [vI_ i1, vI_ i2]) kc_1 f3 he5 (lw_V q1416 q1417 q1418 q90 q1419) (by decide +kernel) rfl (Nat.le_of_ble_eq_true rfl) (Nat.le_of_ble_eq_true rfl) (Nat.le_of_ble_eq_true rfl) dX0_terms_5) ?_
    by_cases c15 : b8.1 = 26
    · replace h := ifp_ c15 h
      refine a_catch [] ⟨0, 10, 13, 31⟩ [⟨0, 10, 17, 13⟩] rfl (fun z hz => nomatch hz) rfl (by decide) q1229 (by rw [c15]; exact q1240) ?_
      refine a_astore (ls' := [(4, vR_ (some b8)), (0, vR_ (some a1)), (1, vI_ i1), (2, vI_ i2), (3, vR_ i3)]) dX0_terms_13 (Nat.le_of_ble_eq_true rfl) rfl ?_
      refine a_iconst (v := 1) dX0_terms_15 (by decide) ?_
      cases h
      exact a_ireturn rfl rfl rfl rfl rfl dX0_terms_16
    replace h := ifn_ c15 h
    by_cases c16 : b8.1 = 25
    · replace h := ifp_ c16 h
      refine a_catch [⟨0, 10, 13, 31⟩] ⟨0, 10, 17, 13⟩ [] rfl (fun z hz => Or.inr (by rw [List.mem_singleton.mp hz]; exact ⟨by decide, _, q1229, by rw [c16]; rfl, rfl⟩)) rfl (by decide) q575 (by rw [c16]; exact q587) ?_
      refine a_astore (ls' := [(4, vR_ (some b8)), (0, vR_ (some a1)), (1, vI_ i1), (2, vI_ i2), (3, vR_ i3)]) dX0_terms_17 (Nat.le_of_ble_eq_true rfl) rfl ?_
      refine a_iconst (v := 2) dX0_terms_19 (by decide) ?_
      cases h
      exact a_ireturn rfl rfl rfl rfl rfl dX0_terms_20
    replace h := ifn_ c16 h
    cases h
def f_X1_counts_L32 (F : Nat)  (p12 : pm_A) (p14 : Int32) (p15 : Int32) (k16 : pm_M → Option (Unit × pm_M)) : Nat → Int32 → pm_M → Option (Unit × pm_M)
  | 0, _, _ => none
  | n18 + 1, x20, m19 =>
    if 24 < x20 then
      k16 m19
    else
      gd_ 3 (gR_ m19 p12 2) fun a22 =>
      bm_ (f_X3_now F a22 m19) fun v27 m25 =>
      gd_ 4 v27 fun a28 =>
      bm_ (f_X4_asksBy F a28 p14 p15 x20 0 m25) fun v33 m31 =>
      bm_ (f_X1_isSaid F p12 v33 m31) fun v36 m34 =>
      if v36 = 0 then
        (f_X1_counts_L32 F p12 p14 p15 k16 n18) (x20 + 1) m34
      else
        gd_ 100 (gR_ m34 p12 11) fun a38 =>
        iz_ (!(ib_ v33 a38.2.1)) <|
        iz_ (!(ib_ v33 a38.2.1)) <|
        lt_ (pI_ m34 a38 v33.toNatClampNeg ((gI_ m34 a38 v33.toNatClampNeg) + 1)) fun m43 =>
        (f_X1_counts_L32 F p12 p14 p15 k16 n18) (x20 + 1) m43
set_option maxHeartbeats 4000000 in
theorem w_X1_counts_L32 {G : xg_T} {l : Launch} (hl : l.stackTraces = false) {F : Nat}    (p12 : pm_A) (p14 : Int32) (p15 : Int32) (k16 : pm_M → Option (Unit × pm_M)) {m0 m' : pm_M} {r : Unit} (hf13 : p12.1 = 1) (hk16 : ∀ (m17 : pm_M), k16 m17 = some (r, m') → AW_ cX1_counts RX1 (none, "counts", 167, 5, m0, m', (.inl none), G, l, [], true) m17 80 [(0, vR_ (some p12)), (1, vI_ p14), (2, vI_ p15)] []) : ∀ (n : Nat) (x20 : Int32) (m19 : pm_M), f_X1_counts_L32 F p12 p14 p15 k16 n x20 m19 = some (r, m') → AW_ cX1_counts RX1 (none, "counts", 167, 5, m0, m', (.inl none), G, l, [], true) m19 32 [(0, vR_ (some p12)), (1, vI_ p14), (2, vI_ p15), (3, vI_ x20)] [] := by
  intro n
  induction n with
  | zero => intro x20 m19 h; cases h
  | succ n18 ih =>
    intro x20 m19 h
    rw [f_X1_counts_L32] at h
    refine a_iload_n 3 dX1_counts_32 rfl rfl ?_
    refine a_bipush (v := 24) dX1_counts_33 (by decide) ?_
    refine a_icmp_gt (tgt := 80) dX1_counts_35 (by decide) (fun c21 => ?_) (fun c21 => ?_)
    · replace h := ifp_ c21 h
      refine aw_pick [0, 1, 2] rfl ?_
      exact hk16 _ h
    · replace h := ifn_ c21 h
      refine a_aload_n 0 dX1_counts_38 rfl rfl ?_
      refine a_getR kc_1 2 (by decide) rfl hf13 q390 dX1_counts_39 ?_
      obtain ⟨a22, e23, f24, h⟩ := gd_some h
      rw [e23]
      obtain ⟨v27, m25, e26, h⟩ := bm_some h
      have he26 := e_X3_now (G := G) hl f24 e26
      refine c_R he26.1 (rn_V (n := 0) (As := []) kc_3 f24 he26 (lw_V q380 q381 q382 q92 q383) (by decide +kernel) rfl (Nat.le_of_ble_eq_true rfl) (Nat.le_of_ble_eq_true rfl) (Nat.le_of_ble_eq_true rfl) dX1_counts_42) (fun z => (os_av (As := []) z).2.1) ?_
      refine a_iload_n 1 dX1_counts_45 rfl rfl ?_
      refine a_iload_n 2 dX1_counts_46 rfl rfl ?_
      refine a_iload_n 3 dX1_counts_47 rfl rfl ?_
      refine a_iconst (v := 0) dX1_counts_48 (by decide) ?_
      obtain ⟨a28, e29, f30, h⟩ := gd_some h
      rw [e29]
      obtain ⟨v33, m31, e32, h⟩ := bm_some h
      have he32 := e_X4_asksBy (G := G) hl f30 e32
      refine c_I he32.1 (rn_V (n := 4) (As := [vI_ p14, vI_ p15, vI_ x20, vI_ 0]) kc_4 f30 he32 (lw_V q1420 q475 q476 q93 q477) (by decide +kernel) rfl (Nat.le_of_ble_eq_true rfl) (Nat.le_of_ble_eq_true rfl) (Nat.le_of_ble_eq_true rfl) dX1_counts_49) (fun z => (os_av (As := [vI_ p14, vI_ p15, vI_ x20, vI_ 0]) z).2.1) ?_
      refine a_istore (ls' := [(4, vI_ v33), (0, vR_ (some p12)), (1, vI_ p14), (2, vI_ p15), (3, vI_ x20)]) dX1_counts_52 (Nat.le_of_ble_eq_true rfl) rfl ?_
      refine a_aload_n 1 dX1_counts_54 rfl rfl ?_
      refine a_iload 0 dX1_counts_55 rfl ?_
      obtain ⟨v36, m34, e35, h⟩ := bm_some h
      have he35 := e_X1_isSaid (G := G) hl hf13 e35
      refine c_I he35.1 (rn_V (n := 1) (As := [vI_ v33]) kc_1 hf13 he35 (lw_V q1421 q1423 qs22 q90 q1424) (by decide +kernel) rfl (Nat.le_of_ble_eq_true rfl) (Nat.le_of_ble_eq_true rfl) (Nat.le_of_ble_eq_true rfl) dX1_counts_57) (fun z => (os_av (As := [vI_ v33]) z).2.1) ?_
      refine a_if_eq (tgt := 74) dX1_counts_60 (by decide) (fun c37 => ?_) (fun c37 => ?_)
      · replace h := ifp_ c37 h
        refine a_iinc (v := x20 + 1) (ls' := [(3, vI_ (x20 + 1)), (4, vI_ v33), (0, vR_ (some p12)), (1, vI_ p14), (2, vI_ p15)]) 4 dX1_counts_74 rfl rfl (Nat.le_of_ble_eq_true rfl) rfl ?_
        refine a_goto (tgt := 32) dX1_counts_77 (by decide) ?_
        refine aw_pick [2, 3, 4, 0] rfl ?_
        exact ih _ _ h
      · replace h := ifn_ c37 h
        refine a_aload_n 1 dX1_counts_63 rfl rfl ?_
        refine a_getR kc_1 11 (by decide) rfl hf13 q399 dX1_counts_64 ?_
        refine a_iload 0 dX1_counts_67 rfl ?_
        refine a_dup2 dX1_counts_69 rfl rfl ?_
        obtain ⟨a38, e39, f40, h⟩ := gd_some h
        rw [e39]
        obtain ⟨c41, h⟩ := iz_some h
        refine a_iald f40 (bn_ c41) dX1_counts_70 ?_
        refine a_iconst (v := 1) dX1_counts_71 (by decide) ?_
        refine a_iadd dX1_counts_72 ?_
        obtain ⟨c42, h⟩ := iz_some h
        obtain ⟨m43, e44, h⟩ := lt_some h
        refine a_iast f40 (bn_ c42) dX1_counts_73 ?_
        rw [← e44]
        refine a_iinc (v := x20 + 1) (ls' := [(3, vI_ (x20 + 1)), (4, vI_ v33), (0, vR_ (some p12)), (1, vI_ p14), (2, vI_ p15)]) 4 dX1_counts_74 rfl rfl (Nat.le_of_ble_eq_true rfl) rfl ?_
        refine a_goto (tgt := 32) dX1_counts_77 (by decide) ?_
        refine aw_pick [2, 3, 4, 0] rfl ?_
        exact ih _ _ h
def f_X1_counts_L24 (F : Nat)  (p3 : pm_A) (p5 : Int32) : Nat → Int32 → pm_M → Option (Unit × pm_M)
  | 0, _, _ => none
  | n6 + 1, x8, m7 =>
    if 9 < x8 then
      some ((), m7)
    else
      jn_ (fun  (m11 : pm_M) =>
        (f_X1_counts_L24 F p3 p5 n6) (x8 + 1) m11
      ) fun k10 =>
      f_X1_counts_L32 F p3 p5 x8 k10 F 0 m7
set_option maxHeartbeats 4000000 in
theorem w_X1_counts_L24 {G : xg_T} {l : Launch} (hl : l.stackTraces = false) {F : Nat}    (p3 : pm_A) (p5 : Int32) {m0 m' : pm_M} {r : Unit} (hf4 : p3.1 = 1)  : ∀ (n : Nat) (x8 : Int32) (m7 : pm_M), f_X1_counts_L24 F p3 p5 n x8 m7 = some (r, m') → AW_ cX1_counts RX1 (none, "counts", 167, 5, m0, m', (.inl none), G, l, [], true) m7 24 [(0, vR_ (some p3)), (1, vI_ p5), (2, vI_ x8)] [] := by
  intro n
  induction n with
  | zero => intro x8 m7 h; cases h
  | succ n6 ih =>
    intro x8 m7 h
    rw [f_X1_counts_L24] at h
    refine a_iload_n 2 dX1_counts_24 rfl rfl ?_
    refine a_bipush (v := 9) dX1_counts_25 (by decide) ?_
    refine a_icmp_gt (tgt := 86) dX1_counts_27 (by decide) (fun c9 => ?_) (fun c9 => ?_)
    · replace h := ifp_ c9 h
      cases h
      exact a_return rfl rfl rfl rfl dX1_counts_86
    · replace h := ifn_ c9 h
      refine a_iconst (v := 0) dX1_counts_30 (by decide) ?_
      refine a_istore_n (ls' := [(3, vI_ 0), (0, vR_ (some p3)), (1, vI_ p5), (2, vI_ x8)]) dX1_counts_31 rfl (Nat.le_of_ble_eq_true rfl) rfl ?_
      obtain ⟨k10, e45, h⟩ := jn1_some h
      have hk10 : ∀  (m11 : pm_M), k10 m11 = some (r, m') → AW_ cX1_counts RX1 (none, "counts", 167, 5, m0, m', (.inl none), G, l, [], true) m11 80 [(0, vR_ (some p3)), (1, vI_ p5), (2, vI_ x8)] [] := by
        intro m11 h
        have h := (e45 m11).symm.trans h
        refine a_iinc (v := x8 + 1) (ls' := [(2, vI_ (x8 + 1)), (0, vR_ (some p3)), (1, vI_ p5)]) 2 dX1_counts_80 rfl rfl (Nat.le_of_ble_eq_true rfl) rfl ?_
        refine a_goto (tgt := 24) dX1_counts_83 (by decide) ?_
        refine aw_pick [1, 2, 0] rfl ?_
        exact ih _ _ h
      refine aw_pick [1, 2, 3, 0] rfl ?_
      exact w_X1_counts_L32 hl _ _ _ _ hf4 hk10 _ _ _ h
def f_X1_counts_L2 (F : Nat)  (p46 : pm_A) (p48 : Int32) (k49 : pm_M → Option (Unit × pm_M)) : Nat → Int32 → pm_M → Option (Unit × pm_M)
  | 0, _, _ => none
  | n51 + 1, x53, m52 =>
    if 999 < x53 then
      k49 m52
    else
      gd_ 100 (gR_ m52 p46 11) fun a55 =>
      iz_ (!(ib_ x53 a55.2.1)) <|
      lt_ (pI_ m52 a55 x53.toNatClampNeg 0) fun m59 =>
      (f_X1_counts_L2 F p46 p48 k49 n51) (x53 + 1) m59
set_option maxHeartbeats 4000000 in
theorem w_X1_counts_L2 {G : xg_T} {l : Launch} (hl : l.stackTraces = false) {F : Nat}    (p46 : pm_A) (p48 : Int32) (k49 : pm_M → Option (Unit × pm_M)) {m0 m' : pm_M} {r : Unit} (hf47 : p46.1 = 1) (hk49 : ∀ (m50 : pm_M), k49 m50 = some (r, m') → AW_ cX1_counts RX1 (none, "counts", 167, 5, m0, m', (.inl none), G, l, [], true) m50 22 [(0, vR_ (some p46)), (1, vI_ p48)] []) : ∀ (n : Nat) (x53 : Int32) (m52 : pm_M), f_X1_counts_L2 F p46 p48 k49 n x53 m52 = some (r, m') → AW_ cX1_counts RX1 (none, "counts", 167, 5, m0, m', (.inl none), G, l, [], true) m52 2 [(0, vR_ (some p46)), (1, vI_ p48), (2, vI_ x53)] [] := by
  intro n
  induction n with
  | zero => intro x53 m52 h; cases h
  | succ n51 ih =>
    intro x53 m52 h
    rw [f_X1_counts_L2] at h
    refine a_iload_n 2 dX1_counts_2 rfl rfl ?_
    refine a_sipush (v := 999) dX1_counts_3 (by decide) ?_
    refine a_icmp_gt (tgt := 22) dX1_counts_6 (by decide) (fun c54 => ?_) (fun c54 => ?_)
    · replace h := ifp_ c54 h
      refine aw_pick [0, 1] rfl ?_
      exact hk49 _ h
    · replace h := ifn_ c54 h
      refine a_aload_n 0 dX1_counts_9 rfl rfl ?_
      refine a_getR kc_1 11 (by decide) rfl hf47 q399 dX1_counts_10 ?_
      refine a_iload_n 2 dX1_counts_13 rfl rfl ?_
      refine a_iconst (v := 0) dX1_counts_14 (by decide) ?_
      obtain ⟨a55, e56, f57, h⟩ := gd_some h
      rw [e56]
      obtain ⟨c58, h⟩ := iz_some h
      obtain ⟨m59, e60, h⟩ := lt_some h
      refine a_iast f57 (bn_ c58) dX1_counts_15 ?_
      rw [← e60]
      refine a_iinc (v := x53 + 1) (ls' := [(2, vI_ (x53 + 1)), (0, vR_ (some p46)), (1, vI_ p48)]) 2 dX1_counts_16 rfl rfl (Nat.le_of_ble_eq_true rfl) rfl ?_
      refine a_goto (tgt := 2) dX1_counts_19 (by decide) ?_
      refine aw_pick [1, 2, 0] rfl ?_
      exact ih _ _ h
def f_X1_counts (F : Nat)  (t : pm_A) (i0 : Int32) (m : pm_M) : Option (Unit × pm_M) :=
  jn_ (fun  (m2 : pm_M) =>
    f_X1_counts_L24 F t i0 F 1 m2
  ) fun k1 =>
  f_X1_counts_L2 F t i0 k1 F 0 m
set_option maxHeartbeats 4000000 in
theorem e_X1_counts {G : xg_T} {l : Launch} (hl : l.stackTraces = false) {F : Nat}    {t : pm_A} {i0 : Int32} {m0 m' : pm_M} {r : Unit} (ht : t.1 = 1) (h : f_X1_counts F t i0 m0 = some (r, m')) : Cal_ G l yX1_counts (ws_ yX1_counts cX1_counts 5 none) 167 [vR_ (some t), vI_ i0] m0 (.inl none) m' := by
  refine cal_of (by decide +kernel) (Nat.le_of_ble_eq_true rfl) ?_
  unfold f_X1_counts at h
  show AW_ cX1_counts RX1 (none, "counts", 167, 5, m0, m', (.inl none), G, l, [], true) m0 0 [(0, vR_ (some t)), (1, vI_ i0)] []
  refine a_iconst (v := 0) dX1_counts_0 (by decide) ?_
  refine a_istore_n (ls' := [(2, vI_ 0), (0, vR_ (some t)), (1, vI_ i0)]) dX1_counts_1 rfl (Nat.le_of_ble_eq_true rfl) rfl ?_
  obtain ⟨k1, e61, h⟩ := jn1_some h
  have hk1 : ∀  (m2 : pm_M), k1 m2 = some (r, m') → AW_ cX1_counts RX1 (none, "counts", 167, 5, m0, m', (.inl none), G, l, [], true) m2 22 [(0, vR_ (some t)), (1, vI_ i0)] [] := by
    intro m2 h
    have h := (e61 m2).symm.trans h
    refine a_iconst (v := 1) dX1_counts_22 (by decide) ?_
    refine a_istore_n (ls' := [(2, vI_ 1), (0, vR_ (some t)), (1, vI_ i0)]) dX1_counts_23 rfl (Nat.le_of_ble_eq_true rfl) rfl ?_
    refine aw_pick [1, 2, 0] rfl ?_
    exact w_X1_counts_L24 hl _ _ ht _ _ _ h
  refine aw_pick [1, 2, 0] rfl ?_
  exact w_X1_counts_L2 hl _ _ _ ht hk1 _ _ _ h
def f_X1_isTold_L2 (F : Nat)  (p1 : pm_A) (p3 : Int32) : Nat → Int32 → pm_M → Option (Int32 × pm_M)
  | 0, _, _ => none
  | n4 + 1, x6, m5 =>
    if (gI_ m5 p1 15) ≤ x6 then
      some (0, m5)
    else
      gd_ 100 (gR_ m5 p1 8) fun a8 =>
      iz_ (!(ib_ x6 a8.2.1)) <|
      if (gI_ m5 a8 x6.toNatClampNeg) = p3 then
        some (1, m5)
      else
        (f_X1_isTold_L2 F p1 p3 n4) (x6 + 1) m5
set_option maxHeartbeats 4000000 in
theorem w_X1_isTold_L2 {G : xg_T} {l : Launch} (hl : l.stackTraces = false) {F : Nat}    (p1 : pm_A) (p3 : Int32) {m0 m' : pm_M} {r : Int32} (hf2 : p1.1 = 1)  : ∀ (n : Nat) (x6 : Int32) (m5 : pm_M), f_X1_isTold_L2 F p1 p3 n x6 m5 = some (r, m') → AW_ cX1_isTold RX1 (some (.boolean), "isTold", 2, 3, m0, m', (.inl (some (vI_ r))), G, l, [], true) m5 2 [(0, vR_ (some p1)), (1, vI_ p3), (2, vI_ x6)] [] := by
  intro n
  induction n with
  | zero => intro x6 m5 h; cases h
  | succ n4 ih =>
    intro x6 m5 h
    rw [f_X1_isTold_L2] at h
    refine a_iload_n 2 dX1_isTold_2 rfl rfl ?_
    refine a_aload_n 0 dX1_isTold_3 rfl rfl ?_
    refine a_getI kc_1 15 (by decide) rfl hf2 q403 dX1_isTold_4 ?_
    refine a_icmp_ge (tgt := 28) dX1_isTold_7 (by decide) (fun c7 => ?_) (fun c7 => ?_)
    · replace h := ifp_ c7 h
      refine a_iconst (v := 0) dX1_isTold_28 (by decide) ?_
      cases h
      exact a_ireturn rfl rfl rfl rfl rfl dX1_isTold_29
    · replace h := ifn_ c7 h
      refine a_aload_n 0 dX1_isTold_10 rfl rfl ?_
      refine a_getR kc_1 8 (by decide) rfl hf2 q396 dX1_isTold_11 ?_
      refine a_iload_n 2 dX1_isTold_14 rfl rfl ?_
      obtain ⟨a8, e9, f10, h⟩ := gd_some h
      rw [e9]
      obtain ⟨c11, h⟩ := iz_some h
      refine a_iald f10 (bn_ c11) dX1_isTold_15 ?_
      refine a_iload_n 1 dX1_isTold_16 rfl rfl ?_
      refine a_icmp_ne (tgt := 22) dX1_isTold_17 (by decide) (fun c12 => ?_) (fun c12 => ?_)
      · replace h := ifn_ c12 h
        refine a_iinc (v := x6 + 1) (ls' := [(2, vI_ (x6 + 1)), (0, vR_ (some p1)), (1, vI_ p3)]) 2 dX1_isTold_22 rfl rfl (Nat.le_of_ble_eq_true rfl) rfl ?_
        refine a_goto (tgt := 2) dX1_isTold_25 (by decide) ?_
        refine aw_pick [1, 2, 0] rfl ?_
        exact ih _ _ h
      · replace h := ifp_ c12 h
        refine a_iconst (v := 1) dX1_isTold_20 (by decide) ?_
        cases h
        exact a_ireturn rfl rfl rfl rfl rfl dX1_isTold_21
def f_X1_isTold (F : Nat)  (t : pm_A) (i0 : Int32) (m : pm_M) : Option (Int32 × pm_M) :=
  f_X1_isTold_L2 F t i0 F 0 m
set_option maxHeartbeats 4000000 in
theorem e_X1_isTold {G : xg_T} {l : Launch} (hl : l.stackTraces = false) {F : Nat}    {t : pm_A} {i0 : Int32} {m0 m' : pm_M} {r : Int32} (ht : t.1 = 1) (h : f_X1_isTold F t i0 m0 = some (r, m')) : Cal_ G l yX1_isTold (ws_ yX1_isTold cX1_isTold 3 (some .boolean)) 2 [vR_ (some t), vI_ i0] m0 (.inl (some (vI_ r))) m' := by
  refine cal_of (by decide +kernel) (Nat.le_of_ble_eq_true rfl) ?_
  unfold f_X1_isTold at h
  show AW_ cX1_isTold RX1 (some (.boolean), "isTold", 2, 3, m0, m', (.inl (some (vI_ r))), G, l, [], true) m0 0 [(0, vR_ (some t)), (1, vI_ i0)] []
  refine a_iconst (v := 0) dX1_isTold_0 (by decide) ?_
  refine a_istore_n (ls' := [(2, vI_ 0), (0, vR_ (some t)), (1, vI_ i0)]) dX1_isTold_1 rfl (Nat.le_of_ble_eq_true rfl) rfl ?_
  refine aw_pick [1, 2, 0] rfl ?_
  exact w_X1_isTold_L2 hl _ _ ht _ _ _ h
def f_X1_ask_L70 (F : Nat)  (p49 : pm_A) (p51 : Int32) (p52 : Int32) (p53 : Int32) (p54 : Int32) (p55 : Int32) (k56 : Int32 → pm_M → Option ((Int32 ⊕ pm_A) × pm_M)) : Nat → Int32 → Int32 → pm_M → Option ((Int32 ⊕ pm_A) × pm_M)
  | 0, _, _, _ => none
  | n59 + 1, x61, x62, m60 =>
    if 999 < x62 then
      k56 x61 m60
    else
      gd_ 100 (gR_ m60 p49 11) fun a64 =>
      iz_ (!(ib_ x62 a64.2.1)) <|
      bm_ (f_J8_max F x61 (gI_ m60 a64 x62.toNatClampNeg) m60) fun v70 m68 =>
      (f_X1_ask_L70 F p49 p51 p52 p53 p54 p55 k56 n59) v70 (x62 + 1) m68
set_option maxHeartbeats 4000000 in
theorem w_X1_ask_L70 {G : xg_T} {l : Launch} (hl : l.stackTraces = false) {F : Nat}    (p49 : pm_A) (p51 : Int32) (p52 : Int32) (p53 : Int32) (p54 : Int32) (p55 : Int32) (k56 : Int32 → pm_M → Option ((Int32 ⊕ pm_A) × pm_M)) {m0 m' : pm_M} {r : (Int32 ⊕ pm_A)} (hf50 : p49.1 = 1) (hk56 : ∀ (x57 : Int32) (m58 : pm_M), k56 x57 m58 = some (r, m') → AW_ cX1_ask RX1 (some (.int), "ask", 168, 9, m0, m', (oI_ r), G, l, [], true) m58 98 [(0, vR_ (some p49)), (2, vI_ p51), (3, vI_ p52), (4, vI_ p53), (5, vI_ p54), (6, vI_ p55), (7, vI_ x57)] []) : ∀ (n : Nat) (x61 : Int32) (x62 : Int32) (m60 : pm_M), f_X1_ask_L70 F p49 p51 p52 p53 p54 p55 k56 n x61 x62 m60 = some (r, m') → AW_ cX1_ask RX1 (some (.int), "ask", 168, 9, m0, m', (oI_ r), G, l, [], true) m60 70 [(0, vR_ (some p49)), (2, vI_ p51), (3, vI_ p52), (4, vI_ p53), (5, vI_ p54), (6, vI_ p55), (7, vI_ x61), (8, vI_ x62)] [] := by
  intro n
  induction n with
  | zero => intro x61 x62 m60 h; cases h
  | succ n59 ih =>
    intro x61 x62 m60 h
    rw [f_X1_ask_L70] at h
    refine a_iload 7 dX1_ask_70 rfl ?_
    refine a_sipush (v := 999) dX1_ask_72 (by decide) ?_
    refine a_icmp_gt (tgt := 98) dX1_ask_75 (by decide) (fun c63 => ?_) (fun c63 => ?_)
    · replace h := ifp_ c63 h
      refine aw_pick [0, 1, 2, 3, 4, 5, 6] rfl ?_
      exact hk56 _ _ h
    · replace h := ifn_ c63 h
      refine a_iload 6 dX1_ask_78 rfl ?_
      refine a_aload_n 0 dX1_ask_80 rfl rfl ?_
      refine a_getR kc_1 11 (by decide) rfl hf50 q399 dX1_ask_81 ?_
      refine a_iload 7 dX1_ask_84 rfl ?_
      obtain ⟨a64, e65, f66, h⟩ := gd_some h
      rw [e65]
      obtain ⟨c67, h⟩ := iz_some h
      refine a_iald f66 (bn_ c67) dX1_ask_86 ?_
      obtain ⟨v70, m68, e69, h⟩ := bm_some h
      have he69 := e_J8_max (G := G) hl e69
      refine c_I he69.1 (rn_S (n := 2) (As := [vI_ x61, vI_ (gI_ m60 a64 x62.toNatClampNeg)]) he69 (lw_S q1425 q524 q109 q525) (by decide +kernel) rfl (Nat.le_of_ble_eq_true rfl) (Nat.le_of_ble_eq_true rfl) (Nat.le_of_ble_eq_true rfl) dX1_ask_87) (fun z => (os_aS (As := [vI_ x61, vI_ (gI_ m60 a64 x62.toNatClampNeg)]) z).2) ?_
      refine a_istore (ls' := [(7, vI_ v70), (0, vR_ (some p49)), (2, vI_ p51), (3, vI_ p52), (4, vI_ p53), (5, vI_ p54), (6, vI_ p55), (8, vI_ x62)]) dX1_ask_90 (Nat.le_of_ble_eq_true rfl) rfl ?_
      refine a_iinc (v := x62 + 1) (ls' := [(8, vI_ (x62 + 1)), (7, vI_ v70), (0, vR_ (some p49)), (2, vI_ p51), (3, vI_ p52), (4, vI_ p53), (5, vI_ p54), (6, vI_ p55)]) 7 dX1_ask_92 rfl rfl (Nat.le_of_ble_eq_true rfl) rfl ?_
      refine a_goto (tgt := 70) dX1_ask_95 (by decide) ?_
      refine aw_pick [2, 3, 4, 5, 6, 7, 1, 0] rfl ?_
      exact ih _ _ _ h
def f_X1_ask_L28 (F : Nat)  (p19 : pm_A) (p21 : Int32) (k22 : Int32 → Int32 → pm_M → Option ((Int32 ⊕ pm_A) × pm_M)) : Nat → Int32 → Int32 → Int32 → Int32 → pm_M → Option ((Int32 ⊕ pm_A) × pm_M)
  | 0, _, _, _, _, _ => none
  | n26 + 1, x28, x29, x30, x31, m27 =>
    if 500 ≤ x31 then
      k22 x28 x29 m27
    else
      gd_ 100 (gR_ m27 p19 11) fun a33 =>
      iz_ (!(ib_ x31 a33.2.1)) <|
      bm_ (f_X1_isTold F p19 x31 m27) fun v39 m37 =>
      if v39 = 0 then
        jn_ (fun (x43 : Int32) (m42 : pm_M) =>
          jn_ (fun  (m45 : pm_M) =>
            (f_X1_ask_L28 F p19 p21 k22 n26) x31 x43 (x30 + (gI_ m27 a33 x31.toNatClampNeg)) (x31 + 1) m45
          ) fun k44 =>
          if x28 = ((-1)) then
            k44 m42
          else
            if x43 < x29 then
              k44 m42
            else
              (f_X1_ask_L28 F p19 p21 k22 n26) x28 x29 (x30 + (gI_ m27 a33 x31.toNatClampNeg)) (x31 + 1) m42
        ) fun k41 =>
        f_X1_ask_L70 F p19 p21 x28 x29 (x30 + (gI_ m27 a33 x31.toNatClampNeg)) x31 k41 F (x30 + (gI_ m27 a33 x31.toNatClampNeg)) (x31 + 1) m37
      else
        (f_X1_ask_L28 F p19 p21 k22 n26) x28 x29 (x30 + (gI_ m27 a33 x31.toNatClampNeg)) (x31 + 1) m37
set_option maxHeartbeats 4000000 in
theorem w_X1_ask_L28 {G : xg_T} {l : Launch} (hl : l.stackTraces = false) {F : Nat}    (p19 : pm_A) (p21 : Int32) (k22 : Int32 → Int32 → pm_M → Option ((Int32 ⊕ pm_A) × pm_M)) {m0 m' : pm_M} {r : (Int32 ⊕ pm_A)} (hf20 : p19.1 = 1) (hk22 : ∀ (x23 : Int32) (x24 : Int32) (m25 : pm_M), k22 x23 x24 m25 = some (r, m') → AW_ cX1_ask RX1 (some (.int), "ask", 168, 9, m0, m', (oI_ r), G, l, [], true) m25 126 [(2, vI_ p21), (3, vI_ x23), (4, vI_ x24)] []) : ∀ (n : Nat) (x28 : Int32) (x29 : Int32) (x30 : Int32) (x31 : Int32) (m27 : pm_M), f_X1_ask_L28 F p19 p21 k22 n x28 x29 x30 x31 m27 = some (r, m') → AW_ cX1_ask RX1 (some (.int), "ask", 168, 9, m0, m', (oI_ r), G, l, [], true) m27 28 [(0, vR_ (some p19)), (2, vI_ p21), (3, vI_ x28), (4, vI_ x29), (5, vI_ x30), (6, vI_ x31)] [] := by
  intro n
  induction n with
  | zero => intro x28 x29 x30 x31 m27 h; cases h
  | succ n26 ih =>
    intro x28 x29 x30 x31 m27 h
    rw [f_X1_ask_L28] at h
    refine a_iload 5 dX1_ask_28 rfl ?_
    refine a_sipush (v := 500) dX1_ask_30 (by decide) ?_
    refine a_icmp_ge (tgt := 126) dX1_ask_33 (by decide) (fun c32 => ?_) (fun c32 => ?_)
    · replace h := ifp_ c32 h
      refine aw_pick [1, 2, 3] rfl ?_
      exact hk22 _ _ _ h
    · replace h := ifn_ c32 h
      refine a_iload 4 dX1_ask_36 rfl ?_
      refine a_aload_n 0 dX1_ask_38 rfl rfl ?_
      refine a_getR kc_1 11 (by decide) rfl hf20 q399 dX1_ask_39 ?_
      refine a_iload 5 dX1_ask_42 rfl ?_
      obtain ⟨a33, e34, f35, h⟩ := gd_some h
      rw [e34]
      obtain ⟨c36, h⟩ := iz_some h
      refine a_iald f35 (bn_ c36) dX1_ask_44 ?_
      refine a_iadd dX1_ask_45 ?_
      refine a_istore (ls' := [(5, vI_ (x30 + (gI_ m27 a33 x31.toNatClampNeg))), (0, vR_ (some p19)), (2, vI_ p21), (3, vI_ x28), (4, vI_ x29), (6, vI_ x31)]) dX1_ask_46 (Nat.le_of_ble_eq_true rfl) rfl ?_
      refine a_aload_n 1 dX1_ask_48 rfl rfl ?_
      refine a_iload 5 dX1_ask_49 rfl ?_
      obtain ⟨v39, m37, e38, h⟩ := bm_some h
      have he38 := e_X1_isTold (G := G) hl hf20 e38
      refine c_I he38.1 (rn_V (n := 1) (As := [vI_ x31]) kc_1 hf20 he38 (lw_V q1437 q1439 qs24 q90 q1440) (by decide +kernel) rfl (Nat.le_of_ble_eq_true rfl) (Nat.le_of_ble_eq_true rfl) (Nat.le_of_ble_eq_true rfl) dX1_ask_51) (fun z => (os_av (As := [vI_ x31]) z).2.1) ?_
      refine a_if_eq (tgt := 60) dX1_ask_54 (by decide) (fun c40 => ?_) (fun c40 => ?_)
      · replace h := ifp_ c40 h
        refine a_iload 0 dX1_ask_60 rfl ?_
        refine a_istore (ls' := [(7, vI_ (x30 + (gI_ m27 a33 x31.toNatClampNeg))), (5, vI_ (x30 + (gI_ m27 a33 x31.toNatClampNeg))), (0, vR_ (some p19)), (2, vI_ p21), (3, vI_ x28), (4, vI_ x29), (6, vI_ x31)]) dX1_ask_62 (Nat.le_of_ble_eq_true rfl) rfl ?_
        refine a_iload 6 dX1_ask_64 rfl ?_
        refine a_iconst (v := 1) dX1_ask_66 (by decide) ?_
        refine a_iadd dX1_ask_67 ?_
        refine a_istore (ls' := [(8, vI_ (x31 + 1)), (7, vI_ (x30 + (gI_ m27 a33 x31.toNatClampNeg))), (5, vI_ (x30 + (gI_ m27 a33 x31.toNatClampNeg))), (0, vR_ (some p19)), (2, vI_ p21), (3, vI_ x28), (4, vI_ x29), (6, vI_ x31)]) dX1_ask_68 (Nat.le_of_ble_eq_true rfl) rfl ?_
        obtain ⟨k41, e71, h⟩ := jn2_some h
        have hk41 : ∀ (x43 : Int32) (m42 : pm_M), k41 x43 m42 = some (r, m') → AW_ cX1_ask RX1 (some (.int), "ask", 168, 9, m0, m', (oI_ r), G, l, [], true) m42 98 [(0, vR_ (some p19)), (2, vI_ p21), (3, vI_ x28), (4, vI_ x29), (5, vI_ (x30 + (gI_ m27 a33 x31.toNatClampNeg))), (6, vI_ x31), (7, vI_ x43)] [] := by
          intro x43 m42 h
          have h := (e71 x43 m42).symm.trans h
          refine a_iload_n 2 dX1_ask_98 rfl rfl ?_
          refine a_iconst (v := (-1)) dX1_ask_99 (by decide) ?_
          obtain ⟨k44, e48, h⟩ := jn1_some h
          have hk44 : ∀  (m45 : pm_M), k44 m45 = some (r, m') → AW_ cX1_ask RX1 (some (.int), "ask", 168, 9, m0, m', (oI_ r), G, l, [], true) m45 113 [(0, vR_ (some p19)), (2, vI_ p21), (5, vI_ (x30 + (gI_ m27 a33 x31.toNatClampNeg))), (6, vI_ x31), (7, vI_ x43)] [] := by
            intro m45 h
            have h := (e48 m45).symm.trans h
            refine a_iload 3 dX1_ask_113 rfl ?_
            refine a_istore_n (ls' := [(3, vI_ x31), (0, vR_ (some p19)), (2, vI_ p21), (5, vI_ (x30 + (gI_ m27 a33 x31.toNatClampNeg))), (6, vI_ x31), (7, vI_ x43)]) dX1_ask_115 rfl (Nat.le_of_ble_eq_true rfl) rfl ?_
            refine a_iload 5 dX1_ask_116 rfl ?_
            refine a_istore (ls' := [(4, vI_ x43), (3, vI_ x31), (0, vR_ (some p19)), (2, vI_ p21), (5, vI_ (x30 + (gI_ m27 a33 x31.toNatClampNeg))), (6, vI_ x31), (7, vI_ x43)]) dX1_ask_118 (Nat.le_of_ble_eq_true rfl) rfl ?_
            refine a_iinc (v := x31 + 1) (ls' := [(6, vI_ (x31 + 1)), (4, vI_ x43), (3, vI_ x31), (0, vR_ (some p19)), (2, vI_ p21), (5, vI_ (x30 + (gI_ m27 a33 x31.toNatClampNeg))), (7, vI_ x43)]) 5 dX1_ask_120 rfl rfl (Nat.le_of_ble_eq_true rfl) rfl ?_
            refine a_goto (tgt := 28) dX1_ask_123 (by decide) ?_
            refine aw_pick [3, 4, 2, 1, 5, 0] rfl ?_
            exact ih _ _ _ _ _ h
          refine a_icmp_eq (tgt := 113) dX1_ask_100 (by decide) (fun c46 => ?_) (fun c46 => ?_)
          · replace h := ifp_ c46 h
            refine aw_pick [0, 1, 4, 5, 6] rfl ?_
            exact hk44 _ h
          · replace h := ifn_ c46 h
            refine a_iload 6 dX1_ask_103 rfl ?_
            refine a_iload 3 dX1_ask_105 rfl ?_
            refine a_icmp_lt (tgt := 113) dX1_ask_107 (by decide) (fun c47 => ?_) (fun c47 => ?_)
            · replace h := ifp_ c47 h
              refine aw_pick [0, 1, 4, 5, 6] rfl ?_
              exact hk44 _ h
            · replace h := ifn_ c47 h
              refine a_goto (tgt := 120) dX1_ask_110 (by decide) ?_
              refine a_iinc (v := x31 + 1) (ls' := [(6, vI_ (x31 + 1)), (0, vR_ (some p19)), (2, vI_ p21), (3, vI_ x28), (4, vI_ x29), (5, vI_ (x30 + (gI_ m27 a33 x31.toNatClampNeg))), (7, vI_ x43)]) 5 dX1_ask_120 rfl rfl (Nat.le_of_ble_eq_true rfl) rfl ?_
              refine a_goto (tgt := 28) dX1_ask_123 (by decide) ?_
              refine aw_pick [1, 2, 3, 4, 5, 0] rfl ?_
              exact ih _ _ _ _ _ h
        refine aw_pick [3, 4, 5, 6, 2, 7, 1, 0] rfl ?_
        exact w_X1_ask_L70 hl _ _ _ _ _ _ _ hf20 hk41 _ _ _ _ h
      · replace h := ifn_ c40 h
        refine a_goto (tgt := 120) dX1_ask_57 (by decide) ?_
        refine a_iinc (v := x31 + 1) (ls' := [(6, vI_ (x31 + 1)), (5, vI_ (x30 + (gI_ m27 a33 x31.toNatClampNeg))), (0, vR_ (some p19)), (2, vI_ p21), (3, vI_ x28), (4, vI_ x29)]) 5 dX1_ask_120 rfl rfl (Nat.le_of_ble_eq_true rfl) rfl ?_
        refine a_goto (tgt := 28) dX1_ask_123 (by decide) ?_
        refine aw_pick [2, 3, 4, 5, 1, 0] rfl ?_
        exact ih _ _ _ _ _ h
def f_X1_ask (F : Nat)  (t : pm_A) (i0 : Int32) (i1 : Int32) (m : pm_M) : Option ((Int32 ⊕ pm_A) × pm_M) :=
  bt_ (f_X1_signerOf F t i0 m) (fun v3 m1 =>
    bt_ (f_X1_within F t i1 0 1 m1) (fun v8 m6 =>
      bm_ (f_X1_counts F t i0 m6) fun v13 m11 =>
      jn_ (fun (x16 : Int32) (x17 : Int32) (m15 : pm_M) =>
        if i1 = 0 then
          some (.inl x16, m15)
        else
          some (.inl x17, m15)
      ) fun k14 =>
      f_X1_ask_L28 F t i1 k14 F ((-1)) ((-1)) 0 0 m11
    ) fun b10 m9 =>
      some (.inr b10, m9)
  ) fun b5 m4 =>
    some (.inr b5, m4)
set_option maxHeartbeats 4000000 in
theorem e_X1_ask {G : xg_T} {l : Launch} (hl : l.stackTraces = false) {F : Nat}    {t : pm_A} {i0 : Int32} {i1 : Int32} {m0 m' : pm_M} {r : (Int32 ⊕ pm_A)} (ht : t.1 = 1) (h : f_X1_ask F t i0 i1 m0 = some (r, m')) : Cal_ G l yX1_ask (ws_ yX1_ask cX1_ask 9 (some .int)) 168 [vR_ (some t), vI_ i0, vI_ i1] m0 (oI_ r) m' := by
  refine cal_of (by decide +kernel) (Nat.le_of_ble_eq_true rfl) ?_
  unfold f_X1_ask at h
  show AW_ cX1_ask RX1 (some (.int), "ask", 168, 9, m0, m', (oI_ r), G, l, [], true) m0 0 [(0, vR_ (some t)), (1, vI_ i0), (2, vI_ i1)] []
  refine a_aload_n 0 dX1_ask_0 rfl rfl ?_
  refine a_iload_n 1 dX1_ask_1 rfl rfl ?_
  rcases bt_some h with ⟨v3, m1, e2, h⟩ | ⟨b5, m4, e2, h⟩
  · have he2 := e_X1_signerOf (G := G) hl ht e2
    refine c_V he2.1 (rn_V (n := 1) (As := [vI_ i0]) kc_1 ht he2 (lw_V q1234 q1236 qs15 q90 q1237) (by decide +kernel) rfl (Nat.le_of_ble_eq_true rfl) (Nat.le_of_ble_eq_true rfl) (Nat.le_of_ble_eq_true rfl) dX1_ask_2) (fun z => (os_av (As := [vI_ i0]) z).2.1) ?_
    refine a_aload_n 0 dX1_ask_5 rfl rfl ?_
    refine a_iload_n 2 dX1_ask_6 rfl rfl ?_
    refine a_iconst (v := 0) dX1_ask_7 (by decide) ?_
    refine a_iconst (v := 1) dX1_ask_8 (by decide) ?_
    rcases bt_some h with ⟨v8, m6, e7, h⟩ | ⟨b10, m9, e7, h⟩
    · have he7 := e_X1_within (G := G) hl ht e7
      refine c_V he7.1 (rn_V (n := 3) (As := [vI_ i1, vI_ 0, vI_ 1]) kc_1 ht he7 (lw_V q581 q583 qs0 q90 q584) (by decide +kernel) rfl (Nat.le_of_ble_eq_true rfl) (Nat.le_of_ble_eq_true rfl) (Nat.le_of_ble_eq_true rfl) dX1_ask_9) (fun z => (os_av (As := [vI_ i1, vI_ 0, vI_ 1]) z).2.1) ?_
      refine a_aload_n 0 dX1_ask_12 rfl rfl ?_
      refine a_iload_n 1 dX1_ask_13 rfl rfl ?_
      obtain ⟨v13, m11, e12, h⟩ := bm_some h
      have he12 := e_X1_counts (G := G) hl ht e12
      refine c_V he12.1 (rn_V (n := 1) (As := [vI_ i0]) kc_1 ht he12 (lw_V q1433 q1435 qs23 q90 q1436) (by decide +kernel) rfl (Nat.le_of_ble_eq_true rfl) (Nat.le_of_ble_eq_true rfl) (Nat.le_of_ble_eq_true rfl) dX1_ask_14) (fun z => (os_av (As := [vI_ i0]) z).2.1) ?_
      refine a_iconst (v := (-1)) dX1_ask_17 (by decide) ?_
      refine a_istore_n (ls' := [(3, vI_ ((-1))), (0, vR_ (some t)), (1, vI_ i0), (2, vI_ i1)]) dX1_ask_18 rfl (Nat.le_of_ble_eq_true rfl) rfl ?_
      refine a_iconst (v := (-1)) dX1_ask_19 (by decide) ?_
      refine a_istore (ls' := [(4, vI_ ((-1))), (3, vI_ ((-1))), (0, vR_ (some t)), (1, vI_ i0), (2, vI_ i1)]) dX1_ask_20 (Nat.le_of_ble_eq_true rfl) rfl ?_
      refine a_iconst (v := 0) dX1_ask_22 (by decide) ?_
      refine a_istore (ls' := [(5, vI_ 0), (4, vI_ ((-1))), (3, vI_ ((-1))), (0, vR_ (some t)), (1, vI_ i0), (2, vI_ i1)]) dX1_ask_23 (Nat.le_of_ble_eq_true rfl) rfl ?_
      refine a_iconst (v := 0) dX1_ask_25 (by decide) ?_
      refine a_istore (ls' := [(6, vI_ 0), (5, vI_ 0), (4, vI_ ((-1))), (3, vI_ ((-1))), (0, vR_ (some t)), (1, vI_ i0), (2, vI_ i1)]) dX1_ask_26 (Nat.le_of_ble_eq_true rfl) rfl ?_
      obtain ⟨k14, e72, h⟩ := jn3_some h
      have hk14 : ∀ (x16 : Int32) (x17 : Int32) (m15 : pm_M), k14 x16 x17 m15 = some (r, m') → AW_ cX1_ask RX1 (some (.int), "ask", 168, 9, m0, m', (oI_ r), G, l, [], true) m15 126 [(2, vI_ i1), (3, vI_ x16), (4, vI_ x17)] [] := by
        intro x16 x17 m15 h
        have h := (e72 x16 x17 m15).symm.trans h
        refine a_iload_n 0 dX1_ask_126 rfl rfl ?_
        refine a_if_ne (tgt := 134) dX1_ask_127 (by decide) (fun c18 => ?_) (fun c18 => ?_)
        · replace h := ifn_ c18 h
          refine a_iload 2 dX1_ask_134 rfl ?_
          cases h
          exact a_ireturn rfl rfl rfl rfl rfl dX1_ask_136
        · replace h := ifp_ c18 h
          refine a_iload_n 1 dX1_ask_130 rfl rfl ?_
          refine a_goto (tgt := 136) dX1_ask_131 (by decide) ?_
          cases h
          exact a_ireturn rfl rfl rfl rfl rfl dX1_ask_136
      refine aw_pick [4, 6, 3, 2, 1, 0] rfl ?_
      exact w_X1_ask_L28 hl _ _ _ ht hk14 _ _ _ _ _ _ h
    · have he7 := e_X1_within (G := G) hl ht e7
      refine c_X (b := b10) he7.1 (rn_V (n := 3) (As := [vI_ i1, vI_ 0, vI_ 1]) kc_1 ht he7 (lw_V q581 q583 qs0 q90 q584) (by decide +kernel) rfl (Nat.le_of_ble_eq_true rfl) (Nat.le_of_ble_eq_true rfl) (Nat.le_of_ble_eq_true rfl) dX1_ask_9) ?_
      cases h
      exact a_out rfl rfl rfl rfl
  · have he2 := e_X1_signerOf (G := G) hl ht e2
    refine c_X (b := b5) he2.1 (rn_V (n := 1) (As := [vI_ i0]) kc_1 ht he2 (lw_V q1234 q1236 qs15 q90 q1237) (by decide +kernel) rfl (Nat.le_of_ble_eq_true rfl) (Nat.le_of_ble_eq_true rfl) (Nat.le_of_ble_eq_true rfl) dX1_ask_2) ?_
    cases h
    exact a_out rfl rfl rfl rfl
def f_X0_ask (F : Nat)  (i0 : Option pm_A) (i1 : Int32) (i2 : Int32) (i3 : Option pm_A) (m : pm_M) : Option (Int32 × pm_M) :=
  gd_ 1 i0 fun a1 =>
  bt_ (f_X1_ask F a1 i1 i2 m) (fun v6 m4 =>
    gd_ 103 i3 fun a9 =>
    iz_ (!(ib_ 0 a9.2.1)) <|
    lt_ (pL_ m4 a9 ((0 : Int32).toNatClampNeg) v6.toInt64) fun m13 =>
    some (0, m13)
  ) fun b8 m7 =>
    if b8.1 = 26 then
      some (1, m7)
    else
    if b8.1 = 25 then
      some (2, m7)
    else
    none
set_option maxHeartbeats 4000000 in
theorem e_X0_ask {G : xg_T} {l : Launch} (hl : l.stackTraces = false) {F : Nat}    {i0 : Option pm_A} {i1 : Int32} {i2 : Int32} {i3 : Option pm_A} {m0 m' : pm_M} {r : Int32} (h : f_X0_ask F i0 i1 i2 i3 m0 = some (r, m')) : Cal_ G l yX0_ask (wsW_ yX0_ask cX0_ask 5 (some .int) [(0, 10, 13, 31), (0, 10, 17, 13)]) 169 [vR_ i0, vI_ i1, vI_ i2, vR_ i3] m0 (.inl (some (vI_ r))) m' := by
  refine cal_ofH (by decide +kernel) (Nat.le_of_ble_eq_true rfl) ?_
  unfold f_X0_ask at h
  show AW_ cX0_ask RX0 (some (.int), "ask", 169, 5, m0, m', (.inl (some (vI_ r))), G, l, [(0, 10, 13, 31), (0, 10, 17, 13)], true) m0 0 [(0, vR_ i0), (1, vI_ i1), (2, vI_ i2), (3, vR_ i3)] []
  refine a_aload_n 3 dX0_ask_0 rfl rfl ?_
  refine a_iconst (v := 0) dX0_ask_1 (by decide) ?_
  refine a_aload_n 0 dX0_ask_2 rfl rfl ?_
  refine a_iload_n 1 dX0_ask_3 rfl rfl ?_
  refine a_iload_n 2 dX0_ask_4 rfl rfl ?_
  obtain ⟨a1, e2, f3, h⟩ := gd_some h
  rw [e2]
  rcases bt_some h with ⟨v6, m4, e5, h⟩ | ⟨b8, m7, e5, h⟩
  · have he5 := e_X1_ask (G := G) hl f3 e5
    refine c_I (v := v6) he5.1 (rn_V (n := 2) (As := [vI_ i1, vI_ i2]) kc_1 f3 he5 (lw_V q1429 q1430 q1431 q90 q1432) (by decide +kernel) rfl (Nat.le_of_ble_eq_true rfl) (Nat.le_of_ble_eq_true rfl) (Nat.le_of_ble_eq_true rfl) dX0_ask_5) (fun z => (os_av (As := [vI_ i1, vI_ i2]) z).2.1) ?_
    refine a_i2l dX0_ask_8 ?_
    obtain ⟨a9, e10, f11, h⟩ := gd_some h
    rw [e10]
    obtain ⟨c12, h⟩ := iz_some h
    obtain ⟨m13, e14, h⟩ := lt_some h
    refine a_last f11 (bn_ c12) dX0_ask_9 ?_
    rw [← e14]
    refine a_goto (tgt := 21) dX0_ask_10 (by decide) ?_
    refine a_iconst (v := 0) dX0_ask_21 (by decide) ?_
    cases h
    exact a_ireturn rfl rfl rfl rfl rfl dX0_ask_22
  · have he5 := e_X1_ask (G := G) hl f3 e5
    refine c_X (b := b8) he5.1 (rn_V (n := 2) (As := [vI_ i1, vI_ i2]) kc_1 f3 he5 (lw_V q1429 q1430 q1431 q90 q1432) (by decide +kernel) rfl (Nat.le_of_ble_eq_true rfl) (Nat.le_of_ble_eq_true rfl) (Nat.le_of_ble_eq_true rfl) dX0_ask_5) ?_
    by_cases c15 : b8.1 = 26
    · replace h := ifp_ c15 h
      refine a_catch [] ⟨0, 10, 13, 31⟩ [⟨0, 10, 17, 13⟩] rfl (fun z hz => nomatch hz) rfl (by decide) q1229 (by rw [c15]; exact q1240) ?_
      refine a_astore (ls' := [(4, vR_ (some b8)), (0, vR_ (some a1)), (1, vI_ i1), (2, vI_ i2), (3, vR_ i3)]) dX0_ask_13 (Nat.le_of_ble_eq_true rfl) rfl ?_
      refine a_iconst (v := 1) dX0_ask_15 (by decide) ?_
      cases h
      exact a_ireturn rfl rfl rfl rfl rfl dX0_ask_16
    replace h := ifn_ c15 h
    by_cases c16 : b8.1 = 25
    · replace h := ifp_ c16 h
      refine a_catch [⟨0, 10, 13, 31⟩] ⟨0, 10, 17, 13⟩ [] rfl (fun z hz => Or.inr (by rw [List.mem_singleton.mp hz]; exact ⟨by decide, _, q1229, by rw [c16]; rfl, rfl⟩)) rfl (by decide) q575 (by rw [c16]; exact q587) ?_
      refine a_astore (ls' := [(4, vR_ (some b8)), (0, vR_ (some a1)), (1, vI_ i1), (2, vI_ i2), (3, vR_ i3)]) dX0_ask_17 (Nat.le_of_ble_eq_true rfl) rfl ?_
      refine a_iconst (v := 2) dX0_ask_19 (by decide) ?_
      cases h
      exact a_ireturn rfl rfl rfl rfl rfl dX0_ask_20
    replace h := ifn_ c16 h
    cases h
def f_X1_odd (F : Nat)  (t : pm_A) (i0 : Int32) (m : pm_M) : Option ((Unit ⊕ pm_A) × pm_M) :=
  jn_ (fun (y3 : Option pm_A) (y4 : Int32) (m2 : pm_M) =>
    gd_ 1 y3 fun a5 =>
    bt_ (f_X1_within F a5 y4 1 9 m2) (fun v10 m8 =>
      some (.inl (), m8)
    ) fun b12 m11 =>
      some (.inr b12, m11)
  ) fun k1 =>
  if (i0 - i0 / 2 * 2) = 0 then
    k1 (some t) 0 m
  else
    k1 (some t) i0 m
set_option maxHeartbeats 4000000 in
theorem e_X1_odd {G : xg_T} {l : Launch} (hl : l.stackTraces = false) {F : Nat}    {t : pm_A} {i0 : Int32} {m0 m' : pm_M} {r : (Unit ⊕ pm_A)} (ht : t.1 = 1) (h : f_X1_odd F t i0 m0 = some (r, m')) : Cal_ G l yX1_odd (ws_ yX1_odd cX1_odd 2 none) 7 [vR_ (some t), vI_ i0] m0 (oV_ r) m' := by
  refine cal_of (by decide +kernel) (Nat.le_of_ble_eq_true rfl) ?_
  unfold f_X1_odd at h
  show AW_ cX1_odd RX1 (none, "odd", 7, 2, m0, m', (oV_ r), G, l, [], true) m0 0 [(0, vR_ (some t)), (1, vI_ i0)] []
  refine a_aload_n 0 dX1_odd_0 rfl rfl ?_
  refine a_iload_n 1 dX1_odd_1 rfl rfl ?_
  refine a_iconst (v := 2) dX1_odd_2 (by decide) ?_
  refine a_irem dX1_odd_3 (by decide) ?_
  obtain ⟨k1, e14, h⟩ := jn3_some h
  have hk1 : ∀ (y3 : Option pm_A) (y4 : Int32) (m2 : pm_M), k1 y3 y4 m2 = some (r, m') → AW_ cX1_odd RX1 (none, "odd", 7, 2, m0, m', (oV_ r), G, l, [], true) m2 12 [] [vI_ y4, vR_ y3] := by
    intro y3 y4 m2 h
    have h := (e14 y3 y4 m2).symm.trans h
    refine a_iconst (v := 1) dX1_odd_12 (by decide) ?_
    refine a_bipush (v := 9) dX1_odd_13 (by decide) ?_
    obtain ⟨a5, e6, f7, h⟩ := gd_some h
    rw [e6]
    rcases bt_some h with ⟨v10, m8, e9, h⟩ | ⟨b12, m11, e9, h⟩
    · have he9 := e_X1_within (G := G) hl f7 e9
      refine c_V he9.1 (rn_V (n := 3) (As := [vI_ y4, vI_ 1, vI_ 9]) kc_1 f7 he9 (lw_V q581 q583 qs0 q90 q584) (by decide +kernel) rfl (Nat.le_of_ble_eq_true rfl) (Nat.le_of_ble_eq_true rfl) (Nat.le_of_ble_eq_true rfl) dX1_odd_15) (fun z => (os_av (As := [vI_ y4, vI_ 1, vI_ 9]) z).2.1) ?_
      cases h
      exact a_return rfl rfl rfl rfl dX1_odd_18
    · have he9 := e_X1_within (G := G) hl f7 e9
      refine c_X (b := b12) he9.1 (rn_V (n := 3) (As := [vI_ y4, vI_ 1, vI_ 9]) kc_1 f7 he9 (lw_V q581 q583 qs0 q90 q584) (by decide +kernel) rfl (Nat.le_of_ble_eq_true rfl) (Nat.le_of_ble_eq_true rfl) (Nat.le_of_ble_eq_true rfl) dX1_odd_15) ?_
      cases h
      exact a_out rfl rfl rfl rfl
  refine a_if_ne (tgt := 11) dX1_odd_4 (by decide) (fun c13 => ?_) (fun c13 => ?_)
  · replace h := ifn_ c13 h
    refine a_iload_n 1 dX1_odd_11 rfl rfl ?_
    refine aw_pick [] rfl ?_
    exact hk1 _ _ _ h
  · replace h := ifp_ c13 h
    refine a_iconst (v := 0) dX1_odd_7 (by decide) ?_
    refine a_goto (tgt := 12) dX1_odd_8 (by decide) ?_
    refine aw_pick [] rfl ?_
    exact hk1 _ _ _ h
def b_X1_rights (F : Nat) (z_ : Int32 → Int32 → Int32 → pm_M → Option (Int64 × pm_M)) (i0 : Int32) (i1 : Int32) (i2 : Int32) (m : pm_M) : Option (Int64 × pm_M) :=
  if i1 ≤ i0 then
    if i0 = 0 then
      some (1, m)
    else
      bm_ (f_J8_max F 0 (i1 - 1) m) fun v5 m3 =>
      bm_ (z_ (i0 - 1) v5 i2 m3) fun v8 m6 =>
      bm_ (z_ (i0 - 1) i1 i2 m6) fun v11 m9 =>
      some (((i2.toInt64 * v8) + (((16 - i2).toInt64) * v11)), m9)
  else
    some (0, m)
set_option maxHeartbeats 4000000 in
theorem eb_X1_rights {G : xg_T} {l : Launch} (hl : l.stackTraces = false) {F : Nat} {dz : Nat} {z_ : Int32 → Int32 → Int32 → pm_M → Option (Int64 × pm_M)} (hz : ∀ (w0 : Int32) (w1 : Int32) (w2 : Int32) (m m' : pm_M) (r : Int64), z_ w0 w1 w2 m = some (r, m') → Cal_ G l yX1_rights (ws_ yX1_rights cX1_rights 3 (some .long)) dz [vI_ w0, vI_ w1, vI_ w2] m (.inl (some (vL_ r))) m') (hdz : 3 ≤ dz) {i0 : Int32} {i1 : Int32} {i2 : Int32} {m0 m' : pm_M} {r : Int64} (h : b_X1_rights F z_ i0 i1 i2 m0 = some (r, m')) : Cal_ G l yX1_rights (ws_ yX1_rights cX1_rights 3 (some .long)) (dz + 1) [vI_ i0, vI_ i1, vI_ i2] m0 (.inl (some (vL_ r))) m' := by
  refine cal_of (by decide +kernel) (Nat.le_of_ble_eq_true rfl) ?_
  unfold b_X1_rights at h
  show AW_ cX1_rights RX1 (some (.long), "rights", (dz + 1), 3, m0, m', (.inl (some (vL_ r))), G, l, [], true) m0 0 [(0, vI_ i0), (1, vI_ i1), (2, vI_ i2)] []
  refine a_iload_n 1 dX1_rights_0 rfl rfl ?_
  refine a_iload_n 0 dX1_rights_1 rfl rfl ?_
  refine a_icmp_le (tgt := 7) dX1_rights_2 (by decide) (fun c1 => ?_) (fun c1 => ?_)
  · replace h := ifp_ c1 h
    refine a_iload_n 0 dX1_rights_7 rfl rfl ?_
    refine a_if_ne (tgt := 13) dX1_rights_8 (by decide) (fun c2 => ?_) (fun c2 => ?_)
    · replace h := ifn_ c2 h
      refine a_iload_n 2 dX1_rights_13 rfl rfl ?_
      refine a_i2l dX1_rights_14 ?_
      refine a_iload_n 0 dX1_rights_15 rfl rfl ?_
      refine a_iconst (v := 1) dX1_rights_16 (by decide) ?_
      refine a_isub dX1_rights_17 ?_
      refine a_iconst (v := 0) dX1_rights_18 (by decide) ?_
      refine a_iload_n 1 dX1_rights_19 rfl rfl ?_
      refine a_iconst (v := 1) dX1_rights_20 (by decide) ?_
      refine a_isub dX1_rights_21 ?_
      obtain ⟨v5, m3, e4, h⟩ := bm_some h
      have he4 := e_J8_max (G := G) hl e4
      refine c_I he4.1 (rn_S (n := 2) (As := [vI_ 0, vI_ (i1 - 1)]) he4 (lw_S q1425 q524 q109 q525) (by decide +kernel) rfl (by show 2 + 1 ≤ (dz + 1); omega) (Nat.le_of_ble_eq_true rfl) (Nat.le_of_ble_eq_true rfl) dX1_rights_22) (fun z => (os_aS (As := [vI_ 0, vI_ (i1 - 1)]) z).2) ?_
      refine a_iload_n 2 dX1_rights_25 rfl rfl ?_
      obtain ⟨v8, m6, e7, h⟩ := bm_some h
      have he7 := hz _ _ _ _ _ _ e7
      refine c_L he7.1 (rn_S (n := 3) (As := [vI_ (i0 - 1), vI_ v5, vI_ i2]) he7 (lw_S q1452 q1453 q90 q1454) (by decide +kernel) rfl (by show dz + 1 ≤ (dz + 1); omega) (Nat.le_of_ble_eq_true rfl) (Nat.le_of_ble_eq_true rfl) dX1_rights_26) (fun z => (os_aS (As := [vI_ (i0 - 1), vI_ v5, vI_ i2]) z).2) ?_
      refine a_lmul dX1_rights_29 ?_
      refine a_bipush (v := 16) dX1_rights_30 (by decide) ?_
      refine a_iload_n 2 dX1_rights_32 rfl rfl ?_
      refine a_isub dX1_rights_33 ?_
      refine a_i2l dX1_rights_34 ?_
      refine a_iload_n 0 dX1_rights_35 rfl rfl ?_
      refine a_iconst (v := 1) dX1_rights_36 (by decide) ?_
      refine a_isub dX1_rights_37 ?_
      refine a_iload_n 1 dX1_rights_38 rfl rfl ?_
      refine a_iload_n 2 dX1_rights_39 rfl rfl ?_
      obtain ⟨v11, m9, e10, h⟩ := bm_some h
      have he10 := hz _ _ _ _ _ _ e10
      refine c_L he10.1 (rn_S (n := 3) (As := [vI_ (i0 - 1), vI_ i1, vI_ i2]) he10 (lw_S q1452 q1453 q90 q1454) (by decide +kernel) rfl (by show dz + 1 ≤ (dz + 1); omega) (Nat.le_of_ble_eq_true rfl) (Nat.le_of_ble_eq_true rfl) dX1_rights_40) (fun z => (os_aS (As := [vI_ (i0 - 1), vI_ i1, vI_ i2]) z).2) ?_
      refine a_lmul dX1_rights_43 ?_
      refine a_ladd dX1_rights_44 ?_
      cases h
      exact a_lreturn rfl rfl rfl rfl dX1_rights_45
    · replace h := ifp_ c2 h
      refine a_lconst (v := 1) dX1_rights_11 (by decide) ?_
      cases h
      exact a_lreturn rfl rfl rfl rfl dX1_rights_12
  · replace h := ifn_ c1 h
    refine a_lconst (v := 0) dX1_rights_5 (by decide) ?_
    cases h
    exact a_lreturn rfl rfl rfl rfl dX1_rights_6
def f_X1_rights (F : Nat) : Nat → Int32 → Int32 → Int32 → pm_M → Option (Int64 × pm_M)
  | 0, _, _, _, _ => none
  | D + 1, i0, i1, i2, m => b_X1_rights F (f_X1_rights F D) i0 i1 i2 m
theorem er_X1_rights {G : xg_T} {l : Launch} (hl : l.stackTraces = false) {F : Nat} : ∀ (D : Nat) (i0 : Int32) (i1 : Int32) (i2 : Int32) (m m' : pm_M) (r : Int64), f_X1_rights F D i0 i1 i2 m = some (r, m') → Cal_ G l yX1_rights (ws_ yX1_rights cX1_rights 3 (some .long)) (1 * D + 3) [vI_ i0, vI_ i1, vI_ i2] m (.inl (some (vL_ r))) m' := by
  intro D
  induction D with
  | zero => intro i0 i1 i2 m m' r h; cases h
  | succ D ih =>
    intro i0 i1 i2 m m' r h
    have h : b_X1_rights F (f_X1_rights F D) i0 i1 i2 m = some (r, m') := h
    have q := eb_X1_rights (dz := 1 * D + 3) hl ih (by omega) h
    rw [show 1 * (D + 1) + 3 = 1 * D + 3 + 1 by omega]
    exact q
theorem e_X1_rights {G : xg_T} {l : Launch} (hl : l.stackTraces = false) {F : Nat} {i0 : Int32} {i1 : Int32} {i2 : Int32} {m m' : pm_M} {r : Int64} (h : f_X1_rights F 12 i0 i1 i2 m = some (r, m')) : Cal_ G l yX1_rights (ws_ yX1_rights cX1_rights 3 (some .long)) 15 [vI_ i0, vI_ i1, vI_ i2] m (.inl (some (vL_ r))) m' := er_X1_rights hl 12 _ _ _ _ _ _ h
def f_X1_whole (F : Nat)  (i0 : Int32) (m : pm_M) : Option (Int64 × pm_M) :=
  some ((1 <<< ((4 * i0).toInt64 &&& 63)), m)
set_option maxHeartbeats 4000000 in
theorem e_X1_whole {G : xg_T} {l : Launch} (hl : l.stackTraces = false) {F : Nat}    {i0 : Int32} {m0 m' : pm_M} {r : Int64} (h : f_X1_whole F i0 m0 = some (r, m')) : Cal_ G l yX1_whole (ws_ yX1_whole cX1_whole 1 (some .long)) 2 [vI_ i0] m0 (.inl (some (vL_ r))) m' := by
  refine cal_of (by decide +kernel) (Nat.le_of_ble_eq_true rfl) ?_
  unfold f_X1_whole at h
  show AW_ cX1_whole RX1 (some (.long), "whole", 2, 1, m0, m', (.inl (some (vL_ r))), G, l, [], true) m0 0 [(0, vI_ i0)] []
  refine a_lconst (v := 1) dX1_whole_0 (by decide) ?_
  refine a_iconst (v := 4) dX1_whole_1 (by decide) ?_
  refine a_iload_n 0 dX1_whole_2 rfl rfl ?_
  refine a_imul dX1_whole_3 ?_
  refine a_lshl dX1_whole_4 ?_
  cases h
  exact a_lreturn rfl rfl rfl rfl dX1_whole_5
def f_X1_part_L6 (F : Nat)  (p7 : Int64) (p8 : Int64) (p9 : Int32) (k10 : Int64 → pm_M → Option (Int64 × pm_M)) : Nat → Int64 → Int64 → pm_M → Option (Int64 × pm_M)
  | 0, _, _, _ => none
  | n13 + 1, x15, x16, m14 =>
    if (lg_cmp x16 0) = 0 then
      k10 x15 m14
    else
      iz_ (decide (x16 = 0)) <|
      (f_X1_part_L6 F p7 p8 p9 k10 n13) x16 (x15 - x15 / x16 * x16) m14
set_option maxHeartbeats 4000000 in
theorem w_X1_part_L6 {G : xg_T} {l : Launch} (hl : l.stackTraces = false) {F : Nat}    (p7 : Int64) (p8 : Int64) (p9 : Int32) (k10 : Int64 → pm_M → Option (Int64 × pm_M)) {m0 m' : pm_M} {r : Int64}  (hk10 : ∀ (x11 : Int64) (m12 : pm_M), k10 x11 m12 = some (r, m') → AW_ cX1_part RX1 (some (.long), "part", 2, 11, m0, m', (.inl (some (vL_ r))), G, l, [], true) m12 31 [(0, vL_ p7), (2, vL_ p8), (4, vI_ p9), (5, vL_ x11)] []) : ∀ (n : Nat) (x15 : Int64) (x16 : Int64) (m14 : pm_M), f_X1_part_L6 F p7 p8 p9 k10 n x15 x16 m14 = some (r, m') → AW_ cX1_part RX1 (some (.long), "part", 2, 11, m0, m', (.inl (some (vL_ r))), G, l, [], true) m14 6 [(0, vL_ p7), (2, vL_ p8), (4, vI_ p9), (5, vL_ x15), (7, vL_ x16)] [] := by
  intro n
  induction n with
  | zero => intro x15 x16 m14 h; cases h
  | succ n13 ih =>
    intro x15 x16 m14 h
    rw [f_X1_part_L6] at h
    refine a_lload 4 dX1_part_6 rfl ?_
    refine a_lconst (v := 0) dX1_part_8 (by decide) ?_
    refine a_lcmp dX1_part_9 ?_
    refine a_if_eq (tgt := 31) dX1_part_10 (by decide) (fun c17 => ?_) (fun c17 => ?_)
    · replace h := ifp_ c17 h
      refine aw_pick [0, 1, 2, 3] rfl ?_
      exact hk10 _ _ h
    · replace h := ifn_ c17 h
      refine a_lload 3 dX1_part_13 rfl ?_
      refine a_lload 4 dX1_part_15 rfl ?_
      obtain ⟨c18, h⟩ := iz_some h
      refine a_lrem dX1_part_17 (of_decide_eq_false c18) ?_
      refine a_lstore (ls' := [(9, vL_ (x15 - x15 / x16 * x16)), (0, vL_ p7), (2, vL_ p8), (4, vI_ p9), (5, vL_ x15), (7, vL_ x16)]) dX1_part_18 (Nat.le_of_ble_eq_true rfl) rfl ?_
      refine a_lload 5 dX1_part_20 rfl ?_
      refine a_lstore (ls' := [(5, vL_ x16), (9, vL_ (x15 - x15 / x16 * x16)), (0, vL_ p7), (2, vL_ p8), (4, vI_ p9), (7, vL_ x16)]) dX1_part_22 (Nat.le_of_ble_eq_true rfl) rfl ?_
      refine a_lload 1 dX1_part_24 rfl ?_
      refine a_lstore (ls' := [(7, vL_ (x15 - x15 / x16 * x16)), (5, vL_ x16), (9, vL_ (x15 - x15 / x16 * x16)), (0, vL_ p7), (2, vL_ p8), (4, vI_ p9)]) dX1_part_26 (Nat.le_of_ble_eq_true rfl) rfl ?_
      refine a_goto (tgt := 6) dX1_part_28 (by decide) ?_
      refine aw_pick [3, 4, 5, 1, 0] rfl ?_
      exact ih _ _ _ h
def f_X1_part (F : Nat)  (i0 : Int64) (i1 : Int64) (i2 : Int32) (m : pm_M) : Option (Int64 × pm_M) :=
  jn_ (fun (x3 : Int64) (m2 : pm_M) =>
    if i2 = 0 then
      iz_ (decide (x3 = 0)) <|
      some ((i0 / x3), m2)
    else
      iz_ (decide (x3 = 0)) <|
      some ((i1 / x3), m2)
  ) fun k1 =>
  f_X1_part_L6 F i0 i1 i2 k1 F i1 i0 m
set_option maxHeartbeats 4000000 in
theorem e_X1_part {G : xg_T} {l : Launch} (hl : l.stackTraces = false) {F : Nat}    {i0 : Int64} {i1 : Int64} {i2 : Int32} {m0 m' : pm_M} {r : Int64} (h : f_X1_part F i0 i1 i2 m0 = some (r, m')) : Cal_ G l yX1_part (ws_ yX1_part cX1_part 11 (some .long)) 2 [vL_ i0, vL_ i1, vI_ i2] m0 (.inl (some (vL_ r))) m' := by
  refine cal_of (by decide +kernel) (Nat.le_of_ble_eq_true rfl) ?_
  unfold f_X1_part at h
  show AW_ cX1_part RX1 (some (.long), "part", 2, 11, m0, m', (.inl (some (vL_ r))), G, l, [], true) m0 0 [(0, vL_ i0), (2, vL_ i1), (4, vI_ i2)] []
  refine a_lload_n 1 dX1_part_0 rfl rfl ?_
  refine a_lstore (ls' := [(5, vL_ i1), (0, vL_ i0), (2, vL_ i1), (4, vI_ i2)]) dX1_part_1 (Nat.le_of_ble_eq_true rfl) rfl ?_
  refine a_lload_n 1 dX1_part_3 rfl rfl ?_
  refine a_lstore (ls' := [(7, vL_ i0), (5, vL_ i1), (0, vL_ i0), (2, vL_ i1), (4, vI_ i2)]) dX1_part_4 (Nat.le_of_ble_eq_true rfl) rfl ?_
  obtain ⟨k1, e19, h⟩ := jn2_some h
  have hk1 : ∀ (x3 : Int64) (m2 : pm_M), k1 x3 m2 = some (r, m') → AW_ cX1_part RX1 (some (.long), "part", 2, 11, m0, m', (.inl (some (vL_ r))), G, l, [], true) m2 31 [(0, vL_ i0), (2, vL_ i1), (4, vI_ i2), (5, vL_ x3)] [] := by
    intro x3 m2 h
    have h := (e19 x3 m2).symm.trans h
    refine a_iload 2 dX1_part_31 rfl ?_
    refine a_if_ne (tgt := 43) dX1_part_33 (by decide) (fun c4 => ?_) (fun c4 => ?_)
    · replace h := ifn_ c4 h
      refine a_lload_n 1 dX1_part_43 rfl rfl ?_
      refine a_lload 3 dX1_part_44 rfl ?_
      obtain ⟨c5, h⟩ := iz_some h
      refine a_ldiv dX1_part_46 (of_decide_eq_false c5) ?_
      cases h
      exact a_lreturn rfl rfl rfl rfl dX1_part_47
    · replace h := ifp_ c4 h
      refine a_lload_n 0 dX1_part_36 rfl rfl ?_
      refine a_lload 3 dX1_part_37 rfl ?_
      obtain ⟨c6, h⟩ := iz_some h
      refine a_ldiv dX1_part_39 (of_decide_eq_false c6) ?_
      refine a_goto (tgt := 47) dX1_part_40 (by decide) ?_
      cases h
      exact a_lreturn rfl rfl rfl rfl dX1_part_47
  refine aw_pick [2, 3, 4, 1, 0] rfl ?_
  exact w_X1_part_L6 hl _ _ _ _ hk1 _ _ _ _ h
def f_X1_court (F : Nat)  (t : pm_A) (i0 : Int32) (i1 : Int32) (i2 : Int32) (m : pm_M) : Option ((Int64 ⊕ pm_A) × pm_M) :=
  bt_ (f_X1_odd F t i0 m) (fun v3 m1 =>
    bt_ (f_X1_within F t i1 0 16 m1) (fun v8 m6 =>
      bt_ (f_X1_within F t i2 0 1 m6) (fun v13 m11 =>
        bm_ (f_X1_rights F 12 i0 ((i0 / 2) + 1) i1 m11) fun v18 m16 =>
        bm_ (f_X1_whole F i0 m16) fun v21 m19 =>
        bm_ (f_X1_part F v18 v21 i2 m19) fun v24 m22 =>
        some (.inl v24, m22)
      ) fun b15 m14 =>
        some (.inr b15, m14)
    ) fun b10 m9 =>
      some (.inr b10, m9)
  ) fun b5 m4 =>
    some (.inr b5, m4)
set_option maxHeartbeats 4000000 in
theorem e_X1_court {G : xg_T} {l : Launch} (hl : l.stackTraces = false) {F : Nat}    {t : pm_A} {i0 : Int32} {i1 : Int32} {i2 : Int32} {m0 m' : pm_M} {r : (Int64 ⊕ pm_A)} (ht : t.1 = 1) (h : f_X1_court F t i0 i1 i2 m0 = some (r, m')) : Cal_ G l yX1_court (ws_ yX1_court cX1_court 4 (some .long)) 16 [vR_ (some t), vI_ i0, vI_ i1, vI_ i2] m0 (oL_ r) m' := by
  refine cal_of (by decide +kernel) (Nat.le_of_ble_eq_true rfl) ?_
  unfold f_X1_court at h
  show AW_ cX1_court RX1 (some (.long), "court", 16, 4, m0, m', (oL_ r), G, l, [], true) m0 0 [(0, vR_ (some t)), (1, vI_ i0), (2, vI_ i1), (3, vI_ i2)] []
  refine a_aload_n 0 dX1_court_0 rfl rfl ?_
  refine a_iload_n 1 dX1_court_1 rfl rfl ?_
  rcases bt_some h with ⟨v3, m1, e2, h⟩ | ⟨b5, m4, e2, h⟩
  · have he2 := e_X1_odd (G := G) hl ht e2
    refine c_V he2.1 (rn_V (n := 1) (As := [vI_ i0]) kc_1 ht he2 (lw_V q1448 q1450 qs25 q90 q1451) (by decide +kernel) rfl (Nat.le_of_ble_eq_true rfl) (Nat.le_of_ble_eq_true rfl) (Nat.le_of_ble_eq_true rfl) dX1_court_2) (fun z => (os_av (As := [vI_ i0]) z).2.1) ?_
    refine a_aload_n 0 dX1_court_5 rfl rfl ?_
    refine a_iload_n 2 dX1_court_6 rfl rfl ?_
    refine a_iconst (v := 0) dX1_court_7 (by decide) ?_
    refine a_bipush (v := 16) dX1_court_8 (by decide) ?_
    rcases bt_some h with ⟨v8, m6, e7, h⟩ | ⟨b10, m9, e7, h⟩
    · have he7 := e_X1_within (G := G) hl ht e7
      refine c_V he7.1 (rn_V (n := 3) (As := [vI_ i1, vI_ 0, vI_ 16]) kc_1 ht he7 (lw_V q581 q583 qs0 q90 q584) (by decide +kernel) rfl (Nat.le_of_ble_eq_true rfl) (Nat.le_of_ble_eq_true rfl) (Nat.le_of_ble_eq_true rfl) dX1_court_10) (fun z => (os_av (As := [vI_ i1, vI_ 0, vI_ 16]) z).2.1) ?_
      refine a_aload_n 0 dX1_court_13 rfl rfl ?_
      refine a_iload_n 3 dX1_court_14 rfl rfl ?_
      refine a_iconst (v := 0) dX1_court_15 (by decide) ?_
      refine a_iconst (v := 1) dX1_court_16 (by decide) ?_
      rcases bt_some h with ⟨v13, m11, e12, h⟩ | ⟨b15, m14, e12, h⟩
      · have he12 := e_X1_within (G := G) hl ht e12
        refine c_V he12.1 (rn_V (n := 3) (As := [vI_ i2, vI_ 0, vI_ 1]) kc_1 ht he12 (lw_V q581 q583 qs0 q90 q584) (by decide +kernel) rfl (Nat.le_of_ble_eq_true rfl) (Nat.le_of_ble_eq_true rfl) (Nat.le_of_ble_eq_true rfl) dX1_court_17) (fun z => (os_av (As := [vI_ i2, vI_ 0, vI_ 1]) z).2.1) ?_
        refine a_iload_n 1 dX1_court_20 rfl rfl ?_
        refine a_iload_n 1 dX1_court_21 rfl rfl ?_
        refine a_iconst (v := 2) dX1_court_22 (by decide) ?_
        refine a_idiv dX1_court_23 (by decide) ?_
        refine a_iconst (v := 1) dX1_court_24 (by decide) ?_
        refine a_iadd dX1_court_25 ?_
        refine a_iload_n 2 dX1_court_26 rfl rfl ?_
        obtain ⟨v18, m16, e17, h⟩ := bm_some h
        have he17 := e_X1_rights (G := G) hl e17
        refine c_L he17.1 (rn_S (n := 3) (As := [vI_ i0, vI_ ((i0 / 2) + 1), vI_ i1]) he17 (lw_S q1452 q1453 q90 q1454) (by decide +kernel) rfl (Nat.le_of_ble_eq_true rfl) (Nat.le_of_ble_eq_true rfl) (Nat.le_of_ble_eq_true rfl) dX1_court_27) (fun z => (os_aS (As := [vI_ i0, vI_ ((i0 / 2) + 1), vI_ i1]) z).2) ?_
        refine a_iload_n 1 dX1_court_30 rfl rfl ?_
        obtain ⟨v21, m19, e20, h⟩ := bm_some h
        have he20 := e_X1_whole (G := G) hl e20
        refine c_L he20.1 (rn_S (n := 1) (As := [vI_ i0]) he20 (lw_S q1455 q1456 q90 q1457) (by decide +kernel) rfl (Nat.le_of_ble_eq_true rfl) (Nat.le_of_ble_eq_true rfl) (Nat.le_of_ble_eq_true rfl) dX1_court_31) (fun z => (os_aS (As := [vI_ i0]) z).2) ?_
        refine a_iload_n 3 dX1_court_34 rfl rfl ?_
        obtain ⟨v24, m22, e23, h⟩ := bm_some h
        have he23 := e_X1_part (G := G) hl e23
        refine c_L he23.1 (rn_S (n := 3) (As := [vL_ v18, vL_ v21, vI_ i2]) he23 (lw_S q1458 q1459 q90 q1460) (by decide +kernel) rfl (Nat.le_of_ble_eq_true rfl) (Nat.le_of_ble_eq_true rfl) (Nat.le_of_ble_eq_true rfl) dX1_court_35) (fun z => (os_aS (As := [vL_ v18, vL_ v21, vI_ i2]) z).2) ?_
        cases h
        exact a_lreturn rfl rfl rfl rfl dX1_court_38
      · have he12 := e_X1_within (G := G) hl ht e12
        refine c_X (b := b15) he12.1 (rn_V (n := 3) (As := [vI_ i2, vI_ 0, vI_ 1]) kc_1 ht he12 (lw_V q581 q583 qs0 q90 q584) (by decide +kernel) rfl (Nat.le_of_ble_eq_true rfl) (Nat.le_of_ble_eq_true rfl) (Nat.le_of_ble_eq_true rfl) dX1_court_17) ?_
        cases h
        exact a_out rfl rfl rfl rfl
    · have he7 := e_X1_within (G := G) hl ht e7
      refine c_X (b := b10) he7.1 (rn_V (n := 3) (As := [vI_ i1, vI_ 0, vI_ 16]) kc_1 ht he7 (lw_V q581 q583 qs0 q90 q584) (by decide +kernel) rfl (Nat.le_of_ble_eq_true rfl) (Nat.le_of_ble_eq_true rfl) (Nat.le_of_ble_eq_true rfl) dX1_court_10) ?_
      cases h
      exact a_out rfl rfl rfl rfl
  · have he2 := e_X1_odd (G := G) hl ht e2
    refine c_X (b := b5) he2.1 (rn_V (n := 1) (As := [vI_ i0]) kc_1 ht he2 (lw_V q1448 q1450 qs25 q90 q1451) (by decide +kernel) rfl (Nat.le_of_ble_eq_true rfl) (Nat.le_of_ble_eq_true rfl) (Nat.le_of_ble_eq_true rfl) dX1_court_2) ?_
    cases h
    exact a_out rfl rfl rfl rfl
def f_X0_court (F : Nat)  (i0 : Option pm_A) (i1 : Int32) (i2 : Int32) (i3 : Int32) (i4 : Option pm_A) (m : pm_M) : Option (Int32 × pm_M) :=
  gd_ 1 i0 fun a1 =>
  bt_ (f_X1_court F a1 i1 i2 i3 m) (fun v6 m4 =>
    gd_ 103 i4 fun a9 =>
    iz_ (!(ib_ 0 a9.2.1)) <|
    lt_ (pL_ m4 a9 ((0 : Int32).toNatClampNeg) v6) fun m13 =>
    some (0, m13)
  ) fun b8 m7 =>
    if b8.1 = 25 then
      some (1, m7)
    else
    none
set_option maxHeartbeats 4000000 in
theorem e_X0_court {G : xg_T} {l : Launch} (hl : l.stackTraces = false) {F : Nat}    {i0 : Option pm_A} {i1 : Int32} {i2 : Int32} {i3 : Int32} {i4 : Option pm_A} {m0 m' : pm_M} {r : Int32} (h : f_X0_court F i0 i1 i2 i3 i4 m0 = some (r, m')) : Cal_ G l yX0_court (wsW_ yX0_court cX0_court 6 (some .int) [(0, 11, 14, 13)]) 17 [vR_ i0, vI_ i1, vI_ i2, vI_ i3, vR_ i4] m0 (.inl (some (vI_ r))) m' := by
  refine cal_ofH (by decide +kernel) (Nat.le_of_ble_eq_true rfl) ?_
  unfold f_X0_court at h
  show AW_ cX0_court RX0 (some (.int), "court", 17, 6, m0, m', (.inl (some (vI_ r))), G, l, [(0, 11, 14, 13)], true) m0 0 [(0, vR_ i0), (1, vI_ i1), (2, vI_ i2), (3, vI_ i3), (4, vR_ i4)] []
  refine a_aload 4 dX0_court_0 rfl ?_
  refine a_iconst (v := 0) dX0_court_2 (by decide) ?_
  refine a_aload_n 0 dX0_court_3 rfl rfl ?_
  refine a_iload_n 1 dX0_court_4 rfl rfl ?_
  refine a_iload_n 2 dX0_court_5 rfl rfl ?_
  refine a_iload_n 3 dX0_court_6 rfl rfl ?_
  obtain ⟨a1, e2, f3, h⟩ := gd_some h
  rw [e2]
  rcases bt_some h with ⟨v6, m4, e5, h⟩ | ⟨b8, m7, e5, h⟩
  · have he5 := e_X1_court (G := G) hl f3 e5
    refine c_L (v := v6) he5.1 (rn_V (n := 3) (As := [vI_ i1, vI_ i2, vI_ i3]) kc_1 f3 he5 (lw_V q1444 q1445 q1446 q90 q1447) (by decide +kernel) rfl (Nat.le_of_ble_eq_true rfl) (Nat.le_of_ble_eq_true rfl) (Nat.le_of_ble_eq_true rfl) dX0_court_7) (fun z => (os_av (As := [vI_ i1, vI_ i2, vI_ i3]) z).2.1) ?_
    obtain ⟨a9, e10, f11, h⟩ := gd_some h
    rw [e10]
    obtain ⟨c12, h⟩ := iz_some h
    obtain ⟨m13, e14, h⟩ := lt_some h
    refine a_last f11 (bn_ c12) dX0_court_10 ?_
    rw [← e14]
    refine a_goto (tgt := 18) dX0_court_11 (by decide) ?_
    refine a_iconst (v := 0) dX0_court_18 (by decide) ?_
    cases h
    exact a_ireturn rfl rfl rfl rfl rfl dX0_court_19
  · have he5 := e_X1_court (G := G) hl f3 e5
    refine c_X (b := b8) he5.1 (rn_V (n := 3) (As := [vI_ i1, vI_ i2, vI_ i3]) kc_1 f3 he5 (lw_V q1444 q1445 q1446 q90 q1447) (by decide +kernel) rfl (Nat.le_of_ble_eq_true rfl) (Nat.le_of_ble_eq_true rfl) (Nat.le_of_ble_eq_true rfl) dX0_court_7) ?_
    by_cases c15 : b8.1 = 25
    · replace h := ifp_ c15 h
      refine a_catch [] ⟨0, 11, 14, 13⟩ [] rfl (fun z hz => nomatch hz) rfl (by decide) q575 (by rw [c15]; exact q587) ?_
      refine a_astore (ls' := [(5, vR_ (some b8)), (0, vR_ (some a1)), (1, vI_ i1), (2, vI_ i2), (3, vI_ i3), (4, vR_ i4)]) dX0_court_14 (Nat.le_of_ble_eq_true rfl) rfl ?_
      refine a_iconst (v := 1) dX0_court_16 (by decide) ?_
      cases h
      exact a_ireturn rfl rfl rfl rfl rfl dX0_court_17
    replace h := ifn_ c15 h
    cases h
def f_X1_witnesses_L18 (F : Nat)  (p11 : Int32) (p12 : Int32) : Nat → Int32 → pm_M → Option ((Int32 ⊕ pm_A) × pm_M)
  | 0, _, _ => none
  | n13 + 1, x15, m14 =>
    if 10 ≤ x15 then
      some (.inl ((-1)), m14)
    else
      bm_ (f_X1_rights F 12 x15 ((x15 / 2) + 1) p11 m14) fun v19 m17 =>
      bm_ (f_X1_whole F x15 m17) fun v22 m20 =>
      if (lg_cmp (16 * v19) (p12.toInt64 * v22)) < 0 then
        (f_X1_witnesses_L18 F p11 p12 n13) (x15 + 2) m20
      else
        some (.inl x15, m20)
set_option maxHeartbeats 4000000 in
theorem w_X1_witnesses_L18 {G : xg_T} {l : Launch} (hl : l.stackTraces = false) {F : Nat}    (p11 : Int32) (p12 : Int32) {m0 m' : pm_M} {r : (Int32 ⊕ pm_A)}   : ∀ (n : Nat) (x15 : Int32) (m14 : pm_M), f_X1_witnesses_L18 F p11 p12 n x15 m14 = some (r, m') → AW_ cX1_witnesses RX1 (some (.int), "witnesses", 16, 4, m0, m', (oI_ r), G, l, [], true) m14 18 [(1, vI_ p11), (2, vI_ p12), (3, vI_ x15)] [] := by
  intro n
  induction n with
  | zero => intro x15 m14 h; cases h
  | succ n13 ih =>
    intro x15 m14 h
    rw [f_X1_witnesses_L18] at h
    refine a_iload_n 2 dX1_witnesses_18 rfl rfl ?_
    refine a_bipush (v := 10) dX1_witnesses_19 (by decide) ?_
    refine a_icmp_ge (tgt := 57) dX1_witnesses_21 (by decide) (fun c16 => ?_) (fun c16 => ?_)
    · replace h := ifp_ c16 h
      refine a_iconst (v := (-1)) dX1_witnesses_57 (by decide) ?_
      cases h
      exact a_ireturn rfl rfl rfl rfl rfl dX1_witnesses_58
    · replace h := ifn_ c16 h
      refine a_ldc2 (v := 16) q1468 dX1_witnesses_24 ?_
      refine a_iload_n 2 dX1_witnesses_27 rfl rfl ?_
      refine a_iload_n 2 dX1_witnesses_28 rfl rfl ?_
      refine a_iconst (v := 2) dX1_witnesses_29 (by decide) ?_
      refine a_idiv dX1_witnesses_30 (by decide) ?_
      refine a_iconst (v := 1) dX1_witnesses_31 (by decide) ?_
      refine a_iadd dX1_witnesses_32 ?_
      refine a_iload_n 0 dX1_witnesses_33 rfl rfl ?_
      obtain ⟨v19, m17, e18, h⟩ := bm_some h
      have he18 := e_X1_rights (G := G) hl e18
      refine c_L he18.1 (rn_S (n := 3) (As := [vI_ x15, vI_ ((x15 / 2) + 1), vI_ p11]) he18 (lw_S q1452 q1453 q90 q1454) (by decide +kernel) rfl (Nat.le_of_ble_eq_true rfl) (Nat.le_of_ble_eq_true rfl) (Nat.le_of_ble_eq_true rfl) dX1_witnesses_34) (fun z => (os_aS (As := [vI_ x15, vI_ ((x15 / 2) + 1), vI_ p11]) z).2) ?_
      refine a_lmul dX1_witnesses_37 ?_
      refine a_iload_n 1 dX1_witnesses_38 rfl rfl ?_
      refine a_i2l dX1_witnesses_39 ?_
      refine a_iload_n 2 dX1_witnesses_40 rfl rfl ?_
      obtain ⟨v22, m20, e21, h⟩ := bm_some h
      have he21 := e_X1_whole (G := G) hl e21
      refine c_L he21.1 (rn_S (n := 1) (As := [vI_ x15]) he21 (lw_S q1455 q1456 q90 q1457) (by decide +kernel) rfl (Nat.le_of_ble_eq_true rfl) (Nat.le_of_ble_eq_true rfl) (Nat.le_of_ble_eq_true rfl) dX1_witnesses_41) (fun z => (os_aS (As := [vI_ x15]) z).2) ?_
      refine a_lmul dX1_witnesses_44 ?_
      refine a_lcmp dX1_witnesses_45 ?_
      refine a_if_lt (tgt := 51) dX1_witnesses_46 (by decide) (fun c23 => ?_) (fun c23 => ?_)
      · replace h := ifp_ c23 h
        refine a_iinc (v := x15 + 2) (ls' := [(3, vI_ (x15 + 2)), (1, vI_ p11), (2, vI_ p12)]) 2 dX1_witnesses_51 rfl rfl (Nat.le_of_ble_eq_true rfl) rfl ?_
        refine a_goto (tgt := 18) dX1_witnesses_54 (by decide) ?_
        refine aw_pick [1, 2, 0] rfl ?_
        exact ih _ _ h
      · replace h := ifn_ c23 h
        refine a_iload_n 2 dX1_witnesses_49 rfl rfl ?_
        cases h
        exact a_ireturn rfl rfl rfl rfl rfl dX1_witnesses_50
def f_X1_witnesses (F : Nat)  (t : pm_A) (i0 : Int32) (i1 : Int32) (m : pm_M) : Option ((Int32 ⊕ pm_A) × pm_M) :=
  bt_ (f_X1_within F t i0 0 16 m) (fun v3 m1 =>
    bt_ (f_X1_within F t i1 0 16 m1) (fun v8 m6 =>
      f_X1_witnesses_L18 F i0 i1 F 1 m6
    ) fun b10 m9 =>
      some (.inr b10, m9)
  ) fun b5 m4 =>
    some (.inr b5, m4)
set_option maxHeartbeats 4000000 in
theorem e_X1_witnesses {G : xg_T} {l : Launch} (hl : l.stackTraces = false) {F : Nat}    {t : pm_A} {i0 : Int32} {i1 : Int32} {m0 m' : pm_M} {r : (Int32 ⊕ pm_A)} (ht : t.1 = 1) (h : f_X1_witnesses F t i0 i1 m0 = some (r, m')) : Cal_ G l yX1_witnesses (ws_ yX1_witnesses cX1_witnesses 4 (some .int)) 16 [vR_ (some t), vI_ i0, vI_ i1] m0 (oI_ r) m' := by
  refine cal_of (by decide +kernel) (Nat.le_of_ble_eq_true rfl) ?_
  unfold f_X1_witnesses at h
  show AW_ cX1_witnesses RX1 (some (.int), "witnesses", 16, 4, m0, m', (oI_ r), G, l, [], true) m0 0 [(0, vR_ (some t)), (1, vI_ i0), (2, vI_ i1)] []
  refine a_aload_n 0 dX1_witnesses_0 rfl rfl ?_
  refine a_iload_n 1 dX1_witnesses_1 rfl rfl ?_
  refine a_iconst (v := 0) dX1_witnesses_2 (by decide) ?_
  refine a_bipush (v := 16) dX1_witnesses_3 (by decide) ?_
  rcases bt_some h with ⟨v3, m1, e2, h⟩ | ⟨b5, m4, e2, h⟩
  · have he2 := e_X1_within (G := G) hl ht e2
    refine c_V he2.1 (rn_V (n := 3) (As := [vI_ i0, vI_ 0, vI_ 16]) kc_1 ht he2 (lw_V q581 q583 qs0 q90 q584) (by decide +kernel) rfl (Nat.le_of_ble_eq_true rfl) (Nat.le_of_ble_eq_true rfl) (Nat.le_of_ble_eq_true rfl) dX1_witnesses_5) (fun z => (os_av (As := [vI_ i0, vI_ 0, vI_ 16]) z).2.1) ?_
    refine a_aload_n 0 dX1_witnesses_8 rfl rfl ?_
    refine a_iload_n 2 dX1_witnesses_9 rfl rfl ?_
    refine a_iconst (v := 0) dX1_witnesses_10 (by decide) ?_
    refine a_bipush (v := 16) dX1_witnesses_11 (by decide) ?_
    rcases bt_some h with ⟨v8, m6, e7, h⟩ | ⟨b10, m9, e7, h⟩
    · have he7 := e_X1_within (G := G) hl ht e7
      refine c_V he7.1 (rn_V (n := 3) (As := [vI_ i1, vI_ 0, vI_ 16]) kc_1 ht he7 (lw_V q581 q583 qs0 q90 q584) (by decide +kernel) rfl (Nat.le_of_ble_eq_true rfl) (Nat.le_of_ble_eq_true rfl) (Nat.le_of_ble_eq_true rfl) dX1_witnesses_13) (fun z => (os_av (As := [vI_ i1, vI_ 0, vI_ 16]) z).2.1) ?_
      refine a_iconst (v := 1) dX1_witnesses_16 (by decide) ?_
      refine a_istore_n (ls' := [(3, vI_ 1), (0, vR_ (some t)), (1, vI_ i0), (2, vI_ i1)]) dX1_witnesses_17 rfl (Nat.le_of_ble_eq_true rfl) rfl ?_
      refine aw_pick [2, 3, 0] rfl ?_
      exact w_X1_witnesses_L18 hl _ _ _ _ _ h
    · have he7 := e_X1_within (G := G) hl ht e7
      refine c_X (b := b10) he7.1 (rn_V (n := 3) (As := [vI_ i1, vI_ 0, vI_ 16]) kc_1 ht he7 (lw_V q581 q583 qs0 q90 q584) (by decide +kernel) rfl (Nat.le_of_ble_eq_true rfl) (Nat.le_of_ble_eq_true rfl) (Nat.le_of_ble_eq_true rfl) dX1_witnesses_13) ?_
      cases h
      exact a_out rfl rfl rfl rfl
  · have he2 := e_X1_within (G := G) hl ht e2
    refine c_X (b := b5) he2.1 (rn_V (n := 3) (As := [vI_ i0, vI_ 0, vI_ 16]) kc_1 ht he2 (lw_V q581 q583 qs0 q90 q584) (by decide +kernel) rfl (Nat.le_of_ble_eq_true rfl) (Nat.le_of_ble_eq_true rfl) (Nat.le_of_ble_eq_true rfl) dX1_witnesses_5) ?_
    cases h
    exact a_out rfl rfl rfl rfl
def f_X0_witnesses (F : Nat)  (i0 : Option pm_A) (i1 : Int32) (i2 : Int32) (i3 : Option pm_A) (m : pm_M) : Option (Int32 × pm_M) :=
  gd_ 1 i0 fun a1 =>
  bt_ (f_X1_witnesses F a1 i1 i2 m) (fun v6 m4 =>
    gd_ 103 i3 fun a9 =>
    iz_ (!(ib_ 0 a9.2.1)) <|
    lt_ (pL_ m4 a9 ((0 : Int32).toNatClampNeg) v6.toInt64) fun m13 =>
    some (0, m13)
  ) fun b8 m7 =>
    if b8.1 = 25 then
      some (1, m7)
    else
    none
set_option maxHeartbeats 4000000 in
theorem e_X0_witnesses {G : xg_T} {l : Launch} (hl : l.stackTraces = false) {F : Nat}    {i0 : Option pm_A} {i1 : Int32} {i2 : Int32} {i3 : Option pm_A} {m0 m' : pm_M} {r : Int32} (h : f_X0_witnesses F i0 i1 i2 i3 m0 = some (r, m')) : Cal_ G l yX0_witnesses (wsW_ yX0_witnesses cX0_witnesses 5 (some .int) [(0, 10, 13, 13)]) 17 [vR_ i0, vI_ i1, vI_ i2, vR_ i3] m0 (.inl (some (vI_ r))) m' := by
  refine cal_ofH (by decide +kernel) (Nat.le_of_ble_eq_true rfl) ?_
  unfold f_X0_witnesses at h
  show AW_ cX0_witnesses RX0 (some (.int), "witnesses", 17, 5, m0, m', (.inl (some (vI_ r))), G, l, [(0, 10, 13, 13)], true) m0 0 [(0, vR_ i0), (1, vI_ i1), (2, vI_ i2), (3, vR_ i3)] []
  refine a_aload_n 3 dX0_witnesses_0 rfl rfl ?_
  refine a_iconst (v := 0) dX0_witnesses_1 (by decide) ?_
  refine a_aload_n 0 dX0_witnesses_2 rfl rfl ?_
  refine a_iload_n 1 dX0_witnesses_3 rfl rfl ?_
  refine a_iload_n 2 dX0_witnesses_4 rfl rfl ?_
  obtain ⟨a1, e2, f3, h⟩ := gd_some h
  rw [e2]
  rcases bt_some h with ⟨v6, m4, e5, h⟩ | ⟨b8, m7, e5, h⟩
  · have he5 := e_X1_witnesses (G := G) hl f3 e5
    refine c_I (v := v6) he5.1 (rn_V (n := 2) (As := [vI_ i1, vI_ i2]) kc_1 f3 he5 (lw_V q1464 q1465 q1466 q90 q1467) (by decide +kernel) rfl (Nat.le_of_ble_eq_true rfl) (Nat.le_of_ble_eq_true rfl) (Nat.le_of_ble_eq_true rfl) dX0_witnesses_5) (fun z => (os_av (As := [vI_ i1, vI_ i2]) z).2.1) ?_
    refine a_i2l dX0_witnesses_8 ?_
    obtain ⟨a9, e10, f11, h⟩ := gd_some h
    rw [e10]
    obtain ⟨c12, h⟩ := iz_some h
    obtain ⟨m13, e14, h⟩ := lt_some h
    refine a_last f11 (bn_ c12) dX0_witnesses_9 ?_
    rw [← e14]
    refine a_goto (tgt := 17) dX0_witnesses_10 (by decide) ?_
    refine a_iconst (v := 0) dX0_witnesses_17 (by decide) ?_
    cases h
    exact a_ireturn rfl rfl rfl rfl rfl dX0_witnesses_18
  · have he5 := e_X1_witnesses (G := G) hl f3 e5
    refine c_X (b := b8) he5.1 (rn_V (n := 2) (As := [vI_ i1, vI_ i2]) kc_1 f3 he5 (lw_V q1464 q1465 q1466 q90 q1467) (by decide +kernel) rfl (Nat.le_of_ble_eq_true rfl) (Nat.le_of_ble_eq_true rfl) (Nat.le_of_ble_eq_true rfl) dX0_witnesses_5) ?_
    by_cases c15 : b8.1 = 25
    · replace h := ifp_ c15 h
      refine a_catch [] ⟨0, 10, 13, 13⟩ [] rfl (fun z hz => nomatch hz) rfl (by decide) q575 (by rw [c15]; exact q587) ?_
      refine a_astore (ls' := [(4, vR_ (some b8)), (0, vR_ (some a1)), (1, vI_ i1), (2, vI_ i2), (3, vR_ i3)]) dX0_witnesses_13 (Nat.le_of_ble_eq_true rfl) rfl ?_
      refine a_iconst (v := 1) dX0_witnesses_15 (by decide) ?_
      cases h
      exact a_ireturn rfl rfl rfl rfl rfl dX0_witnesses_16
    replace h := ifn_ c15 h
    cases h
def f_X1_loan_L32 (F : Nat)  (p16 : Int32) (p17 : Int32) : Nat → Int32 → Int32 → pm_M → Option ((Int32 ⊕ pm_A) × pm_M)
  | 0, _, _, _ => none
  | n18 + 1, x20, x21, m19 =>
    if 600 < x21 then
      some (.inl ((-1)), m19)
    else
      if x20 = 0 then
        some (.inl x21, m19)
      else
        if x20 ≤ 99999999 then
          bm_ (f_J8_max F 0 ((x20 + (((x20.toInt64 * p17.toInt64) / 1000).toInt32)) - p16) m19) fun v27 m25 =>
          (f_X1_loan_L32 F p16 p17 n18) v27 (x21 + 1) m25
        else
          some (.inl ((-1)), m19)
set_option maxHeartbeats 4000000 in
theorem w_X1_loan_L32 {G : xg_T} {l : Launch} (hl : l.stackTraces = false) {F : Nat}    (p16 : Int32) (p17 : Int32) {m0 m' : pm_M} {r : (Int32 ⊕ pm_A)}   : ∀ (n : Nat) (x20 : Int32) (x21 : Int32) (m19 : pm_M), f_X1_loan_L32 F p16 p17 n x20 x21 m19 = some (r, m') → AW_ cX1_loan RX1 (some (.int), "loan", 7, 6, m0, m', (oI_ r), G, l, [], true) m19 32 [(2, vI_ p16), (3, vI_ p17), (4, vI_ x20), (5, vI_ x21)] [] := by
  intro n
  induction n with
  | zero => intro x20 x21 m19 h; cases h
  | succ n18 ih =>
    intro x20 x21 m19 h
    rw [f_X1_loan_L32] at h
    refine a_iload 3 dX1_loan_32 rfl ?_
    refine a_sipush (v := 600) dX1_loan_34 (by decide) ?_
    refine a_icmp_gt (tgt := 86) dX1_loan_37 (by decide) (fun c22 => ?_) (fun c22 => ?_)
    · replace h := ifp_ c22 h
      refine a_iconst (v := (-1)) dX1_loan_86 (by decide) ?_
      cases h
      exact a_ireturn rfl rfl rfl rfl rfl dX1_loan_87
    · replace h := ifn_ c22 h
      refine a_iload 2 dX1_loan_40 rfl ?_
      refine a_if_ne (tgt := 48) dX1_loan_42 (by decide) (fun c23 => ?_) (fun c23 => ?_)
      · replace h := ifn_ c23 h
        refine a_iload 2 dX1_loan_48 rfl ?_
        refine a_ldcw (v := 99999999) q1476 dX1_loan_50 ?_
        refine a_icmp_le (tgt := 58) dX1_loan_53 (by decide) (fun c24 => ?_) (fun c24 => ?_)
        · replace h := ifp_ c24 h
          refine a_iconst (v := 0) dX1_loan_58 (by decide) ?_
          refine a_iload 2 dX1_loan_59 rfl ?_
          refine a_iload 2 dX1_loan_61 rfl ?_
          refine a_i2l dX1_loan_63 ?_
          refine a_iload_n 1 dX1_loan_64 rfl rfl ?_
          refine a_i2l dX1_loan_65 ?_
          refine a_lmul dX1_loan_66 ?_
          refine a_ldc2 (v := 1000) q1477 dX1_loan_67 ?_
          refine a_ldiv dX1_loan_70 (by decide) ?_
          refine a_l2i dX1_loan_71 ?_
          refine a_iadd dX1_loan_72 ?_
          refine a_iload_n 0 dX1_loan_73 rfl rfl ?_
          refine a_isub dX1_loan_74 ?_
          obtain ⟨v27, m25, e26, h⟩ := bm_some h
          have he26 := e_J8_max (G := G) hl e26
          refine c_I he26.1 (rn_S (n := 2) (As := [vI_ 0, vI_ ((x20 + (((x20.toInt64 * p17.toInt64) / 1000).toInt32)) - p16)]) he26 (lw_S q1425 q524 q109 q525) (by decide +kernel) rfl (Nat.le_of_ble_eq_true rfl) (Nat.le_of_ble_eq_true rfl) (Nat.le_of_ble_eq_true rfl) dX1_loan_75) (fun z => (os_aS (As := [vI_ 0, vI_ ((x20 + (((x20.toInt64 * p17.toInt64) / 1000).toInt32)) - p16)]) z).2) ?_
          refine a_istore (ls' := [(4, vI_ v27), (2, vI_ p16), (3, vI_ p17), (5, vI_ x21)]) dX1_loan_78 (Nat.le_of_ble_eq_true rfl) rfl ?_
          refine a_iinc (v := x21 + 1) (ls' := [(5, vI_ (x21 + 1)), (4, vI_ v27), (2, vI_ p16), (3, vI_ p17)]) 3 dX1_loan_80 rfl rfl (Nat.le_of_ble_eq_true rfl) rfl ?_
          refine a_goto (tgt := 32) dX1_loan_83 (by decide) ?_
          refine aw_pick [2, 3, 1, 0] rfl ?_
          exact ih _ _ _ h
        · replace h := ifn_ c24 h
          refine a_iconst (v := (-1)) dX1_loan_56 (by decide) ?_
          cases h
          exact a_ireturn rfl rfl rfl rfl rfl dX1_loan_57
      · replace h := ifp_ c23 h
        refine a_iload 3 dX1_loan_45 rfl ?_
        cases h
        exact a_ireturn rfl rfl rfl rfl rfl dX1_loan_47
def f_X1_loan (F : Nat)  (t : pm_A) (i0 : Int32) (i1 : Int32) (i2 : Int32) (m : pm_M) : Option ((Int32 ⊕ pm_A) × pm_M) :=
  bt_ (f_X1_within F t i0 0 9999 m) (fun v3 m1 =>
    bt_ (f_X1_within F t i1 0 999 m1) (fun v8 m6 =>
      bt_ (f_X1_within F t i2 0 100 m6) (fun v13 m11 =>
        f_X1_loan_L32 F i1 i2 F i0 0 m11
      ) fun b15 m14 =>
        some (.inr b15, m14)
    ) fun b10 m9 =>
      some (.inr b10, m9)
  ) fun b5 m4 =>
    some (.inr b5, m4)
set_option maxHeartbeats 4000000 in
theorem e_X1_loan {G : xg_T} {l : Launch} (hl : l.stackTraces = false) {F : Nat}    {t : pm_A} {i0 : Int32} {i1 : Int32} {i2 : Int32} {m0 m' : pm_M} {r : (Int32 ⊕ pm_A)} (ht : t.1 = 1) (h : f_X1_loan F t i0 i1 i2 m0 = some (r, m')) : Cal_ G l yX1_loan (ws_ yX1_loan cX1_loan 6 (some .int)) 7 [vR_ (some t), vI_ i0, vI_ i1, vI_ i2] m0 (oI_ r) m' := by
  refine cal_of (by decide +kernel) (Nat.le_of_ble_eq_true rfl) ?_
  unfold f_X1_loan at h
  show AW_ cX1_loan RX1 (some (.int), "loan", 7, 6, m0, m', (oI_ r), G, l, [], true) m0 0 [(0, vR_ (some t)), (1, vI_ i0), (2, vI_ i1), (3, vI_ i2)] []
  refine a_aload_n 0 dX1_loan_0 rfl rfl ?_
  refine a_iload_n 1 dX1_loan_1 rfl rfl ?_
  refine a_iconst (v := 0) dX1_loan_2 (by decide) ?_
  refine a_sipush (v := 9999) dX1_loan_3 (by decide) ?_
  rcases bt_some h with ⟨v3, m1, e2, h⟩ | ⟨b5, m4, e2, h⟩
  · have he2 := e_X1_within (G := G) hl ht e2
    refine c_V he2.1 (rn_V (n := 3) (As := [vI_ i0, vI_ 0, vI_ 9999]) kc_1 ht he2 (lw_V q581 q583 qs0 q90 q584) (by decide +kernel) rfl (Nat.le_of_ble_eq_true rfl) (Nat.le_of_ble_eq_true rfl) (Nat.le_of_ble_eq_true rfl) dX1_loan_6) (fun z => (os_av (As := [vI_ i0, vI_ 0, vI_ 9999]) z).2.1) ?_
    refine a_aload_n 0 dX1_loan_9 rfl rfl ?_
    refine a_iload_n 2 dX1_loan_10 rfl rfl ?_
    refine a_iconst (v := 0) dX1_loan_11 (by decide) ?_
    refine a_sipush (v := 999) dX1_loan_12 (by decide) ?_
    rcases bt_some h with ⟨v8, m6, e7, h⟩ | ⟨b10, m9, e7, h⟩
    · have he7 := e_X1_within (G := G) hl ht e7
      refine c_V he7.1 (rn_V (n := 3) (As := [vI_ i1, vI_ 0, vI_ 999]) kc_1 ht he7 (lw_V q581 q583 qs0 q90 q584) (by decide +kernel) rfl (Nat.le_of_ble_eq_true rfl) (Nat.le_of_ble_eq_true rfl) (Nat.le_of_ble_eq_true rfl) dX1_loan_15) (fun z => (os_av (As := [vI_ i1, vI_ 0, vI_ 999]) z).2.1) ?_
      refine a_aload_n 0 dX1_loan_18 rfl rfl ?_
      refine a_iload_n 3 dX1_loan_19 rfl rfl ?_
      refine a_iconst (v := 0) dX1_loan_20 (by decide) ?_
      refine a_bipush (v := 100) dX1_loan_21 (by decide) ?_
      rcases bt_some h with ⟨v13, m11, e12, h⟩ | ⟨b15, m14, e12, h⟩
      · have he12 := e_X1_within (G := G) hl ht e12
        refine c_V he12.1 (rn_V (n := 3) (As := [vI_ i2, vI_ 0, vI_ 100]) kc_1 ht he12 (lw_V q581 q583 qs0 q90 q584) (by decide +kernel) rfl (Nat.le_of_ble_eq_true rfl) (Nat.le_of_ble_eq_true rfl) (Nat.le_of_ble_eq_true rfl) dX1_loan_23) (fun z => (os_av (As := [vI_ i2, vI_ 0, vI_ 100]) z).2.1) ?_
        refine a_iload_n 1 dX1_loan_26 rfl rfl ?_
        refine a_istore (ls' := [(4, vI_ i0), (0, vR_ (some t)), (1, vI_ i0), (2, vI_ i1), (3, vI_ i2)]) dX1_loan_27 (Nat.le_of_ble_eq_true rfl) rfl ?_
        refine a_iconst (v := 0) dX1_loan_29 (by decide) ?_
        refine a_istore (ls' := [(5, vI_ 0), (4, vI_ i0), (0, vR_ (some t)), (1, vI_ i0), (2, vI_ i1), (3, vI_ i2)]) dX1_loan_30 (Nat.le_of_ble_eq_true rfl) rfl ?_
        refine aw_pick [4, 5, 1, 0] rfl ?_
        exact w_X1_loan_L32 hl _ _ _ _ _ _ h
      · have he12 := e_X1_within (G := G) hl ht e12
        refine c_X (b := b15) he12.1 (rn_V (n := 3) (As := [vI_ i2, vI_ 0, vI_ 100]) kc_1 ht he12 (lw_V q581 q583 qs0 q90 q584) (by decide +kernel) rfl (Nat.le_of_ble_eq_true rfl) (Nat.le_of_ble_eq_true rfl) (Nat.le_of_ble_eq_true rfl) dX1_loan_23) ?_
        cases h
        exact a_out rfl rfl rfl rfl
    · have he7 := e_X1_within (G := G) hl ht e7
      refine c_X (b := b10) he7.1 (rn_V (n := 3) (As := [vI_ i1, vI_ 0, vI_ 999]) kc_1 ht he7 (lw_V q581 q583 qs0 q90 q584) (by decide +kernel) rfl (Nat.le_of_ble_eq_true rfl) (Nat.le_of_ble_eq_true rfl) (Nat.le_of_ble_eq_true rfl) dX1_loan_15) ?_
      cases h
      exact a_out rfl rfl rfl rfl
  · have he2 := e_X1_within (G := G) hl ht e2
    refine c_X (b := b5) he2.1 (rn_V (n := 3) (As := [vI_ i0, vI_ 0, vI_ 9999]) kc_1 ht he2 (lw_V q581 q583 qs0 q90 q584) (by decide +kernel) rfl (Nat.le_of_ble_eq_true rfl) (Nat.le_of_ble_eq_true rfl) (Nat.le_of_ble_eq_true rfl) dX1_loan_6) ?_
    cases h
    exact a_out rfl rfl rfl rfl
def f_X0_loan (F : Nat)  (i0 : Option pm_A) (i1 : Int32) (i2 : Int32) (i3 : Int32) (i4 : Option pm_A) (m : pm_M) : Option (Int32 × pm_M) :=
  gd_ 1 i0 fun a1 =>
  bt_ (f_X1_loan F a1 i1 i2 i3 m) (fun v6 m4 =>
    gd_ 103 i4 fun a9 =>
    iz_ (!(ib_ 0 a9.2.1)) <|
    lt_ (pL_ m4 a9 ((0 : Int32).toNatClampNeg) v6.toInt64) fun m13 =>
    some (0, m13)
  ) fun b8 m7 =>
    if b8.1 = 25 then
      some (1, m7)
    else
    none
set_option maxHeartbeats 4000000 in
theorem e_X0_loan {G : xg_T} {l : Launch} (hl : l.stackTraces = false) {F : Nat}    {i0 : Option pm_A} {i1 : Int32} {i2 : Int32} {i3 : Int32} {i4 : Option pm_A} {m0 m' : pm_M} {r : Int32} (h : f_X0_loan F i0 i1 i2 i3 i4 m0 = some (r, m')) : Cal_ G l yX0_loan (wsW_ yX0_loan cX0_loan 6 (some .int) [(0, 12, 15, 13)]) 8 [vR_ i0, vI_ i1, vI_ i2, vI_ i3, vR_ i4] m0 (.inl (some (vI_ r))) m' := by
  refine cal_ofH (by decide +kernel) (Nat.le_of_ble_eq_true rfl) ?_
  unfold f_X0_loan at h
  show AW_ cX0_loan RX0 (some (.int), "loan", 8, 6, m0, m', (.inl (some (vI_ r))), G, l, [(0, 12, 15, 13)], true) m0 0 [(0, vR_ i0), (1, vI_ i1), (2, vI_ i2), (3, vI_ i3), (4, vR_ i4)] []
  refine a_aload 4 dX0_loan_0 rfl ?_
  refine a_iconst (v := 0) dX0_loan_2 (by decide) ?_
  refine a_aload_n 0 dX0_loan_3 rfl rfl ?_
  refine a_iload_n 1 dX0_loan_4 rfl rfl ?_
  refine a_iload_n 2 dX0_loan_5 rfl rfl ?_
  refine a_iload_n 3 dX0_loan_6 rfl rfl ?_
  obtain ⟨a1, e2, f3, h⟩ := gd_some h
  rw [e2]
  rcases bt_some h with ⟨v6, m4, e5, h⟩ | ⟨b8, m7, e5, h⟩
  · have he5 := e_X1_loan (G := G) hl f3 e5
    refine c_I (v := v6) he5.1 (rn_V (n := 3) (As := [vI_ i1, vI_ i2, vI_ i3]) kc_1 f3 he5 (lw_V q1472 q1473 q1474 q90 q1475) (by decide +kernel) rfl (Nat.le_of_ble_eq_true rfl) (Nat.le_of_ble_eq_true rfl) (Nat.le_of_ble_eq_true rfl) dX0_loan_7) (fun z => (os_av (As := [vI_ i1, vI_ i2, vI_ i3]) z).2.1) ?_
    refine a_i2l dX0_loan_10 ?_
    obtain ⟨a9, e10, f11, h⟩ := gd_some h
    rw [e10]
    obtain ⟨c12, h⟩ := iz_some h
    obtain ⟨m13, e14, h⟩ := lt_some h
    refine a_last f11 (bn_ c12) dX0_loan_11 ?_
    rw [← e14]
    refine a_goto (tgt := 19) dX0_loan_12 (by decide) ?_
    refine a_iconst (v := 0) dX0_loan_19 (by decide) ?_
    cases h
    exact a_ireturn rfl rfl rfl rfl rfl dX0_loan_20
  · have he5 := e_X1_loan (G := G) hl f3 e5
    refine c_X (b := b8) he5.1 (rn_V (n := 3) (As := [vI_ i1, vI_ i2, vI_ i3]) kc_1 f3 he5 (lw_V q1472 q1473 q1474 q90 q1475) (by decide +kernel) rfl (Nat.le_of_ble_eq_true rfl) (Nat.le_of_ble_eq_true rfl) (Nat.le_of_ble_eq_true rfl) dX0_loan_7) ?_
    by_cases c15 : b8.1 = 25
    · replace h := ifp_ c15 h
      refine a_catch [] ⟨0, 12, 15, 13⟩ [] rfl (fun z hz => nomatch hz) rfl (by decide) q575 (by rw [c15]; exact q587) ?_
      refine a_astore (ls' := [(5, vR_ (some b8)), (0, vR_ (some a1)), (1, vI_ i1), (2, vI_ i2), (3, vI_ i3), (4, vR_ i4)]) dX0_loan_15 (Nat.le_of_ble_eq_true rfl) rfl ?_
      refine a_iconst (v := 1) dX0_loan_17 (by decide) ?_
      cases h
      exact a_ireturn rfl rfl rfl rfl rfl dX0_loan_18
    replace h := ifn_ c15 h
    cases h
