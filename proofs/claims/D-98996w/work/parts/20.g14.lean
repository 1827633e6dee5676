/-! PRINTED BY dec.py: X8_lands X8_boundTo X8_places X8_loses X8_areKin X8_kinMany X8_both X8_valueOf X8_asksNow X8_asksOf X8_asksBy X8_owesOf X8_canPayNow X8_frees X8_pays -/
set_option maxRecDepth 100000
def f_X8_lands_L26 (F : Nat)  (p10 : pm_A) : Nat → Int32 → pm_M → Option (Int32 × pm_M)
  | 0, _, _ => none
  | n12 + 1, x14, m13 =>
    if (gI_ m13 p10 18) ≤ x14 then
      some (1, m13)
    else
      gd_ 100 (gR_ m13 p10 38) fun a16 =>
      iz_ (!(ib_ (0 + x14) a16.2.1)) <|
      if (gI_ m13 a16 (0 + x14).toNatClampNeg) = 0 then
        gd_ 100 (gR_ m13 p10 38) fun a21 =>
        iz_ (!(ib_ (0 + x14) a21.2.1)) <|
        lt_ (pI_ m13 a21 ((0 + x14).toNatClampNeg) 1) fun m25 =>
        (f_X8_lands_L26 F p10 n12) (x14 + 1) m25
      else
        (f_X8_lands_L26 F p10 n12) (x14 + 1) m13
set_option maxHeartbeats 4000000 in
theorem w_X8_lands_L26 {G : xg_T} {l : Launch} (hl : l.stackTraces = false) {F : Nat}    (p10 : pm_A) {m0 m' : pm_M} {r : Int32} (hf11 : p10.1 = 8)  : ∀ (n : Nat) (x14 : Int32) (m13 : pm_M), f_X8_lands_L26 F p10 n x14 m13 = some (r, m') → AW_ cX8_lands RX8 (some (.boolean), "lands", 3, 2, m0, m', (.inl (some (vI_ r))), G, l, [], true) m13 26 [(0, vR_ (some p10)), (1, vI_ x14)] [] := by
  intro n
  induction n with
  | zero => intro x14 m13 h; cases h
  | succ n12 ih =>
    intro x14 m13 h
    rw [f_X8_lands_L26] at h
    refine a_iload_n 1 dX8_lands_26 rfl rfl ?_
    refine a_aload_n 0 dX8_lands_27 rfl rfl ?_
    refine a_getI kc_8 18 (by decide) rfl hf11 q1572 dX8_lands_28 ?_
    refine a_icmp_ge (tgt := 60) dX8_lands_31 (by decide) (fun c15 => ?_) (fun c15 => ?_)
    · replace h := ifp_ c15 h
      refine a_iconst (v := 1) dX8_lands_60 (by decide) ?_
      cases h
      exact a_ireturn rfl rfl rfl rfl rfl dX8_lands_61
    · replace h := ifn_ c15 h
      refine a_aload_n 0 dX8_lands_34 rfl rfl ?_
      refine a_getR kc_8 38 (by decide) rfl hf11 q1592 dX8_lands_35 ?_
      refine a_iconst (v := 0) dX8_lands_38 (by decide) ?_
      refine a_iload_n 1 dX8_lands_39 rfl rfl ?_
      refine a_iadd dX8_lands_40 ?_
      obtain ⟨a16, e17, f18, h⟩ := gd_some h
      rw [e17]
      obtain ⟨c19, h⟩ := iz_some h
      refine a_iald f18 (bn_ c19) dX8_lands_41 ?_
      refine a_if_ne (tgt := 54) dX8_lands_42 (by decide) (fun c20 => ?_) (fun c20 => ?_)
      · replace h := ifn_ c20 h
        refine a_iinc (v := x14 + 1) (ls' := [(1, vI_ (x14 + 1)), (0, vR_ (some p10))]) 1 dX8_lands_54 rfl rfl (Nat.le_of_ble_eq_true rfl) rfl ?_
        refine a_goto (tgt := 26) dX8_lands_57 (by decide) ?_
        refine aw_pick [1, 0] rfl ?_
        exact ih _ _ h
      · replace h := ifp_ c20 h
        refine a_aload_n 0 dX8_lands_45 rfl rfl ?_
        refine a_getR kc_8 38 (by decide) rfl hf11 q1592 dX8_lands_46 ?_
        refine a_iconst (v := 0) dX8_lands_49 (by decide) ?_
        refine a_iload_n 1 dX8_lands_50 rfl rfl ?_
        refine a_iadd dX8_lands_51 ?_
        refine a_iconst (v := 1) dX8_lands_52 (by decide) ?_
        obtain ⟨a21, e22, f23, h⟩ := gd_some h
        rw [e22]
        obtain ⟨c24, h⟩ := iz_some h
        obtain ⟨m25, e26, h⟩ := lt_some h
        refine a_iast f23 (bn_ c24) dX8_lands_53 ?_
        rw [← e26]
        refine a_iinc (v := x14 + 1) (ls' := [(1, vI_ (x14 + 1)), (0, vR_ (some p10))]) 1 dX8_lands_54 rfl rfl (Nat.le_of_ble_eq_true rfl) rfl ?_
        refine a_goto (tgt := 26) dX8_lands_57 (by decide) ?_
        refine aw_pick [1, 0] rfl ?_
        exact ih _ _ h
def f_X8_lands (F : Nat)  (t : pm_A) (m : pm_M) : Option (Int32 × pm_M) :=
  bm_ (f_X8_many F t 0 m) fun v3 m1 =>
  if v3 = 0 then
    some (0, m1)
  else
    gd_ 100 (gR_ m1 t 38) fun a5 =>
    iz_ (!(ib_ 64 a5.2.1)) <|
    if (gI_ m1 t 20) ≤ (gI_ m1 a5 (64 : Int32).toNatClampNeg) then
      f_X8_lands_L26 F t F 0 m1
    else
      some (0, m1)
set_option maxHeartbeats 4000000 in
theorem e_X8_lands {G : xg_T} {l : Launch} (hl : l.stackTraces = false) {F : Nat}    {t : pm_A} {m0 m' : pm_M} {r : Int32} (ht : t.1 = 8) (h : f_X8_lands F t m0 = some (r, m')) : Cal_ G l yX8_lands (ws_ yX8_lands cX8_lands 2 (some .boolean)) 3 [vR_ (some t)] m0 (.inl (some (vI_ r))) m' := by
  refine cal_of (by decide +kernel) (Nat.le_of_ble_eq_true rfl) ?_
  unfold f_X8_lands at h
  show AW_ cX8_lands RX8 (some (.boolean), "lands", 3, 2, m0, m', (.inl (some (vI_ r))), G, l, [], true) m0 0 [(0, vR_ (some t))] []
  refine a_aload_n 0 dX8_lands_0 rfl rfl ?_
  refine a_iconst (v := 0) dX8_lands_1 (by decide) ?_
  obtain ⟨v3, m1, e2, h⟩ := bm_some h
  have he2 := e_X8_many (G := G) hl ht e2
  refine c_I he2.1 (rn_V (n := 1) (As := [vI_ 0]) kc_8 ht he2 (lw_V q1904 q1906 qs60 q97 q1907) (by decide +kernel) rfl (Nat.le_of_ble_eq_true rfl) (Nat.le_of_ble_eq_true rfl) (Nat.le_of_ble_eq_true rfl) dX8_lands_2) (fun z => (os_av (As := [vI_ 0]) z).2.1) ?_
  refine a_if_eq (tgt := 22) dX8_lands_5 (by decide) (fun c4 => ?_) (fun c4 => ?_)
  · replace h := ifp_ c4 h
    refine a_iconst (v := 0) dX8_lands_22 (by decide) ?_
    cases h
    exact a_ireturn rfl rfl rfl rfl rfl dX8_lands_23
  · replace h := ifn_ c4 h
    refine a_aload_n 0 dX8_lands_8 rfl rfl ?_
    refine a_getR kc_8 38 (by decide) rfl ht q1592 dX8_lands_9 ?_
    refine a_bipush (v := 64) dX8_lands_12 (by decide) ?_
    obtain ⟨a5, e6, f7, h⟩ := gd_some h
    rw [e6]
    obtain ⟨c8, h⟩ := iz_some h
    refine a_iald f7 (bn_ c8) dX8_lands_14 ?_
    refine a_aload_n 0 dX8_lands_15 rfl rfl ?_
    refine a_getI kc_8 20 (by decide) rfl ht q1574 dX8_lands_16 ?_
    refine a_icmp_ge (tgt := 24) dX8_lands_19 (by decide) (fun c9 => ?_) (fun c9 => ?_)
    · replace h := ifp_ c9 h
      refine a_iconst (v := 0) dX8_lands_24 (by decide) ?_
      refine a_istore_n (ls' := [(1, vI_ 0), (0, vR_ (some t))]) dX8_lands_25 rfl (Nat.le_of_ble_eq_true rfl) rfl ?_
      refine aw_pick [1, 0] rfl ?_
      exact w_X8_lands_L26 hl _ ht _ _ _ h
    · replace h := ifn_ c9 h
      refine a_iconst (v := 0) dX8_lands_22 (by decide) ?_
      cases h
      exact a_ireturn rfl rfl rfl rfl rfl dX8_lands_23
def f_X8_boundTo_L4 (F : Nat)  (p1 : pm_A) (p3 : Int32) : Nat → Int32 → Int32 → pm_M → Option (Int32 × pm_M)
  | 0, _, _, _ => none
  | n4 + 1, x6, x7, m5 =>
    if (gI_ m5 p1 18) ≤ x7 then
      some (x6, m5)
    else
      gd_ 100 (gR_ m5 p1 38) fun a9 =>
      iz_ (!(ib_ (0 + x7) a9.2.1)) <|
      if (gI_ m5 a9 (0 + x7).toNatClampNeg) = 2 then
        gd_ 100 (gR_ m5 p1 38) fun a14 =>
        iz_ (!(ib_ (8 + x7) a14.2.1)) <|
        if (gI_ m5 a14 (8 + x7).toNatClampNeg) = p3 then
          (f_X8_boundTo_L4 F p1 p3 n4) (x6 + 1) (x7 + 1) m5
        else
          (f_X8_boundTo_L4 F p1 p3 n4) (x6 + 0) (x7 + 1) m5
      else
        (f_X8_boundTo_L4 F p1 p3 n4) (x6 + 0) (x7 + 1) m5
set_option maxHeartbeats 4000000 in
theorem w_X8_boundTo_L4 {G : xg_T} {l : Launch} (hl : l.stackTraces = false) {F : Nat}    (p1 : pm_A) (p3 : Int32) {m0 m' : pm_M} {r : Int32} (hf2 : p1.1 = 8)  : ∀ (n : Nat) (x6 : Int32) (x7 : Int32) (m5 : pm_M), f_X8_boundTo_L4 F p1 p3 n x6 x7 m5 = some (r, m') → AW_ cX8_boundTo RX8 (some (.int), "boundTo", 2, 4, m0, m', (.inl (some (vI_ r))), G, l, [], true) m5 4 [(0, vR_ (some p1)), (1, vI_ p3), (2, vI_ x6), (3, vI_ x7)] [] := by
  intro n
  induction n with
  | zero => intro x6 x7 m5 h; cases h
  | succ n4 ih =>
    intro x6 x7 m5 h
    rw [f_X8_boundTo_L4] at h
    refine a_iload_n 3 dX8_boundTo_4 rfl rfl ?_
    refine a_aload_n 0 dX8_boundTo_5 rfl rfl ?_
    refine a_getI kc_8 18 (by decide) rfl hf2 q1572 dX8_boundTo_6 ?_
    refine a_icmp_ge (tgt := 51) dX8_boundTo_9 (by decide) (fun c8 => ?_) (fun c8 => ?_)
    · replace h := ifp_ c8 h
      refine a_iload_n 2 dX8_boundTo_51 rfl rfl ?_
      cases h
      exact a_ireturn rfl rfl rfl rfl rfl dX8_boundTo_52
    · replace h := ifn_ c8 h
      refine a_iload_n 2 dX8_boundTo_12 rfl rfl ?_
      refine a_aload_n 0 dX8_boundTo_13 rfl rfl ?_
      refine a_getR kc_8 38 (by decide) rfl hf2 q1592 dX8_boundTo_14 ?_
      refine a_iconst (v := 0) dX8_boundTo_17 (by decide) ?_
      refine a_iload_n 3 dX8_boundTo_18 rfl rfl ?_
      refine a_iadd dX8_boundTo_19 ?_
      obtain ⟨a9, e10, f11, h⟩ := gd_some h
      rw [e10]
      obtain ⟨c12, h⟩ := iz_some h
      refine a_iald f11 (bn_ c12) dX8_boundTo_20 ?_
      refine a_iconst (v := 2) dX8_boundTo_21 (by decide) ?_
      refine a_icmp_ne (tgt := 42) dX8_boundTo_22 (by decide) (fun c13 => ?_) (fun c13 => ?_)
      · replace h := ifn_ c13 h
        refine a_iconst (v := 0) dX8_boundTo_42 (by decide) ?_
        refine a_iadd dX8_boundTo_43 ?_
        refine a_istore_n (ls' := [(2, vI_ (x6 + 0)), (0, vR_ (some p1)), (1, vI_ p3), (3, vI_ x7)]) dX8_boundTo_44 rfl (Nat.le_of_ble_eq_true rfl) rfl ?_
        refine a_iinc (v := x7 + 1) (ls' := [(3, vI_ (x7 + 1)), (2, vI_ (x6 + 0)), (0, vR_ (some p1)), (1, vI_ p3)]) 3 dX8_boundTo_45 rfl rfl (Nat.le_of_ble_eq_true rfl) rfl ?_
        refine a_goto (tgt := 4) dX8_boundTo_48 (by decide) ?_
        refine aw_pick [2, 3, 1, 0] rfl ?_
        exact ih _ _ _ h
      · replace h := ifp_ c13 h
        refine a_aload_n 0 dX8_boundTo_25 rfl rfl ?_
        refine a_getR kc_8 38 (by decide) rfl hf2 q1592 dX8_boundTo_26 ?_
        refine a_bipush (v := 8) dX8_boundTo_29 (by decide) ?_
        refine a_iload_n 3 dX8_boundTo_31 rfl rfl ?_
        refine a_iadd dX8_boundTo_32 ?_
        obtain ⟨a14, e15, f16, h⟩ := gd_some h
        rw [e15]
        obtain ⟨c17, h⟩ := iz_some h
        refine a_iald f16 (bn_ c17) dX8_boundTo_33 ?_
        refine a_iload_n 1 dX8_boundTo_34 rfl rfl ?_
        refine a_icmp_ne (tgt := 42) dX8_boundTo_35 (by decide) (fun c18 => ?_) (fun c18 => ?_)
        · replace h := ifn_ c18 h
          refine a_iconst (v := 0) dX8_boundTo_42 (by decide) ?_
          refine a_iadd dX8_boundTo_43 ?_
          refine a_istore_n (ls' := [(2, vI_ (x6 + 0)), (0, vR_ (some p1)), (1, vI_ p3), (3, vI_ x7)]) dX8_boundTo_44 rfl (Nat.le_of_ble_eq_true rfl) rfl ?_
          refine a_iinc (v := x7 + 1) (ls' := [(3, vI_ (x7 + 1)), (2, vI_ (x6 + 0)), (0, vR_ (some p1)), (1, vI_ p3)]) 3 dX8_boundTo_45 rfl rfl (Nat.le_of_ble_eq_true rfl) rfl ?_
          refine a_goto (tgt := 4) dX8_boundTo_48 (by decide) ?_
          refine aw_pick [2, 3, 1, 0] rfl ?_
          exact ih _ _ _ h
        · replace h := ifp_ c18 h
          refine a_iconst (v := 1) dX8_boundTo_38 (by decide) ?_
          refine a_goto (tgt := 43) dX8_boundTo_39 (by decide) ?_
          refine a_iadd dX8_boundTo_43 ?_
          refine a_istore_n (ls' := [(2, vI_ (x6 + 1)), (0, vR_ (some p1)), (1, vI_ p3), (3, vI_ x7)]) dX8_boundTo_44 rfl (Nat.le_of_ble_eq_true rfl) rfl ?_
          refine a_iinc (v := x7 + 1) (ls' := [(3, vI_ (x7 + 1)), (2, vI_ (x6 + 1)), (0, vR_ (some p1)), (1, vI_ p3)]) 3 dX8_boundTo_45 rfl rfl (Nat.le_of_ble_eq_true rfl) rfl ?_
          refine a_goto (tgt := 4) dX8_boundTo_48 (by decide) ?_
          refine aw_pick [2, 3, 1, 0] rfl ?_
          exact ih _ _ _ h
def f_X8_boundTo (F : Nat)  (t : pm_A) (i0 : Int32) (m : pm_M) : Option (Int32 × pm_M) :=
  f_X8_boundTo_L4 F t i0 F 0 0 m
set_option maxHeartbeats 4000000 in
theorem e_X8_boundTo {G : xg_T} {l : Launch} (hl : l.stackTraces = false) {F : Nat}    {t : pm_A} {i0 : Int32} {m0 m' : pm_M} {r : Int32} (ht : t.1 = 8) (h : f_X8_boundTo F t i0 m0 = some (r, m')) : Cal_ G l yX8_boundTo (ws_ yX8_boundTo cX8_boundTo 4 (some .int)) 2 [vR_ (some t), vI_ i0] m0 (.inl (some (vI_ r))) m' := by
  refine cal_of (by decide +kernel) (Nat.le_of_ble_eq_true rfl) ?_
  unfold f_X8_boundTo at h
  show AW_ cX8_boundTo RX8 (some (.int), "boundTo", 2, 4, m0, m', (.inl (some (vI_ r))), G, l, [], true) m0 0 [(0, vR_ (some t)), (1, vI_ i0)] []
  refine a_iconst (v := 0) dX8_boundTo_0 (by decide) ?_
  refine a_istore_n (ls' := [(2, vI_ 0), (0, vR_ (some t)), (1, vI_ i0)]) dX8_boundTo_1 rfl (Nat.le_of_ble_eq_true rfl) rfl ?_
  refine a_iconst (v := 0) dX8_boundTo_2 (by decide) ?_
  refine a_istore_n (ls' := [(3, vI_ 0), (2, vI_ 0), (0, vR_ (some t)), (1, vI_ i0)]) dX8_boundTo_3 rfl (Nat.le_of_ble_eq_true rfl) rfl ?_
  refine aw_pick [2, 3, 1, 0] rfl ?_
  exact w_X8_boundTo_L4 hl _ _ ht _ _ _ _ h
def f_X8_places (F : Nat)  (t : pm_A) (i0 : Int32) (i1 : Int32) (m : pm_M) : Option (Int32 × pm_M) :=
  gd_ 100 (gR_ m t 38) fun a1 =>
  iz_ (!(ib_ (0 + i0) a1.2.1)) <|
  if (gI_ m a1 (0 + i0).toNatClampNeg) = 1 then
    bm_ (f_X8_boundTo F t i1 m) fun v8 m6 =>
    gd_ 100 (gR_ m6 t 13) fun a9 =>
    iz_ (!(ib_ ((3 * i1) + 2) a9.2.1)) <|
    if v8 < (gI_ m6 a9 ((3 * i1) + 2).toNatClampNeg) then
      gd_ 100 (gR_ m6 t 38) fun a14 =>
      iz_ (!(ib_ (0 + i0) a14.2.1)) <|
      lt_ (pI_ m6 a14 ((0 + i0).toNatClampNeg) 2) fun m18 =>
      gd_ 100 (gR_ m18 t 38) fun a20 =>
      iz_ (!(ib_ (8 + i0) a20.2.1)) <|
      lt_ (pI_ m18 a20 ((8 + i0).toNatClampNeg) i1) fun m24 =>
      gd_ 100 (gR_ m24 t 38) fun a26 =>
      iz_ (!(ib_ (16 + i0) a26.2.1)) <|
      lt_ (pI_ m24 a26 ((16 + i0).toNatClampNeg) 0) fun m30 =>
      gd_ 100 (gR_ m30 t 38) fun a32 =>
      iz_ (!(ib_ 64 a32.2.1)) <|
      iz_ (!(ib_ (48 + i0) a32.2.1)) <|
      lt_ (pI_ m30 a32 ((48 + i0).toNatClampNeg) (gI_ m30 a32 (64 : Int32).toNatClampNeg)) fun m37 =>
      some (1, m37)
    else
      some (0, m6)
  else
    some (0, m)
set_option maxHeartbeats 4000000 in
theorem e_X8_places {G : xg_T} {l : Launch} (hl : l.stackTraces = false) {F : Nat}    {t : pm_A} {i0 : Int32} {i1 : Int32} {m0 m' : pm_M} {r : Int32} (ht : t.1 = 8) (h : f_X8_places F t i0 i1 m0 = some (r, m')) : Cal_ G l yX8_places (ws_ yX8_places cX8_places 3 (some .boolean)) 3 [vR_ (some t), vI_ i0, vI_ i1] m0 (.inl (some (vI_ r))) m' := by
  refine cal_of (by decide +kernel) (Nat.le_of_ble_eq_true rfl) ?_
  unfold f_X8_places at h
  show AW_ cX8_places RX8 (some (.boolean), "places", 3, 3, m0, m', (.inl (some (vI_ r))), G, l, [], true) m0 0 [(0, vR_ (some t)), (1, vI_ i0), (2, vI_ i1)] []
  refine a_aload_n 0 dX8_places_0 rfl rfl ?_
  refine a_getR kc_8 38 (by decide) rfl ht q1592 dX8_places_1 ?_
  refine a_iconst (v := 0) dX8_places_4 (by decide) ?_
  refine a_iload_n 1 dX8_places_5 rfl rfl ?_
  refine a_iadd dX8_places_6 ?_
  obtain ⟨a1, e2, f3, h⟩ := gd_some h
  rw [e2]
  obtain ⟨c4, h⟩ := iz_some h
  refine a_iald f3 (bn_ c4) dX8_places_7 ?_
  refine a_iconst (v := 1) dX8_places_8 (by decide) ?_
  refine a_icmp_ne (tgt := 30) dX8_places_9 (by decide) (fun c5 => ?_) (fun c5 => ?_)
  · replace h := ifn_ c5 h
    refine a_iconst (v := 0) dX8_places_30 (by decide) ?_
    cases h
    exact a_ireturn rfl rfl rfl rfl rfl dX8_places_31
  · replace h := ifp_ c5 h
    refine a_aload_n 0 dX8_places_12 rfl rfl ?_
    refine a_iload_n 2 dX8_places_13 rfl rfl ?_
    obtain ⟨v8, m6, e7, h⟩ := bm_some h
    have he7 := e_X8_boundTo (G := G) hl ht e7
    refine c_I he7.1 (rn_V (n := 1) (As := [vI_ i1]) kc_8 ht he7 (lw_V q1912 q1914 qs62 q97 q1915) (by decide +kernel) rfl (Nat.le_of_ble_eq_true rfl) (Nat.le_of_ble_eq_true rfl) (Nat.le_of_ble_eq_true rfl) dX8_places_14) (fun z => (os_av (As := [vI_ i1]) z).2.1) ?_
    refine a_aload_n 0 dX8_places_17 rfl rfl ?_
    refine a_getR kc_8 13 (by decide) rfl ht q1567 dX8_places_18 ?_
    refine a_iconst (v := 3) dX8_places_21 (by decide) ?_
    refine a_iload_n 2 dX8_places_22 rfl rfl ?_
    refine a_imul dX8_places_23 ?_
    refine a_iconst (v := 2) dX8_places_24 (by decide) ?_
    refine a_iadd dX8_places_25 ?_
    obtain ⟨a9, e10, f11, h⟩ := gd_some h
    rw [e10]
    obtain ⟨c12, h⟩ := iz_some h
    refine a_iald f11 (bn_ c12) dX8_places_26 ?_
    refine a_icmp_lt (tgt := 32) dX8_places_27 (by decide) (fun c13 => ?_) (fun c13 => ?_)
    · replace h := ifp_ c13 h
      refine a_aload_n 0 dX8_places_32 rfl rfl ?_
      refine a_getR kc_8 38 (by decide) rfl ht q1592 dX8_places_33 ?_
      refine a_iconst (v := 0) dX8_places_36 (by decide) ?_
      refine a_iload_n 1 dX8_places_37 rfl rfl ?_
      refine a_iadd dX8_places_38 ?_
      refine a_iconst (v := 2) dX8_places_39 (by decide) ?_
      obtain ⟨a14, e15, f16, h⟩ := gd_some h
      rw [e15]
      obtain ⟨c17, h⟩ := iz_some h
      obtain ⟨m18, e19, h⟩ := lt_some h
      refine a_iast f16 (bn_ c17) dX8_places_40 ?_
      rw [← e19]
      refine a_aload_n 0 dX8_places_41 rfl rfl ?_
      refine a_getR kc_8 38 (by decide) rfl ht q1592 dX8_places_42 ?_
      refine a_bipush (v := 8) dX8_places_45 (by decide) ?_
      refine a_iload_n 1 dX8_places_47 rfl rfl ?_
      refine a_iadd dX8_places_48 ?_
      refine a_iload_n 2 dX8_places_49 rfl rfl ?_
      obtain ⟨a20, e21, f22, h⟩ := gd_some h
      rw [e21]
      obtain ⟨c23, h⟩ := iz_some h
      obtain ⟨m24, e25, h⟩ := lt_some h
      refine a_iast f22 (bn_ c23) dX8_places_50 ?_
      rw [← e25]
      refine a_aload_n 0 dX8_places_51 rfl rfl ?_
      refine a_getR kc_8 38 (by decide) rfl ht q1592 dX8_places_52 ?_
      refine a_bipush (v := 16) dX8_places_55 (by decide) ?_
      refine a_iload_n 1 dX8_places_57 rfl rfl ?_
      refine a_iadd dX8_places_58 ?_
      refine a_iconst (v := 0) dX8_places_59 (by decide) ?_
      obtain ⟨a26, e27, f28, h⟩ := gd_some h
      rw [e27]
      obtain ⟨c29, h⟩ := iz_some h
      obtain ⟨m30, e31, h⟩ := lt_some h
      refine a_iast f28 (bn_ c29) dX8_places_60 ?_
      rw [← e31]
      refine a_aload_n 0 dX8_places_61 rfl rfl ?_
      refine a_getR kc_8 38 (by decide) rfl ht q1592 dX8_places_62 ?_
      refine a_bipush (v := 48) dX8_places_65 (by decide) ?_
      refine a_iload_n 1 dX8_places_67 rfl rfl ?_
      refine a_iadd dX8_places_68 ?_
      refine a_aload_n 0 dX8_places_69 rfl rfl ?_
      refine a_getR kc_8 38 (by decide) rfl ht q1592 dX8_places_70 ?_
      refine a_bipush (v := 64) dX8_places_73 (by decide) ?_
      obtain ⟨a32, e33, f34, h⟩ := gd_some h
      rw [e33]
      obtain ⟨c35, h⟩ := iz_some h
      refine a_iald f34 (bn_ c35) dX8_places_75 ?_
      obtain ⟨c36, h⟩ := iz_some h
      obtain ⟨m37, e38, h⟩ := lt_some h
      refine a_iast f34 (bn_ c36) dX8_places_76 ?_
      rw [← e38]
      refine a_iconst (v := 1) dX8_places_77 (by decide) ?_
      cases h
      exact a_ireturn rfl rfl rfl rfl rfl dX8_places_78
    · replace h := ifn_ c13 h
      refine a_iconst (v := 0) dX8_places_30 (by decide) ?_
      cases h
      exact a_ireturn rfl rfl rfl rfl rfl dX8_places_31
def f_X8_loses (F : Nat)  (t : pm_A) (i0 : Int32) (i1 : Int32) (m : pm_M) : Option (Int32 × pm_M) :=
  gd_ 100 (gR_ m t 38) fun a1 =>
  iz_ (!(ib_ (0 + i0) a1.2.1)) <|
  if (gI_ m a1 (0 + i0).toNatClampNeg) = 3 then
    some (0, m)
  else
    gd_ 100 (gR_ m t 38) fun a6 =>
    iz_ (!(ib_ (40 + i0) a6.2.1)) <|
    if (gI_ m a6 (40 + i0).toNatClampNeg) = i1 then
      some (0, m)
    else
      gd_ 100 (gR_ m t 38) fun a11 =>
      iz_ (!(ib_ (40 + i0) a11.2.1)) <|
      lt_ (pI_ m a11 ((40 + i0).toNatClampNeg) i1) fun m15 =>
      some (1, m15)
set_option maxHeartbeats 4000000 in
theorem e_X8_loses {G : xg_T} {l : Launch} (hl : l.stackTraces = false) {F : Nat}    {t : pm_A} {i0 : Int32} {i1 : Int32} {m0 m' : pm_M} {r : Int32} (ht : t.1 = 8) (h : f_X8_loses F t i0 i1 m0 = some (r, m')) : Cal_ G l yX8_loses (ws_ yX8_loses cX8_loses 3 (some .boolean)) 2 [vR_ (some t), vI_ i0, vI_ i1] m0 (.inl (some (vI_ r))) m' := by
  refine cal_of (by decide +kernel) (Nat.le_of_ble_eq_true rfl) ?_
  unfold f_X8_loses at h
  show AW_ cX8_loses RX8 (some (.boolean), "loses", 2, 3, m0, m', (.inl (some (vI_ r))), G, l, [], true) m0 0 [(0, vR_ (some t)), (1, vI_ i0), (2, vI_ i1)] []
  refine a_aload_n 0 dX8_loses_0 rfl rfl ?_
  refine a_getR kc_8 38 (by decide) rfl ht q1592 dX8_loses_1 ?_
  refine a_iconst (v := 0) dX8_loses_4 (by decide) ?_
  refine a_iload_n 1 dX8_loses_5 rfl rfl ?_
  refine a_iadd dX8_loses_6 ?_
  obtain ⟨a1, e2, f3, h⟩ := gd_some h
  rw [e2]
  obtain ⟨c4, h⟩ := iz_some h
  refine a_iald f3 (bn_ c4) dX8_loses_7 ?_
  refine a_iconst (v := 3) dX8_loses_8 (by decide) ?_
  refine a_icmp_eq (tgt := 25) dX8_loses_9 (by decide) (fun c5 => ?_) (fun c5 => ?_)
  · replace h := ifp_ c5 h
    refine a_iconst (v := 0) dX8_loses_25 (by decide) ?_
    cases h
    exact a_ireturn rfl rfl rfl rfl rfl dX8_loses_26
  · replace h := ifn_ c5 h
    refine a_aload_n 0 dX8_loses_12 rfl rfl ?_
    refine a_getR kc_8 38 (by decide) rfl ht q1592 dX8_loses_13 ?_
    refine a_bipush (v := 40) dX8_loses_16 (by decide) ?_
    refine a_iload_n 1 dX8_loses_18 rfl rfl ?_
    refine a_iadd dX8_loses_19 ?_
    obtain ⟨a6, e7, f8, h⟩ := gd_some h
    rw [e7]
    obtain ⟨c9, h⟩ := iz_some h
    refine a_iald f8 (bn_ c9) dX8_loses_20 ?_
    refine a_iload_n 2 dX8_loses_21 rfl rfl ?_
    refine a_icmp_ne (tgt := 27) dX8_loses_22 (by decide) (fun c10 => ?_) (fun c10 => ?_)
    · replace h := ifn_ c10 h
      refine a_aload_n 0 dX8_loses_27 rfl rfl ?_
      refine a_getR kc_8 38 (by decide) rfl ht q1592 dX8_loses_28 ?_
      refine a_bipush (v := 40) dX8_loses_31 (by decide) ?_
      refine a_iload_n 1 dX8_loses_33 rfl rfl ?_
      refine a_iadd dX8_loses_34 ?_
      refine a_iload_n 2 dX8_loses_35 rfl rfl ?_
      obtain ⟨a11, e12, f13, h⟩ := gd_some h
      rw [e12]
      obtain ⟨c14, h⟩ := iz_some h
      obtain ⟨m15, e16, h⟩ := lt_some h
      refine a_iast f13 (bn_ c14) dX8_loses_36 ?_
      rw [← e16]
      refine a_iconst (v := 1) dX8_loses_37 (by decide) ?_
      cases h
      exact a_ireturn rfl rfl rfl rfl rfl dX8_loses_38
    · replace h := ifp_ c10 h
      refine a_iconst (v := 0) dX8_loses_25 (by decide) ?_
      cases h
      exact a_ireturn rfl rfl rfl rfl rfl dX8_loses_26
def f_X8_areKin (F : Nat)  (t : pm_A) (i0 : Int32) (i1 : Int32) (m : pm_M) : Option (Int32 × pm_M) :=
  if i0 = i1 then
    some (0, m)
  else
    gd_ 100 (gR_ m t 12) fun a2 =>
    iz_ (!(ib_ ((4 * i0) + 2) a2.2.1)) <|
    if (gI_ m a2 ((4 * i0) + 2).toNatClampNeg) ≤ 0 then
      some (0, m)
    else
      gd_ 100 (gR_ m t 12) fun a7 =>
      iz_ (!(ib_ ((4 * i0) + 2) a7.2.1)) <|
      gd_ 100 (gR_ m t 12) fun a11 =>
      iz_ (!(ib_ ((4 * i1) + 2) a11.2.1)) <|
      if (gI_ m a7 ((4 * i0) + 2).toNatClampNeg) = (gI_ m a11 ((4 * i1) + 2).toNatClampNeg) then
        some (1, m)
      else
        some (0, m)
set_option maxHeartbeats 4000000 in
theorem e_X8_areKin {G : xg_T} {l : Launch} (hl : l.stackTraces = false) {F : Nat}    {t : pm_A} {i0 : Int32} {i1 : Int32} {m0 m' : pm_M} {r : Int32} (ht : t.1 = 8) (h : f_X8_areKin F t i0 i1 m0 = some (r, m')) : Cal_ G l yX8_areKin (ws_ yX8_areKin cX8_areKin 3 (some .boolean)) 2 [vR_ (some t), vI_ i0, vI_ i1] m0 (.inl (some (vI_ r))) m' := by
  refine cal_of (by decide +kernel) (Nat.le_of_ble_eq_true rfl) ?_
  unfold f_X8_areKin at h
  show AW_ cX8_areKin RX8 (some (.boolean), "areKin", 2, 3, m0, m', (.inl (some (vI_ r))), G, l, [], true) m0 0 [(0, vR_ (some t)), (1, vI_ i0), (2, vI_ i1)] []
  refine a_iload_n 1 dX8_areKin_0 rfl rfl ?_
  refine a_iload_n 2 dX8_areKin_1 rfl rfl ?_
  refine a_icmp_eq (tgt := 45) dX8_areKin_2 (by decide) (fun c1 => ?_) (fun c1 => ?_)
  · replace h := ifp_ c1 h
    refine a_iconst (v := 0) dX8_areKin_45 (by decide) ?_
    cases h
    exact a_ireturn rfl rfl rfl rfl rfl dX8_areKin_46
  · replace h := ifn_ c1 h
    refine a_aload_n 0 dX8_areKin_5 rfl rfl ?_
    refine a_getR kc_8 12 (by decide) rfl ht q1566 dX8_areKin_6 ?_
    refine a_iconst (v := 4) dX8_areKin_9 (by decide) ?_
    refine a_iload_n 1 dX8_areKin_10 rfl rfl ?_
    refine a_imul dX8_areKin_11 ?_
    refine a_iconst (v := 2) dX8_areKin_12 (by decide) ?_
    refine a_iadd dX8_areKin_13 ?_
    obtain ⟨a2, e3, f4, h⟩ := gd_some h
    rw [e3]
    obtain ⟨c5, h⟩ := iz_some h
    refine a_iald f4 (bn_ c5) dX8_areKin_14 ?_
    refine a_if_le (tgt := 45) dX8_areKin_15 (by decide) (fun c6 => ?_) (fun c6 => ?_)
    · replace h := ifp_ c6 h
      refine a_iconst (v := 0) dX8_areKin_45 (by decide) ?_
      cases h
      exact a_ireturn rfl rfl rfl rfl rfl dX8_areKin_46
    · replace h := ifn_ c6 h
      refine a_aload_n 0 dX8_areKin_18 rfl rfl ?_
      refine a_getR kc_8 12 (by decide) rfl ht q1566 dX8_areKin_19 ?_
      refine a_iconst (v := 4) dX8_areKin_22 (by decide) ?_
      refine a_iload_n 1 dX8_areKin_23 rfl rfl ?_
      refine a_imul dX8_areKin_24 ?_
      refine a_iconst (v := 2) dX8_areKin_25 (by decide) ?_
      refine a_iadd dX8_areKin_26 ?_
      obtain ⟨a7, e8, f9, h⟩ := gd_some h
      rw [e8]
      obtain ⟨c10, h⟩ := iz_some h
      refine a_iald f9 (bn_ c10) dX8_areKin_27 ?_
      refine a_aload_n 0 dX8_areKin_28 rfl rfl ?_
      refine a_getR kc_8 12 (by decide) rfl ht q1566 dX8_areKin_29 ?_
      refine a_iconst (v := 4) dX8_areKin_32 (by decide) ?_
      refine a_iload_n 2 dX8_areKin_33 rfl rfl ?_
      refine a_imul dX8_areKin_34 ?_
      refine a_iconst (v := 2) dX8_areKin_35 (by decide) ?_
      refine a_iadd dX8_areKin_36 ?_
      obtain ⟨a11, e12, f13, h⟩ := gd_some h
      rw [e12]
      obtain ⟨c14, h⟩ := iz_some h
      refine a_iald f13 (bn_ c14) dX8_areKin_37 ?_
      refine a_icmp_ne (tgt := 45) dX8_areKin_38 (by decide) (fun c15 => ?_) (fun c15 => ?_)
      · replace h := ifn_ c15 h
        refine a_iconst (v := 0) dX8_areKin_45 (by decide) ?_
        cases h
        exact a_ireturn rfl rfl rfl rfl rfl dX8_areKin_46
      · replace h := ifp_ c15 h
        refine a_iconst (v := 1) dX8_areKin_41 (by decide) ?_
        refine a_goto (tgt := 46) dX8_areKin_42 (by decide) ?_
        cases h
        exact a_ireturn rfl rfl rfl rfl rfl dX8_areKin_46
def f_X8_kinMany_L4 (F : Nat)  (p1 : pm_A) (p3 : Int32) : Nat → Int32 → Int32 → pm_M → Option (Int32 × pm_M)
  | 0, _, _, _ => none
  | n4 + 1, x6, x7, m5 =>
    if (gI_ m5 p1 18) ≤ x7 then
      some (x6, m5)
    else
      bm_ (f_X8_areKin F p1 p3 x7 m5) fun v11 m9 =>
      if v11 = 0 then
        (f_X8_kinMany_L4 F p1 p3 n4) (x6 + 0) (x7 + 1) m9
      else
        (f_X8_kinMany_L4 F p1 p3 n4) (x6 + 1) (x7 + 1) m9
set_option maxHeartbeats 4000000 in
theorem w_X8_kinMany_L4 {G : xg_T} {l : Launch} (hl : l.stackTraces = false) {F : Nat}    (p1 : pm_A) (p3 : Int32) {m0 m' : pm_M} {r : Int32} (hf2 : p1.1 = 8)  : ∀ (n : Nat) (x6 : Int32) (x7 : Int32) (m5 : pm_M), f_X8_kinMany_L4 F p1 p3 n x6 x7 m5 = some (r, m') → AW_ cX8_kinMany RX8 (some (.int), "kinMany", 3, 4, m0, m', (.inl (some (vI_ r))), G, l, [], true) m5 4 [(0, vR_ (some p1)), (1, vI_ p3), (2, vI_ x6), (3, vI_ x7)] [] := by
  intro n
  induction n with
  | zero => intro x6 x7 m5 h; cases h
  | succ n4 ih =>
    intro x6 x7 m5 h
    rw [f_X8_kinMany_L4] at h
    refine a_iload_n 3 dX8_kinMany_4 rfl rfl ?_
    refine a_aload_n 0 dX8_kinMany_5 rfl rfl ?_
    refine a_getI kc_8 18 (by decide) rfl hf2 q1572 dX8_kinMany_6 ?_
    refine a_icmp_ge (tgt := 35) dX8_kinMany_9 (by decide) (fun c8 => ?_) (fun c8 => ?_)
    · replace h := ifp_ c8 h
      refine a_iload_n 2 dX8_kinMany_35 rfl rfl ?_
      cases h
      exact a_ireturn rfl rfl rfl rfl rfl dX8_kinMany_36
    · replace h := ifn_ c8 h
      refine a_iload_n 2 dX8_kinMany_12 rfl rfl ?_
      refine a_aload_n 0 dX8_kinMany_13 rfl rfl ?_
      refine a_iload_n 1 dX8_kinMany_14 rfl rfl ?_
      refine a_iload_n 3 dX8_kinMany_15 rfl rfl ?_
      obtain ⟨v11, m9, e10, h⟩ := bm_some h
      have he10 := e_X8_areKin (G := G) hl hf2 e10
      refine c_I he10.1 (rn_V (n := 2) (As := [vI_ p3, vI_ x7]) kc_8 hf2 he10 (lw_V q1944 q1946 qs70 q97 q1947) (by decide +kernel) rfl (Nat.le_of_ble_eq_true rfl) (Nat.le_of_ble_eq_true rfl) (Nat.le_of_ble_eq_true rfl) dX8_kinMany_16) (fun z => (os_av (As := [vI_ p3, vI_ x7]) z).2.1) ?_
      refine a_if_eq (tgt := 26) dX8_kinMany_19 (by decide) (fun c12 => ?_) (fun c12 => ?_)
      · replace h := ifp_ c12 h
        refine a_iconst (v := 0) dX8_kinMany_26 (by decide) ?_
        refine a_iadd dX8_kinMany_27 ?_
        refine a_istore_n (ls' := [(2, vI_ (x6 + 0)), (0, vR_ (some p1)), (1, vI_ p3), (3, vI_ x7)]) dX8_kinMany_28 rfl (Nat.le_of_ble_eq_true rfl) rfl ?_
        refine a_iinc (v := x7 + 1) (ls' := [(3, vI_ (x7 + 1)), (2, vI_ (x6 + 0)), (0, vR_ (some p1)), (1, vI_ p3)]) 3 dX8_kinMany_29 rfl rfl (Nat.le_of_ble_eq_true rfl) rfl ?_
        refine a_goto (tgt := 4) dX8_kinMany_32 (by decide) ?_
        refine aw_pick [2, 3, 1, 0] rfl ?_
        exact ih _ _ _ h
      · replace h := ifn_ c12 h
        refine a_iconst (v := 1) dX8_kinMany_22 (by decide) ?_
        refine a_goto (tgt := 27) dX8_kinMany_23 (by decide) ?_
        refine a_iadd dX8_kinMany_27 ?_
        refine a_istore_n (ls' := [(2, vI_ (x6 + 1)), (0, vR_ (some p1)), (1, vI_ p3), (3, vI_ x7)]) dX8_kinMany_28 rfl (Nat.le_of_ble_eq_true rfl) rfl ?_
        refine a_iinc (v := x7 + 1) (ls' := [(3, vI_ (x7 + 1)), (2, vI_ (x6 + 1)), (0, vR_ (some p1)), (1, vI_ p3)]) 3 dX8_kinMany_29 rfl rfl (Nat.le_of_ble_eq_true rfl) rfl ?_
        refine a_goto (tgt := 4) dX8_kinMany_32 (by decide) ?_
        refine aw_pick [2, 3, 1, 0] rfl ?_
        exact ih _ _ _ h
def f_X8_kinMany (F : Nat)  (t : pm_A) (i0 : Int32) (m : pm_M) : Option (Int32 × pm_M) :=
  f_X8_kinMany_L4 F t i0 F 0 0 m
set_option maxHeartbeats 4000000 in
theorem e_X8_kinMany {G : xg_T} {l : Launch} (hl : l.stackTraces = false) {F : Nat}    {t : pm_A} {i0 : Int32} {m0 m' : pm_M} {r : Int32} (ht : t.1 = 8) (h : f_X8_kinMany F t i0 m0 = some (r, m')) : Cal_ G l yX8_kinMany (ws_ yX8_kinMany cX8_kinMany 4 (some .int)) 3 [vR_ (some t), vI_ i0] m0 (.inl (some (vI_ r))) m' := by
  refine cal_of (by decide +kernel) (Nat.le_of_ble_eq_true rfl) ?_
  unfold f_X8_kinMany at h
  show AW_ cX8_kinMany RX8 (some (.int), "kinMany", 3, 4, m0, m', (.inl (some (vI_ r))), G, l, [], true) m0 0 [(0, vR_ (some t)), (1, vI_ i0)] []
  refine a_iconst (v := 0) dX8_kinMany_0 (by decide) ?_
  refine a_istore_n (ls' := [(2, vI_ 0), (0, vR_ (some t)), (1, vI_ i0)]) dX8_kinMany_1 rfl (Nat.le_of_ble_eq_true rfl) rfl ?_
  refine a_iconst (v := 0) dX8_kinMany_2 (by decide) ?_
  refine a_istore_n (ls' := [(3, vI_ 0), (2, vI_ 0), (0, vR_ (some t)), (1, vI_ i0)]) dX8_kinMany_3 rfl (Nat.le_of_ble_eq_true rfl) rfl ?_
  refine aw_pick [2, 3, 1, 0] rfl ?_
  exact w_X8_kinMany_L4 hl _ _ ht _ _ _ _ h
def f_X8_both (F : Nat)  (i0 : Int32) (i1 : Int32) (i2 : Int32) (m : pm_M) : Option (Int32 × pm_M) :=
  if i0 = 2 then
    some ((i1 + i2), m)
  else
    if i0 = 3 then
      some ((i1 - i2), m)
    else
      if i0 = 4 then
        some ((i1 * i2), m)
      else
        if i0 = 5 then
          if i2 = 0 then
            some (0, m)
          else
            iz_ (decide (i2 = 0)) <|
            some ((i1 / i2), m)
        else
          jn_ (fun (y7 : Int32) (m6 : pm_M) =>
            jn_ (fun (y10 : Int32) (y11 : Int32) (m9 : pm_M) =>
              if y10 = y11 then
                some (i1, m9)
              else
                some (i2, m9)
            ) fun k8 =>
            if i0 = 6 then
              k8 y7 1 m6
            else
              k8 y7 0 m6
          ) fun k5 =>
          if i2 ≤ i1 then
            k5 0 m
          else
            k5 1 m
set_option maxHeartbeats 4000000 in
theorem e_X8_both {G : xg_T} {l : Launch} (hl : l.stackTraces = false) {F : Nat}    {i0 : Int32} {i1 : Int32} {i2 : Int32} {m0 m' : pm_M} {r : Int32} (h : f_X8_both F i0 i1 i2 m0 = some (r, m')) : Cal_ G l yX8_both (ws_ yX8_both cX8_both 3 (some .int)) 2 [vI_ i0, vI_ i1, vI_ i2] m0 (.inl (some (vI_ r))) m' := by
  refine cal_of (by decide +kernel) (Nat.le_of_ble_eq_true rfl) ?_
  unfold f_X8_both at h
  show AW_ cX8_both RX8 (some (.int), "both", 2, 3, m0, m', (.inl (some (vI_ r))), G, l, [], true) m0 0 [(0, vI_ i0), (1, vI_ i1), (2, vI_ i2)] []
  refine a_iload_n 0 dX8_both_0 rfl rfl ?_
  refine a_iconst (v := 2) dX8_both_1 (by decide) ?_
  refine a_icmp_ne (tgt := 9) dX8_both_2 (by decide) (fun c1 => ?_) (fun c1 => ?_)
  · replace h := ifn_ c1 h
    refine a_iload_n 0 dX8_both_9 rfl rfl ?_
    refine a_iconst (v := 3) dX8_both_10 (by decide) ?_
    refine a_icmp_ne (tgt := 18) dX8_both_11 (by decide) (fun c2 => ?_) (fun c2 => ?_)
    · replace h := ifn_ c2 h
      refine a_iload_n 0 dX8_both_18 rfl rfl ?_
      refine a_iconst (v := 4) dX8_both_19 (by decide) ?_
      refine a_icmp_ne (tgt := 27) dX8_both_20 (by decide) (fun c3 => ?_) (fun c3 => ?_)
      · replace h := ifn_ c3 h
        refine a_iload_n 0 dX8_both_27 rfl rfl ?_
        refine a_iconst (v := 5) dX8_both_28 (by decide) ?_
        refine a_icmp_ne (tgt := 44) dX8_both_29 (by decide) (fun c4 => ?_) (fun c4 => ?_)
        · replace h := ifn_ c4 h
          refine a_iload_n 1 dX8_both_44 rfl rfl ?_
          refine a_iload_n 2 dX8_both_45 rfl rfl ?_
          obtain ⟨k5, e16, h⟩ := jn2_some h
          have hk5 : ∀ (y7 : Int32) (m6 : pm_M), k5 y7 m6 = some (r, m') → AW_ cX8_both RX8 (some (.int), "both", 2, 3, m0, m', (.inl (some (vI_ r))), G, l, [], true) m6 54 [(0, vI_ i0), (1, vI_ i1), (2, vI_ i2)] [vI_ y7] := by
            intro y7 m6 h
            have h := (e16 y7 m6).symm.trans h
            refine a_iload_n 0 dX8_both_54 rfl rfl ?_
            refine a_bipush (v := 6) dX8_both_55 (by decide) ?_
            obtain ⟨k8, e14, h⟩ := jn3_some h
            have hk8 : ∀ (y10 : Int32) (y11 : Int32) (m9 : pm_M), k8 y10 y11 m9 = some (r, m') → AW_ cX8_both RX8 (some (.int), "both", 2, 3, m0, m', (.inl (some (vI_ r))), G, l, [], true) m9 65 [(1, vI_ i1), (2, vI_ i2)] [vI_ y11, vI_ y10] := by
              intro y10 y11 m9 h
              have h := (e14 y10 y11 m9).symm.trans h
              refine a_icmp_ne (tgt := 72) dX8_both_65 (by decide) (fun c12 => ?_) (fun c12 => ?_)
              · replace h := ifn_ c12 h
                refine a_iload_n 1 dX8_both_72 rfl rfl ?_
                cases h
                exact a_ireturn rfl rfl rfl rfl rfl dX8_both_73
              · replace h := ifp_ c12 h
                refine a_iload_n 0 dX8_both_68 rfl rfl ?_
                refine a_goto (tgt := 73) dX8_both_69 (by decide) ?_
                cases h
                exact a_ireturn rfl rfl rfl rfl rfl dX8_both_73
            refine a_icmp_ne (tgt := 64) dX8_both_57 (by decide) (fun c13 => ?_) (fun c13 => ?_)
            · replace h := ifn_ c13 h
              refine a_iconst (v := 0) dX8_both_64 (by decide) ?_
              refine aw_pick [1, 2] rfl ?_
              exact hk8 _ _ _ h
            · replace h := ifp_ c13 h
              refine a_iconst (v := 1) dX8_both_60 (by decide) ?_
              refine a_goto (tgt := 65) dX8_both_61 (by decide) ?_
              refine aw_pick [1, 2] rfl ?_
              exact hk8 _ _ _ h
          refine a_icmp_ge (tgt := 53) dX8_both_46 (by decide) (fun c15 => ?_) (fun c15 => ?_)
          · replace h := ifp_ c15 h
            refine a_iconst (v := 0) dX8_both_53 (by decide) ?_
            exact hk5 _ _ h
          · replace h := ifn_ c15 h
            refine a_iconst (v := 1) dX8_both_49 (by decide) ?_
            refine a_goto (tgt := 54) dX8_both_50 (by decide) ?_
            exact hk5 _ _ h
        · replace h := ifp_ c4 h
          refine a_iload_n 2 dX8_both_32 rfl rfl ?_
          refine a_if_ne (tgt := 40) dX8_both_33 (by decide) (fun c17 => ?_) (fun c17 => ?_)
          · replace h := ifn_ c17 h
            refine a_iload_n 1 dX8_both_40 rfl rfl ?_
            refine a_iload_n 2 dX8_both_41 rfl rfl ?_
            obtain ⟨c18, h⟩ := iz_some h
            refine a_idiv dX8_both_42 (of_decide_eq_false c18) ?_
            cases h
            exact a_ireturn rfl rfl rfl rfl rfl dX8_both_43
          · replace h := ifp_ c17 h
            refine a_iconst (v := 0) dX8_both_36 (by decide) ?_
            refine a_goto (tgt := 43) dX8_both_37 (by decide) ?_
            cases h
            exact a_ireturn rfl rfl rfl rfl rfl dX8_both_43
      · replace h := ifp_ c3 h
        refine a_iload_n 1 dX8_both_23 rfl rfl ?_
        refine a_iload_n 2 dX8_both_24 rfl rfl ?_
        refine a_imul dX8_both_25 ?_
        cases h
        exact a_ireturn rfl rfl rfl rfl rfl dX8_both_26
    · replace h := ifp_ c2 h
      refine a_iload_n 1 dX8_both_14 rfl rfl ?_
      refine a_iload_n 2 dX8_both_15 rfl rfl ?_
      refine a_isub dX8_both_16 ?_
      cases h
      exact a_ireturn rfl rfl rfl rfl rfl dX8_both_17
  · replace h := ifp_ c1 h
    refine a_iload_n 1 dX8_both_5 rfl rfl ?_
    refine a_iload_n 2 dX8_both_6 rfl rfl ?_
    refine a_iadd dX8_both_7 ?_
    cases h
    exact a_ireturn rfl rfl rfl rfl rfl dX8_both_8
def f_X8_valueOf_L8 (F : Nat)  (p1 : pm_A) (p3 : Int32) : Nat → Int32 → Int32 → pm_M → Option (Int32 × pm_M)
  | 0, _, _, _ => none
  | n4 + 1, x6, x7, m5 =>
    gd_ 100 (gR_ m5 p1 25) fun a8 =>
    iz_ (!(ib_ p3 a8.2.1)) <|
    if ((150 * p3) + (gI_ m5 a8 p3.toNatClampNeg)) ≤ x7 then
      gd_ 100 (gR_ m5 p1 26) fun a13 =>
      iz_ (!(ib_ 0 a13.2.1)) <|
      some ((gI_ m5 a13 (0 : Int32).toNatClampNeg), m5)
    else
      gd_ 100 (gR_ m5 p1 23) fun a17 =>
      iz_ (!(ib_ x7 a17.2.1)) <|
      if 1 < (gI_ m5 a17 x7.toNatClampNeg) then
        gd_ 100 (gR_ m5 p1 26) fun a22 =>
        iz_ (!(ib_ ((x6 + (-1)) - 1) a22.2.1)) <|
        gd_ 100 (gR_ m5 p1 26) fun a26 =>
        iz_ (!(ib_ (x6 + (-1)) a26.2.1)) <|
        bm_ (f_X8_both F (gI_ m5 a17 x7.toNatClampNeg) (gI_ m5 a22 ((x6 + (-1)) - 1).toNatClampNeg) (gI_ m5 a26 (x6 + (-1)).toNatClampNeg) m5) fun v32 m30 =>
        iz_ (!(ib_ ((x6 + (-1)) - 1) a22.2.1)) <|
        lt_ (pI_ m30 a22 (((x6 + (-1)) - 1).toNatClampNeg) v32) fun m34 =>
        (f_X8_valueOf_L8 F p1 p3 n4) (x6 + (-1)) (x7 + 1) m34
      else
        if (gI_ m5 a17 x7.toNatClampNeg) = 0 then
          gd_ 100 (gR_ m5 p1 24) fun a51 =>
          iz_ (!(ib_ x7 a51.2.1)) <|
          gd_ 100 (gR_ m5 p1 26) fun a55 =>
          iz_ (!(ib_ x6 a55.2.1)) <|
          lt_ (pI_ m5 a55 x6.toNatClampNeg (gI_ m5 a51 x7.toNatClampNeg)) fun m59 =>
          (f_X8_valueOf_L8 F p1 p3 n4) (x6 + 1) (x7 + 1) m59
        else
          gd_ 100 (gR_ m5 p1 24) fun a37 =>
          iz_ (!(ib_ x7 a37.2.1)) <|
          gd_ 100 (gR_ m5 p1 28) fun a41 =>
          iz_ (!(ib_ (gI_ m5 a37 x7.toNatClampNeg) a41.2.1)) <|
          gd_ 100 (gR_ m5 p1 26) fun a45 =>
          iz_ (!(ib_ x6 a45.2.1)) <|
          lt_ (pI_ m5 a45 x6.toNatClampNeg (gI_ m5 a41 (gI_ m5 a37 x7.toNatClampNeg).toNatClampNeg)) fun m49 =>
          (f_X8_valueOf_L8 F p1 p3 n4) (x6 + 1) (x7 + 1) m49
set_option maxHeartbeats 4000000 in
theorem w_X8_valueOf_L8 {G : xg_T} {l : Launch} (hl : l.stackTraces = false) {F : Nat}    (p1 : pm_A) (p3 : Int32) {m0 m' : pm_M} {r : Int32} (hf2 : p1.1 = 8)  : ∀ (n : Nat) (x6 : Int32) (x7 : Int32) (m5 : pm_M), f_X8_valueOf_L8 F p1 p3 n x6 x7 m5 = some (r, m') → AW_ cX8_valueOf RX8 (some (.int), "valueOf", 3, 5, m0, m', (.inl (some (vI_ r))), G, l, [], true) m5 8 [(0, vR_ (some p1)), (1, vI_ p3), (2, vI_ x6), (3, vI_ x7)] [] := by
  intro n
  induction n with
  | zero => intro x6 x7 m5 h; cases h
  | succ n4 ih =>
    intro x6 x7 m5 h
    rw [f_X8_valueOf_L8] at h
    refine a_iload_n 3 dX8_valueOf_8 rfl rfl ?_
    refine a_sipush (v := 150) dX8_valueOf_9 (by decide) ?_
    refine a_iload_n 1 dX8_valueOf_12 rfl rfl ?_
    refine a_imul dX8_valueOf_13 ?_
    refine a_aload_n 0 dX8_valueOf_14 rfl rfl ?_
    refine a_getR kc_8 25 (by decide) rfl hf2 q1579 dX8_valueOf_15 ?_
    refine a_iload_n 1 dX8_valueOf_18 rfl rfl ?_
    obtain ⟨a8, e9, f10, h⟩ := gd_some h
    rw [e9]
    obtain ⟨c11, h⟩ := iz_some h
    refine a_iald f10 (bn_ c11) dX8_valueOf_19 ?_
    refine a_iadd dX8_valueOf_20 ?_
    refine a_icmp_ge (tgt := 111) dX8_valueOf_21 (by decide) (fun c12 => ?_) (fun c12 => ?_)
    · replace h := ifp_ c12 h
      refine a_aload_n 0 dX8_valueOf_111 rfl rfl ?_
      refine a_getR kc_8 26 (by decide) rfl hf2 q1580 dX8_valueOf_112 ?_
      refine a_iconst (v := 0) dX8_valueOf_115 (by decide) ?_
      obtain ⟨a13, e14, f15, h⟩ := gd_some h
      rw [e14]
      obtain ⟨c16, h⟩ := iz_some h
      refine a_iald f15 (bn_ c16) dX8_valueOf_116 ?_
      cases h
      exact a_ireturn rfl rfl rfl rfl rfl dX8_valueOf_117
    · replace h := ifn_ c12 h
      refine a_aload_n 0 dX8_valueOf_24 rfl rfl ?_
      refine a_getR kc_8 23 (by decide) rfl hf2 q1577 dX8_valueOf_25 ?_
      refine a_iload_n 3 dX8_valueOf_28 rfl rfl ?_
      obtain ⟨a17, e18, f19, h⟩ := gd_some h
      rw [e18]
      obtain ⟨c20, h⟩ := iz_some h
      refine a_iald f19 (bn_ c20) dX8_valueOf_29 ?_
      refine a_istore (ls' := [(4, vI_ (gI_ m5 a17 x7.toNatClampNeg)), (0, vR_ (some p1)), (1, vI_ p3), (2, vI_ x6), (3, vI_ x7)]) dX8_valueOf_30 (Nat.le_of_ble_eq_true rfl) rfl ?_
      refine a_iload 0 dX8_valueOf_32 rfl ?_
      refine a_iconst (v := 1) dX8_valueOf_34 (by decide) ?_
      refine a_icmp_gt (tgt := 75) dX8_valueOf_35 (by decide) (fun c21 => ?_) (fun c21 => ?_)
      · replace h := ifp_ c21 h
        refine a_iinc (v := x6 + (-1)) (ls' := [(2, vI_ (x6 + (-1))), (4, vI_ (gI_ m5 a17 x7.toNatClampNeg)), (0, vR_ (some p1)), (1, vI_ p3), (3, vI_ x7)]) 3 dX8_valueOf_75 rfl rfl (Nat.le_of_ble_eq_true rfl) rfl ?_
        refine a_aload_n 2 dX8_valueOf_78 rfl rfl ?_
        refine a_getR kc_8 26 (by decide) rfl hf2 q1580 dX8_valueOf_79 ?_
        refine a_iload_n 0 dX8_valueOf_82 rfl rfl ?_
        refine a_iconst (v := 1) dX8_valueOf_83 (by decide) ?_
        refine a_isub dX8_valueOf_84 ?_
        refine a_iload 1 dX8_valueOf_85 rfl ?_
        refine a_aload_n 2 dX8_valueOf_87 rfl rfl ?_
        refine a_getR kc_8 26 (by decide) rfl hf2 q1580 dX8_valueOf_88 ?_
        refine a_iload_n 0 dX8_valueOf_91 rfl rfl ?_
        refine a_iconst (v := 1) dX8_valueOf_92 (by decide) ?_
        refine a_isub dX8_valueOf_93 ?_
        obtain ⟨a22, e23, f24, h⟩ := gd_some h
        rw [e23]
        obtain ⟨c25, h⟩ := iz_some h
        refine a_iald f24 (bn_ c25) dX8_valueOf_94 ?_
        refine a_aload_n 2 dX8_valueOf_95 rfl rfl ?_
        refine a_getR kc_8 26 (by decide) rfl hf2 q1580 dX8_valueOf_96 ?_
        refine a_iload_n 0 dX8_valueOf_99 rfl rfl ?_
        obtain ⟨a26, e27, f28, h⟩ := gd_some h
        rw [e27]
        obtain ⟨c29, h⟩ := iz_some h
        refine a_iald f28 (bn_ c29) dX8_valueOf_100 ?_
        obtain ⟨v32, m30, e31, h⟩ := bm_some h
        have he31 := e_X8_both (G := G) hl e31
        refine c_I he31.1 (rn_S (n := 3) (As := [vI_ (gI_ m5 a17 x7.toNatClampNeg), vI_ (gI_ m5 a22 ((x6 + (-1)) - 1).toNatClampNeg), vI_ (gI_ m5 a26 (x6 + (-1)).toNatClampNeg)]) he31 (lw_S q1956 q1957 q97 q1958) (by decide +kernel) rfl (Nat.le_of_ble_eq_true rfl) (Nat.le_of_ble_eq_true rfl) (Nat.le_of_ble_eq_true rfl) dX8_valueOf_101) (fun z => (os_aS (As := [vI_ (gI_ m5 a17 x7.toNatClampNeg), vI_ (gI_ m5 a22 ((x6 + (-1)) - 1).toNatClampNeg), vI_ (gI_ m5 a26 (x6 + (-1)).toNatClampNeg)]) z).2) ?_
        obtain ⟨c33, h⟩ := iz_some h
        obtain ⟨m34, e35, h⟩ := lt_some h
        refine a_iast f24 (bn_ c33) dX8_valueOf_104 ?_
        rw [← e35]
        refine a_iinc (v := x7 + 1) (ls' := [(3, vI_ (x7 + 1)), (2, vI_ (x6 + (-1))), (4, vI_ (gI_ m5 a17 x7.toNatClampNeg)), (0, vR_ (some p1)), (1, vI_ p3)]) 4 dX8_valueOf_105 rfl rfl (Nat.le_of_ble_eq_true rfl) rfl ?_
        refine a_goto (tgt := 8) dX8_valueOf_108 (by decide) ?_
        refine aw_pick [3, 4, 1, 0] rfl ?_
        exact ih _ _ _ h
      · replace h := ifn_ c21 h
        refine a_aload_n 1 dX8_valueOf_38 rfl rfl ?_
        refine a_getR kc_8 26 (by decide) rfl hf2 q1580 dX8_valueOf_39 ?_
        refine a_iload_n 3 dX8_valueOf_42 rfl rfl ?_
        refine a_iload 0 dX8_valueOf_43 rfl ?_
        refine a_if_ne (tgt := 57) dX8_valueOf_45 (by decide) (fun c36 => ?_) (fun c36 => ?_)
        · replace h := ifn_ c36 h
          refine a_aload_n 1 dX8_valueOf_57 rfl rfl ?_
          refine a_getR kc_8 28 (by decide) rfl hf2 q1582 dX8_valueOf_58 ?_
          refine a_aload_n 1 dX8_valueOf_61 rfl rfl ?_
          refine a_getR kc_8 24 (by decide) rfl hf2 q1578 dX8_valueOf_62 ?_
          refine a_iload_n 4 dX8_valueOf_65 rfl rfl ?_
          obtain ⟨a37, e38, f39, h⟩ := gd_some h
          rw [e38]
          obtain ⟨c40, h⟩ := iz_some h
          refine a_iald f39 (bn_ c40) dX8_valueOf_66 ?_
          obtain ⟨a41, e42, f43, h⟩ := gd_some h
          rw [e42]
          obtain ⟨c44, h⟩ := iz_some h
          refine a_iald f43 (bn_ c44) dX8_valueOf_67 ?_
          obtain ⟨a45, e46, f47, h⟩ := gd_some h
          rw [e46]
          obtain ⟨c48, h⟩ := iz_some h
          obtain ⟨m49, e50, h⟩ := lt_some h
          refine a_iast f47 (bn_ c48) dX8_valueOf_68 ?_
          rw [← e50]
          refine a_iinc (v := x6 + 1) (ls' := [(2, vI_ (x6 + 1)), (4, vI_ (gI_ m5 a17 x7.toNatClampNeg)), (0, vR_ (some p1)), (1, vI_ p3), (3, vI_ x7)]) 3 dX8_valueOf_69 rfl rfl (Nat.le_of_ble_eq_true rfl) rfl ?_
          refine a_goto (tgt := 105) dX8_valueOf_72 (by decide) ?_
          refine a_iinc (v := x7 + 1) (ls' := [(3, vI_ (x7 + 1)), (2, vI_ (x6 + 1)), (4, vI_ (gI_ m5 a17 x7.toNatClampNeg)), (0, vR_ (some p1)), (1, vI_ p3)]) 4 dX8_valueOf_105 rfl rfl (Nat.le_of_ble_eq_true rfl) rfl ?_
          refine a_goto (tgt := 8) dX8_valueOf_108 (by decide) ?_
          refine aw_pick [3, 4, 1, 0] rfl ?_
          exact ih _ _ _ h
        · replace h := ifp_ c36 h
          refine a_aload_n 1 dX8_valueOf_48 rfl rfl ?_
          refine a_getR kc_8 24 (by decide) rfl hf2 q1578 dX8_valueOf_49 ?_
          refine a_iload_n 4 dX8_valueOf_52 rfl rfl ?_
          obtain ⟨a51, e52, f53, h⟩ := gd_some h
          rw [e52]
          obtain ⟨c54, h⟩ := iz_some h
          refine a_iald f53 (bn_ c54) dX8_valueOf_53 ?_
          refine a_goto (tgt := 68) dX8_valueOf_54 (by decide) ?_
          obtain ⟨a55, e56, f57, h⟩ := gd_some h
          rw [e56]
          obtain ⟨c58, h⟩ := iz_some h
          obtain ⟨m59, e60, h⟩ := lt_some h
          refine a_iast f57 (bn_ c58) dX8_valueOf_68 ?_
          rw [← e60]
          refine a_iinc (v := x6 + 1) (ls' := [(2, vI_ (x6 + 1)), (4, vI_ (gI_ m5 a17 x7.toNatClampNeg)), (0, vR_ (some p1)), (1, vI_ p3), (3, vI_ x7)]) 3 dX8_valueOf_69 rfl rfl (Nat.le_of_ble_eq_true rfl) rfl ?_
          refine a_goto (tgt := 105) dX8_valueOf_72 (by decide) ?_
          refine a_iinc (v := x7 + 1) (ls' := [(3, vI_ (x7 + 1)), (2, vI_ (x6 + 1)), (4, vI_ (gI_ m5 a17 x7.toNatClampNeg)), (0, vR_ (some p1)), (1, vI_ p3)]) 4 dX8_valueOf_105 rfl rfl (Nat.le_of_ble_eq_true rfl) rfl ?_
          refine a_goto (tgt := 8) dX8_valueOf_108 (by decide) ?_
          refine aw_pick [3, 4, 1, 0] rfl ?_
          exact ih _ _ _ h
def f_X8_valueOf (F : Nat)  (t : pm_A) (i0 : Int32) (m : pm_M) : Option (Int32 × pm_M) :=
  f_X8_valueOf_L8 F t i0 F 0 (150 * i0) m
set_option maxHeartbeats 4000000 in
theorem e_X8_valueOf {G : xg_T} {l : Launch} (hl : l.stackTraces = false) {F : Nat}    {t : pm_A} {i0 : Int32} {m0 m' : pm_M} {r : Int32} (ht : t.1 = 8) (h : f_X8_valueOf F t i0 m0 = some (r, m')) : Cal_ G l yX8_valueOf (ws_ yX8_valueOf cX8_valueOf 5 (some .int)) 3 [vR_ (some t), vI_ i0] m0 (.inl (some (vI_ r))) m' := by
  refine cal_of (by decide +kernel) (Nat.le_of_ble_eq_true rfl) ?_
  unfold f_X8_valueOf at h
  show AW_ cX8_valueOf RX8 (some (.int), "valueOf", 3, 5, m0, m', (.inl (some (vI_ r))), G, l, [], true) m0 0 [(0, vR_ (some t)), (1, vI_ i0)] []
  refine a_iconst (v := 0) dX8_valueOf_0 (by decide) ?_
  refine a_istore_n (ls' := [(2, vI_ 0), (0, vR_ (some t)), (1, vI_ i0)]) dX8_valueOf_1 rfl (Nat.le_of_ble_eq_true rfl) rfl ?_
  refine a_sipush (v := 150) dX8_valueOf_2 (by decide) ?_
  refine a_iload_n 2 dX8_valueOf_5 rfl rfl ?_
  refine a_imul dX8_valueOf_6 ?_
  refine a_istore_n (ls' := [(3, vI_ (150 * i0)), (2, vI_ 0), (0, vR_ (some t)), (1, vI_ i0)]) dX8_valueOf_7 rfl (Nat.le_of_ble_eq_true rfl) rfl ?_
  refine aw_pick [2, 3, 1, 0] rfl ?_
  exact w_X8_valueOf_L8 hl _ _ ht _ _ _ _ h
def f_X8_asksNow (F : Nat)  (t : pm_A) (i0 : Int32) (m : pm_M) : Option (Int32 × pm_M) :=
  gd_ 100 (gR_ m t 25) fun a1 =>
  iz_ (!(ib_ i0 a1.2.1)) <|
  jn_ (fun (y7 : Int32) (m6 : pm_M) =>
    if 0 ≤ y7 then
      if y7 ≤ 999 then
        some (y7, m6)
      else
        some (999, m6)
    else
      some (0, m6)
  ) fun k5 =>
  if (gI_ m a1 i0.toNatClampNeg) = 0 then
    gd_ 100 (gR_ m t 28) fun a14 =>
    iz_ (!(ib_ 0 a14.2.1)) <|
    gd_ 100 (gR_ m t 28) fun a18 =>
    iz_ (!(ib_ 1 a18.2.1)) <|
    k5 ((52 * (gI_ m a14 (0 : Int32).toNatClampNeg)) + (4 * (gI_ m a18 (1 : Int32).toNatClampNeg))) m
  else
    bm_ (f_X8_valueOf F t i0 m) fun v13 m11 =>
    k5 v13 m11
set_option maxHeartbeats 4000000 in
theorem e_X8_asksNow {G : xg_T} {l : Launch} (hl : l.stackTraces = false) {F : Nat}    {t : pm_A} {i0 : Int32} {m0 m' : pm_M} {r : Int32} (ht : t.1 = 8) (h : f_X8_asksNow F t i0 m0 = some (r, m')) : Cal_ G l yX8_asksNow (ws_ yX8_asksNow cX8_asksNow 3 (some .int)) 4 [vR_ (some t), vI_ i0] m0 (.inl (some (vI_ r))) m' := by
  refine cal_of (by decide +kernel) (Nat.le_of_ble_eq_true rfl) ?_
  unfold f_X8_asksNow at h
  show AW_ cX8_asksNow RX8 (some (.int), "asksNow", 4, 3, m0, m', (.inl (some (vI_ r))), G, l, [], true) m0 0 [(0, vR_ (some t)), (1, vI_ i0)] []
  refine a_aload_n 0 dX8_asksNow_0 rfl rfl ?_
  refine a_getR kc_8 25 (by decide) rfl ht q1579 dX8_asksNow_1 ?_
  refine a_iload_n 1 dX8_asksNow_4 rfl rfl ?_
  obtain ⟨a1, e2, f3, h⟩ := gd_some h
  rw [e2]
  obtain ⟨c4, h⟩ := iz_some h
  refine a_iald f3 (bn_ c4) dX8_asksNow_5 ?_
  obtain ⟨k5, e22, h⟩ := jn2_some h
  have hk5 : ∀ (y7 : Int32) (m6 : pm_M), k5 y7 m6 = some (r, m') → AW_ cX8_asksNow RX8 (some (.int), "asksNow", 4, 3, m0, m', (.inl (some (vI_ r))), G, l, [], true) m6 35 [] [vI_ y7] := by
    intro y7 m6 h
    have h := (e22 y7 m6).symm.trans h
    refine a_istore_n (ls' := [(2, vI_ y7)]) dX8_asksNow_35 rfl (Nat.le_of_ble_eq_true rfl) rfl ?_
    refine a_iload_n 0 dX8_asksNow_36 rfl rfl ?_
    refine a_if_ge (tgt := 44) dX8_asksNow_37 (by decide) (fun c8 => ?_) (fun c8 => ?_)
    · replace h := ifp_ c8 h
      refine a_iload_n 0 dX8_asksNow_44 rfl rfl ?_
      refine a_sipush (v := 999) dX8_asksNow_45 (by decide) ?_
      refine a_icmp_le (tgt := 57) dX8_asksNow_48 (by decide) (fun c9 => ?_) (fun c9 => ?_)
      · replace h := ifp_ c9 h
        refine a_iload_n 0 dX8_asksNow_57 rfl rfl ?_
        cases h
        exact a_ireturn rfl rfl rfl rfl rfl dX8_asksNow_58
      · replace h := ifn_ c9 h
        refine a_sipush (v := 999) dX8_asksNow_51 (by decide) ?_
        refine a_goto (tgt := 58) dX8_asksNow_54 (by decide) ?_
        cases h
        exact a_ireturn rfl rfl rfl rfl rfl dX8_asksNow_58
    · replace h := ifn_ c8 h
      refine a_iconst (v := 0) dX8_asksNow_40 (by decide) ?_
      refine a_goto (tgt := 58) dX8_asksNow_41 (by decide) ?_
      cases h
      exact a_ireturn rfl rfl rfl rfl rfl dX8_asksNow_58
  refine a_if_ne (tgt := 30) dX8_asksNow_6 (by decide) (fun c10 => ?_) (fun c10 => ?_)
  · replace h := ifn_ c10 h
    refine a_aload_n 0 dX8_asksNow_30 rfl rfl ?_
    refine a_iload_n 1 dX8_asksNow_31 rfl rfl ?_
    obtain ⟨v13, m11, e12, h⟩ := bm_some h
    have he12 := e_X8_valueOf (G := G) hl ht e12
    refine c_I he12.1 (rn_V (n := 1) (As := [vI_ i0]) kc_8 ht he12 (lw_V q1952 q1954 qs72 q97 q1955) (by decide +kernel) rfl (Nat.le_of_ble_eq_true rfl) (Nat.le_of_ble_eq_true rfl) (Nat.le_of_ble_eq_true rfl) dX8_asksNow_32) (fun z => (os_av (As := [vI_ i0]) z).2.1) ?_
    refine aw_pick [] rfl ?_
    exact hk5 _ _ h
  · replace h := ifp_ c10 h
    refine a_bipush (v := 52) dX8_asksNow_9 (by decide) ?_
    refine a_aload_n 0 dX8_asksNow_11 rfl rfl ?_
    refine a_getR kc_8 28 (by decide) rfl ht q1582 dX8_asksNow_12 ?_
    refine a_iconst (v := 0) dX8_asksNow_15 (by decide) ?_
    obtain ⟨a14, e15, f16, h⟩ := gd_some h
    rw [e15]
    obtain ⟨c17, h⟩ := iz_some h
    refine a_iald f16 (bn_ c17) dX8_asksNow_16 ?_
    refine a_imul dX8_asksNow_17 ?_
    refine a_iconst (v := 4) dX8_asksNow_18 (by decide) ?_
    refine a_aload_n 0 dX8_asksNow_19 rfl rfl ?_
    refine a_getR kc_8 28 (by decide) rfl ht q1582 dX8_asksNow_20 ?_
    refine a_iconst (v := 1) dX8_asksNow_23 (by decide) ?_
    obtain ⟨a18, e19, f20, h⟩ := gd_some h
    rw [e19]
    obtain ⟨c21, h⟩ := iz_some h
    refine a_iald f20 (bn_ c21) dX8_asksNow_24 ?_
    refine a_imul dX8_asksNow_25 ?_
    refine a_iadd dX8_asksNow_26 ?_
    refine a_goto (tgt := 35) dX8_asksNow_27 (by decide) ?_
    refine aw_pick [] rfl ?_
    exact hk5 _ _ h
def f_X8_asksOf (F : Nat)  (t : pm_A) (i0 : Int32) (i1 : Int32) (i2 : Int32) (i3 : Int32) (m : pm_M) : Option (Int32 × pm_M) :=
  gd_ 100 (gR_ m t 28) fun a1 =>
  iz_ (!(ib_ 0 a1.2.1)) <|
  lt_ (pI_ m a1 ((0 : Int32).toNatClampNeg) i2) fun m5 =>
  gd_ 100 (gR_ m5 t 28) fun a7 =>
  iz_ (!(ib_ 1 a7.2.1)) <|
  lt_ (pI_ m5 a7 ((1 : Int32).toNatClampNeg) i3) fun m11 =>
  gd_ 100 (gR_ m11 t 12) fun a13 =>
  iz_ (!(ib_ ((4 * i0) + 1) a13.2.1)) <|
  gd_ 100 (gR_ m11 t 28) fun a17 =>
  iz_ (!(ib_ 2 a17.2.1)) <|
  lt_ (pI_ m11 a17 ((2 : Int32).toNatClampNeg) (gI_ m11 a13 ((4 * i0) + 1).toNatClampNeg)) fun m21 =>
  gd_ 100 (gR_ m21 t 38) fun a23 =>
  iz_ (!(ib_ (32 + i0) a23.2.1)) <|
  gd_ 100 (gR_ m21 t 28) fun a27 =>
  iz_ (!(ib_ 3 a27.2.1)) <|
  lt_ (pI_ m21 a27 ((3 : Int32).toNatClampNeg) (gI_ m21 a23 (32 + i0).toNatClampNeg)) fun m31 =>
  bm_ (f_X8_kinMany F t i0 m31) fun v35 m33 =>
  gd_ 100 (gR_ m31 t 28) fun a36 =>
  iz_ (!(ib_ 4 a36.2.1)) <|
  lt_ (pI_ m33 a36 ((4 : Int32).toNatClampNeg) v35) fun m40 =>
  gd_ 100 (gR_ m40 t 38) fun a42 =>
  iz_ (!(ib_ (40 + i0) a42.2.1)) <|
  gd_ 100 (gR_ m40 t 28) fun a46 =>
  iz_ (!(ib_ 5 a46.2.1)) <|
  lt_ (pI_ m40 a46 ((5 : Int32).toNatClampNeg) (gI_ m40 a42 (40 + i0).toNatClampNeg)) fun m50 =>
  gd_ 100 (gR_ m50 t 38) fun a52 =>
  iz_ (!(ib_ (48 + i0) a52.2.1)) <|
  jn_ (fun (y58 : Option pm_A) (y59 : Int32) (y60 : Int32) (m57 : pm_M) =>
    gd_ 100 y58 fun a61 =>
    iz_ (!(ib_ y59 a61.2.1)) <|
    lt_ (pI_ m57 a61 y59.toNatClampNeg y60) fun m65 =>
    gd_ 100 (gR_ m65 t 38) fun a67 =>
    iz_ (!(ib_ 64 a67.2.1)) <|
    gd_ 100 (gR_ m65 t 28) fun a71 =>
    iz_ (!(ib_ 7 a71.2.1)) <|
    lt_ (pI_ m65 a71 ((7 : Int32).toNatClampNeg) (gI_ m65 a67 (64 : Int32).toNatClampNeg)) fun m75 =>
    bm_ (f_X8_asksNow F t i1 m75) fun v79 m77 =>
    some (v79, m77)
  ) fun k56 =>
  if (gI_ m50 a52 (48 + i0).toNatClampNeg) = ((-1)) then
    gd_ 100 (gR_ m50 t 38) fun a85 =>
    iz_ (!(ib_ 64 a85.2.1)) <|
    k56 (gR_ m50 t 28) 6 (gI_ m50 a85 (64 : Int32).toNatClampNeg) m50
  else
    gd_ 100 (gR_ m50 t 38) fun a81 =>
    iz_ (!(ib_ (48 + i0) a81.2.1)) <|
    k56 (gR_ m50 t 28) 6 (gI_ m50 a81 (48 + i0).toNatClampNeg) m50
set_option maxHeartbeats 4000000 in
theorem e_X8_asksOf {G : xg_T} {l : Launch} (hl : l.stackTraces = false) {F : Nat}    {t : pm_A} {i0 : Int32} {i1 : Int32} {i2 : Int32} {i3 : Int32} {m0 m' : pm_M} {r : Int32} (ht : t.1 = 8) (h : f_X8_asksOf F t i0 i1 i2 i3 m0 = some (r, m')) : Cal_ G l yX8_asksOf (ws_ yX8_asksOf cX8_asksOf 5 (some .int)) 5 [vR_ (some t), vI_ i0, vI_ i1, vI_ i2, vI_ i3] m0 (.inl (some (vI_ r))) m' := by
  refine cal_of (by decide +kernel) (Nat.le_of_ble_eq_true rfl) ?_
  unfold f_X8_asksOf at h
  show AW_ cX8_asksOf RX8 (some (.int), "asksOf", 5, 5, m0, m', (.inl (some (vI_ r))), G, l, [], true) m0 0 [(0, vR_ (some t)), (1, vI_ i0), (2, vI_ i1), (3, vI_ i2), (4, vI_ i3)] []
  refine a_aload_n 0 dX8_asksOf_0 rfl rfl ?_
  refine a_getR kc_8 28 (by decide) rfl ht q1582 dX8_asksOf_1 ?_
  refine a_iconst (v := 0) dX8_asksOf_4 (by decide) ?_
  refine a_iload_n 3 dX8_asksOf_5 rfl rfl ?_
  obtain ⟨a1, e2, f3, h⟩ := gd_some h
  rw [e2]
  obtain ⟨c4, h⟩ := iz_some h
  obtain ⟨m5, e6, h⟩ := lt_some h
  refine a_iast f3 (bn_ c4) dX8_asksOf_6 ?_
  rw [← e6]
  refine a_aload_n 0 dX8_asksOf_7 rfl rfl ?_
  refine a_getR kc_8 28 (by decide) rfl ht q1582 dX8_asksOf_8 ?_
  refine a_iconst (v := 1) dX8_asksOf_11 (by decide) ?_
  refine a_iload 4 dX8_asksOf_12 rfl ?_
  obtain ⟨a7, e8, f9, h⟩ := gd_some h
  rw [e8]
  obtain ⟨c10, h⟩ := iz_some h
  obtain ⟨m11, e12, h⟩ := lt_some h
  refine a_iast f9 (bn_ c10) dX8_asksOf_14 ?_
  rw [← e12]
  refine a_aload_n 0 dX8_asksOf_15 rfl rfl ?_
  refine a_getR kc_8 28 (by decide) rfl ht q1582 dX8_asksOf_16 ?_
  refine a_iconst (v := 2) dX8_asksOf_19 (by decide) ?_
  refine a_aload_n 0 dX8_asksOf_20 rfl rfl ?_
  refine a_getR kc_8 12 (by decide) rfl ht q1566 dX8_asksOf_21 ?_
  refine a_iconst (v := 4) dX8_asksOf_24 (by decide) ?_
  refine a_iload_n 1 dX8_asksOf_25 rfl rfl ?_
  refine a_imul dX8_asksOf_26 ?_
  refine a_iconst (v := 1) dX8_asksOf_27 (by decide) ?_
  refine a_iadd dX8_asksOf_28 ?_
  obtain ⟨a13, e14, f15, h⟩ := gd_some h
  rw [e14]
  obtain ⟨c16, h⟩ := iz_some h
  refine a_iald f15 (bn_ c16) dX8_asksOf_29 ?_
  obtain ⟨a17, e18, f19, h⟩ := gd_some h
  rw [e18]
  obtain ⟨c20, h⟩ := iz_some h
  obtain ⟨m21, e22, h⟩ := lt_some h
  refine a_iast f19 (bn_ c20) dX8_asksOf_30 ?_
  rw [← e22]
  refine a_aload_n 0 dX8_asksOf_31 rfl rfl ?_
  refine a_getR kc_8 28 (by decide) rfl ht q1582 dX8_asksOf_32 ?_
  refine a_iconst (v := 3) dX8_asksOf_35 (by decide) ?_
  refine a_aload_n 0 dX8_asksOf_36 rfl rfl ?_
  refine a_getR kc_8 38 (by decide) rfl ht q1592 dX8_asksOf_37 ?_
  refine a_bipush (v := 32) dX8_asksOf_40 (by decide) ?_
  refine a_iload_n 1 dX8_asksOf_42 rfl rfl ?_
  refine a_iadd dX8_asksOf_43 ?_
  obtain ⟨a23, e24, f25, h⟩ := gd_some h
  rw [e24]
  obtain ⟨c26, h⟩ := iz_some h
  refine a_iald f25 (bn_ c26) dX8_asksOf_44 ?_
  obtain ⟨a27, e28, f29, h⟩ := gd_some h
  rw [e28]
  obtain ⟨c30, h⟩ := iz_some h
  obtain ⟨m31, e32, h⟩ := lt_some h
  refine a_iast f29 (bn_ c30) dX8_asksOf_45 ?_
  rw [← e32]
  refine a_aload_n 0 dX8_asksOf_46 rfl rfl ?_
  refine a_getR kc_8 28 (by decide) rfl ht q1582 dX8_asksOf_47 ?_
  refine a_iconst (v := 4) dX8_asksOf_50 (by decide) ?_
  refine a_aload_n 0 dX8_asksOf_51 rfl rfl ?_
  refine a_iload_n 1 dX8_asksOf_52 rfl rfl ?_
  obtain ⟨v35, m33, e34, h⟩ := bm_some h
  have he34 := e_X8_kinMany (G := G) hl ht e34
  refine c_I he34.1 (rn_V (n := 1) (As := [vI_ i0]) kc_8 ht he34 (lw_V q1940 q1942 qs69 q97 q1943) (by decide +kernel) rfl (Nat.le_of_ble_eq_true rfl) (Nat.le_of_ble_eq_true rfl) (Nat.le_of_ble_eq_true rfl) dX8_asksOf_53) (fun z => (os_av (As := [vI_ i0]) z).2.1) ?_
  obtain ⟨a36, e37, f38, h⟩ := gd_some h
  rw [e37]
  obtain ⟨c39, h⟩ := iz_some h
  obtain ⟨m40, e41, h⟩ := lt_some h
  refine a_iast f38 (bn_ c39) dX8_asksOf_56 ?_
  rw [← e41]
  refine a_aload_n 0 dX8_asksOf_57 rfl rfl ?_
  refine a_getR kc_8 28 (by decide) rfl ht q1582 dX8_asksOf_58 ?_
  refine a_iconst (v := 5) dX8_asksOf_61 (by decide) ?_
  refine a_aload_n 0 dX8_asksOf_62 rfl rfl ?_
  refine a_getR kc_8 38 (by decide) rfl ht q1592 dX8_asksOf_63 ?_
  refine a_bipush (v := 40) dX8_asksOf_66 (by decide) ?_
  refine a_iload_n 1 dX8_asksOf_68 rfl rfl ?_
  refine a_iadd dX8_asksOf_69 ?_
  obtain ⟨a42, e43, f44, h⟩ := gd_some h
  rw [e43]
  obtain ⟨c45, h⟩ := iz_some h
  refine a_iald f44 (bn_ c45) dX8_asksOf_70 ?_
  obtain ⟨a46, e47, f48, h⟩ := gd_some h
  rw [e47]
  obtain ⟨c49, h⟩ := iz_some h
  obtain ⟨m50, e51, h⟩ := lt_some h
  refine a_iast f48 (bn_ c49) dX8_asksOf_71 ?_
  rw [← e51]
  refine a_aload_n 0 dX8_asksOf_72 rfl rfl ?_
  refine a_getR kc_8 28 (by decide) rfl ht q1582 dX8_asksOf_73 ?_
  refine a_bipush (v := 6) dX8_asksOf_76 (by decide) ?_
  refine a_aload_n 0 dX8_asksOf_78 rfl rfl ?_
  refine a_getR kc_8 38 (by decide) rfl ht q1592 dX8_asksOf_79 ?_
  refine a_bipush (v := 48) dX8_asksOf_82 (by decide) ?_
  refine a_iload_n 1 dX8_asksOf_84 rfl rfl ?_
  refine a_iadd dX8_asksOf_85 ?_
  obtain ⟨a52, e53, f54, h⟩ := gd_some h
  rw [e53]
  obtain ⟨c55, h⟩ := iz_some h
  refine a_iald f54 (bn_ c55) dX8_asksOf_86 ?_
  refine a_iconst (v := (-1)) dX8_asksOf_87 (by decide) ?_
  obtain ⟨k56, e89, h⟩ := jn4_some h
  have hk56 : ∀ (y58 : Option pm_A) (y59 : Int32) (y60 : Int32) (m57 : pm_M), k56 y58 y59 y60 m57 = some (r, m') → AW_ cX8_asksOf RX8 (some (.int), "asksOf", 5, 5, m0, m', (.inl (some (vI_ r))), G, l, [], true) m57 110 [(0, vR_ (some t)), (2, vI_ i1)] [vI_ y60, vI_ y59, vR_ y58] := by
    intro y58 y59 y60 m57 h
    have h := (e89 y58 y59 y60 m57).symm.trans h
    obtain ⟨a61, e62, f63, h⟩ := gd_some h
    rw [e62]
    obtain ⟨c64, h⟩ := iz_some h
    obtain ⟨m65, e66, h⟩ := lt_some h
    refine a_iast f63 (bn_ c64) dX8_asksOf_110 ?_
    rw [← e66]
    refine a_aload_n 0 dX8_asksOf_111 rfl rfl ?_
    refine a_getR kc_8 28 (by decide) rfl ht q1582 dX8_asksOf_112 ?_
    refine a_bipush (v := 7) dX8_asksOf_115 (by decide) ?_
    refine a_aload_n 0 dX8_asksOf_117 rfl rfl ?_
    refine a_getR kc_8 38 (by decide) rfl ht q1592 dX8_asksOf_118 ?_
    refine a_bipush (v := 64) dX8_asksOf_121 (by decide) ?_
    obtain ⟨a67, e68, f69, h⟩ := gd_some h
    rw [e68]
    obtain ⟨c70, h⟩ := iz_some h
    refine a_iald f69 (bn_ c70) dX8_asksOf_123 ?_
    obtain ⟨a71, e72, f73, h⟩ := gd_some h
    rw [e72]
    obtain ⟨c74, h⟩ := iz_some h
    obtain ⟨m75, e76, h⟩ := lt_some h
    refine a_iast f73 (bn_ c74) dX8_asksOf_124 ?_
    rw [← e76]
    refine a_aload_n 0 dX8_asksOf_125 rfl rfl ?_
    refine a_iload_n 1 dX8_asksOf_126 rfl rfl ?_
    obtain ⟨v79, m77, e78, h⟩ := bm_some h
    have he78 := e_X8_asksNow (G := G) hl ht e78
    refine c_I he78.1 (rn_V (n := 1) (As := [vI_ i1]) kc_8 ht he78 (lw_V q1948 q1950 qs71 q97 q1951) (by decide +kernel) rfl (Nat.le_of_ble_eq_true rfl) (Nat.le_of_ble_eq_true rfl) (Nat.le_of_ble_eq_true rfl) dX8_asksOf_127) (fun z => (os_av (As := [vI_ i1]) z).2.1) ?_
    cases h
    exact a_ireturn rfl rfl rfl rfl rfl dX8_asksOf_130
  refine a_icmp_ne (tgt := 101) dX8_asksOf_88 (by decide) (fun c80 => ?_) (fun c80 => ?_)
  · replace h := ifn_ c80 h
    refine a_aload_n 0 dX8_asksOf_101 rfl rfl ?_
    refine a_getR kc_8 38 (by decide) rfl ht q1592 dX8_asksOf_102 ?_
    refine a_bipush (v := 48) dX8_asksOf_105 (by decide) ?_
    refine a_iload_n 1 dX8_asksOf_107 rfl rfl ?_
    refine a_iadd dX8_asksOf_108 ?_
    obtain ⟨a81, e82, f83, h⟩ := gd_some h
    rw [e82]
    obtain ⟨c84, h⟩ := iz_some h
    refine a_iald f83 (bn_ c84) dX8_asksOf_109 ?_
    refine aw_pick [0, 2] rfl ?_
    exact hk56 _ _ _ _ h
  · replace h := ifp_ c80 h
    refine a_aload_n 0 dX8_asksOf_91 rfl rfl ?_
    refine a_getR kc_8 38 (by decide) rfl ht q1592 dX8_asksOf_92 ?_
    refine a_bipush (v := 64) dX8_asksOf_95 (by decide) ?_
    obtain ⟨a85, e86, f87, h⟩ := gd_some h
    rw [e86]
    obtain ⟨c88, h⟩ := iz_some h
    refine a_iald f87 (bn_ c88) dX8_asksOf_97 ?_
    refine a_goto (tgt := 110) dX8_asksOf_98 (by decide) ?_
    refine aw_pick [0, 2] rfl ?_
    exact hk56 _ _ _ _ h
def f_X8_asksBy (F : Nat)  (t : pm_A) (i0 : Int32) (i1 : Int32) (m : pm_M) : Option (Int32 × pm_M) :=
  gd_ 100 (gR_ m t 12) fun a1 =>
  iz_ (!(ib_ ((4 * i0) + 0) a1.2.1)) <|
  gd_ 100 (gR_ m t 38) fun a5 =>
  iz_ (!(ib_ (24 + i0) a5.2.1)) <|
  bm_ (f_X8_asksOf F t i0 i1 (gI_ m a1 ((4 * i0) + 0).toNatClampNeg) (gI_ m a5 (24 + i0).toNatClampNeg) m) fun v11 m9 =>
  some (v11, m9)
set_option maxHeartbeats 4000000 in
theorem e_X8_asksBy {G : xg_T} {l : Launch} (hl : l.stackTraces = false) {F : Nat}    {t : pm_A} {i0 : Int32} {i1 : Int32} {m0 m' : pm_M} {r : Int32} (ht : t.1 = 8) (h : f_X8_asksBy F t i0 i1 m0 = some (r, m')) : Cal_ G l yX8_asksBy (ws_ yX8_asksBy cX8_asksBy 3 (some .int)) 6 [vR_ (some t), vI_ i0, vI_ i1] m0 (.inl (some (vI_ r))) m' := by
  refine cal_of (by decide +kernel) (Nat.le_of_ble_eq_true rfl) ?_
  unfold f_X8_asksBy at h
  show AW_ cX8_asksBy RX8 (some (.int), "asksBy", 6, 3, m0, m', (.inl (some (vI_ r))), G, l, [], true) m0 0 [(0, vR_ (some t)), (1, vI_ i0), (2, vI_ i1)] []
  refine a_aload_n 0 dX8_asksBy_0 rfl rfl ?_
  refine a_iload_n 1 dX8_asksBy_1 rfl rfl ?_
  refine a_iload_n 2 dX8_asksBy_2 rfl rfl ?_
  refine a_aload_n 0 dX8_asksBy_3 rfl rfl ?_
  refine a_getR kc_8 12 (by decide) rfl ht q1566 dX8_asksBy_4 ?_
  refine a_iconst (v := 4) dX8_asksBy_7 (by decide) ?_
  refine a_iload_n 1 dX8_asksBy_8 rfl rfl ?_
  refine a_imul dX8_asksBy_9 ?_
  refine a_iconst (v := 0) dX8_asksBy_10 (by decide) ?_
  refine a_iadd dX8_asksBy_11 ?_
  obtain ⟨a1, e2, f3, h⟩ := gd_some h
  rw [e2]
  obtain ⟨c4, h⟩ := iz_some h
  refine a_iald f3 (bn_ c4) dX8_asksBy_12 ?_
  refine a_aload_n 0 dX8_asksBy_13 rfl rfl ?_
  refine a_getR kc_8 38 (by decide) rfl ht q1592 dX8_asksBy_14 ?_
  refine a_bipush (v := 24) dX8_asksBy_17 (by decide) ?_
  refine a_iload_n 1 dX8_asksBy_19 rfl rfl ?_
  refine a_iadd dX8_asksBy_20 ?_
  obtain ⟨a5, e6, f7, h⟩ := gd_some h
  rw [e6]
  obtain ⟨c8, h⟩ := iz_some h
  refine a_iald f7 (bn_ c8) dX8_asksBy_21 ?_
  obtain ⟨v11, m9, e10, h⟩ := bm_some h
  have he10 := e_X8_asksOf (G := G) hl ht e10
  refine c_I he10.1 (rn_V (n := 4) (As := [vI_ i0, vI_ i1, vI_ (gI_ m0 a1 ((4 * i0) + 0).toNatClampNeg), vI_ (gI_ m0 a5 (24 + i0).toNatClampNeg)]) kc_8 ht he10 (lw_V q1936 q1938 qs68 q97 q1939) (by decide +kernel) rfl (Nat.le_of_ble_eq_true rfl) (Nat.le_of_ble_eq_true rfl) (Nat.le_of_ble_eq_true rfl) dX8_asksBy_22) (fun z => (os_av (As := [vI_ i0, vI_ i1, vI_ (gI_ m0 a1 ((4 * i0) + 0).toNatClampNeg), vI_ (gI_ m0 a5 (24 + i0).toNatClampNeg)]) z).2.1) ?_
  cases h
  exact a_ireturn rfl rfl rfl rfl rfl dX8_asksBy_25
def f_X8_owesOf (F : Nat)  (t : pm_A) (i0 : Int32) (m : pm_M) : Option (Int32 × pm_M) :=
  gd_ 100 (gR_ m t 38) fun a1 =>
  iz_ (!(ib_ (0 + i0) a1.2.1)) <|
  if (gI_ m a1 (0 + i0).toNatClampNeg) = 3 then
    some (0, m)
  else
    bm_ (f_X8_asksBy F t i0 (gI_ m t 40) m) fun v8 m6 =>
    gd_ 100 (gR_ m6 t 38) fun a9 =>
    iz_ (!(ib_ (16 + i0) a9.2.1)) <|
    if (v8 - (gI_ m6 a9 (16 + i0).toNatClampNeg)) ≤ 0 then
      some (0, m6)
    else
      some ((v8 - (gI_ m6 a9 (16 + i0).toNatClampNeg)), m6)
set_option maxHeartbeats 4000000 in
theorem e_X8_owesOf {G : xg_T} {l : Launch} (hl : l.stackTraces = false) {F : Nat}    {t : pm_A} {i0 : Int32} {m0 m' : pm_M} {r : Int32} (ht : t.1 = 8) (h : f_X8_owesOf F t i0 m0 = some (r, m')) : Cal_ G l yX8_owesOf (ws_ yX8_owesOf cX8_owesOf 3 (some .int)) 7 [vR_ (some t), vI_ i0] m0 (.inl (some (vI_ r))) m' := by
  refine cal_of (by decide +kernel) (Nat.le_of_ble_eq_true rfl) ?_
  unfold f_X8_owesOf at h
  show AW_ cX8_owesOf RX8 (some (.int), "owesOf", 7, 3, m0, m', (.inl (some (vI_ r))), G, l, [], true) m0 0 [(0, vR_ (some t)), (1, vI_ i0)] []
  refine a_aload_n 0 dX8_owesOf_0 rfl rfl ?_
  refine a_getR kc_8 38 (by decide) rfl ht q1592 dX8_owesOf_1 ?_
  refine a_iconst (v := 0) dX8_owesOf_4 (by decide) ?_
  refine a_iload_n 1 dX8_owesOf_5 rfl rfl ?_
  refine a_iadd dX8_owesOf_6 ?_
  obtain ⟨a1, e2, f3, h⟩ := gd_some h
  rw [e2]
  obtain ⟨c4, h⟩ := iz_some h
  refine a_iald f3 (bn_ c4) dX8_owesOf_7 ?_
  refine a_iconst (v := 3) dX8_owesOf_8 (by decide) ?_
  refine a_icmp_ne (tgt := 14) dX8_owesOf_9 (by decide) (fun c5 => ?_) (fun c5 => ?_)
  · replace h := ifn_ c5 h
    refine a_aload_n 0 dX8_owesOf_14 rfl rfl ?_
    refine a_iload_n 1 dX8_owesOf_15 rfl rfl ?_
    refine a_aload_n 0 dX8_owesOf_16 rfl rfl ?_
    refine a_getI kc_8 40 (by decide) rfl ht q1594 dX8_owesOf_17 ?_
    obtain ⟨v8, m6, e7, h⟩ := bm_some h
    have he7 := e_X8_asksBy (G := G) hl ht e7
    refine c_I he7.1 (rn_V (n := 2) (As := [vI_ i0, vI_ (gI_ m0 t 40)]) kc_8 ht he7 (lw_V q1932 q1934 qs67 q97 q1935) (by decide +kernel) rfl (Nat.le_of_ble_eq_true rfl) (Nat.le_of_ble_eq_true rfl) (Nat.le_of_ble_eq_true rfl) dX8_owesOf_20) (fun z => (os_av (As := [vI_ i0, vI_ (gI_ m0 t 40)]) z).2.1) ?_
    refine a_aload_n 0 dX8_owesOf_23 rfl rfl ?_
    refine a_getR kc_8 38 (by decide) rfl ht q1592 dX8_owesOf_24 ?_
    refine a_bipush (v := 16) dX8_owesOf_27 (by decide) ?_
    refine a_iload_n 1 dX8_owesOf_29 rfl rfl ?_
    refine a_iadd dX8_owesOf_30 ?_
    obtain ⟨a9, e10, f11, h⟩ := gd_some h
    rw [e10]
    obtain ⟨c12, h⟩ := iz_some h
    refine a_iald f11 (bn_ c12) dX8_owesOf_31 ?_
    refine a_isub dX8_owesOf_32 ?_
    refine a_istore_n (ls' := [(2, vI_ (v8 - (gI_ m6 a9 (16 + i0).toNatClampNeg))), (0, vR_ (some t)), (1, vI_ i0)]) dX8_owesOf_33 rfl (Nat.le_of_ble_eq_true rfl) rfl ?_
    refine a_iload_n 0 dX8_owesOf_34 rfl rfl ?_
    refine a_if_le (tgt := 42) dX8_owesOf_35 (by decide) (fun c13 => ?_) (fun c13 => ?_)
    · replace h := ifp_ c13 h
      refine a_iconst (v := 0) dX8_owesOf_42 (by decide) ?_
      cases h
      exact a_ireturn rfl rfl rfl rfl rfl dX8_owesOf_43
    · replace h := ifn_ c13 h
      refine a_iload_n 0 dX8_owesOf_38 rfl rfl ?_
      refine a_goto (tgt := 43) dX8_owesOf_39 (by decide) ?_
      cases h
      exact a_ireturn rfl rfl rfl rfl rfl dX8_owesOf_43
  · replace h := ifp_ c5 h
    refine a_iconst (v := 0) dX8_owesOf_12 (by decide) ?_
    cases h
    exact a_ireturn rfl rfl rfl rfl rfl dX8_owesOf_13
def f_X8_canPayNow (F : Nat)  (t : pm_A) (i0 : Int32) (m : pm_M) : Option (Int32 × pm_M) :=
  gd_ 100 (gR_ m t 38) fun a1 =>
  iz_ (!(ib_ (0 + i0) a1.2.1)) <|
  jn_ (fun  (m6 : pm_M) =>
    gd_ 100 (gR_ m6 t 38) fun a7 =>
    iz_ (!(ib_ (56 + i0) a7.2.1)) <|
    bm_ (f_X8_owesOf F t i0 m6) fun v13 m11 =>
    if (gI_ m6 a7 (56 + i0).toNatClampNeg) < (v13 / 4) then
      some (0, m11)
    else
      some (1, m11)
  ) fun k5 =>
  if (gI_ m a1 (0 + i0).toNatClampNeg) = 1 then
    k5 m
  else
    gd_ 100 (gR_ m t 38) fun a16 =>
    iz_ (!(ib_ (0 + i0) a16.2.1)) <|
    if (gI_ m a16 (0 + i0).toNatClampNeg) = 2 then
      k5 m
    else
      some (0, m)
set_option maxHeartbeats 4000000 in
theorem e_X8_canPayNow {G : xg_T} {l : Launch} (hl : l.stackTraces = false) {F : Nat}    {t : pm_A} {i0 : Int32} {m0 m' : pm_M} {r : Int32} (ht : t.1 = 8) (h : f_X8_canPayNow F t i0 m0 = some (r, m')) : Cal_ G l yX8_canPayNow (ws_ yX8_canPayNow cX8_canPayNow 2 (some .boolean)) 8 [vR_ (some t), vI_ i0] m0 (.inl (some (vI_ r))) m' := by
  refine cal_of (by decide +kernel) (Nat.le_of_ble_eq_true rfl) ?_
  unfold f_X8_canPayNow at h
  show AW_ cX8_canPayNow RX8 (some (.boolean), "canPayNow", 8, 2, m0, m', (.inl (some (vI_ r))), G, l, [], true) m0 0 [(0, vR_ (some t)), (1, vI_ i0)] []
  refine a_aload_n 0 dX8_canPayNow_0 rfl rfl ?_
  refine a_getR kc_8 38 (by decide) rfl ht q1592 dX8_canPayNow_1 ?_
  refine a_iconst (v := 0) dX8_canPayNow_4 (by decide) ?_
  refine a_iload_n 1 dX8_canPayNow_5 rfl rfl ?_
  refine a_iadd dX8_canPayNow_6 ?_
  obtain ⟨a1, e2, f3, h⟩ := gd_some h
  rw [e2]
  obtain ⟨c4, h⟩ := iz_some h
  refine a_iald f3 (bn_ c4) dX8_canPayNow_7 ?_
  refine a_iconst (v := 1) dX8_canPayNow_8 (by decide) ?_
  obtain ⟨k5, e21, h⟩ := jn1_some h
  have hk5 : ∀  (m6 : pm_M), k5 m6 = some (r, m') → AW_ cX8_canPayNow RX8 (some (.boolean), "canPayNow", 8, 2, m0, m', (.inl (some (vI_ r))), G, l, [], true) m6 24 [(0, vR_ (some t)), (1, vI_ i0)] [] := by
    intro m6 h
    have h := (e21 m6).symm.trans h
    refine a_aload_n 0 dX8_canPayNow_24 rfl rfl ?_
    refine a_getR kc_8 38 (by decide) rfl ht q1592 dX8_canPayNow_25 ?_
    refine a_bipush (v := 56) dX8_canPayNow_28 (by decide) ?_
    refine a_iload_n 1 dX8_canPayNow_30 rfl rfl ?_
    refine a_iadd dX8_canPayNow_31 ?_
    obtain ⟨a7, e8, f9, h⟩ := gd_some h
    rw [e8]
    obtain ⟨c10, h⟩ := iz_some h
    refine a_iald f9 (bn_ c10) dX8_canPayNow_32 ?_
    refine a_aload_n 0 dX8_canPayNow_33 rfl rfl ?_
    refine a_iload_n 1 dX8_canPayNow_34 rfl rfl ?_
    obtain ⟨v13, m11, e12, h⟩ := bm_some h
    have he12 := e_X8_owesOf (G := G) hl ht e12
    refine c_I he12.1 (rn_V (n := 1) (As := [vI_ i0]) kc_8 ht he12 (lw_V q1928 q1930 qs66 q97 q1931) (by decide +kernel) rfl (Nat.le_of_ble_eq_true rfl) (Nat.le_of_ble_eq_true rfl) (Nat.le_of_ble_eq_true rfl) dX8_canPayNow_35) (fun z => (os_av (As := [vI_ i0]) z).2.1) ?_
    refine a_iconst (v := 4) dX8_canPayNow_38 (by decide) ?_
    refine a_idiv dX8_canPayNow_39 (by decide) ?_
    refine a_icmp_lt (tgt := 47) dX8_canPayNow_40 (by decide) (fun c14 => ?_) (fun c14 => ?_)
    · replace h := ifp_ c14 h
      refine a_iconst (v := 0) dX8_canPayNow_47 (by decide) ?_
      cases h
      exact a_ireturn rfl rfl rfl rfl rfl dX8_canPayNow_48
    · replace h := ifn_ c14 h
      refine a_iconst (v := 1) dX8_canPayNow_43 (by decide) ?_
      refine a_goto (tgt := 48) dX8_canPayNow_44 (by decide) ?_
      cases h
      exact a_ireturn rfl rfl rfl rfl rfl dX8_canPayNow_48
  refine a_icmp_eq (tgt := 24) dX8_canPayNow_9 (by decide) (fun c15 => ?_) (fun c15 => ?_)
  · replace h := ifp_ c15 h
    exact hk5 _ h
  · replace h := ifn_ c15 h
    refine a_aload_n 0 dX8_canPayNow_12 rfl rfl ?_
    refine a_getR kc_8 38 (by decide) rfl ht q1592 dX8_canPayNow_13 ?_
    refine a_iconst (v := 0) dX8_canPayNow_16 (by decide) ?_
    refine a_iload_n 1 dX8_canPayNow_17 rfl rfl ?_
    refine a_iadd dX8_canPayNow_18 ?_
    obtain ⟨a16, e17, f18, h⟩ := gd_some h
    rw [e17]
    obtain ⟨c19, h⟩ := iz_some h
    refine a_iald f18 (bn_ c19) dX8_canPayNow_19 ?_
    refine a_iconst (v := 2) dX8_canPayNow_20 (by decide) ?_
    refine a_icmp_ne (tgt := 47) dX8_canPayNow_21 (by decide) (fun c20 => ?_) (fun c20 => ?_)
    · replace h := ifn_ c20 h
      refine a_iconst (v := 0) dX8_canPayNow_47 (by decide) ?_
      cases h
      exact a_ireturn rfl rfl rfl rfl rfl dX8_canPayNow_48
    · replace h := ifp_ c20 h
      exact hk5 _ h
def f_X8_frees (F : Nat)  (t : pm_A) (i0 : Int32) (m : pm_M) : Option (Unit × pm_M) :=
  gd_ 100 (gR_ m t 38) fun a1 =>
  iz_ (!(ib_ (0 + i0) a1.2.1)) <|
  lt_ (pI_ m a1 ((0 + i0).toNatClampNeg) 3) fun m5 =>
  gd_ 100 (gR_ m5 t 38) fun a7 =>
  iz_ (!(ib_ (8 + i0) a7.2.1)) <|
  lt_ (pI_ m5 a7 ((8 + i0).toNatClampNeg) ((-1))) fun m11 =>
  some ((), m11)
set_option maxHeartbeats 4000000 in
theorem e_X8_frees {G : xg_T} {l : Launch} (hl : l.stackTraces = false) {F : Nat}    {t : pm_A} {i0 : Int32} {m0 m' : pm_M} {r : Unit} (ht : t.1 = 8) (h : f_X8_frees F t i0 m0 = some (r, m')) : Cal_ G l yX8_frees (ws_ yX8_frees cX8_frees 2 none) 2 [vR_ (some t), vI_ i0] m0 (.inl none) m' := by
  refine cal_of (by decide +kernel) (Nat.le_of_ble_eq_true rfl) ?_
  unfold f_X8_frees at h
  show AW_ cX8_frees RX8 (none, "frees", 2, 2, m0, m', (.inl none), G, l, [], true) m0 0 [(0, vR_ (some t)), (1, vI_ i0)] []
  refine a_aload_n 0 dX8_frees_0 rfl rfl ?_
  refine a_getR kc_8 38 (by decide) rfl ht q1592 dX8_frees_1 ?_
  refine a_iconst (v := 0) dX8_frees_4 (by decide) ?_
  refine a_iload_n 1 dX8_frees_5 rfl rfl ?_
  refine a_iadd dX8_frees_6 ?_
  refine a_iconst (v := 3) dX8_frees_7 (by decide) ?_
  obtain ⟨a1, e2, f3, h⟩ := gd_some h
  rw [e2]
  obtain ⟨c4, h⟩ := iz_some h
  obtain ⟨m5, e6, h⟩ := lt_some h
  refine a_iast f3 (bn_ c4) dX8_frees_8 ?_
  rw [← e6]
  refine a_aload_n 0 dX8_frees_9 rfl rfl ?_
  refine a_getR kc_8 38 (by decide) rfl ht q1592 dX8_frees_10 ?_
  refine a_bipush (v := 8) dX8_frees_13 (by decide) ?_
  refine a_iload_n 1 dX8_frees_15 rfl rfl ?_
  refine a_iadd dX8_frees_16 ?_
  refine a_iconst (v := (-1)) dX8_frees_17 (by decide) ?_
  obtain ⟨a7, e8, f9, h⟩ := gd_some h
  rw [e8]
  obtain ⟨c10, h⟩ := iz_some h
  obtain ⟨m11, e12, h⟩ := lt_some h
  refine a_iast f9 (bn_ c10) dX8_frees_18 ?_
  rw [← e12]
  cases h
  exact a_return rfl rfl rfl rfl dX8_frees_19
def f_X8_pays (F : Nat)  (t : pm_A) (i0 : Int32) (m : pm_M) : Option (Int32 × pm_M) :=
  bm_ (f_X8_canPayNow F t i0 m) fun v3 m1 =>
  if v3 = 0 then
    some (0, m1)
  else
    gd_ 100 (gR_ m1 t 38) fun a5 =>
    iz_ (!(ib_ (56 + i0) a5.2.1)) <|
    bm_ (f_X8_owesOf F t i0 m1) fun v11 m9 =>
    iz_ (!(ib_ (56 + i0) a5.2.1)) <|
    lt_ (pI_ m9 a5 ((56 + i0).toNatClampNeg) ((gI_ m1 a5 (56 + i0).toNatClampNeg) - (v11 / 4))) fun m13 =>
    bm_ (f_X8_frees F t i0 m13) fun v17 m15 =>
    some (1, m15)
set_option maxHeartbeats 4000000 in
theorem e_X8_pays {G : xg_T} {l : Launch} (hl : l.stackTraces = false) {F : Nat}    {t : pm_A} {i0 : Int32} {m0 m' : pm_M} {r : Int32} (ht : t.1 = 8) (h : f_X8_pays F t i0 m0 = some (r, m')) : Cal_ G l yX8_pays (ws_ yX8_pays cX8_pays 2 (some .boolean)) 9 [vR_ (some t), vI_ i0] m0 (.inl (some (vI_ r))) m' := by
  refine cal_of (by decide +kernel) (Nat.le_of_ble_eq_true rfl) ?_
  unfold f_X8_pays at h
  show AW_ cX8_pays RX8 (some (.boolean), "pays", 9, 2, m0, m', (.inl (some (vI_ r))), G, l, [], true) m0 0 [(0, vR_ (some t)), (1, vI_ i0)] []
  refine a_aload_n 0 dX8_pays_0 rfl rfl ?_
  refine a_iload_n 1 dX8_pays_1 rfl rfl ?_
  obtain ⟨v3, m1, e2, h⟩ := bm_some h
  have he2 := e_X8_canPayNow (G := G) hl ht e2
  refine c_I he2.1 (rn_V (n := 1) (As := [vI_ i0]) kc_8 ht he2 (lw_V q1924 q1926 qs65 q97 q1927) (by decide +kernel) rfl (Nat.le_of_ble_eq_true rfl) (Nat.le_of_ble_eq_true rfl) (Nat.le_of_ble_eq_true rfl) dX8_pays_2) (fun z => (os_av (As := [vI_ i0]) z).2.1) ?_
  refine a_if_ne (tgt := 10) dX8_pays_5 (by decide) (fun c4 => ?_) (fun c4 => ?_)
  · replace h := ifn_ c4 h
    refine a_aload_n 0 dX8_pays_10 rfl rfl ?_
    refine a_getR kc_8 38 (by decide) rfl ht q1592 dX8_pays_11 ?_
    refine a_bipush (v := 56) dX8_pays_14 (by decide) ?_
    refine a_iload_n 1 dX8_pays_16 rfl rfl ?_
    refine a_iadd dX8_pays_17 ?_
    refine a_dup2 dX8_pays_18 rfl rfl ?_
    obtain ⟨a5, e6, f7, h⟩ := gd_some h
    rw [e6]
    obtain ⟨c8, h⟩ := iz_some h
    refine a_iald f7 (bn_ c8) dX8_pays_19 ?_
    refine a_aload_n 0 dX8_pays_20 rfl rfl ?_
    refine a_iload_n 1 dX8_pays_21 rfl rfl ?_
    obtain ⟨v11, m9, e10, h⟩ := bm_some h
    have he10 := e_X8_owesOf (G := G) hl ht e10
    refine c_I he10.1 (rn_V (n := 1) (As := [vI_ i0]) kc_8 ht he10 (lw_V q1928 q1930 qs66 q97 q1931) (by decide +kernel) rfl (Nat.le_of_ble_eq_true rfl) (Nat.le_of_ble_eq_true rfl) (Nat.le_of_ble_eq_true rfl) dX8_pays_22) (fun z => (os_av (As := [vI_ i0]) z).2.1) ?_
    refine a_iconst (v := 4) dX8_pays_25 (by decide) ?_
    refine a_idiv dX8_pays_26 (by decide) ?_
    refine a_isub dX8_pays_27 ?_
    obtain ⟨c12, h⟩ := iz_some h
    obtain ⟨m13, e14, h⟩ := lt_some h
    refine a_iast f7 (bn_ c12) dX8_pays_28 ?_
    rw [← e14]
    refine a_aload_n 0 dX8_pays_29 rfl rfl ?_
    refine a_iload_n 1 dX8_pays_30 rfl rfl ?_
    obtain ⟨v17, m15, e16, h⟩ := bm_some h
    have he16 := e_X8_frees (G := G) hl ht e16
    refine c_V he16.1 (rn_V (n := 1) (As := [vI_ i0]) kc_8 ht he16 (lw_V q1959 q1961 qs73 q97 q1962) (by decide +kernel) rfl (Nat.le_of_ble_eq_true rfl) (Nat.le_of_ble_eq_true rfl) (Nat.le_of_ble_eq_true rfl) dX8_pays_31) (fun z => (os_av (As := [vI_ i0]) z).2.1) ?_
    refine a_iconst (v := 1) dX8_pays_34 (by decide) ?_
    cases h
    exact a_ireturn rfl rfl rfl rfl rfl dX8_pays_35
  · replace h := ifp_ c4 h
    refine a_iconst (v := 0) dX8_pays_8 (by decide) ?_
    cases h
    exact a_ireturn rfl rfl rfl rfl rfl dX8_pays_9
