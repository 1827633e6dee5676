/-! PRINTED BY dec.py: X7_tries X7_finds X7_placed X1_best X0_best X1_bestFor X0_bestFor X1_kin X0_kin X1_fare X0_fare X1_canPay X0_canPay X1_enough X0_enough X1_level X0_level X1_isSaid -/
set_option maxRecDepth 100000
def f_X7_tries_L96 (F : Nat) (z_ : pm_A → Int32 → Int32 → pm_M → Option (Unit × pm_M)) (p31 : pm_A) (p33 : Int32) (p34 : Int32) (p35 : Int32) : Nat → Int32 → pm_M → Option (Unit × pm_M)
  | 0, _, _ => none
  | n36 + 1, x38, m37 =>
    gd_ 4 (gR_ m37 p31 4) fun a39 =>
    gd_ 6 (gR_ m37 a39 10) fun a42 =>
    if (gI_ m37 a42 8) ≤ x38 then
      some ((), m37)
    else
      if p35 = ((-1)) then
        some ((), m37)
      else
        gd_ 100 (gR_ m37 p31 2) fun a47 =>
        iz_ (!(ib_ x38 a47.2.1)) <|
        if (gI_ m37 a47 x38.toNatClampNeg) ≤ 0 then
          (f_X7_tries_L96 F z_ p31 p33 p34 p35 n36) (x38 + 1) m37
        else
          jn_ (fun  (m53 : pm_M) =>
            gd_ 100 (gR_ m53 p31 0) fun a54 =>
            iz_ (!(ib_ p33 a54.2.1)) <|
            lt_ (pI_ m53 a54 p33.toNatClampNeg x38) fun m58 =>
            gd_ 100 (gR_ m58 p31 2) fun a60 =>
            iz_ (!(ib_ x38 a60.2.1)) <|
            iz_ (!(ib_ x38 a60.2.1)) <|
            lt_ (pI_ m58 a60 x38.toNatClampNeg ((gI_ m58 a60 x38.toNatClampNeg) - 1)) fun m65 =>
            gd_ 4 (gR_ m65 p31 4) fun a67 =>
            bm_ (f_X4_gives F a67 x38 p33 m65) fun v72 m70 =>
            bm_ (z_ p31 (p33 + 1) (p34 + v72) m70) fun v75 m73 =>
            gd_ 100 (gR_ m73 p31 2) fun a76 =>
            iz_ (!(ib_ x38 a76.2.1)) <|
            iz_ (!(ib_ x38 a76.2.1)) <|
            lt_ (pI_ m73 a76 x38.toNatClampNeg ((gI_ m73 a76 x38.toNatClampNeg) + 1)) fun m81 =>
            (f_X7_tries_L96 F z_ p31 p33 p34 p35 n36) (x38 + 1) m81
          ) fun k52 =>
          if p35 < 0 then
            k52 m37
          else
            if p35 = x38 then
              k52 m37
            else
              (f_X7_tries_L96 F z_ p31 p33 p34 p35 n36) (x38 + 1) m37
set_option maxHeartbeats 4000000 in
theorem w_X7_tries_L96 {G : xg_T} {l : Launch} (hl : l.stackTraces = false) {F : Nat} {dz : Nat} {z_ : pm_A → Int32 → Int32 → pm_M → Option (Unit × pm_M)} (hz : ∀ (w0 : pm_A) (w1 : Int32) (w2 : Int32) (m m' : pm_M) (r : Unit), w0.1 = 7 → z_ w0 w1 w2 m = some (r, m') → Cal_ G l yX7_tries (ws_ yX7_tries cX7_tries 5 none) dz [vR_ (some w0), vI_ w1, vI_ w2] m (.inl none) m') (hdz : 171 ≤ dz) (p31 : pm_A) (p33 : Int32) (p34 : Int32) (p35 : Int32) {m0 m' : pm_M} {r : Unit} (hf32 : p31.1 = 7)  : ∀ (n : Nat) (x38 : Int32) (m37 : pm_M), f_X7_tries_L96 F z_ p31 p33 p34 p35 n x38 m37 = some (r, m') → AW_ cX7_tries RX7 (none, "tries", (dz + 1), 5, m0, m', (.inl none), G, l, [], true) m37 96 [(0, vR_ (some p31)), (1, vI_ p33), (2, vI_ p34), (3, vI_ p35), (4, vI_ x38)] [] := by
  intro n
  induction n with
  | zero => intro x38 m37 h; cases h
  | succ n36 ih =>
    intro x38 m37 h
    rw [f_X7_tries_L96] at h
    refine a_iload 4 dX7_tries_96 rfl ?_
    refine a_aload_n 0 dX7_tries_98 rfl rfl ?_
    refine a_getR kc_7 4 (by decide) rfl hf32 q360 dX7_tries_99 ?_
    obtain ⟨a39, e40, f41, h⟩ := gd_some h
    rw [e40]
    refine a_getRN kc_4 10 (by decide) rfl f41 q302 dX7_tries_102 ?_
    obtain ⟨a42, e43, f44, h⟩ := gd_some h
    rw [e43]
    refine a_getIN kc_6 8 (by decide) rfl f44 q249 dX7_tries_105 ?_
    refine a_icmp_ge (tgt := 194) dX7_tries_108 (by decide) (fun c45 => ?_) (fun c45 => ?_)
    · replace h := ifp_ c45 h
      cases h
      exact a_return rfl rfl rfl rfl dX7_tries_194
    · replace h := ifn_ c45 h
      refine a_iload_n 3 dX7_tries_111 rfl rfl ?_
      refine a_iconst (v := (-1)) dX7_tries_112 (by decide) ?_
      refine a_icmp_eq (tgt := 194) dX7_tries_113 (by decide) (fun c46 => ?_) (fun c46 => ?_)
      · replace h := ifp_ c46 h
        cases h
        exact a_return rfl rfl rfl rfl dX7_tries_194
      · replace h := ifn_ c46 h
        refine a_aload_n 0 dX7_tries_116 rfl rfl ?_
        refine a_getR kc_7 2 (by decide) rfl hf32 q358 dX7_tries_117 ?_
        refine a_iload 4 dX7_tries_120 rfl ?_
        obtain ⟨a47, e48, f49, h⟩ := gd_some h
        rw [e48]
        obtain ⟨c50, h⟩ := iz_some h
        refine a_iald f49 (bn_ c50) dX7_tries_122 ?_
        refine a_if_le (tgt := 188) dX7_tries_123 (by decide) (fun c51 => ?_) (fun c51 => ?_)
        · replace h := ifp_ c51 h
          refine a_iinc (v := x38 + 1) (ls' := [(4, vI_ (x38 + 1)), (0, vR_ (some p31)), (1, vI_ p33), (2, vI_ p34), (3, vI_ p35)]) 4 dX7_tries_188 rfl rfl (Nat.le_of_ble_eq_true rfl) rfl ?_
          refine a_goto (tgt := 96) dX7_tries_191 (by decide) ?_
          refine aw_pick [1, 2, 3, 4, 0] rfl ?_
          exact ih _ _ h
        · replace h := ifn_ c51 h
          refine a_iload_n 3 dX7_tries_126 rfl rfl ?_
          obtain ⟨k52, e85, h⟩ := jn1_some h
          have hk52 : ∀  (m53 : pm_M), k52 m53 = some (r, m') → AW_ cX7_tries RX7 (none, "tries", (dz + 1), 5, m0, m', (.inl none), G, l, [], true) m53 139 [(0, vR_ (some p31)), (1, vI_ p33), (2, vI_ p34), (3, vI_ p35), (4, vI_ x38)] [] := by
            intro m53 h
            have h := (e85 m53).symm.trans h
            refine a_aload_n 0 dX7_tries_139 rfl rfl ?_
            refine a_getR kc_7 0 (by decide) rfl hf32 q355 dX7_tries_140 ?_
            refine a_iload_n 1 dX7_tries_143 rfl rfl ?_
            refine a_iload 4 dX7_tries_144 rfl ?_
            obtain ⟨a54, e55, f56, h⟩ := gd_some h
            rw [e55]
            obtain ⟨c57, h⟩ := iz_some h
            obtain ⟨m58, e59, h⟩ := lt_some h
            refine a_iast f56 (bn_ c57) dX7_tries_146 ?_
            rw [← e59]
            refine a_aload_n 0 dX7_tries_147 rfl rfl ?_
            refine a_getR kc_7 2 (by decide) rfl hf32 q358 dX7_tries_148 ?_
            refine a_iload 4 dX7_tries_151 rfl ?_
            refine a_dup2 dX7_tries_153 rfl rfl ?_
            obtain ⟨a60, e61, f62, h⟩ := gd_some h
            rw [e61]
            obtain ⟨c63, h⟩ := iz_some h
            refine a_iald f62 (bn_ c63) dX7_tries_154 ?_
            refine a_iconst (v := 1) dX7_tries_155 (by decide) ?_
            refine a_isub dX7_tries_156 ?_
            obtain ⟨c64, h⟩ := iz_some h
            obtain ⟨m65, e66, h⟩ := lt_some h
            refine a_iast f62 (bn_ c64) dX7_tries_157 ?_
            rw [← e66]
            refine a_aload_n 0 dX7_tries_158 rfl rfl ?_
            refine a_iload_n 1 dX7_tries_159 rfl rfl ?_
            refine a_iconst (v := 1) dX7_tries_160 (by decide) ?_
            refine a_iadd dX7_tries_161 ?_
            refine a_iload_n 2 dX7_tries_162 rfl rfl ?_
            refine a_aload_n 0 dX7_tries_163 rfl rfl ?_
            refine a_getR kc_7 4 (by decide) rfl hf32 q360 dX7_tries_164 ?_
            refine a_iload 4 dX7_tries_167 rfl ?_
            refine a_iload_n 1 dX7_tries_169 rfl rfl ?_
            obtain ⟨a67, e68, f69, h⟩ := gd_some h
            rw [e68]
            obtain ⟨v72, m70, e71, h⟩ := bm_some h
            have he71 := e_X4_gives (G := G) hl f69 e71
            refine c_I he71.1 (rn_V (n := 2) (As := [vI_ x38, vI_ p33]) kc_4 f69 he71 (lw_V q1353 q1334 q1335 q93 q1336) (by decide +kernel) rfl (by show 170 + 1 ≤ (dz + 1); omega) (Nat.le_of_ble_eq_true rfl) (Nat.le_of_ble_eq_true rfl) dX7_tries_170) (fun z => (os_av (As := [vI_ x38, vI_ p33]) z).2.1) ?_
            refine a_iadd dX7_tries_173 ?_
            obtain ⟨v75, m73, e74, h⟩ := bm_some h
            have he74 := hz _ _ _ _ _ _ hf32 e74
            refine c_V he74.1 (rn_V (n := 2) (As := [vI_ (p33 + 1), vI_ (p34 + v72)]) kc_7 hf32 he74 (lw_V q1355 q1357 qs20 q96 q1358) (by decide +kernel) rfl (by show dz + 1 ≤ (dz + 1); omega) (Nat.le_of_ble_eq_true rfl) (Nat.le_of_ble_eq_true rfl) dX7_tries_174) (fun z => (os_av (As := [vI_ (p33 + 1), vI_ (p34 + v72)]) z).2.1) ?_
            refine a_aload_n 0 dX7_tries_177 rfl rfl ?_
            refine a_getR kc_7 2 (by decide) rfl hf32 q358 dX7_tries_178 ?_
            refine a_iload 4 dX7_tries_181 rfl ?_
            refine a_dup2 dX7_tries_183 rfl rfl ?_
            obtain ⟨a76, e77, f78, h⟩ := gd_some h
            rw [e77]
            obtain ⟨c79, h⟩ := iz_some h
            refine a_iald f78 (bn_ c79) dX7_tries_184 ?_
            refine a_iconst (v := 1) dX7_tries_185 (by decide) ?_
            refine a_iadd dX7_tries_186 ?_
            obtain ⟨c80, h⟩ := iz_some h
            obtain ⟨m81, e82, h⟩ := lt_some h
            refine a_iast f78 (bn_ c80) dX7_tries_187 ?_
            rw [← e82]
            refine a_iinc (v := x38 + 1) (ls' := [(4, vI_ (x38 + 1)), (0, vR_ (some p31)), (1, vI_ p33), (2, vI_ p34), (3, vI_ p35)]) 4 dX7_tries_188 rfl rfl (Nat.le_of_ble_eq_true rfl) rfl ?_
            refine a_goto (tgt := 96) dX7_tries_191 (by decide) ?_
            refine aw_pick [1, 2, 3, 4, 0] rfl ?_
            exact ih _ _ h
          refine a_if_lt (tgt := 139) dX7_tries_127 (by decide) (fun c83 => ?_) (fun c83 => ?_)
          · replace h := ifp_ c83 h
            exact hk52 _ h
          · replace h := ifn_ c83 h
            refine a_iload_n 3 dX7_tries_130 rfl rfl ?_
            refine a_iload 4 dX7_tries_131 rfl ?_
            refine a_icmp_eq (tgt := 139) dX7_tries_133 (by decide) (fun c84 => ?_) (fun c84 => ?_)
            · replace h := ifp_ c84 h
              exact hk52 _ h
            · replace h := ifn_ c84 h
              refine a_goto (tgt := 188) dX7_tries_136 (by decide) ?_
              refine a_iinc (v := x38 + 1) (ls' := [(4, vI_ (x38 + 1)), (0, vR_ (some p31)), (1, vI_ p33), (2, vI_ p34), (3, vI_ p35)]) 4 dX7_tries_188 rfl rfl (Nat.le_of_ble_eq_true rfl) rfl ?_
              refine a_goto (tgt := 96) dX7_tries_191 (by decide) ?_
              refine aw_pick [1, 2, 3, 4, 0] rfl ?_
              exact ih _ _ h
def b_X7_tries (F : Nat) (z_ : pm_A → Int32 → Int32 → pm_M → Option (Unit × pm_M)) (t : pm_A) (i0 : Int32) (i1 : Int32) (m : pm_M) : Option (Unit × pm_M) :=
  gd_ 100 (gR_ m t 3) fun a1 =>
  iz_ (!(ib_ i0 a1.2.1)) <|
  if (gI_ m t 5) < (i1 + (gI_ m a1 i0.toNatClampNeg)) then
    gd_ 4 (gR_ m t 4) fun a6 =>
    gd_ 6 (gR_ m a6 10) fun a9 =>
    if i0 = (gI_ m a9 7) then
      lt_ (pI_ m t 5 i1) fun m96 =>
      gd_ 100 (gR_ m96 t 0) fun a98 =>
      gd_ 100 (gR_ m96 t 1) fun a101 =>
      iz_ (!(decide (0 + 8 ≤ a98.2.1) && decide (0 + 8 ≤ a101.2.1))) <|
      lt_ (pC_ m96 a98 0 a101 0 8) fun m105 =>
      some ((), m105)
    else
      gd_ 4 (gR_ m t 4) fun a13 =>
      gd_ 100 (gR_ m a13 0) fun a16 =>
      iz_ (!(ib_ i0 a16.2.1)) <|
      jn_ (fun (y22 : Int32) (m21 : pm_M) =>
        gd_ 100 (gR_ m21 t 0) fun a23 =>
        iz_ (!(ib_ i0 a23.2.1)) <|
        lt_ (pI_ m21 a23 i0.toNatClampNeg ((-1))) fun m27 =>
        jn_ (fun  (m30 : pm_M) =>
          f_X7_tries_L96 F z_ t i0 i1 y22 F 0 m30
        ) fun k29 =>
        if 0 ≤ y22 then
          k29 m27
        else
          bm_ (z_ t (i0 + 1) i1 m27) fun v89 m87 =>
          k29 m87
      ) fun k20 =>
      if (gI_ m a16 i0.toNatClampNeg) = 1 then
        bm_ (f_X7_kinAt F t i0 m) fun v94 m92 =>
        k20 v94 m92
      else
        k20 ((-1)) m
  else
    some ((), m)
set_option maxHeartbeats 4000000 in
theorem eb_X7_tries {G : xg_T} {l : Launch} (hl : l.stackTraces = false) {F : Nat} {dz : Nat} {z_ : pm_A → Int32 → Int32 → pm_M → Option (Unit × pm_M)} (hz : ∀ (w0 : pm_A) (w1 : Int32) (w2 : Int32) (m m' : pm_M) (r : Unit), w0.1 = 7 → z_ w0 w1 w2 m = some (r, m') → Cal_ G l yX7_tries (ws_ yX7_tries cX7_tries 5 none) dz [vR_ (some w0), vI_ w1, vI_ w2] m (.inl none) m') (hdz : 171 ≤ dz) {t : pm_A} {i0 : Int32} {i1 : Int32} {m0 m' : pm_M} {r : Unit} (ht : t.1 = 7) (h : b_X7_tries F z_ t i0 i1 m0 = some (r, m')) : Cal_ G l yX7_tries (ws_ yX7_tries cX7_tries 5 none) (dz + 1) [vR_ (some t), vI_ i0, vI_ i1] m0 (.inl none) m' := by
  refine cal_of (by decide +kernel) (Nat.le_of_ble_eq_true rfl) ?_
  unfold b_X7_tries at h
  show AW_ cX7_tries RX7 (none, "tries", (dz + 1), 5, m0, m', (.inl none), G, l, [], true) m0 0 [(0, vR_ (some t)), (1, vI_ i0), (2, vI_ i1)] []
  refine a_iload_n 2 dX7_tries_0 rfl rfl ?_
  refine a_aload_n 0 dX7_tries_1 rfl rfl ?_
  refine a_getR kc_7 3 (by decide) rfl ht q359 dX7_tries_2 ?_
  refine a_iload_n 1 dX7_tries_5 rfl rfl ?_
  obtain ⟨a1, e2, f3, h⟩ := gd_some h
  rw [e2]
  obtain ⟨c4, h⟩ := iz_some h
  refine a_iald f3 (bn_ c4) dX7_tries_6 ?_
  refine a_iadd dX7_tries_7 ?_
  refine a_aload_n 0 dX7_tries_8 rfl rfl ?_
  refine a_getI kc_7 5 (by decide) rfl ht q361 dX7_tries_9 ?_
  refine a_icmp_gt (tgt := 16) dX7_tries_12 (by decide) (fun c5 => ?_) (fun c5 => ?_)
  · replace h := ifp_ c5 h
    refine a_iload_n 1 dX7_tries_16 rfl rfl ?_
    refine a_aload_n 0 dX7_tries_17 rfl rfl ?_
    refine a_getR kc_7 4 (by decide) rfl ht q360 dX7_tries_18 ?_
    obtain ⟨a6, e7, f8, h⟩ := gd_some h
    rw [e7]
    refine a_getRN kc_4 10 (by decide) rfl f8 q302 dX7_tries_21 ?_
    obtain ⟨a9, e10, f11, h⟩ := gd_some h
    rw [e10]
    refine a_getIN kc_6 7 (by decide) rfl f11 q245 dX7_tries_24 ?_
    refine a_icmp_ne (tgt := 51) dX7_tries_27 (by decide) (fun c12 => ?_) (fun c12 => ?_)
    · replace h := ifn_ c12 h
      refine a_aload_n 0 dX7_tries_51 rfl rfl ?_
      refine a_getR kc_7 4 (by decide) rfl ht q360 dX7_tries_52 ?_
      obtain ⟨a13, e14, f15, h⟩ := gd_some h
      rw [e14]
      refine a_getRN kc_4 0 (by decide) rfl f15 q284 dX7_tries_55 ?_
      refine a_iload_n 1 dX7_tries_58 rfl rfl ?_
      obtain ⟨a16, e17, f18, h⟩ := gd_some h
      rw [e17]
      obtain ⟨c19, h⟩ := iz_some h
      refine a_iald f18 (bn_ c19) dX7_tries_59 ?_
      refine a_iconst (v := 1) dX7_tries_60 (by decide) ?_
      obtain ⟨k20, e95, h⟩ := jn2_some h
      have hk20 : ∀ (y22 : Int32) (m21 : pm_M), k20 y22 m21 = some (r, m') → AW_ cX7_tries RX7 (none, "tries", (dz + 1), 5, m0, m', (.inl none), G, l, [], true) m21 73 [(0, vR_ (some t)), (1, vI_ i0), (2, vI_ i1)] [vI_ y22] := by
        intro y22 m21 h
        have h := (e95 y22 m21).symm.trans h
        refine a_istore_n (ls' := [(3, vI_ y22), (0, vR_ (some t)), (1, vI_ i0), (2, vI_ i1)]) dX7_tries_73 rfl (Nat.le_of_ble_eq_true rfl) rfl ?_
        refine a_aload_n 1 dX7_tries_74 rfl rfl ?_
        refine a_getR kc_7 0 (by decide) rfl ht q355 dX7_tries_75 ?_
        refine a_iload_n 2 dX7_tries_78 rfl rfl ?_
        refine a_iconst (v := (-1)) dX7_tries_79 (by decide) ?_
        obtain ⟨a23, e24, f25, h⟩ := gd_some h
        rw [e24]
        obtain ⟨c26, h⟩ := iz_some h
        obtain ⟨m27, e28, h⟩ := lt_some h
        refine a_iast f25 (bn_ c26) dX7_tries_80 ?_
        rw [← e28]
        refine a_iload_n 0 dX7_tries_81 rfl rfl ?_
        obtain ⟨k29, e90, h⟩ := jn1_some h
        have hk29 : ∀  (m30 : pm_M), k29 m30 = some (r, m') → AW_ cX7_tries RX7 (none, "tries", (dz + 1), 5, m0, m', (.inl none), G, l, [], true) m30 93 [(0, vR_ (some t)), (1, vI_ i0), (2, vI_ i1), (3, vI_ y22)] [] := by
          intro m30 h
          have h := (e90 m30).symm.trans h
          refine a_iconst (v := 0) dX7_tries_93 (by decide) ?_
          refine a_istore (ls' := [(4, vI_ 0), (0, vR_ (some t)), (1, vI_ i0), (2, vI_ i1), (3, vI_ y22)]) dX7_tries_94 (Nat.le_of_ble_eq_true rfl) rfl ?_
          refine aw_pick [1, 2, 3, 4, 0] rfl ?_
          exact w_X7_tries_L96 hl hz hdz _ _ _ _ ht _ _ _ h
        refine a_if_ge (tgt := 93) dX7_tries_82 (by decide) (fun c86 => ?_) (fun c86 => ?_)
        · replace h := ifp_ c86 h
          refine aw_pick [1, 2, 3, 0] rfl ?_
          exact hk29 _ h
        · replace h := ifn_ c86 h
          refine a_aload_n 1 dX7_tries_85 rfl rfl ?_
          refine a_iload_n 2 dX7_tries_86 rfl rfl ?_
          refine a_iconst (v := 1) dX7_tries_87 (by decide) ?_
          refine a_iadd dX7_tries_88 ?_
          refine a_iload_n 3 dX7_tries_89 rfl rfl ?_
          obtain ⟨v89, m87, e88, h⟩ := bm_some h
          have he88 := hz _ _ _ _ _ _ ht e88
          refine c_V he88.1 (rn_V (n := 2) (As := [vI_ (i0 + 1), vI_ i1]) kc_7 ht he88 (lw_V q1355 q1357 qs20 q96 q1358) (by decide +kernel) rfl (by show dz + 1 ≤ (dz + 1); omega) (Nat.le_of_ble_eq_true rfl) (Nat.le_of_ble_eq_true rfl) dX7_tries_90) (fun z => (os_av (As := [vI_ (i0 + 1), vI_ i1]) z).2.1) ?_
          refine aw_pick [1, 2, 3, 0] rfl ?_
          exact hk29 _ h
      refine a_icmp_ne (tgt := 72) dX7_tries_61 (by decide) (fun c91 => ?_) (fun c91 => ?_)
      · replace h := ifn_ c91 h
        refine a_iconst (v := (-1)) dX7_tries_72 (by decide) ?_
        exact hk20 _ _ h
      · replace h := ifp_ c91 h
        refine a_aload_n 0 dX7_tries_64 rfl rfl ?_
        refine a_iload_n 1 dX7_tries_65 rfl rfl ?_
        obtain ⟨v94, m92, e93, h⟩ := bm_some h
        have he93 := e_X7_kinAt (G := G) hl ht e93
        refine c_I he93.1 (rn_V (n := 1) (As := [vI_ i0]) kc_7 ht he93 (lw_V q1360 q1362 qs21 q96 q1363) (by decide +kernel) rfl (by show 3 + 1 ≤ (dz + 1); omega) (Nat.le_of_ble_eq_true rfl) (Nat.le_of_ble_eq_true rfl) dX7_tries_66) (fun z => (os_av (As := [vI_ i0]) z).2.1) ?_
        refine a_goto (tgt := 73) dX7_tries_69 (by decide) ?_
        exact hk20 _ _ h
    · replace h := ifp_ c12 h
      refine a_aload_n 0 dX7_tries_30 rfl rfl ?_
      refine a_iload_n 2 dX7_tries_31 rfl rfl ?_
      obtain ⟨m96, e97, h⟩ := lt_some h
      refine a_putI kc_7 5 (by decide) rfl ht q361 rfl rfl rfl dX7_tries_32 ?_
      rw [← e97]
      refine a_aload_n 0 dX7_tries_35 rfl rfl ?_
      refine a_getR kc_7 0 (by decide) rfl ht q355 dX7_tries_36 ?_
      refine a_iconst (v := 0) dX7_tries_39 (by decide) ?_
      refine a_aload_n 0 dX7_tries_40 rfl rfl ?_
      refine a_getR kc_7 1 (by decide) rfl ht q356 dX7_tries_41 ?_
      refine a_iconst (v := 0) dX7_tries_44 (by decide) ?_
      refine a_bipush (v := 8) dX7_tries_45 (by decide) ?_
      obtain ⟨a98, e99, f100, h⟩ := gd_some h
      rw [e99]
      obtain ⟨a101, e102, f103, h⟩ := gd_some h
      rw [e102]
      obtain ⟨c104, h⟩ := iz_some h
      have c104 := da_ok (bn_ c104)
      obtain ⟨m105, e106, h⟩ := lt_some h
      refine a_cpyI q1359 f100 f103 (by decide) (by decide) (by decide) c104.1 c104.2 (by show 1 ≤ (dz + 1); omega) (Nat.le_of_ble_eq_true rfl) dX7_tries_47 ?_
      rw [show pC_ _ _ (Int32.toNatClampNeg 0) _ (Int32.toNatClampNeg 0) (Int32.toNatClampNeg 8) = pC_ _ _ 0 _ 0 8 from rfl, ← e106]
      cases h
      exact a_return rfl rfl rfl rfl dX7_tries_50
  · replace h := ifn_ c5 h
    cases h
    exact a_return rfl rfl rfl rfl dX7_tries_15
def f_X7_tries (F : Nat) : Nat → pm_A → Int32 → Int32 → pm_M → Option (Unit × pm_M)
  | 0, _, _, _, _ => none
  | D + 1, t, i0, i1, m => b_X7_tries F (f_X7_tries F D) t i0 i1 m
theorem er_X7_tries {G : xg_T} {l : Launch} (hl : l.stackTraces = false) {F : Nat} : ∀ (D : Nat) (t : pm_A) (i0 : Int32) (i1 : Int32) (m m' : pm_M) (r : Unit), t.1 = 7 → f_X7_tries F D t i0 i1 m = some (r, m') → Cal_ G l yX7_tries (ws_ yX7_tries cX7_tries 5 none) (1 * D + 171) [vR_ (some t), vI_ i0, vI_ i1] m (.inl none) m' := by
  intro D
  induction D with
  | zero => intro t i0 i1 m m' r ht h; cases h
  | succ D ih =>
    intro t i0 i1 m m' r ht h
    have h : b_X7_tries F (f_X7_tries F D) t i0 i1 m = some (r, m') := h
    have q := eb_X7_tries (dz := 1 * D + 171) hl ih (by omega) ht h
    rw [show 1 * (D + 1) + 171 = 1 * D + 171 + 1 by omega]
    exact q
theorem e_X7_tries {G : xg_T} {l : Launch} (hl : l.stackTraces = false) {F : Nat} {t : pm_A} {i0 : Int32} {i1 : Int32} {m m' : pm_M} {r : Unit} (ht : t.1 = 7) (h : f_X7_tries F 12 t i0 i1 m = some (r, m')) : Cal_ G l yX7_tries (ws_ yX7_tries cX7_tries 5 none) 183 [vR_ (some t), vI_ i0, vI_ i1] m (.inl none) m' := er_X7_tries hl 12 _ _ _ _ _ _ ht h
def f_X7_finds_L54 (F : Nat)  (p18 : pm_A) (p20 : pm_A) (k22 : pm_M → Option (Unit × pm_M)) : Nat → Int32 → pm_M → Option (Unit × pm_M)
  | 0, _, _ => none
  | n24 + 1, x26, m25 =>
    if x26 < 0 then
      k22 m25
    else
      if x26 = (gI_ m25 p20 7) then
        gd_ 100 (gR_ m25 p18 3) fun a39 =>
        iz_ (!(ib_ x26 a39.2.1)) <|
        lt_ (pI_ m25 a39 x26.toNatClampNeg 0) fun m43 =>
        (f_X7_finds_L54 F p18 p20 k22 n24) (x26 + (-1)) m43
      else
        gd_ 100 (gR_ m25 p18 3) fun a29 =>
        iz_ (!(ib_ (x26 + 1) a29.2.1)) <|
        bm_ (f_X7_mostOf F p18 x26 m25) fun v35 m33 =>
        iz_ (!(ib_ x26 a29.2.1)) <|
        lt_ (pI_ m33 a29 x26.toNatClampNeg ((gI_ m25 a29 (x26 + 1).toNatClampNeg) + v35)) fun m37 =>
        (f_X7_finds_L54 F p18 p20 k22 n24) (x26 + (-1)) m37
set_option maxHeartbeats 4000000 in
theorem w_X7_finds_L54 {G : xg_T} {l : Launch} (hl : l.stackTraces = false) {F : Nat}    (p18 : pm_A) (p20 : pm_A) (k22 : pm_M → Option (Unit × pm_M)) {m0 m' : pm_M} {r : Unit} (hf19 : p18.1 = 7) (hf21 : p20.1 = 6) (hk22 : ∀ (m23 : pm_M), k22 m23 = some (r, m') → AW_ cX7_finds RX7 (none, "finds", 184, 4, m0, m', (.inl none), G, l, [], true) m23 96 [(0, vR_ (some p18))] []) : ∀ (n : Nat) (x26 : Int32) (m25 : pm_M), f_X7_finds_L54 F p18 p20 k22 n x26 m25 = some (r, m') → AW_ cX7_finds RX7 (none, "finds", 184, 4, m0, m', (.inl none), G, l, [], true) m25 54 [(0, vR_ (some p18)), (2, vR_ (some p20)), (3, vI_ x26)] [] := by
  intro n
  induction n with
  | zero => intro x26 m25 h; cases h
  | succ n24 ih =>
    intro x26 m25 h
    rw [f_X7_finds_L54] at h
    refine a_iload_n 2 dX7_finds_54 rfl rfl ?_
    refine a_if_lt (tgt := 96) dX7_finds_55 (by decide) (fun c27 => ?_) (fun c27 => ?_)
    · replace h := ifp_ c27 h
      refine aw_pick [0] rfl ?_
      exact hk22 _ h
    · replace h := ifn_ c27 h
      refine a_aload_n 0 dX7_finds_58 rfl rfl ?_
      refine a_getR kc_7 3 (by decide) rfl hf19 q359 dX7_finds_59 ?_
      refine a_iload_n 2 dX7_finds_62 rfl rfl ?_
      refine a_iload_n 2 dX7_finds_63 rfl rfl ?_
      refine a_aload_n 1 dX7_finds_64 rfl rfl ?_
      refine a_getIN kc_6 7 (by decide) rfl hf21 q245 dX7_finds_65 ?_
      refine a_icmp_ne (tgt := 75) dX7_finds_68 (by decide) (fun c28 => ?_) (fun c28 => ?_)
      · replace h := ifn_ c28 h
        refine a_aload_n 0 dX7_finds_75 rfl rfl ?_
        refine a_getR kc_7 3 (by decide) rfl hf19 q359 dX7_finds_76 ?_
        refine a_iload_n 2 dX7_finds_79 rfl rfl ?_
        refine a_iconst (v := 1) dX7_finds_80 (by decide) ?_
        refine a_iadd dX7_finds_81 ?_
        obtain ⟨a29, e30, f31, h⟩ := gd_some h
        rw [e30]
        obtain ⟨c32, h⟩ := iz_some h
        refine a_iald f31 (bn_ c32) dX7_finds_82 ?_
        refine a_aload_n 0 dX7_finds_83 rfl rfl ?_
        refine a_iload_n 2 dX7_finds_84 rfl rfl ?_
        obtain ⟨v35, m33, e34, h⟩ := bm_some h
        have he34 := e_X7_mostOf (G := G) hl hf19 e34
        refine c_I he34.1 (rn_V (n := 1) (As := [vI_ x26]) kc_7 hf19 he34 (lw_V q1349 q1351 qs19 q96 q1352) (by decide +kernel) rfl (Nat.le_of_ble_eq_true rfl) (Nat.le_of_ble_eq_true rfl) (Nat.le_of_ble_eq_true rfl) dX7_finds_85) (fun z => (os_av (As := [vI_ x26]) z).2.1) ?_
        refine a_iadd dX7_finds_88 ?_
        obtain ⟨c36, h⟩ := iz_some h
        obtain ⟨m37, e38, h⟩ := lt_some h
        refine a_iast f31 (bn_ c36) dX7_finds_89 ?_
        rw [← e38]
        refine a_iinc (v := x26 + (-1)) (ls' := [(3, vI_ (x26 + (-1))), (0, vR_ (some p18)), (2, vR_ (some p20))]) 2 dX7_finds_90 rfl rfl (Nat.le_of_ble_eq_true rfl) rfl ?_
        refine a_goto (tgt := 54) dX7_finds_93 (by decide) ?_
        refine aw_pick [1, 2, 0] rfl ?_
        exact ih _ _ h
      · replace h := ifp_ c28 h
        refine a_iconst (v := 0) dX7_finds_71 (by decide) ?_
        refine a_goto (tgt := 89) dX7_finds_72 (by decide) ?_
        obtain ⟨a39, e40, f41, h⟩ := gd_some h
        rw [e40]
        obtain ⟨c42, h⟩ := iz_some h
        obtain ⟨m43, e44, h⟩ := lt_some h
        refine a_iast f41 (bn_ c42) dX7_finds_89 ?_
        rw [← e44]
        refine a_iinc (v := x26 + (-1)) (ls' := [(3, vI_ (x26 + (-1))), (0, vR_ (some p18)), (2, vR_ (some p20))]) 2 dX7_finds_90 rfl rfl (Nat.le_of_ble_eq_true rfl) rfl ?_
        refine a_goto (tgt := 54) dX7_finds_93 (by decide) ?_
        refine aw_pick [1, 2, 0] rfl ?_
        exact ih _ _ h
def f_X7_finds_L17 (F : Nat)  (p46 : pm_A) (p48 : pm_A) (p50 : Option pm_A) (k51 : pm_M → Option (Unit × pm_M)) : Nat → Int32 → pm_M → Option (Unit × pm_M)
  | 0, _, _ => none
  | n53 + 1, x55, m54 =>
    gd_ 6 p50 fun a56 =>
    if (gI_ m54 a56 8) ≤ x55 then
      k51 m54
    else
      gd_ 100 (gR_ m54 a56 6) fun a61 =>
      iz_ (!(ib_ x55 a61.2.1)) <|
      bm_ (f_X4_boundTo F p48 x55 m54) fun v67 m65 =>
      gd_ 100 (gR_ m54 p46 2) fun a68 =>
      iz_ (!(ib_ x55 a68.2.1)) <|
      lt_ (pI_ m65 a68 x55.toNatClampNeg ((gI_ m54 a61 x55.toNatClampNeg) - v67)) fun m72 =>
      (f_X7_finds_L17 F p46 p48 p50 k51 n53) (x55 + 1) m72
set_option maxHeartbeats 4000000 in
theorem w_X7_finds_L17 {G : xg_T} {l : Launch} (hl : l.stackTraces = false) {F : Nat}    (p46 : pm_A) (p48 : pm_A) (p50 : Option pm_A) (k51 : pm_M → Option (Unit × pm_M)) {m0 m' : pm_M} {r : Unit} (hf47 : p46.1 = 7) (hf49 : p48.1 = 4) (hk51 : ∀ (m52 : pm_M), k51 m52 = some (r, m') → AW_ cX7_finds RX7 (none, "finds", 184, 4, m0, m', (.inl none), G, l, [], true) m52 49 [(0, vR_ (some p46)), (2, vR_ p50)] []) : ∀ (n : Nat) (x55 : Int32) (m54 : pm_M), f_X7_finds_L17 F p46 p48 p50 k51 n x55 m54 = some (r, m') → AW_ cX7_finds RX7 (none, "finds", 184, 4, m0, m', (.inl none), G, l, [], true) m54 17 [(0, vR_ (some p46)), (1, vR_ (some p48)), (2, vR_ p50), (3, vI_ x55)] [] := by
  intro n
  induction n with
  | zero => intro x55 m54 h; cases h
  | succ n53 ih =>
    intro x55 m54 h
    rw [f_X7_finds_L17] at h
    refine a_iload_n 3 dX7_finds_17 rfl rfl ?_
    refine a_aload_n 2 dX7_finds_18 rfl rfl ?_
    obtain ⟨a56, e57, f58, h⟩ := gd_some h
    rw [e57]
    refine a_getIN kc_6 8 (by decide) rfl f58 q249 dX7_finds_19 ?_
    refine a_icmp_ge (tgt := 49) dX7_finds_22 (by decide) (fun c59 => ?_) (fun c59 => ?_)
    · replace h := ifp_ c59 h
      refine aw_pick [0, 2] rfl ?_
      have q60 := hk51 _ h
      rw [e57] at q60
      exact q60
    · replace h := ifn_ c59 h
      refine a_aload_n 0 dX7_finds_25 rfl rfl ?_
      refine a_getR kc_7 2 (by decide) rfl hf47 q358 dX7_finds_26 ?_
      refine a_iload_n 3 dX7_finds_29 rfl rfl ?_
      refine a_aload_n 2 dX7_finds_30 rfl rfl ?_
      refine a_getRN kc_6 6 (by decide) rfl f58 q239 dX7_finds_31 ?_
      refine a_iload_n 3 dX7_finds_34 rfl rfl ?_
      obtain ⟨a61, e62, f63, h⟩ := gd_some h
      rw [e62]
      obtain ⟨c64, h⟩ := iz_some h
      refine a_iald f63 (bn_ c64) dX7_finds_35 ?_
      refine a_aload_n 1 dX7_finds_36 rfl rfl ?_
      refine a_iload_n 3 dX7_finds_37 rfl rfl ?_
      obtain ⟨v67, m65, e66, h⟩ := bm_some h
      have he66 := e_X4_boundTo (G := G) hl hf49 e66
      refine c_I he66.1 (rn_V (n := 1) (As := [vI_ x55]) kc_4 hf49 he66 (lw_V q1348 q1189 q1190 q93 q1191) (by decide +kernel) rfl (Nat.le_of_ble_eq_true rfl) (Nat.le_of_ble_eq_true rfl) (Nat.le_of_ble_eq_true rfl) dX7_finds_38) (fun z => (os_av (As := [vI_ x55]) z).2.1) ?_
      refine a_isub dX7_finds_41 ?_
      obtain ⟨a68, e69, f70, h⟩ := gd_some h
      rw [e69]
      obtain ⟨c71, h⟩ := iz_some h
      obtain ⟨m72, e73, h⟩ := lt_some h
      refine a_iast f70 (bn_ c71) dX7_finds_42 ?_
      rw [← e73]
      refine a_iinc (v := x55 + 1) (ls' := [(3, vI_ (x55 + 1)), (0, vR_ (some p46)), (1, vR_ (some p48)), (2, vR_ (some a56))]) 3 dX7_finds_43 rfl rfl (Nat.le_of_ble_eq_true rfl) rfl ?_
      refine a_goto (tgt := 17) dX7_finds_46 (by decide) ?_
      refine aw_pick [1, 2, 3, 0] rfl ?_
      have q74 := ih _ _ h
      rw [e57] at q74
      exact q74
def f_X7_finds (F : Nat)  (t : pm_A) (i0 : Option pm_A) (m : pm_M) : Option (Unit × pm_M) :=
  lt_ (pR_ m t 4 i0) fun m1 =>
  lt_ (pI_ m1 t 5 ((-1))) fun m3 =>
  gd_ 4 i0 fun a5 =>
  jn_ (fun  (m9 : pm_M) =>
    gd_ 6 (gR_ m3 a5 10) fun a10 =>
    jn_ (fun  (m14 : pm_M) =>
      bm_ (f_X7_tries F 12 t 0 0 m14) fun v17 m15 =>
      some ((), m15)
    ) fun k13 =>
    f_X7_finds_L54 F t a10 k13 F (gI_ m9 a10 7) m9
  ) fun k8 =>
  f_X7_finds_L17 F t a5 (gR_ m3 a5 10) k8 F 0 m3
set_option maxHeartbeats 4000000 in
theorem e_X7_finds {G : xg_T} {l : Launch} (hl : l.stackTraces = false) {F : Nat}    {t : pm_A} {i0 : Option pm_A} {m0 m' : pm_M} {r : Unit} (ht : t.1 = 7) (h : f_X7_finds F t i0 m0 = some (r, m')) : Cal_ G l yX7_finds (ws_ yX7_finds cX7_finds 4 none) 184 [vR_ (some t), vR_ i0] m0 (.inl none) m' := by
  refine cal_of (by decide +kernel) (Nat.le_of_ble_eq_true rfl) ?_
  unfold f_X7_finds at h
  show AW_ cX7_finds RX7 (none, "finds", 184, 4, m0, m', (.inl none), G, l, [], true) m0 0 [(0, vR_ (some t)), (1, vR_ i0)] []
  refine a_aload_n 0 dX7_finds_0 rfl rfl ?_
  refine a_aload_n 1 dX7_finds_1 rfl rfl ?_
  obtain ⟨m1, e2, h⟩ := lt_some h
  refine a_putR kc_7 4 (by decide) rfl ht q360 rfl na_obj dX7_finds_2 ?_
  rw [← e2]
  refine a_aload_n 0 dX7_finds_5 rfl rfl ?_
  refine a_iconst (v := (-1)) dX7_finds_6 (by decide) ?_
  obtain ⟨m3, e4, h⟩ := lt_some h
  refine a_putI kc_7 5 (by decide) rfl ht q361 rfl rfl rfl dX7_finds_7 ?_
  rw [← e4]
  refine a_aload_n 1 dX7_finds_10 rfl rfl ?_
  obtain ⟨a5, e6, f7, h⟩ := gd_some h
  rw [e6]
  refine a_getRN kc_4 10 (by decide) rfl f7 q302 dX7_finds_11 ?_
  refine a_astore_n (ls' := [(2, vR_ (gR_ m3 a5 10)), (0, vR_ (some t)), (1, vR_ (some a5))]) dX7_finds_14 rfl (Nat.le_of_ble_eq_true rfl) rfl ?_
  refine a_iconst (v := 0) dX7_finds_15 (by decide) ?_
  refine a_istore_n (ls' := [(3, vI_ 0), (2, vR_ (gR_ m3 a5 10)), (0, vR_ (some t)), (1, vR_ (some a5))]) dX7_finds_16 rfl (Nat.le_of_ble_eq_true rfl) rfl ?_
  obtain ⟨k8, e75, h⟩ := jn1_some h
  have hk8 : ∀  (m9 : pm_M), k8 m9 = some (r, m') → AW_ cX7_finds RX7 (none, "finds", 184, 4, m0, m', (.inl none), G, l, [], true) m9 49 [(0, vR_ (some t)), (2, vR_ (gR_ m3 a5 10))] [] := by
    intro m9 h
    have h := (e75 m9).symm.trans h
    refine a_aload_n 1 dX7_finds_49 rfl rfl ?_
    obtain ⟨a10, e11, f12, h⟩ := gd_some h
    rw [e11]
    refine a_getIN kc_6 7 (by decide) rfl f12 q245 dX7_finds_50 ?_
    refine a_istore_n (ls' := [(3, vI_ (gI_ m9 a10 7)), (0, vR_ (some t)), (2, vR_ (some a10))]) dX7_finds_53 rfl (Nat.le_of_ble_eq_true rfl) rfl ?_
    obtain ⟨k13, e45, h⟩ := jn1_some h
    have hk13 : ∀  (m14 : pm_M), k13 m14 = some (r, m') → AW_ cX7_finds RX7 (none, "finds", 184, 4, m0, m', (.inl none), G, l, [], true) m14 96 [(0, vR_ (some t))] [] := by
      intro m14 h
      have h := (e45 m14).symm.trans h
      refine a_aload_n 0 dX7_finds_96 rfl rfl ?_
      refine a_iconst (v := 0) dX7_finds_97 (by decide) ?_
      refine a_iconst (v := 0) dX7_finds_98 (by decide) ?_
      obtain ⟨v17, m15, e16, h⟩ := bm_some h
      have he16 := e_X7_tries (G := G) hl ht e16
      refine c_V he16.1 (rn_V (n := 2) (As := [vI_ 0, vI_ 0]) kc_7 ht he16 (lw_V q1355 q1357 qs20 q96 q1358) (by decide +kernel) rfl (Nat.le_of_ble_eq_true rfl) (Nat.le_of_ble_eq_true rfl) (Nat.le_of_ble_eq_true rfl) dX7_finds_99) (fun z => (os_av (As := [vI_ 0, vI_ 0]) z).2.1) ?_
      cases h
      exact a_return rfl rfl rfl rfl dX7_finds_102
    refine aw_pick [1, 2, 0] rfl ?_
    exact w_X7_finds_L54 hl _ _ _ ht f12 hk13 _ _ _ h
  refine aw_pick [2, 3, 1, 0] rfl ?_
  exact w_X7_finds_L17 hl _ _ _ _ ht f7 hk8 _ _ _ h
def f_X7_placed_L4 (F : Nat)  (p1 : pm_A) : Nat → Int32 → Int32 → pm_M → Option (Int32 × pm_M)
  | 0, _, _, _ => none
  | n3 + 1, x5, x6, m4 =>
    gd_ 4 (gR_ m4 p1 4) fun a7 =>
    gd_ 6 (gR_ m4 a7 10) fun a10 =>
    if (gI_ m4 a10 7) ≤ x6 then
      some (x5, m4)
    else
      gd_ 100 (gR_ m4 p1 1) fun a14 =>
      iz_ (!(ib_ x6 a14.2.1)) <|
      if (gI_ m4 a14 x6.toNatClampNeg) = ((-1)) then
        (f_X7_placed_L4 F p1 n3) x5 (x6 + 1) m4
      else
        (f_X7_placed_L4 F p1 n3) (x5 + 1) (x6 + 1) m4
set_option maxHeartbeats 4000000 in
theorem w_X7_placed_L4 {G : xg_T} {l : Launch} (hl : l.stackTraces = false) {F : Nat}    (p1 : pm_A) {m0 m' : pm_M} {r : Int32} (hf2 : p1.1 = 7)  : ∀ (n : Nat) (x5 : Int32) (x6 : Int32) (m4 : pm_M), f_X7_placed_L4 F p1 n x5 x6 m4 = some (r, m') → AW_ cX7_placed RX7 (some (.int), "placed", 2, 3, m0, m', (.inl (some (vI_ r))), G, l, [], true) m4 4 [(0, vR_ (some p1)), (1, vI_ x5), (2, vI_ x6)] [] := by
  intro n
  induction n with
  | zero => intro x5 x6 m4 h; cases h
  | succ n3 ih =>
    intro x5 x6 m4 h
    rw [f_X7_placed_L4] at h
    refine a_iload_n 2 dX7_placed_4 rfl rfl ?_
    refine a_aload_n 0 dX7_placed_5 rfl rfl ?_
    refine a_getR kc_7 4 (by decide) rfl hf2 q360 dX7_placed_6 ?_
    obtain ⟨a7, e8, f9, h⟩ := gd_some h
    rw [e8]
    refine a_getRN kc_4 10 (by decide) rfl f9 q302 dX7_placed_9 ?_
    obtain ⟨a10, e11, f12, h⟩ := gd_some h
    rw [e11]
    refine a_getIN kc_6 7 (by decide) rfl f12 q245 dX7_placed_12 ?_
    refine a_icmp_ge (tgt := 37) dX7_placed_15 (by decide) (fun c13 => ?_) (fun c13 => ?_)
    · replace h := ifp_ c13 h
      refine a_iload_n 1 dX7_placed_37 rfl rfl ?_
      cases h
      exact a_ireturn rfl rfl rfl rfl rfl dX7_placed_38
    · replace h := ifn_ c13 h
      refine a_aload_n 0 dX7_placed_18 rfl rfl ?_
      refine a_getR kc_7 1 (by decide) rfl hf2 q356 dX7_placed_19 ?_
      refine a_iload_n 2 dX7_placed_22 rfl rfl ?_
      obtain ⟨a14, e15, f16, h⟩ := gd_some h
      rw [e15]
      obtain ⟨c17, h⟩ := iz_some h
      refine a_iald f16 (bn_ c17) dX7_placed_23 ?_
      refine a_iconst (v := (-1)) dX7_placed_24 (by decide) ?_
      refine a_icmp_eq (tgt := 31) dX7_placed_25 (by decide) (fun c18 => ?_) (fun c18 => ?_)
      · replace h := ifp_ c18 h
        refine a_iinc (v := x6 + 1) (ls' := [(2, vI_ (x6 + 1)), (0, vR_ (some p1)), (1, vI_ x5)]) 2 dX7_placed_31 rfl rfl (Nat.le_of_ble_eq_true rfl) rfl ?_
        refine a_goto (tgt := 4) dX7_placed_34 (by decide) ?_
        refine aw_pick [1, 2, 0] rfl ?_
        exact ih _ _ _ h
      · replace h := ifn_ c18 h
        refine a_iinc (v := x5 + 1) (ls' := [(1, vI_ (x5 + 1)), (0, vR_ (some p1)), (2, vI_ x6)]) 1 dX7_placed_28 rfl rfl (Nat.le_of_ble_eq_true rfl) rfl ?_
        refine a_iinc (v := x6 + 1) (ls' := [(2, vI_ (x6 + 1)), (1, vI_ (x5 + 1)), (0, vR_ (some p1))]) 2 dX7_placed_31 rfl rfl (Nat.le_of_ble_eq_true rfl) rfl ?_
        refine a_goto (tgt := 4) dX7_placed_34 (by decide) ?_
        refine aw_pick [2, 1, 0] rfl ?_
        exact ih _ _ _ h
def f_X7_placed (F : Nat)  (t : pm_A) (m : pm_M) : Option (Int32 × pm_M) :=
  f_X7_placed_L4 F t F 0 0 m
set_option maxHeartbeats 4000000 in
theorem e_X7_placed {G : xg_T} {l : Launch} (hl : l.stackTraces = false) {F : Nat}    {t : pm_A} {m0 m' : pm_M} {r : Int32} (ht : t.1 = 7) (h : f_X7_placed F t m0 = some (r, m')) : Cal_ G l yX7_placed (ws_ yX7_placed cX7_placed 3 (some .int)) 2 [vR_ (some t)] m0 (.inl (some (vI_ r))) m' := by
  refine cal_of (by decide +kernel) (Nat.le_of_ble_eq_true rfl) ?_
  unfold f_X7_placed at h
  show AW_ cX7_placed RX7 (some (.int), "placed", 2, 3, m0, m', (.inl (some (vI_ r))), G, l, [], true) m0 0 [(0, vR_ (some t))] []
  refine a_iconst (v := 0) dX7_placed_0 (by decide) ?_
  refine a_istore_n (ls' := [(1, vI_ 0), (0, vR_ (some t))]) dX7_placed_1 rfl (Nat.le_of_ble_eq_true rfl) rfl ?_
  refine a_iconst (v := 0) dX7_placed_2 (by decide) ?_
  refine a_istore_n (ls' := [(2, vI_ 0), (1, vI_ 0), (0, vR_ (some t))]) dX7_placed_3 rfl (Nat.le_of_ble_eq_true rfl) rfl ?_
  refine aw_pick [2, 1, 0] rfl ?_
  exact w_X7_placed_L4 hl _ ht _ _ _ _ h
def f_X1_best (F : Nat)  (t : pm_A) (i0 : Int32) (m : pm_M) : Option ((Int32 ⊕ pm_A) × pm_M) :=
  bt_ (f_X1_within F t i0 0 1 m) (fun v3 m1 =>
    gd_ 3 (gR_ m1 t 2) fun a6 =>
    bm_ (f_X3_now F a6 m1) fun v11 m9 =>
    gd_ 7 (gR_ m1 t 5) fun a12 =>
    bm_ (f_X7_finds F a12 v11 m9) fun v17 m15 =>
    if i0 = 0 then
      gd_ 7 (gR_ m15 t 5) fun a25 =>
      some (.inl (gI_ m15 a25 5), m15)
    else
      gd_ 7 (gR_ m15 t 5) fun a19 =>
      bm_ (f_X7_placed F a19 m15) fun v24 m22 =>
      some (.inl v24, m22)
  ) fun b5 m4 =>
    some (.inr b5, m4)
set_option maxHeartbeats 4000000 in
theorem e_X1_best {G : xg_T} {l : Launch} (hl : l.stackTraces = false) {F : Nat}    {t : pm_A} {i0 : Int32} {m0 m' : pm_M} {r : (Int32 ⊕ pm_A)} (ht : t.1 = 1) (h : f_X1_best F t i0 m0 = some (r, m')) : Cal_ G l yX1_best (ws_ yX1_best cX1_best 2 (some .int)) 185 [vR_ (some t), vI_ i0] m0 (oI_ r) m' := by
  refine cal_of (by decide +kernel) (Nat.le_of_ble_eq_true rfl) ?_
  unfold f_X1_best at h
  show AW_ cX1_best RX1 (some (.int), "best", 185, 2, m0, m', (oI_ r), G, l, [], true) m0 0 [(0, vR_ (some t)), (1, vI_ i0)] []
  refine a_aload_n 0 dX1_best_0 rfl rfl ?_
  refine a_iload_n 1 dX1_best_1 rfl rfl ?_
  refine a_iconst (v := 0) dX1_best_2 (by decide) ?_
  refine a_iconst (v := 1) dX1_best_3 (by decide) ?_
  rcases bt_some h with ⟨v3, m1, e2, h⟩ | ⟨b5, m4, e2, h⟩
  · have he2 := e_X1_within (G := G) hl ht e2
    refine c_V he2.1 (rn_V (n := 3) (As := [vI_ i0, vI_ 0, vI_ 1]) kc_1 ht he2 (lw_V q581 q583 qs0 q90 q584) (by decide +kernel) rfl (Nat.le_of_ble_eq_true rfl) (Nat.le_of_ble_eq_true rfl) (Nat.le_of_ble_eq_true rfl) dX1_best_4) (fun z => (os_av (As := [vI_ i0, vI_ 0, vI_ 1]) z).2.1) ?_
    refine a_aload_n 0 dX1_best_7 rfl rfl ?_
    refine a_getR kc_1 5 (by decide) rfl ht q393 dX1_best_8 ?_
    refine a_aload_n 0 dX1_best_11 rfl rfl ?_
    refine a_getR kc_1 2 (by decide) rfl ht q390 dX1_best_12 ?_
    obtain ⟨a6, e7, f8, h⟩ := gd_some h
    rw [e7]
    obtain ⟨v11, m9, e10, h⟩ := bm_some h
    have he10 := e_X3_now (G := G) hl f8 e10
    refine c_R he10.1 (rn_V (n := 0) (As := []) kc_3 f8 he10 (lw_V q380 q381 q382 q92 q383) (by decide +kernel) rfl (Nat.le_of_ble_eq_true rfl) (Nat.le_of_ble_eq_true rfl) (Nat.le_of_ble_eq_true rfl) dX1_best_15) (fun z => (os_av (As := []) z).2.1) ?_
    obtain ⟨a12, e13, f14, h⟩ := gd_some h
    rw [e13]
    obtain ⟨v17, m15, e16, h⟩ := bm_some h
    have he16 := e_X7_finds (G := G) hl f14 e16
    refine c_V he16.1 (rn_V (n := 1) (As := [vR_ v11]) kc_7 f14 he16 (lw_V q1344 q1345 q1346 q96 q1347) (by decide +kernel) rfl (Nat.le_of_ble_eq_true rfl) (Nat.le_of_ble_eq_true rfl) (Nat.le_of_ble_eq_true rfl) dX1_best_18) (fun z => (os_av (As := [vR_ v11]) z).2.1) ?_
    refine a_iload_n 1 dX1_best_21 rfl rfl ?_
    refine a_if_ne (tgt := 35) dX1_best_22 (by decide) (fun c18 => ?_) (fun c18 => ?_)
    · replace h := ifn_ c18 h
      refine a_aload_n 0 dX1_best_35 rfl rfl ?_
      refine a_getR kc_1 5 (by decide) rfl ht q393 dX1_best_36 ?_
      obtain ⟨a19, e20, f21, h⟩ := gd_some h
      rw [e20]
      obtain ⟨v24, m22, e23, h⟩ := bm_some h
      have he23 := e_X7_placed (G := G) hl f21 e23
      refine c_I he23.1 (rn_V (n := 0) (As := []) kc_7 f21 he23 (lw_V q1365 q1366 q1367 q96 q1368) (by decide +kernel) rfl (Nat.le_of_ble_eq_true rfl) (Nat.le_of_ble_eq_true rfl) (Nat.le_of_ble_eq_true rfl) dX1_best_39) (fun z => (os_av (As := []) z).2.1) ?_
      cases h
      exact a_ireturn rfl rfl rfl rfl rfl dX1_best_42
    · replace h := ifp_ c18 h
      refine a_aload_n 0 dX1_best_25 rfl rfl ?_
      refine a_getR kc_1 5 (by decide) rfl ht q393 dX1_best_26 ?_
      obtain ⟨a25, e26, f27, h⟩ := gd_some h
      rw [e26]
      refine a_getIN kc_7 5 (by decide) rfl f27 q362 dX1_best_29 ?_
      refine a_goto (tgt := 42) dX1_best_32 (by decide) ?_
      cases h
      exact a_ireturn rfl rfl rfl rfl rfl dX1_best_42
  · have he2 := e_X1_within (G := G) hl ht e2
    refine c_X (b := b5) he2.1 (rn_V (n := 3) (As := [vI_ i0, vI_ 0, vI_ 1]) kc_1 ht he2 (lw_V q581 q583 qs0 q90 q584) (by decide +kernel) rfl (Nat.le_of_ble_eq_true rfl) (Nat.le_of_ble_eq_true rfl) (Nat.le_of_ble_eq_true rfl) dX1_best_4) ?_
    cases h
    exact a_out rfl rfl rfl rfl
def f_X0_best (F : Nat)  (i0 : Option pm_A) (i1 : Int32) (i2 : Option pm_A) (m : pm_M) : Option (Int32 × pm_M) :=
  gd_ 1 i0 fun a1 =>
  bt_ (f_X1_best F a1 i1 m) (fun v6 m4 =>
    gd_ 103 i2 fun a9 =>
    iz_ (!(ib_ 0 a9.2.1)) <|
    lt_ (pL_ m4 a9 ((0 : Int32).toNatClampNeg) v6.toInt64) fun m13 =>
    some (0, m13)
  ) fun b8 m7 =>
    if b8.1 = 25 then
      some (1, m7)
    else
    none
set_option maxHeartbeats 4000000 in
theorem e_X0_best {G : xg_T} {l : Launch} (hl : l.stackTraces = false) {F : Nat}    {i0 : Option pm_A} {i1 : Int32} {i2 : Option pm_A} {m0 m' : pm_M} {r : Int32} (h : f_X0_best F i0 i1 i2 m0 = some (r, m')) : Cal_ G l yX0_best (wsW_ yX0_best cX0_best 4 (some .int) [(0, 9, 12, 13)]) 186 [vR_ i0, vI_ i1, vR_ i2] m0 (.inl (some (vI_ r))) m' := by
  refine cal_ofH (by decide +kernel) (Nat.le_of_ble_eq_true rfl) ?_
  unfold f_X0_best at h
  show AW_ cX0_best RX0 (some (.int), "best", 186, 4, m0, m', (.inl (some (vI_ r))), G, l, [(0, 9, 12, 13)], true) m0 0 [(0, vR_ i0), (1, vI_ i1), (2, vR_ i2)] []
  refine a_aload_n 2 dX0_best_0 rfl rfl ?_
  refine a_iconst (v := 0) dX0_best_1 (by decide) ?_
  refine a_aload_n 0 dX0_best_2 rfl rfl ?_
  refine a_iload_n 1 dX0_best_3 rfl rfl ?_
  obtain ⟨a1, e2, f3, h⟩ := gd_some h
  rw [e2]
  rcases bt_some h with ⟨v6, m4, e5, h⟩ | ⟨b8, m7, e5, h⟩
  · have he5 := e_X1_best (G := G) hl f3 e5
    refine c_I (v := v6) he5.1 (rn_V (n := 1) (As := [vI_ i1]) kc_1 f3 he5 (lw_V q1340 q1341 q1342 q90 q1343) (by decide +kernel) rfl (Nat.le_of_ble_eq_true rfl) (Nat.le_of_ble_eq_true rfl) (Nat.le_of_ble_eq_true rfl) dX0_best_4) (fun z => (os_av (As := [vI_ i1]) z).2.1) ?_
    refine a_i2l dX0_best_7 ?_
    obtain ⟨a9, e10, f11, h⟩ := gd_some h
    rw [e10]
    obtain ⟨c12, h⟩ := iz_some h
    obtain ⟨m13, e14, h⟩ := lt_some h
    refine a_last f11 (bn_ c12) dX0_best_8 ?_
    rw [← e14]
    refine a_goto (tgt := 15) dX0_best_9 (by decide) ?_
    refine a_iconst (v := 0) dX0_best_15 (by decide) ?_
    cases h
    exact a_ireturn rfl rfl rfl rfl rfl dX0_best_16
  · have he5 := e_X1_best (G := G) hl f3 e5
    refine c_X (b := b8) he5.1 (rn_V (n := 1) (As := [vI_ i1]) kc_1 f3 he5 (lw_V q1340 q1341 q1342 q90 q1343) (by decide +kernel) rfl (Nat.le_of_ble_eq_true rfl) (Nat.le_of_ble_eq_true rfl) (Nat.le_of_ble_eq_true rfl) dX0_best_4) ?_
    by_cases c15 : b8.1 = 25
    · replace h := ifp_ c15 h
      refine a_catch [] ⟨0, 9, 12, 13⟩ [] rfl (fun z hz => nomatch hz) rfl (by decide) q575 (by rw [c15]; exact q587) ?_
      refine a_astore_n (ls' := [(3, vR_ (some b8)), (0, vR_ (some a1)), (1, vI_ i1), (2, vR_ i2)]) dX0_best_12 rfl (Nat.le_of_ble_eq_true rfl) rfl ?_
      refine a_iconst (v := 1) dX0_best_13 (by decide) ?_
      cases h
      exact a_ireturn rfl rfl rfl rfl rfl dX0_best_14
    replace h := ifn_ c15 h
    cases h
def f_X1_bestFor (F : Nat)  (t : pm_A) (i0 : Int32) (m : pm_M) : Option ((Int32 ⊕ pm_A) × pm_M) :=
  bt_ (f_X1_signerOf F t i0 m) (fun v3 m1 =>
    gd_ 3 (gR_ m1 t 2) fun a6 =>
    bm_ (f_X3_now F a6 m1) fun v11 m9 =>
    gd_ 7 (gR_ m1 t 5) fun a12 =>
    bm_ (f_X7_finds F a12 v11 m9) fun v17 m15 =>
    gd_ 7 (gR_ m15 t 5) fun a18 =>
    gd_ 100 (gR_ m15 a18 1) fun a21 =>
    iz_ (!(ib_ i0 a21.2.1)) <|
    some (.inl (gI_ m15 a21 i0.toNatClampNeg), m15)
  ) fun b5 m4 =>
    some (.inr b5, m4)
set_option maxHeartbeats 4000000 in
theorem e_X1_bestFor {G : xg_T} {l : Launch} (hl : l.stackTraces = false) {F : Nat}    {t : pm_A} {i0 : Int32} {m0 m' : pm_M} {r : (Int32 ⊕ pm_A)} (ht : t.1 = 1) (h : f_X1_bestFor F t i0 m0 = some (r, m')) : Cal_ G l yX1_bestFor (ws_ yX1_bestFor cX1_bestFor 2 (some .int)) 185 [vR_ (some t), vI_ i0] m0 (oI_ r) m' := by
  refine cal_of (by decide +kernel) (Nat.le_of_ble_eq_true rfl) ?_
  unfold f_X1_bestFor at h
  show AW_ cX1_bestFor RX1 (some (.int), "bestFor", 185, 2, m0, m', (oI_ r), G, l, [], true) m0 0 [(0, vR_ (some t)), (1, vI_ i0)] []
  refine a_aload_n 0 dX1_bestFor_0 rfl rfl ?_
  refine a_iload_n 1 dX1_bestFor_1 rfl rfl ?_
  rcases bt_some h with ⟨v3, m1, e2, h⟩ | ⟨b5, m4, e2, h⟩
  · have he2 := e_X1_signerOf (G := G) hl ht e2
    refine c_V he2.1 (rn_V (n := 1) (As := [vI_ i0]) kc_1 ht he2 (lw_V q1234 q1236 qs15 q90 q1237) (by decide +kernel) rfl (Nat.le_of_ble_eq_true rfl) (Nat.le_of_ble_eq_true rfl) (Nat.le_of_ble_eq_true rfl) dX1_bestFor_2) (fun z => (os_av (As := [vI_ i0]) z).2.1) ?_
    refine a_aload_n 0 dX1_bestFor_5 rfl rfl ?_
    refine a_getR kc_1 5 (by decide) rfl ht q393 dX1_bestFor_6 ?_
    refine a_aload_n 0 dX1_bestFor_9 rfl rfl ?_
    refine a_getR kc_1 2 (by decide) rfl ht q390 dX1_bestFor_10 ?_
    obtain ⟨a6, e7, f8, h⟩ := gd_some h
    rw [e7]
    obtain ⟨v11, m9, e10, h⟩ := bm_some h
    have he10 := e_X3_now (G := G) hl f8 e10
    refine c_R he10.1 (rn_V (n := 0) (As := []) kc_3 f8 he10 (lw_V q380 q381 q382 q92 q383) (by decide +kernel) rfl (Nat.le_of_ble_eq_true rfl) (Nat.le_of_ble_eq_true rfl) (Nat.le_of_ble_eq_true rfl) dX1_bestFor_13) (fun z => (os_av (As := []) z).2.1) ?_
    obtain ⟨a12, e13, f14, h⟩ := gd_some h
    rw [e13]
    obtain ⟨v17, m15, e16, h⟩ := bm_some h
    have he16 := e_X7_finds (G := G) hl f14 e16
    refine c_V he16.1 (rn_V (n := 1) (As := [vR_ v11]) kc_7 f14 he16 (lw_V q1344 q1345 q1346 q96 q1347) (by decide +kernel) rfl (Nat.le_of_ble_eq_true rfl) (Nat.le_of_ble_eq_true rfl) (Nat.le_of_ble_eq_true rfl) dX1_bestFor_16) (fun z => (os_av (As := [vR_ v11]) z).2.1) ?_
    refine a_aload_n 0 dX1_bestFor_19 rfl rfl ?_
    refine a_getR kc_1 5 (by decide) rfl ht q393 dX1_bestFor_20 ?_
    obtain ⟨a18, e19, f20, h⟩ := gd_some h
    rw [e19]
    refine a_getRN kc_7 1 (by decide) rfl f20 q357 dX1_bestFor_23 ?_
    refine a_iload_n 1 dX1_bestFor_26 rfl rfl ?_
    obtain ⟨a21, e22, f23, h⟩ := gd_some h
    rw [e22]
    obtain ⟨c24, h⟩ := iz_some h
    refine a_iald f23 (bn_ c24) dX1_bestFor_27 ?_
    cases h
    exact a_ireturn rfl rfl rfl rfl rfl dX1_bestFor_28
  · have he2 := e_X1_signerOf (G := G) hl ht e2
    refine c_X (b := b5) he2.1 (rn_V (n := 1) (As := [vI_ i0]) kc_1 ht he2 (lw_V q1234 q1236 qs15 q90 q1237) (by decide +kernel) rfl (Nat.le_of_ble_eq_true rfl) (Nat.le_of_ble_eq_true rfl) (Nat.le_of_ble_eq_true rfl) dX1_bestFor_2) ?_
    cases h
    exact a_out rfl rfl rfl rfl
def f_X0_bestFor (F : Nat)  (i0 : Option pm_A) (i1 : Int32) (i2 : Option pm_A) (m : pm_M) : Option (Int32 × pm_M) :=
  gd_ 1 i0 fun a1 =>
  bt_ (f_X1_bestFor F a1 i1 m) (fun v6 m4 =>
    gd_ 103 i2 fun a9 =>
    iz_ (!(ib_ 0 a9.2.1)) <|
    lt_ (pL_ m4 a9 ((0 : Int32).toNatClampNeg) v6.toInt64) fun m13 =>
    some (0, m13)
  ) fun b8 m7 =>
    if b8.1 = 26 then
      some (1, m7)
    else
    none
set_option maxHeartbeats 4000000 in
theorem e_X0_bestFor {G : xg_T} {l : Launch} (hl : l.stackTraces = false) {F : Nat}    {i0 : Option pm_A} {i1 : Int32} {i2 : Option pm_A} {m0 m' : pm_M} {r : Int32} (h : f_X0_bestFor F i0 i1 i2 m0 = some (r, m')) : Cal_ G l yX0_bestFor (wsW_ yX0_bestFor cX0_bestFor 4 (some .int) [(0, 9, 12, 31)]) 186 [vR_ i0, vI_ i1, vR_ i2] m0 (.inl (some (vI_ r))) m' := by
  refine cal_ofH (by decide +kernel) (Nat.le_of_ble_eq_true rfl) ?_
  unfold f_X0_bestFor at h
  show AW_ cX0_bestFor RX0 (some (.int), "bestFor", 186, 4, m0, m', (.inl (some (vI_ r))), G, l, [(0, 9, 12, 31)], true) m0 0 [(0, vR_ i0), (1, vI_ i1), (2, vR_ i2)] []
  refine a_aload_n 2 dX0_bestFor_0 rfl rfl ?_
  refine a_iconst (v := 0) dX0_bestFor_1 (by decide) ?_
  refine a_aload_n 0 dX0_bestFor_2 rfl rfl ?_
  refine a_iload_n 1 dX0_bestFor_3 rfl rfl ?_
  obtain ⟨a1, e2, f3, h⟩ := gd_some h
  rw [e2]
  rcases bt_some h with ⟨v6, m4, e5, h⟩ | ⟨b8, m7, e5, h⟩
  · have he5 := e_X1_bestFor (G := G) hl f3 e5
    refine c_I (v := v6) he5.1 (rn_V (n := 1) (As := [vI_ i1]) kc_1 f3 he5 (lw_V q1372 q1373 q1374 q90 q1375) (by decide +kernel) rfl (Nat.le_of_ble_eq_true rfl) (Nat.le_of_ble_eq_true rfl) (Nat.le_of_ble_eq_true rfl) dX0_bestFor_4) (fun z => (os_av (As := [vI_ i1]) z).2.1) ?_
    refine a_i2l dX0_bestFor_7 ?_
    obtain ⟨a9, e10, f11, h⟩ := gd_some h
    rw [e10]
    obtain ⟨c12, h⟩ := iz_some h
    obtain ⟨m13, e14, h⟩ := lt_some h
    refine a_last f11 (bn_ c12) dX0_bestFor_8 ?_
    rw [← e14]
    refine a_goto (tgt := 15) dX0_bestFor_9 (by decide) ?_
    refine a_iconst (v := 0) dX0_bestFor_15 (by decide) ?_
    cases h
    exact a_ireturn rfl rfl rfl rfl rfl dX0_bestFor_16
  · have he5 := e_X1_bestFor (G := G) hl f3 e5
    refine c_X (b := b8) he5.1 (rn_V (n := 1) (As := [vI_ i1]) kc_1 f3 he5 (lw_V q1372 q1373 q1374 q90 q1375) (by decide +kernel) rfl (Nat.le_of_ble_eq_true rfl) (Nat.le_of_ble_eq_true rfl) (Nat.le_of_ble_eq_true rfl) dX0_bestFor_4) ?_
    by_cases c15 : b8.1 = 26
    · replace h := ifp_ c15 h
      refine a_catch [] ⟨0, 9, 12, 31⟩ [] rfl (fun z hz => nomatch hz) rfl (by decide) q1229 (by rw [c15]; exact q1240) ?_
      refine a_astore_n (ls' := [(3, vR_ (some b8)), (0, vR_ (some a1)), (1, vI_ i1), (2, vR_ i2)]) dX0_bestFor_12 rfl (Nat.le_of_ble_eq_true rfl) rfl ?_
      refine a_iconst (v := 1) dX0_bestFor_13 (by decide) ?_
      cases h
      exact a_ireturn rfl rfl rfl rfl rfl dX0_bestFor_14
    replace h := ifn_ c15 h
    cases h
def f_X1_kin (F : Nat)  (t : pm_A) (i0 : Int32) (m : pm_M) : Option ((Int32 ⊕ pm_A) × pm_M) :=
  bt_ (f_X1_signerOf F t i0 m) (fun v3 m1 =>
    gd_ 6 (gR_ m1 t 12) fun a6 =>
    bm_ (f_X6_kinOf F a6 i0 m1) fun v11 m9 =>
    some (.inl v11, m9)
  ) fun b5 m4 =>
    some (.inr b5, m4)
set_option maxHeartbeats 4000000 in
theorem e_X1_kin {G : xg_T} {l : Launch} (hl : l.stackTraces = false) {F : Nat}    {t : pm_A} {i0 : Int32} {m0 m' : pm_M} {r : (Int32 ⊕ pm_A)} (ht : t.1 = 1) (h : f_X1_kin F t i0 m0 = some (r, m')) : Cal_ G l yX1_kin (ws_ yX1_kin cX1_kin 2 (some .int)) 7 [vR_ (some t), vI_ i0] m0 (oI_ r) m' := by
  refine cal_of (by decide +kernel) (Nat.le_of_ble_eq_true rfl) ?_
  unfold f_X1_kin at h
  show AW_ cX1_kin RX1 (some (.int), "kin", 7, 2, m0, m', (oI_ r), G, l, [], true) m0 0 [(0, vR_ (some t)), (1, vI_ i0)] []
  refine a_aload_n 0 dX1_kin_0 rfl rfl ?_
  refine a_iload_n 1 dX1_kin_1 rfl rfl ?_
  rcases bt_some h with ⟨v3, m1, e2, h⟩ | ⟨b5, m4, e2, h⟩
  · have he2 := e_X1_signerOf (G := G) hl ht e2
    refine c_V he2.1 (rn_V (n := 1) (As := [vI_ i0]) kc_1 ht he2 (lw_V q1234 q1236 qs15 q90 q1237) (by decide +kernel) rfl (Nat.le_of_ble_eq_true rfl) (Nat.le_of_ble_eq_true rfl) (Nat.le_of_ble_eq_true rfl) dX1_kin_2) (fun z => (os_av (As := [vI_ i0]) z).2.1) ?_
    refine a_aload_n 0 dX1_kin_5 rfl rfl ?_
    refine a_getR kc_1 12 (by decide) rfl ht q400 dX1_kin_6 ?_
    refine a_iload_n 1 dX1_kin_9 rfl rfl ?_
    obtain ⟨a6, e7, f8, h⟩ := gd_some h
    rw [e7]
    obtain ⟨v11, m9, e10, h⟩ := bm_some h
    have he10 := e_X6_kinOf (G := G) hl f8 e10
    refine c_I he10.1 (rn_V (n := 1) (As := [vI_ i0]) kc_6 f8 he10 (lw_V q533 q479 q480 q95 q481) (by decide +kernel) rfl (Nat.le_of_ble_eq_true rfl) (Nat.le_of_ble_eq_true rfl) (Nat.le_of_ble_eq_true rfl) dX1_kin_10) (fun z => (os_av (As := [vI_ i0]) z).2.1) ?_
    cases h
    exact a_ireturn rfl rfl rfl rfl rfl dX1_kin_13
  · have he2 := e_X1_signerOf (G := G) hl ht e2
    refine c_X (b := b5) he2.1 (rn_V (n := 1) (As := [vI_ i0]) kc_1 ht he2 (lw_V q1234 q1236 qs15 q90 q1237) (by decide +kernel) rfl (Nat.le_of_ble_eq_true rfl) (Nat.le_of_ble_eq_true rfl) (Nat.le_of_ble_eq_true rfl) dX1_kin_2) ?_
    cases h
    exact a_out rfl rfl rfl rfl
def f_X0_kin (F : Nat)  (i0 : Option pm_A) (i1 : Int32) (i2 : Option pm_A) (m : pm_M) : Option (Int32 × pm_M) :=
  gd_ 1 i0 fun a1 =>
  bt_ (f_X1_kin F a1 i1 m) (fun v6 m4 =>
    gd_ 103 i2 fun a9 =>
    iz_ (!(ib_ 0 a9.2.1)) <|
    lt_ (pL_ m4 a9 ((0 : Int32).toNatClampNeg) v6.toInt64) fun m13 =>
    some (0, m13)
  ) fun b8 m7 =>
    if b8.1 = 26 then
      some (1, m7)
    else
    none
set_option maxHeartbeats 4000000 in
theorem e_X0_kin {G : xg_T} {l : Launch} (hl : l.stackTraces = false) {F : Nat}    {i0 : Option pm_A} {i1 : Int32} {i2 : Option pm_A} {m0 m' : pm_M} {r : Int32} (h : f_X0_kin F i0 i1 i2 m0 = some (r, m')) : Cal_ G l yX0_kin (wsW_ yX0_kin cX0_kin 4 (some .int) [(0, 9, 12, 31)]) 8 [vR_ i0, vI_ i1, vR_ i2] m0 (.inl (some (vI_ r))) m' := by
  refine cal_ofH (by decide +kernel) (Nat.le_of_ble_eq_true rfl) ?_
  unfold f_X0_kin at h
  show AW_ cX0_kin RX0 (some (.int), "kin", 8, 4, m0, m', (.inl (some (vI_ r))), G, l, [(0, 9, 12, 31)], true) m0 0 [(0, vR_ i0), (1, vI_ i1), (2, vR_ i2)] []
  refine a_aload_n 2 dX0_kin_0 rfl rfl ?_
  refine a_iconst (v := 0) dX0_kin_1 (by decide) ?_
  refine a_aload_n 0 dX0_kin_2 rfl rfl ?_
  refine a_iload_n 1 dX0_kin_3 rfl rfl ?_
  obtain ⟨a1, e2, f3, h⟩ := gd_some h
  rw [e2]
  rcases bt_some h with ⟨v6, m4, e5, h⟩ | ⟨b8, m7, e5, h⟩
  · have he5 := e_X1_kin (G := G) hl f3 e5
    refine c_I (v := v6) he5.1 (rn_V (n := 1) (As := [vI_ i1]) kc_1 f3 he5 (lw_V q1379 q1380 q1381 q90 q1382) (by decide +kernel) rfl (Nat.le_of_ble_eq_true rfl) (Nat.le_of_ble_eq_true rfl) (Nat.le_of_ble_eq_true rfl) dX0_kin_4) (fun z => (os_av (As := [vI_ i1]) z).2.1) ?_
    refine a_i2l dX0_kin_7 ?_
    obtain ⟨a9, e10, f11, h⟩ := gd_some h
    rw [e10]
    obtain ⟨c12, h⟩ := iz_some h
    obtain ⟨m13, e14, h⟩ := lt_some h
    refine a_last f11 (bn_ c12) dX0_kin_8 ?_
    rw [← e14]
    refine a_goto (tgt := 15) dX0_kin_9 (by decide) ?_
    refine a_iconst (v := 0) dX0_kin_15 (by decide) ?_
    cases h
    exact a_ireturn rfl rfl rfl rfl rfl dX0_kin_16
  · have he5 := e_X1_kin (G := G) hl f3 e5
    refine c_X (b := b8) he5.1 (rn_V (n := 1) (As := [vI_ i1]) kc_1 f3 he5 (lw_V q1379 q1380 q1381 q90 q1382) (by decide +kernel) rfl (Nat.le_of_ble_eq_true rfl) (Nat.le_of_ble_eq_true rfl) (Nat.le_of_ble_eq_true rfl) dX0_kin_4) ?_
    by_cases c15 : b8.1 = 26
    · replace h := ifp_ c15 h
      refine a_catch [] ⟨0, 9, 12, 31⟩ [] rfl (fun z hz => nomatch hz) rfl (by decide) q1229 (by rw [c15]; exact q1240) ?_
      refine a_astore_n (ls' := [(3, vR_ (some b8)), (0, vR_ (some a1)), (1, vI_ i1), (2, vR_ i2)]) dX0_kin_12 rfl (Nat.le_of_ble_eq_true rfl) rfl ?_
      refine a_iconst (v := 1) dX0_kin_13 (by decide) ?_
      cases h
      exact a_ireturn rfl rfl rfl rfl rfl dX0_kin_14
    replace h := ifn_ c15 h
    cases h
def f_X1_fare (F : Nat)  (t : pm_A) (i0 : Int32) (m : pm_M) : Option ((Int32 ⊕ pm_A) × pm_M) :=
  bt_ (f_X1_signerOf F t i0 m) (fun v3 m1 =>
    gd_ 3 (gR_ m1 t 2) fun a6 =>
    bm_ (f_X3_now F a6 m1) fun v11 m9 =>
    gd_ 4 v11 fun a12 =>
    gd_ 100 (gR_ m9 a12 0) fun a15 =>
    iz_ (!(ib_ i0 a15.2.1)) <|
    if (gI_ m9 a15 i0.toNatClampNeg) = 0 then
      some (.inl ((-1)), m9)
    else
      gd_ 3 (gR_ m9 t 2) fun a20 =>
      bm_ (f_X3_now F a20 m9) fun v25 m23 =>
      gd_ 4 v25 fun a26 =>
      bm_ (f_X4_fare F a26 i0 m23) fun v31 m29 =>
      some (.inl v31, m29)
  ) fun b5 m4 =>
    some (.inr b5, m4)
set_option maxHeartbeats 4000000 in
theorem e_X1_fare {G : xg_T} {l : Launch} (hl : l.stackTraces = false) {F : Nat}    {t : pm_A} {i0 : Int32} {m0 m' : pm_M} {r : (Int32 ⊕ pm_A)} (ht : t.1 = 1) (h : f_X1_fare F t i0 m0 = some (r, m')) : Cal_ G l yX1_fare (ws_ yX1_fare cX1_fare 2 (some .int)) 171 [vR_ (some t), vI_ i0] m0 (oI_ r) m' := by
  refine cal_of (by decide +kernel) (Nat.le_of_ble_eq_true rfl) ?_
  unfold f_X1_fare at h
  show AW_ cX1_fare RX1 (some (.int), "fare", 171, 2, m0, m', (oI_ r), G, l, [], true) m0 0 [(0, vR_ (some t)), (1, vI_ i0)] []
  refine a_aload_n 0 dX1_fare_0 rfl rfl ?_
  refine a_iload_n 1 dX1_fare_1 rfl rfl ?_
  rcases bt_some h with ⟨v3, m1, e2, h⟩ | ⟨b5, m4, e2, h⟩
  · have he2 := e_X1_signerOf (G := G) hl ht e2
    refine c_V he2.1 (rn_V (n := 1) (As := [vI_ i0]) kc_1 ht he2 (lw_V q1234 q1236 qs15 q90 q1237) (by decide +kernel) rfl (Nat.le_of_ble_eq_true rfl) (Nat.le_of_ble_eq_true rfl) (Nat.le_of_ble_eq_true rfl) dX1_fare_2) (fun z => (os_av (As := [vI_ i0]) z).2.1) ?_
    refine a_aload_n 0 dX1_fare_5 rfl rfl ?_
    refine a_getR kc_1 2 (by decide) rfl ht q390 dX1_fare_6 ?_
    obtain ⟨a6, e7, f8, h⟩ := gd_some h
    rw [e7]
    obtain ⟨v11, m9, e10, h⟩ := bm_some h
    have he10 := e_X3_now (G := G) hl f8 e10
    refine c_R he10.1 (rn_V (n := 0) (As := []) kc_3 f8 he10 (lw_V q380 q381 q382 q92 q383) (by decide +kernel) rfl (Nat.le_of_ble_eq_true rfl) (Nat.le_of_ble_eq_true rfl) (Nat.le_of_ble_eq_true rfl) dX1_fare_9) (fun z => (os_av (As := []) z).2.1) ?_
    obtain ⟨a12, e13, f14, h⟩ := gd_some h
    rw [e13]
    refine a_getRN kc_4 0 (by decide) rfl f14 q285 dX1_fare_12 ?_
    refine a_iload_n 1 dX1_fare_15 rfl rfl ?_
    obtain ⟨a15, e16, f17, h⟩ := gd_some h
    rw [e16]
    obtain ⟨c18, h⟩ := iz_some h
    refine a_iald f17 (bn_ c18) dX1_fare_16 ?_
    refine a_if_ne (tgt := 24) dX1_fare_17 (by decide) (fun c19 => ?_) (fun c19 => ?_)
    · replace h := ifn_ c19 h
      refine a_aload_n 0 dX1_fare_24 rfl rfl ?_
      refine a_getR kc_1 2 (by decide) rfl ht q390 dX1_fare_25 ?_
      obtain ⟨a20, e21, f22, h⟩ := gd_some h
      rw [e21]
      obtain ⟨v25, m23, e24, h⟩ := bm_some h
      have he24 := e_X3_now (G := G) hl f22 e24
      refine c_R he24.1 (rn_V (n := 0) (As := []) kc_3 f22 he24 (lw_V q380 q381 q382 q92 q383) (by decide +kernel) rfl (Nat.le_of_ble_eq_true rfl) (Nat.le_of_ble_eq_true rfl) (Nat.le_of_ble_eq_true rfl) dX1_fare_28) (fun z => (os_av (As := []) z).2.1) ?_
      refine a_iload_n 1 dX1_fare_31 rfl rfl ?_
      obtain ⟨a26, e27, f28, h⟩ := gd_some h
      rw [e27]
      obtain ⟨v31, m29, e30, h⟩ := bm_some h
      have he30 := e_X4_fare (G := G) hl f28 e30
      refine c_I he30.1 (rn_V (n := 1) (As := [vI_ i0]) kc_4 f28 he30 (lw_V q1390 q1155 q1156 q93 q1157) (by decide +kernel) rfl (Nat.le_of_ble_eq_true rfl) (Nat.le_of_ble_eq_true rfl) (Nat.le_of_ble_eq_true rfl) dX1_fare_32) (fun z => (os_av (As := [vI_ i0]) z).2.1) ?_
      cases h
      exact a_ireturn rfl rfl rfl rfl rfl dX1_fare_35
    · replace h := ifp_ c19 h
      refine a_iconst (v := (-1)) dX1_fare_20 (by decide) ?_
      refine a_goto (tgt := 35) dX1_fare_21 (by decide) ?_
      cases h
      exact a_ireturn rfl rfl rfl rfl rfl dX1_fare_35
  · have he2 := e_X1_signerOf (G := G) hl ht e2
    refine c_X (b := b5) he2.1 (rn_V (n := 1) (As := [vI_ i0]) kc_1 ht he2 (lw_V q1234 q1236 qs15 q90 q1237) (by decide +kernel) rfl (Nat.le_of_ble_eq_true rfl) (Nat.le_of_ble_eq_true rfl) (Nat.le_of_ble_eq_true rfl) dX1_fare_2) ?_
    cases h
    exact a_out rfl rfl rfl rfl
def f_X0_fare (F : Nat)  (i0 : Option pm_A) (i1 : Int32) (i2 : Option pm_A) (m : pm_M) : Option (Int32 × pm_M) :=
  gd_ 1 i0 fun a1 =>
  bt_ (f_X1_fare F a1 i1 m) (fun v6 m4 =>
    gd_ 103 i2 fun a9 =>
    iz_ (!(ib_ 0 a9.2.1)) <|
    lt_ (pL_ m4 a9 ((0 : Int32).toNatClampNeg) v6.toInt64) fun m13 =>
    some (0, m13)
  ) fun b8 m7 =>
    if b8.1 = 26 then
      some (1, m7)
    else
    none
set_option maxHeartbeats 4000000 in
theorem e_X0_fare {G : xg_T} {l : Launch} (hl : l.stackTraces = false) {F : Nat}    {i0 : Option pm_A} {i1 : Int32} {i2 : Option pm_A} {m0 m' : pm_M} {r : Int32} (h : f_X0_fare F i0 i1 i2 m0 = some (r, m')) : Cal_ G l yX0_fare (wsW_ yX0_fare cX0_fare 4 (some .int) [(0, 9, 12, 31)]) 172 [vR_ i0, vI_ i1, vR_ i2] m0 (.inl (some (vI_ r))) m' := by
  refine cal_ofH (by decide +kernel) (Nat.le_of_ble_eq_true rfl) ?_
  unfold f_X0_fare at h
  show AW_ cX0_fare RX0 (some (.int), "fare", 172, 4, m0, m', (.inl (some (vI_ r))), G, l, [(0, 9, 12, 31)], true) m0 0 [(0, vR_ i0), (1, vI_ i1), (2, vR_ i2)] []
  refine a_aload_n 2 dX0_fare_0 rfl rfl ?_
  refine a_iconst (v := 0) dX0_fare_1 (by decide) ?_
  refine a_aload_n 0 dX0_fare_2 rfl rfl ?_
  refine a_iload_n 1 dX0_fare_3 rfl rfl ?_
  obtain ⟨a1, e2, f3, h⟩ := gd_some h
  rw [e2]
  rcases bt_some h with ⟨v6, m4, e5, h⟩ | ⟨b8, m7, e5, h⟩
  · have he5 := e_X1_fare (G := G) hl f3 e5
    refine c_I (v := v6) he5.1 (rn_V (n := 1) (As := [vI_ i1]) kc_1 f3 he5 (lw_V q1386 q1387 q1388 q90 q1389) (by decide +kernel) rfl (Nat.le_of_ble_eq_true rfl) (Nat.le_of_ble_eq_true rfl) (Nat.le_of_ble_eq_true rfl) dX0_fare_4) (fun z => (os_av (As := [vI_ i1]) z).2.1) ?_
    refine a_i2l dX0_fare_7 ?_
    obtain ⟨a9, e10, f11, h⟩ := gd_some h
    rw [e10]
    obtain ⟨c12, h⟩ := iz_some h
    obtain ⟨m13, e14, h⟩ := lt_some h
    refine a_last f11 (bn_ c12) dX0_fare_8 ?_
    rw [← e14]
    refine a_goto (tgt := 15) dX0_fare_9 (by decide) ?_
    refine a_iconst (v := 0) dX0_fare_15 (by decide) ?_
    cases h
    exact a_ireturn rfl rfl rfl rfl rfl dX0_fare_16
  · have he5 := e_X1_fare (G := G) hl f3 e5
    refine c_X (b := b8) he5.1 (rn_V (n := 1) (As := [vI_ i1]) kc_1 f3 he5 (lw_V q1386 q1387 q1388 q90 q1389) (by decide +kernel) rfl (Nat.le_of_ble_eq_true rfl) (Nat.le_of_ble_eq_true rfl) (Nat.le_of_ble_eq_true rfl) dX0_fare_4) ?_
    by_cases c15 : b8.1 = 26
    · replace h := ifp_ c15 h
      refine a_catch [] ⟨0, 9, 12, 31⟩ [] rfl (fun z hz => nomatch hz) rfl (by decide) q1229 (by rw [c15]; exact q1240) ?_
      refine a_astore_n (ls' := [(3, vR_ (some b8)), (0, vR_ (some a1)), (1, vI_ i1), (2, vR_ i2)]) dX0_fare_12 rfl (Nat.le_of_ble_eq_true rfl) rfl ?_
      refine a_iconst (v := 1) dX0_fare_13 (by decide) ?_
      cases h
      exact a_ireturn rfl rfl rfl rfl rfl dX0_fare_14
    replace h := ifn_ c15 h
    cases h
def f_X1_canPay (F : Nat)  (t : pm_A) (i0 : Int32) (m : pm_M) : Option ((Int32 ⊕ pm_A) × pm_M) :=
  bt_ (f_X1_signerOf F t i0 m) (fun v3 m1 =>
    gd_ 3 (gR_ m1 t 2) fun a6 =>
    bm_ (f_X3_now F a6 m1) fun v11 m9 =>
    gd_ 4 v11 fun a12 =>
    bm_ (f_X4_mayPay F a12 i0 m9) fun v17 m15 =>
    iz_ (!(nr_ .boolean v17)) <|
    some (.inl v17, m15)
  ) fun b5 m4 =>
    some (.inr b5, m4)
set_option maxHeartbeats 4000000 in
theorem e_X1_canPay {G : xg_T} {l : Launch} (hl : l.stackTraces = false) {F : Nat}    {t : pm_A} {i0 : Int32} {m0 m' : pm_M} {r : (Int32 ⊕ pm_A)} (ht : t.1 = 1) (h : f_X1_canPay F t i0 m0 = some (r, m')) : Cal_ G l yX1_canPay (ws_ yX1_canPay cX1_canPay 2 (some .boolean)) 172 [vR_ (some t), vI_ i0] m0 (oI_ r) m' := by
  refine cal_of (by decide +kernel) (Nat.le_of_ble_eq_true rfl) ?_
  unfold f_X1_canPay at h
  show AW_ cX1_canPay RX1 (some (.boolean), "canPay", 172, 2, m0, m', (oI_ r), G, l, [], true) m0 0 [(0, vR_ (some t)), (1, vI_ i0)] []
  refine a_aload_n 0 dX1_canPay_0 rfl rfl ?_
  refine a_iload_n 1 dX1_canPay_1 rfl rfl ?_
  rcases bt_some h with ⟨v3, m1, e2, h⟩ | ⟨b5, m4, e2, h⟩
  · have he2 := e_X1_signerOf (G := G) hl ht e2
    refine c_V he2.1 (rn_V (n := 1) (As := [vI_ i0]) kc_1 ht he2 (lw_V q1234 q1236 qs15 q90 q1237) (by decide +kernel) rfl (Nat.le_of_ble_eq_true rfl) (Nat.le_of_ble_eq_true rfl) (Nat.le_of_ble_eq_true rfl) dX1_canPay_2) (fun z => (os_av (As := [vI_ i0]) z).2.1) ?_
    refine a_aload_n 0 dX1_canPay_5 rfl rfl ?_
    refine a_getR kc_1 2 (by decide) rfl ht q390 dX1_canPay_6 ?_
    obtain ⟨a6, e7, f8, h⟩ := gd_some h
    rw [e7]
    obtain ⟨v11, m9, e10, h⟩ := bm_some h
    have he10 := e_X3_now (G := G) hl f8 e10
    refine c_R he10.1 (rn_V (n := 0) (As := []) kc_3 f8 he10 (lw_V q380 q381 q382 q92 q383) (by decide +kernel) rfl (Nat.le_of_ble_eq_true rfl) (Nat.le_of_ble_eq_true rfl) (Nat.le_of_ble_eq_true rfl) dX1_canPay_9) (fun z => (os_av (As := []) z).2.1) ?_
    refine a_iload_n 1 dX1_canPay_12 rfl rfl ?_
    obtain ⟨a12, e13, f14, h⟩ := gd_some h
    rw [e13]
    obtain ⟨v17, m15, e16, h⟩ := bm_some h
    have he16 := e_X4_mayPay (G := G) hl f14 e16
    refine c_I he16.1 (rn_V (n := 1) (As := [vI_ i0]) kc_4 f14 he16 (lw_V q1398 q1151 q1152 q93 q1153) (by decide +kernel) rfl (Nat.le_of_ble_eq_true rfl) (Nat.le_of_ble_eq_true rfl) (Nat.le_of_ble_eq_true rfl) dX1_canPay_13) (fun z => (os_av (As := [vI_ i0]) z).2.1) ?_
    obtain ⟨c18, h⟩ := iz_some h
    cases h
    exact a_ireturn rfl (nr_ok (bn_ c18)) rfl rfl rfl dX1_canPay_16
  · have he2 := e_X1_signerOf (G := G) hl ht e2
    refine c_X (b := b5) he2.1 (rn_V (n := 1) (As := [vI_ i0]) kc_1 ht he2 (lw_V q1234 q1236 qs15 q90 q1237) (by decide +kernel) rfl (Nat.le_of_ble_eq_true rfl) (Nat.le_of_ble_eq_true rfl) (Nat.le_of_ble_eq_true rfl) dX1_canPay_2) ?_
    cases h
    exact a_out rfl rfl rfl rfl
def f_X0_canPay (F : Nat)  (i0 : Option pm_A) (i1 : Int32) (i2 : Option pm_A) (m : pm_M) : Option (Int32 × pm_M) :=
  gd_ 1 i0 fun a1 =>
  bt_ (f_X1_canPay F a1 i1 m) (fun v6 m4 =>
    if v6 = 0 then
      gd_ 103 i2 fun a10 =>
      iz_ (!(ib_ 0 a10.2.1)) <|
      lt_ (pL_ m4 a10 ((0 : Int32).toNatClampNeg) 0) fun m14 =>
      some (0, m14)
    else
      gd_ 103 i2 fun a16 =>
      iz_ (!(ib_ 0 a16.2.1)) <|
      lt_ (pL_ m4 a16 ((0 : Int32).toNatClampNeg) 1) fun m20 =>
      some (0, m20)
  ) fun b8 m7 =>
    if b8.1 = 26 then
      some (1, m7)
    else
    none
set_option maxHeartbeats 4000000 in
theorem e_X0_canPay {G : xg_T} {l : Launch} (hl : l.stackTraces = false) {F : Nat}    {i0 : Option pm_A} {i1 : Int32} {i2 : Option pm_A} {m0 m' : pm_M} {r : Int32} (h : f_X0_canPay F i0 i1 i2 m0 = some (r, m')) : Cal_ G l yX0_canPay (wsW_ yX0_canPay cX0_canPay 4 (some .int) [(0, 16, 19, 31)]) 173 [vR_ i0, vI_ i1, vR_ i2] m0 (.inl (some (vI_ r))) m' := by
  refine cal_ofH (by decide +kernel) (Nat.le_of_ble_eq_true rfl) ?_
  unfold f_X0_canPay at h
  show AW_ cX0_canPay RX0 (some (.int), "canPay", 173, 4, m0, m', (.inl (some (vI_ r))), G, l, [(0, 16, 19, 31)], true) m0 0 [(0, vR_ i0), (1, vI_ i1), (2, vR_ i2)] []
  refine a_aload_n 2 dX0_canPay_0 rfl rfl ?_
  refine a_iconst (v := 0) dX0_canPay_1 (by decide) ?_
  refine a_aload_n 0 dX0_canPay_2 rfl rfl ?_
  refine a_iload_n 1 dX0_canPay_3 rfl rfl ?_
  obtain ⟨a1, e2, f3, h⟩ := gd_some h
  rw [e2]
  rcases bt_some h with ⟨v6, m4, e5, h⟩ | ⟨b8, m7, e5, h⟩
  · have he5 := e_X1_canPay (G := G) hl f3 e5
    refine c_I (v := v6) he5.1 (rn_V (n := 1) (As := [vI_ i1]) kc_1 f3 he5 (lw_V q1394 q1395 q1396 q90 q1397) (by decide +kernel) rfl (Nat.le_of_ble_eq_true rfl) (Nat.le_of_ble_eq_true rfl) (Nat.le_of_ble_eq_true rfl) dX0_canPay_4) (fun z => (os_av (As := [vI_ i1]) z).2.1) ?_
    refine a_if_eq (tgt := 14) dX0_canPay_7 (by decide) (fun c9 => ?_) (fun c9 => ?_)
    · replace h := ifp_ c9 h
      refine a_lconst (v := 0) dX0_canPay_14 (by decide) ?_
      obtain ⟨a10, e11, f12, h⟩ := gd_some h
      rw [e11]
      obtain ⟨c13, h⟩ := iz_some h
      obtain ⟨m14, e15, h⟩ := lt_some h
      refine a_last f12 (bn_ c13) dX0_canPay_15 ?_
      rw [← e15]
      refine a_goto (tgt := 22) dX0_canPay_16 (by decide) ?_
      refine a_iconst (v := 0) dX0_canPay_22 (by decide) ?_
      cases h
      exact a_ireturn rfl rfl rfl rfl rfl dX0_canPay_23
    · replace h := ifn_ c9 h
      refine a_lconst (v := 1) dX0_canPay_10 (by decide) ?_
      refine a_goto (tgt := 15) dX0_canPay_11 (by decide) ?_
      obtain ⟨a16, e17, f18, h⟩ := gd_some h
      rw [e17]
      obtain ⟨c19, h⟩ := iz_some h
      obtain ⟨m20, e21, h⟩ := lt_some h
      refine a_last f18 (bn_ c19) dX0_canPay_15 ?_
      rw [← e21]
      refine a_goto (tgt := 22) dX0_canPay_16 (by decide) ?_
      refine a_iconst (v := 0) dX0_canPay_22 (by decide) ?_
      cases h
      exact a_ireturn rfl rfl rfl rfl rfl dX0_canPay_23
  · have he5 := e_X1_canPay (G := G) hl f3 e5
    refine c_X (b := b8) he5.1 (rn_V (n := 1) (As := [vI_ i1]) kc_1 f3 he5 (lw_V q1394 q1395 q1396 q90 q1397) (by decide +kernel) rfl (Nat.le_of_ble_eq_true rfl) (Nat.le_of_ble_eq_true rfl) (Nat.le_of_ble_eq_true rfl) dX0_canPay_4) ?_
    by_cases c22 : b8.1 = 26
    · replace h := ifp_ c22 h
      refine a_catch [] ⟨0, 16, 19, 31⟩ [] rfl (fun z hz => nomatch hz) rfl (by decide) q1229 (by rw [c22]; exact q1240) ?_
      refine a_astore_n (ls' := [(3, vR_ (some b8)), (0, vR_ (some a1)), (1, vI_ i1), (2, vR_ i2)]) dX0_canPay_19 rfl (Nat.le_of_ble_eq_true rfl) rfl ?_
      refine a_iconst (v := 1) dX0_canPay_20 (by decide) ?_
      cases h
      exact a_ireturn rfl rfl rfl rfl rfl dX0_canPay_21
    replace h := ifn_ c22 h
    cases h
def f_X1_enough (F : Nat)  (t : pm_A) (i0 : Int32) (m : pm_M) : Option ((Int32 ⊕ pm_A) × pm_M) :=
  bt_ (f_X1_within F t i0 0 99 m) (fun v3 m1 =>
    gd_ 3 (gR_ m1 t 2) fun a6 =>
    bm_ (f_X3_now F a6 m1) fun v11 m9 =>
    gd_ 4 v11 fun a12 =>
    bm_ (f_X4_many F a12 0 m9) fun v17 m15 =>
    some (.inl (i0 * v17), m15)
  ) fun b5 m4 =>
    some (.inr b5, m4)
set_option maxHeartbeats 4000000 in
theorem e_X1_enough {G : xg_T} {l : Launch} (hl : l.stackTraces = false) {F : Nat}    {t : pm_A} {i0 : Int32} {m0 m' : pm_M} {r : (Int32 ⊕ pm_A)} (ht : t.1 = 1) (h : f_X1_enough F t i0 m0 = some (r, m')) : Cal_ G l yX1_enough (ws_ yX1_enough cX1_enough 2 (some .int)) 7 [vR_ (some t), vI_ i0] m0 (oI_ r) m' := by
  refine cal_of (by decide +kernel) (Nat.le_of_ble_eq_true rfl) ?_
  unfold f_X1_enough at h
  show AW_ cX1_enough RX1 (some (.int), "enough", 7, 2, m0, m', (oI_ r), G, l, [], true) m0 0 [(0, vR_ (some t)), (1, vI_ i0)] []
  refine a_aload_n 0 dX1_enough_0 rfl rfl ?_
  refine a_iload_n 1 dX1_enough_1 rfl rfl ?_
  refine a_iconst (v := 0) dX1_enough_2 (by decide) ?_
  refine a_bipush (v := 99) dX1_enough_3 (by decide) ?_
  rcases bt_some h with ⟨v3, m1, e2, h⟩ | ⟨b5, m4, e2, h⟩
  · have he2 := e_X1_within (G := G) hl ht e2
    refine c_V he2.1 (rn_V (n := 3) (As := [vI_ i0, vI_ 0, vI_ 99]) kc_1 ht he2 (lw_V q581 q583 qs0 q90 q584) (by decide +kernel) rfl (Nat.le_of_ble_eq_true rfl) (Nat.le_of_ble_eq_true rfl) (Nat.le_of_ble_eq_true rfl) dX1_enough_5) (fun z => (os_av (As := [vI_ i0, vI_ 0, vI_ 99]) z).2.1) ?_
    refine a_iload_n 1 dX1_enough_8 rfl rfl ?_
    refine a_aload_n 0 dX1_enough_9 rfl rfl ?_
    refine a_getR kc_1 2 (by decide) rfl ht q390 dX1_enough_10 ?_
    obtain ⟨a6, e7, f8, h⟩ := gd_some h
    rw [e7]
    obtain ⟨v11, m9, e10, h⟩ := bm_some h
    have he10 := e_X3_now (G := G) hl f8 e10
    refine c_R he10.1 (rn_V (n := 0) (As := []) kc_3 f8 he10 (lw_V q380 q381 q382 q92 q383) (by decide +kernel) rfl (Nat.le_of_ble_eq_true rfl) (Nat.le_of_ble_eq_true rfl) (Nat.le_of_ble_eq_true rfl) dX1_enough_13) (fun z => (os_av (As := []) z).2.1) ?_
    refine a_iconst (v := 0) dX1_enough_16 (by decide) ?_
    obtain ⟨a12, e13, f14, h⟩ := gd_some h
    rw [e13]
    obtain ⟨v17, m15, e16, h⟩ := bm_some h
    have he16 := e_X4_many (G := G) hl f14 e16
    refine c_I he16.1 (rn_V (n := 1) (As := [vI_ 0]) kc_4 f14 he16 (lw_V q538 q539 q540 q93 q541) (by decide +kernel) rfl (Nat.le_of_ble_eq_true rfl) (Nat.le_of_ble_eq_true rfl) (Nat.le_of_ble_eq_true rfl) dX1_enough_17) (fun z => (os_av (As := [vI_ 0]) z).2.1) ?_
    refine a_imul dX1_enough_20 ?_
    cases h
    exact a_ireturn rfl rfl rfl rfl rfl dX1_enough_21
  · have he2 := e_X1_within (G := G) hl ht e2
    refine c_X (b := b5) he2.1 (rn_V (n := 3) (As := [vI_ i0, vI_ 0, vI_ 99]) kc_1 ht he2 (lw_V q581 q583 qs0 q90 q584) (by decide +kernel) rfl (Nat.le_of_ble_eq_true rfl) (Nat.le_of_ble_eq_true rfl) (Nat.le_of_ble_eq_true rfl) dX1_enough_5) ?_
    cases h
    exact a_out rfl rfl rfl rfl
def f_X0_enough (F : Nat)  (i0 : Option pm_A) (i1 : Int32) (i2 : Option pm_A) (m : pm_M) : Option (Int32 × pm_M) :=
  gd_ 1 i0 fun a1 =>
  bt_ (f_X1_enough F a1 i1 m) (fun v6 m4 =>
    gd_ 103 i2 fun a9 =>
    iz_ (!(ib_ 0 a9.2.1)) <|
    lt_ (pL_ m4 a9 ((0 : Int32).toNatClampNeg) v6.toInt64) fun m13 =>
    some (0, m13)
  ) fun b8 m7 =>
    if b8.1 = 25 then
      some (1, m7)
    else
    none
set_option maxHeartbeats 4000000 in
theorem e_X0_enough {G : xg_T} {l : Launch} (hl : l.stackTraces = false) {F : Nat}    {i0 : Option pm_A} {i1 : Int32} {i2 : Option pm_A} {m0 m' : pm_M} {r : Int32} (h : f_X0_enough F i0 i1 i2 m0 = some (r, m')) : Cal_ G l yX0_enough (wsW_ yX0_enough cX0_enough 4 (some .int) [(0, 9, 12, 13)]) 8 [vR_ i0, vI_ i1, vR_ i2] m0 (.inl (some (vI_ r))) m' := by
  refine cal_ofH (by decide +kernel) (Nat.le_of_ble_eq_true rfl) ?_
  unfold f_X0_enough at h
  show AW_ cX0_enough RX0 (some (.int), "enough", 8, 4, m0, m', (.inl (some (vI_ r))), G, l, [(0, 9, 12, 13)], true) m0 0 [(0, vR_ i0), (1, vI_ i1), (2, vR_ i2)] []
  refine a_aload_n 2 dX0_enough_0 rfl rfl ?_
  refine a_iconst (v := 0) dX0_enough_1 (by decide) ?_
  refine a_aload_n 0 dX0_enough_2 rfl rfl ?_
  refine a_iload_n 1 dX0_enough_3 rfl rfl ?_
  obtain ⟨a1, e2, f3, h⟩ := gd_some h
  rw [e2]
  rcases bt_some h with ⟨v6, m4, e5, h⟩ | ⟨b8, m7, e5, h⟩
  · have he5 := e_X1_enough (G := G) hl f3 e5
    refine c_I (v := v6) he5.1 (rn_V (n := 1) (As := [vI_ i1]) kc_1 f3 he5 (lw_V q1402 q1403 q1404 q90 q1405) (by decide +kernel) rfl (Nat.le_of_ble_eq_true rfl) (Nat.le_of_ble_eq_true rfl) (Nat.le_of_ble_eq_true rfl) dX0_enough_4) (fun z => (os_av (As := [vI_ i1]) z).2.1) ?_
    refine a_i2l dX0_enough_7 ?_
    obtain ⟨a9, e10, f11, h⟩ := gd_some h
    rw [e10]
    obtain ⟨c12, h⟩ := iz_some h
    obtain ⟨m13, e14, h⟩ := lt_some h
    refine a_last f11 (bn_ c12) dX0_enough_8 ?_
    rw [← e14]
    refine a_goto (tgt := 15) dX0_enough_9 (by decide) ?_
    refine a_iconst (v := 0) dX0_enough_15 (by decide) ?_
    cases h
    exact a_ireturn rfl rfl rfl rfl rfl dX0_enough_16
  · have he5 := e_X1_enough (G := G) hl f3 e5
    refine c_X (b := b8) he5.1 (rn_V (n := 1) (As := [vI_ i1]) kc_1 f3 he5 (lw_V q1402 q1403 q1404 q90 q1405) (by decide +kernel) rfl (Nat.le_of_ble_eq_true rfl) (Nat.le_of_ble_eq_true rfl) (Nat.le_of_ble_eq_true rfl) dX0_enough_4) ?_
    by_cases c15 : b8.1 = 25
    · replace h := ifp_ c15 h
      refine a_catch [] ⟨0, 9, 12, 13⟩ [] rfl (fun z hz => nomatch hz) rfl (by decide) q575 (by rw [c15]; exact q587) ?_
      refine a_astore_n (ls' := [(3, vR_ (some b8)), (0, vR_ (some a1)), (1, vI_ i1), (2, vR_ i2)]) dX0_enough_12 rfl (Nat.le_of_ble_eq_true rfl) rfl ?_
      refine a_iconst (v := 1) dX0_enough_13 (by decide) ?_
      cases h
      exact a_ireturn rfl rfl rfl rfl rfl dX0_enough_14
    replace h := ifn_ c15 h
    cases h
def f_X1_level (F : Nat)  (t : pm_A) (i0 : Int32) (m : pm_M) : Option ((Int32 ⊕ pm_A) × pm_M) :=
  bt_ (f_X1_within F t i0 0 99 m) (fun v3 m1 =>
    gd_ 3 (gR_ m1 t 2) fun a6 =>
    bm_ (f_X3_now F a6 m1) fun v11 m9 =>
    gd_ 4 v11 fun a12 =>
    bm_ (f_X4_many F a12 0 m9) fun v17 m15 =>
    if v17 = 0 then
      some (.inl ((-1)), m15)
    else
      gd_ 3 (gR_ m15 t 2) fun a19 =>
      bm_ (f_X3_now F a19 m15) fun v24 m22 =>
      gd_ 4 v24 fun a25 =>
      iz_ (decide (v17 = 0)) <|
      bm_ (f_J8_min F i0 ((gI_ m22 a25 12) / v17) m22) fun v31 m29 =>
      some (.inl v31, m29)
  ) fun b5 m4 =>
    some (.inr b5, m4)
set_option maxHeartbeats 4000000 in
theorem e_X1_level {G : xg_T} {l : Launch} (hl : l.stackTraces = false) {F : Nat}    {t : pm_A} {i0 : Int32} {m0 m' : pm_M} {r : (Int32 ⊕ pm_A)} (ht : t.1 = 1) (h : f_X1_level F t i0 m0 = some (r, m')) : Cal_ G l yX1_level (ws_ yX1_level cX1_level 3 (some .int)) 7 [vR_ (some t), vI_ i0] m0 (oI_ r) m' := by
  refine cal_of (by decide +kernel) (Nat.le_of_ble_eq_true rfl) ?_
  unfold f_X1_level at h
  show AW_ cX1_level RX1 (some (.int), "level", 7, 3, m0, m', (oI_ r), G, l, [], true) m0 0 [(0, vR_ (some t)), (1, vI_ i0)] []
  refine a_aload_n 0 dX1_level_0 rfl rfl ?_
  refine a_iload_n 1 dX1_level_1 rfl rfl ?_
  refine a_iconst (v := 0) dX1_level_2 (by decide) ?_
  refine a_bipush (v := 99) dX1_level_3 (by decide) ?_
  rcases bt_some h with ⟨v3, m1, e2, h⟩ | ⟨b5, m4, e2, h⟩
  · have he2 := e_X1_within (G := G) hl ht e2
    refine c_V he2.1 (rn_V (n := 3) (As := [vI_ i0, vI_ 0, vI_ 99]) kc_1 ht he2 (lw_V q581 q583 qs0 q90 q584) (by decide +kernel) rfl (Nat.le_of_ble_eq_true rfl) (Nat.le_of_ble_eq_true rfl) (Nat.le_of_ble_eq_true rfl) dX1_level_5) (fun z => (os_av (As := [vI_ i0, vI_ 0, vI_ 99]) z).2.1) ?_
    refine a_aload_n 0 dX1_level_8 rfl rfl ?_
    refine a_getR kc_1 2 (by decide) rfl ht q390 dX1_level_9 ?_
    obtain ⟨a6, e7, f8, h⟩ := gd_some h
    rw [e7]
    obtain ⟨v11, m9, e10, h⟩ := bm_some h
    have he10 := e_X3_now (G := G) hl f8 e10
    refine c_R he10.1 (rn_V (n := 0) (As := []) kc_3 f8 he10 (lw_V q380 q381 q382 q92 q383) (by decide +kernel) rfl (Nat.le_of_ble_eq_true rfl) (Nat.le_of_ble_eq_true rfl) (Nat.le_of_ble_eq_true rfl) dX1_level_12) (fun z => (os_av (As := []) z).2.1) ?_
    refine a_iconst (v := 0) dX1_level_15 (by decide) ?_
    obtain ⟨a12, e13, f14, h⟩ := gd_some h
    rw [e13]
    obtain ⟨v17, m15, e16, h⟩ := bm_some h
    have he16 := e_X4_many (G := G) hl f14 e16
    refine c_I he16.1 (rn_V (n := 1) (As := [vI_ 0]) kc_4 f14 he16 (lw_V q538 q539 q540 q93 q541) (by decide +kernel) rfl (Nat.le_of_ble_eq_true rfl) (Nat.le_of_ble_eq_true rfl) (Nat.le_of_ble_eq_true rfl) dX1_level_16) (fun z => (os_av (As := [vI_ 0]) z).2.1) ?_
    refine a_istore_n (ls' := [(2, vI_ v17), (0, vR_ (some t)), (1, vI_ i0)]) dX1_level_19 rfl (Nat.le_of_ble_eq_true rfl) rfl ?_
    refine a_iload_n 0 dX1_level_20 rfl rfl ?_
    refine a_if_ne (tgt := 28) dX1_level_21 (by decide) (fun c18 => ?_) (fun c18 => ?_)
    · replace h := ifn_ c18 h
      refine a_iload_n 2 dX1_level_28 rfl rfl ?_
      refine a_aload_n 1 dX1_level_29 rfl rfl ?_
      refine a_getR kc_1 2 (by decide) rfl ht q390 dX1_level_30 ?_
      obtain ⟨a19, e20, f21, h⟩ := gd_some h
      rw [e20]
      obtain ⟨v24, m22, e23, h⟩ := bm_some h
      have he23 := e_X3_now (G := G) hl f21 e23
      refine c_R he23.1 (rn_V (n := 0) (As := []) kc_3 f21 he23 (lw_V q380 q381 q382 q92 q383) (by decide +kernel) rfl (Nat.le_of_ble_eq_true rfl) (Nat.le_of_ble_eq_true rfl) (Nat.le_of_ble_eq_true rfl) dX1_level_33) (fun z => (os_av (As := []) z).2.1) ?_
      obtain ⟨a25, e26, f27, h⟩ := gd_some h
      rw [e26]
      refine a_getIN kc_4 12 (by decide) rfl f27 q306 dX1_level_36 ?_
      refine a_iload_n 0 dX1_level_39 rfl rfl ?_
      obtain ⟨c28, h⟩ := iz_some h
      refine a_idiv dX1_level_40 (of_decide_eq_false c28) ?_
      obtain ⟨v31, m29, e30, h⟩ := bm_some h
      have he30 := e_J8_min (G := G) hl e30
      refine c_I he30.1 (rn_S (n := 2) (As := [vI_ i0, vI_ ((gI_ m22 a25 12) / v17)]) he30 (lw_S q847 q521 q109 q522) (by decide +kernel) rfl (Nat.le_of_ble_eq_true rfl) (Nat.le_of_ble_eq_true rfl) (Nat.le_of_ble_eq_true rfl) dX1_level_41) (fun z => (os_aS (As := [vI_ i0, vI_ ((gI_ m22 a25 12) / v17)]) z).2) ?_
      cases h
      exact a_ireturn rfl rfl rfl rfl rfl dX1_level_44
    · replace h := ifp_ c18 h
      refine a_iconst (v := (-1)) dX1_level_24 (by decide) ?_
      refine a_goto (tgt := 44) dX1_level_25 (by decide) ?_
      cases h
      exact a_ireturn rfl rfl rfl rfl rfl dX1_level_44
  · have he2 := e_X1_within (G := G) hl ht e2
    refine c_X (b := b5) he2.1 (rn_V (n := 3) (As := [vI_ i0, vI_ 0, vI_ 99]) kc_1 ht he2 (lw_V q581 q583 qs0 q90 q584) (by decide +kernel) rfl (Nat.le_of_ble_eq_true rfl) (Nat.le_of_ble_eq_true rfl) (Nat.le_of_ble_eq_true rfl) dX1_level_5) ?_
    cases h
    exact a_out rfl rfl rfl rfl
def f_X0_level (F : Nat)  (i0 : Option pm_A) (i1 : Int32) (i2 : Option pm_A) (m : pm_M) : Option (Int32 × pm_M) :=
  gd_ 1 i0 fun a1 =>
  bt_ (f_X1_level F a1 i1 m) (fun v6 m4 =>
    gd_ 103 i2 fun a9 =>
    iz_ (!(ib_ 0 a9.2.1)) <|
    lt_ (pL_ m4 a9 ((0 : Int32).toNatClampNeg) v6.toInt64) fun m13 =>
    some (0, m13)
  ) fun b8 m7 =>
    if b8.1 = 25 then
      some (1, m7)
    else
    none
set_option maxHeartbeats 4000000 in
theorem e_X0_level {G : xg_T} {l : Launch} (hl : l.stackTraces = false) {F : Nat}    {i0 : Option pm_A} {i1 : Int32} {i2 : Option pm_A} {m0 m' : pm_M} {r : Int32} (h : f_X0_level F i0 i1 i2 m0 = some (r, m')) : Cal_ G l yX0_level (wsW_ yX0_level cX0_level 4 (some .int) [(0, 9, 12, 13)]) 8 [vR_ i0, vI_ i1, vR_ i2] m0 (.inl (some (vI_ r))) m' := by
  refine cal_ofH (by decide +kernel) (Nat.le_of_ble_eq_true rfl) ?_
  unfold f_X0_level at h
  show AW_ cX0_level RX0 (some (.int), "level", 8, 4, m0, m', (.inl (some (vI_ r))), G, l, [(0, 9, 12, 13)], true) m0 0 [(0, vR_ i0), (1, vI_ i1), (2, vR_ i2)] []
  refine a_aload_n 2 dX0_level_0 rfl rfl ?_
  refine a_iconst (v := 0) dX0_level_1 (by decide) ?_
  refine a_aload_n 0 dX0_level_2 rfl rfl ?_
  refine a_iload_n 1 dX0_level_3 rfl rfl ?_
  obtain ⟨a1, e2, f3, h⟩ := gd_some h
  rw [e2]
  rcases bt_some h with ⟨v6, m4, e5, h⟩ | ⟨b8, m7, e5, h⟩
  · have he5 := e_X1_level (G := G) hl f3 e5
    refine c_I (v := v6) he5.1 (rn_V (n := 1) (As := [vI_ i1]) kc_1 f3 he5 (lw_V q1409 q1410 q1411 q90 q1412) (by decide +kernel) rfl (Nat.le_of_ble_eq_true rfl) (Nat.le_of_ble_eq_true rfl) (Nat.le_of_ble_eq_true rfl) dX0_level_4) (fun z => (os_av (As := [vI_ i1]) z).2.1) ?_
    refine a_i2l dX0_level_7 ?_
    obtain ⟨a9, e10, f11, h⟩ := gd_some h
    rw [e10]
    obtain ⟨c12, h⟩ := iz_some h
    obtain ⟨m13, e14, h⟩ := lt_some h
    refine a_last f11 (bn_ c12) dX0_level_8 ?_
    rw [← e14]
    refine a_goto (tgt := 15) dX0_level_9 (by decide) ?_
    refine a_iconst (v := 0) dX0_level_15 (by decide) ?_
    cases h
    exact a_ireturn rfl rfl rfl rfl rfl dX0_level_16
  · have he5 := e_X1_level (G := G) hl f3 e5
    refine c_X (b := b8) he5.1 (rn_V (n := 1) (As := [vI_ i1]) kc_1 f3 he5 (lw_V q1409 q1410 q1411 q90 q1412) (by decide +kernel) rfl (Nat.le_of_ble_eq_true rfl) (Nat.le_of_ble_eq_true rfl) (Nat.le_of_ble_eq_true rfl) dX0_level_4) ?_
    by_cases c15 : b8.1 = 25
    · replace h := ifp_ c15 h
      refine a_catch [] ⟨0, 9, 12, 13⟩ [] rfl (fun z hz => nomatch hz) rfl (by decide) q575 (by rw [c15]; exact q587) ?_
      refine a_astore_n (ls' := [(3, vR_ (some b8)), (0, vR_ (some a1)), (1, vI_ i1), (2, vR_ i2)]) dX0_level_12 rfl (Nat.le_of_ble_eq_true rfl) rfl ?_
      refine a_iconst (v := 1) dX0_level_13 (by decide) ?_
      cases h
      exact a_ireturn rfl rfl rfl rfl rfl dX0_level_14
    replace h := ifn_ c15 h
    cases h
def f_X1_isSaid_L2 (F : Nat)  (p1 : pm_A) (p3 : Int32) : Nat → Int32 → pm_M → Option (Int32 × pm_M)
  | 0, _, _ => none
  | n4 + 1, x6, m5 =>
    if (gI_ m5 p1 15) ≤ x6 then
      some (1, m5)
    else
      gd_ 100 (gR_ m5 p1 8) fun a8 =>
      iz_ (!(ib_ x6 a8.2.1)) <|
      bm_ (f_J8_max F 0 (p3 - (gI_ m5 a8 x6.toNatClampNeg)) m5) fun v14 m12 =>
      gd_ 100 (gR_ m12 p1 9) fun a15 =>
      iz_ (!(ib_ x6 a15.2.1)) <|
      if v14 = (gI_ m12 a15 x6.toNatClampNeg) then
        (f_X1_isSaid_L2 F p1 p3 n4) (x6 + 1) m12
      else
        some (0, m12)
set_option maxHeartbeats 4000000 in
theorem w_X1_isSaid_L2 {G : xg_T} {l : Launch} (hl : l.stackTraces = false) {F : Nat}    (p1 : pm_A) (p3 : Int32) {m0 m' : pm_M} {r : Int32} (hf2 : p1.1 = 1)  : ∀ (n : Nat) (x6 : Int32) (m5 : pm_M), f_X1_isSaid_L2 F p1 p3 n x6 m5 = some (r, m') → AW_ cX1_isSaid RX1 (some (.boolean), "isSaid", 3, 3, m0, m', (.inl (some (vI_ r))), G, l, [], true) m5 2 [(0, vR_ (some p1)), (1, vI_ p3), (2, vI_ x6)] [] := by
  intro n
  induction n with
  | zero => intro x6 m5 h; cases h
  | succ n4 ih =>
    intro x6 m5 h
    rw [f_X1_isSaid_L2] at h
    refine a_iload_n 2 dX1_isSaid_2 rfl rfl ?_
    refine a_aload_n 0 dX1_isSaid_3 rfl rfl ?_
    refine a_getI kc_1 15 (by decide) rfl hf2 q403 dX1_isSaid_4 ?_
    refine a_icmp_ge (tgt := 39) dX1_isSaid_7 (by decide) (fun c7 => ?_) (fun c7 => ?_)
    · replace h := ifp_ c7 h
      refine a_iconst (v := 1) dX1_isSaid_39 (by decide) ?_
      cases h
      exact a_ireturn rfl rfl rfl rfl rfl dX1_isSaid_40
    · replace h := ifn_ c7 h
      refine a_iconst (v := 0) dX1_isSaid_10 (by decide) ?_
      refine a_iload_n 1 dX1_isSaid_11 rfl rfl ?_
      refine a_aload_n 0 dX1_isSaid_12 rfl rfl ?_
      refine a_getR kc_1 8 (by decide) rfl hf2 q396 dX1_isSaid_13 ?_
      refine a_iload_n 2 dX1_isSaid_16 rfl rfl ?_
      obtain ⟨a8, e9, f10, h⟩ := gd_some h
      rw [e9]
      obtain ⟨c11, h⟩ := iz_some h
      refine a_iald f10 (bn_ c11) dX1_isSaid_17 ?_
      refine a_isub dX1_isSaid_18 ?_
      obtain ⟨v14, m12, e13, h⟩ := bm_some h
      have he13 := e_J8_max (G := G) hl e13
      refine c_I he13.1 (rn_S (n := 2) (As := [vI_ 0, vI_ (p3 - (gI_ m5 a8 x6.toNatClampNeg))]) he13 (lw_S q1425 q524 q109 q525) (by decide +kernel) rfl (Nat.le_of_ble_eq_true rfl) (Nat.le_of_ble_eq_true rfl) (Nat.le_of_ble_eq_true rfl) dX1_isSaid_19) (fun z => (os_aS (As := [vI_ 0, vI_ (p3 - (gI_ m5 a8 x6.toNatClampNeg))]) z).2) ?_
      refine a_aload_n 0 dX1_isSaid_22 rfl rfl ?_
      refine a_getR kc_1 9 (by decide) rfl hf2 q397 dX1_isSaid_23 ?_
      refine a_iload_n 2 dX1_isSaid_26 rfl rfl ?_
      obtain ⟨a15, e16, f17, h⟩ := gd_some h
      rw [e16]
      obtain ⟨c18, h⟩ := iz_some h
      refine a_iald f17 (bn_ c18) dX1_isSaid_27 ?_
      refine a_icmp_eq (tgt := 33) dX1_isSaid_28 (by decide) (fun c19 => ?_) (fun c19 => ?_)
      · replace h := ifp_ c19 h
        refine a_iinc (v := x6 + 1) (ls' := [(2, vI_ (x6 + 1)), (0, vR_ (some p1)), (1, vI_ p3)]) 2 dX1_isSaid_33 rfl rfl (Nat.le_of_ble_eq_true rfl) rfl ?_
        refine a_goto (tgt := 2) dX1_isSaid_36 (by decide) ?_
        refine aw_pick [1, 2, 0] rfl ?_
        exact ih _ _ h
      · replace h := ifn_ c19 h
        refine a_iconst (v := 0) dX1_isSaid_31 (by decide) ?_
        cases h
        exact a_ireturn rfl rfl rfl rfl rfl dX1_isSaid_32
def f_X1_isSaid (F : Nat)  (t : pm_A) (i0 : Int32) (m : pm_M) : Option (Int32 × pm_M) :=
  f_X1_isSaid_L2 F t i0 F 0 m
set_option maxHeartbeats 4000000 in
theorem e_X1_isSaid {G : xg_T} {l : Launch} (hl : l.stackTraces = false) {F : Nat}    {t : pm_A} {i0 : Int32} {m0 m' : pm_M} {r : Int32} (ht : t.1 = 1) (h : f_X1_isSaid F t i0 m0 = some (r, m')) : Cal_ G l yX1_isSaid (ws_ yX1_isSaid cX1_isSaid 3 (some .boolean)) 3 [vR_ (some t), vI_ i0] m0 (.inl (some (vI_ r))) m' := by
  refine cal_of (by decide +kernel) (Nat.le_of_ble_eq_true rfl) ?_
  unfold f_X1_isSaid at h
  show AW_ cX1_isSaid RX1 (some (.boolean), "isSaid", 3, 3, m0, m', (.inl (some (vI_ r))), G, l, [], true) m0 0 [(0, vR_ (some t)), (1, vI_ i0)] []
  refine a_iconst (v := 0) dX1_isSaid_0 (by decide) ?_
  refine a_istore_n (ls' := [(2, vI_ 0), (0, vR_ (some t)), (1, vI_ i0)]) dX1_isSaid_1 rfl (Nat.le_of_ble_eq_true rfl) rfl ?_
  refine aw_pick [1, 2, 0] rfl ?_
  exact w_X1_isSaid_L2 hl _ _ ht _ _ _ h
