/-! PRINTED BY dec.py: X8_book X8_undo X8_told X8_isSigner X8_signer X8_isTaker X8_taker X8_asks X8_owes X8_would X8_held -/
set_option maxRecDepth 100000
def f_X8_book_L78 (F : Nat)  (p89 : pm_A) (p91 : Int32) (p92 : Int32) (p93 : Int32) (k94 : pm_M → Option (Int32 × pm_M)) : Nat → Int32 → pm_M → Option (Int32 × pm_M)
  | 0, _, _ => none
  | n96 + 1, x98, m97 =>
    if p91 ≤ x98 then
      k94 m97
    else
      bm_ (f_X8_fine F p89 m97) fun v102 m100 =>
      if v102 = 0 then
        k94 m100
      else
        gd_ 100 (gR_ m100 p89 43) fun a104 =>
        iz_ (!(ib_ (2 * x98) a104.2.1)) <|
        if (gI_ m100 a104 (2 * x98).toNatClampNeg) = p93 then
          bm_ (f_X8_wrong F p89 2 p92 m100) fun v111 m109 =>
          (f_X8_book_L78 F p89 p91 p92 p93 k94 n96) (x98 + 1) m109
        else
          (f_X8_book_L78 F p89 p91 p92 p93 k94 n96) (x98 + 1) m100
set_option maxHeartbeats 4000000 in
theorem w_X8_book_L78 {G : xg_T} {l : Launch} (hl : l.stackTraces = false) {F : Nat}    (p89 : pm_A) (p91 : Int32) (p92 : Int32) (p93 : Int32) (k94 : pm_M → Option (Int32 × pm_M)) {m0 m' : pm_M} {r : Int32} (hf90 : p89.1 = 8) (hk94 : ∀ (m95 : pm_M), k94 m95 = some (r, m') → AW_ cX8_book RX8 (some (.int), "book", 4, 6, m0, m', (.inl (some (vI_ r))), G, l, [], true) m95 117 [(0, vR_ (some p89)), (2, vI_ p91), (3, vI_ p92), (4, vI_ p93)] []) : ∀ (n : Nat) (x98 : Int32) (m97 : pm_M), f_X8_book_L78 F p89 p91 p92 p93 k94 n x98 m97 = some (r, m') → AW_ cX8_book RX8 (some (.int), "book", 4, 6, m0, m', (.inl (some (vI_ r))), G, l, [], true) m97 78 [(0, vR_ (some p89)), (2, vI_ p91), (3, vI_ p92), (4, vI_ p93), (5, vI_ x98)] [] := by
  intro n
  induction n with
  | zero => intro x98 m97 h; cases h
  | succ n96 ih =>
    intro x98 m97 h
    rw [f_X8_book_L78] at h
    refine a_iload 4 dX8_book_78 rfl ?_
    refine a_iload_n 1 dX8_book_80 rfl rfl ?_
    refine a_icmp_ge (tgt := 117) dX8_book_81 (by decide) (fun c99 => ?_) (fun c99 => ?_)
    · replace h := ifp_ c99 h
      refine aw_pick [0, 1, 2, 3] rfl ?_
      exact hk94 _ h
    · replace h := ifn_ c99 h
      refine a_aload_n 0 dX8_book_84 rfl rfl ?_
      obtain ⟨v102, m100, e101, h⟩ := bm_some h
      have he101 := e_X8_fine (G := G) hl hf90 e101
      refine c_I he101.1 (rn_V (n := 0) (As := []) kc_8 hf90 he101 (lw_V q1752 q1754 qs34 q97 q1755) (by decide +kernel) rfl (Nat.le_of_ble_eq_true rfl) (Nat.le_of_ble_eq_true rfl) (Nat.le_of_ble_eq_true rfl) dX8_book_85) (fun z => (os_av (As := []) z).2.1) ?_
      refine a_if_eq (tgt := 117) dX8_book_88 (by decide) (fun c103 => ?_) (fun c103 => ?_)
      · replace h := ifp_ c103 h
        refine aw_pick [0, 1, 2, 3] rfl ?_
        exact hk94 _ h
      · replace h := ifn_ c103 h
        refine a_aload_n 0 dX8_book_91 rfl rfl ?_
        refine a_getR kc_8 43 (by decide) rfl hf90 q1597 dX8_book_92 ?_
        refine a_iconst (v := 2) dX8_book_95 (by decide) ?_
        refine a_iload 4 dX8_book_96 rfl ?_
        refine a_imul dX8_book_98 ?_
        obtain ⟨a104, e105, f106, h⟩ := gd_some h
        rw [e105]
        obtain ⟨c107, h⟩ := iz_some h
        refine a_iald f106 (bn_ c107) dX8_book_99 ?_
        refine a_iload 3 dX8_book_100 rfl ?_
        refine a_icmp_ne (tgt := 111) dX8_book_102 (by decide) (fun c108 => ?_) (fun c108 => ?_)
        · replace h := ifn_ c108 h
          refine a_iinc (v := x98 + 1) (ls' := [(5, vI_ (x98 + 1)), (0, vR_ (some p89)), (2, vI_ p91), (3, vI_ p92), (4, vI_ p93)]) 4 dX8_book_111 rfl rfl (Nat.le_of_ble_eq_true rfl) rfl ?_
          refine a_goto (tgt := 78) dX8_book_114 (by decide) ?_
          refine aw_pick [1, 2, 3, 4, 0] rfl ?_
          exact ih _ _ h
        · replace h := ifp_ c108 h
          refine a_aload_n 0 dX8_book_105 rfl rfl ?_
          refine a_iconst (v := 2) dX8_book_106 (by decide) ?_
          refine a_iload_n 2 dX8_book_107 rfl rfl ?_
          obtain ⟨v111, m109, e110, h⟩ := bm_some h
          have he110 := e_X8_wrong (G := G) hl hf90 e110
          refine c_V he110.1 (rn_V (n := 2) (As := [vI_ 2, vI_ p92]) kc_8 hf90 he110 (lw_V q1788 q1790 qs39 q97 q1791) (by decide +kernel) rfl (Nat.le_of_ble_eq_true rfl) (Nat.le_of_ble_eq_true rfl) (Nat.le_of_ble_eq_true rfl) dX8_book_108) (fun z => (os_av (As := [vI_ 2, vI_ p92]) z).2.1) ?_
          refine a_iinc (v := x98 + 1) (ls' := [(5, vI_ (x98 + 1)), (0, vR_ (some p89)), (2, vI_ p91), (3, vI_ p92), (4, vI_ p93)]) 4 dX8_book_111 rfl rfl (Nat.le_of_ble_eq_true rfl) rfl ?_
          refine a_goto (tgt := 78) dX8_book_114 (by decide) ?_
          refine aw_pick [1, 2, 3, 4, 0] rfl ?_
          exact ih _ _ h
def f_X8_book_L46 (F : Nat)  (p32 : pm_A) (k34 : Int32 → pm_M → Option (Int32 × pm_M)) (k37 : Int32 → pm_M → Option (Int32 × pm_M)) : Nat → Int32 → pm_M → Option (Int32 × pm_M)
  | 0, _, _ => none
  | n40 + 1, x42, m41 =>
    bm_ (f_X8_fine F p32 m41) fun v45 m43 =>
    if v45 = 0 then
      k34 x42 m43
    else
      bm_ (f_X8_isMore F p32 m43) fun v49 m47 =>
      if v49 = 0 then
        k34 x42 m47
      else
        bm_ (f_X8_readNumber F p32 0 499 m47) fun v53 m51 =>
        jn_ (fun  (m55 : pm_M) =>
          bm_ (f_X8_fine F p32 m55) fun v58 m56 =>
          jn_ (fun  (m60 : pm_M) =>
            bm_ (f_X8_readNumber F p32 0 999 m60) fun v63 m61 =>
            bm_ (f_X8_sign F p32 59 m61) fun v66 m64 =>
            bm_ (f_X8_fine F p32 m64) fun v69 m67 =>
            if v69 = 0 then
              k37 x42 m67
            else
              gd_ 100 (gR_ m67 p32 43) fun a71 =>
              iz_ (!(ib_ (2 * x42) a71.2.1)) <|
              lt_ (pI_ m67 a71 ((2 * x42).toNatClampNeg) v53) fun m75 =>
              gd_ 100 (gR_ m75 p32 43) fun a77 =>
              iz_ (!(ib_ ((2 * x42) + 1) a77.2.1)) <|
              lt_ (pI_ m75 a77 (((2 * x42) + 1).toNatClampNeg) v63) fun m81 =>
              (f_X8_book_L46 F p32 k34 k37 n40) (x42 + 1) m81
          ) fun k59 =>
          if v58 = 0 then
            k59 m56
          else
            if x42 = 8 then
              bm_ (f_X8_wrong F p32 3 (gI_ m47 p32 4) m56) fun v87 m85 =>
              k59 m85
            else
              k59 m56
        ) fun k54 =>
        f_X8_book_L78 F p32 x42 (gI_ m47 p32 4) v53 k54 F 0 m51
set_option maxHeartbeats 4000000 in
theorem w_X8_book_L46 {G : xg_T} {l : Launch} (hl : l.stackTraces = false) {F : Nat}    (p32 : pm_A) (k34 : Int32 → pm_M → Option (Int32 × pm_M)) (k37 : Int32 → pm_M → Option (Int32 × pm_M)) {m0 m' : pm_M} {r : Int32} (hf33 : p32.1 = 8) (hk34 : ∀ (x35 : Int32) (m36 : pm_M), k34 x35 m36 = some (r, m') → AW_ cX8_book RX8 (some (.int), "book", 4, 6, m0, m', (.inl (some (vI_ r))), G, l, [], true) m36 190 [(0, vR_ (some p32)), (2, vI_ x35)] []) (hk37 : ∀ (x38 : Int32) (m39 : pm_M), k37 x38 m39 = some (r, m') → AW_ cX8_book RX8 (some (.int), "book", 4, 6, m0, m', (.inl (some (vI_ r))), G, l, [], true) m39 159 [(0, vR_ (some p32)), (2, vI_ x38)] []) : ∀ (n : Nat) (x42 : Int32) (m41 : pm_M), f_X8_book_L46 F p32 k34 k37 n x42 m41 = some (r, m') → AW_ cX8_book RX8 (some (.int), "book", 4, 6, m0, m', (.inl (some (vI_ r))), G, l, [], true) m41 46 [(0, vR_ (some p32)), (2, vI_ x42)] [] := by
  intro n
  induction n with
  | zero => intro x42 m41 h; cases h
  | succ n40 ih =>
    intro x42 m41 h
    rw [f_X8_book_L46] at h
    refine a_aload_n 0 dX8_book_46 rfl rfl ?_
    obtain ⟨v45, m43, e44, h⟩ := bm_some h
    have he44 := e_X8_fine (G := G) hl hf33 e44
    refine c_I he44.1 (rn_V (n := 0) (As := []) kc_8 hf33 he44 (lw_V q1752 q1754 qs34 q97 q1755) (by decide +kernel) rfl (Nat.le_of_ble_eq_true rfl) (Nat.le_of_ble_eq_true rfl) (Nat.le_of_ble_eq_true rfl) dX8_book_47) (fun z => (os_av (As := []) z).2.1) ?_
    refine a_if_eq (tgt := 190) dX8_book_50 (by decide) (fun c46 => ?_) (fun c46 => ?_)
    · replace h := ifp_ c46 h
      exact hk34 _ _ h
    · replace h := ifn_ c46 h
      refine a_aload_n 0 dX8_book_53 rfl rfl ?_
      obtain ⟨v49, m47, e48, h⟩ := bm_some h
      have he48 := e_X8_isMore (G := G) hl hf33 e48
      refine c_I he48.1 (rn_V (n := 0) (As := []) kc_8 hf33 he48 (lw_V q1756 q1758 qs35 q97 q1759) (by decide +kernel) rfl (Nat.le_of_ble_eq_true rfl) (Nat.le_of_ble_eq_true rfl) (Nat.le_of_ble_eq_true rfl) dX8_book_54) (fun z => (os_av (As := []) z).2.1) ?_
      refine a_if_eq (tgt := 190) dX8_book_57 (by decide) (fun c50 => ?_) (fun c50 => ?_)
      · replace h := ifp_ c50 h
        exact hk34 _ _ h
      · replace h := ifn_ c50 h
        refine a_aload_n 0 dX8_book_60 rfl rfl ?_
        refine a_getI kc_8 4 (by decide) rfl hf33 q1558 dX8_book_61 ?_
        refine a_istore_n (ls' := [(3, vI_ (gI_ m47 p32 4)), (0, vR_ (some p32)), (2, vI_ x42)]) dX8_book_64 rfl (Nat.le_of_ble_eq_true rfl) rfl ?_
        refine a_aload_n 1 dX8_book_65 rfl rfl ?_
        refine a_iconst (v := 0) dX8_book_66 (by decide) ?_
        refine a_sipush (v := 499) dX8_book_67 (by decide) ?_
        obtain ⟨v53, m51, e52, h⟩ := bm_some h
        have he52 := e_X8_readNumber (G := G) hl hf33 e52
        refine c_I he52.1 (rn_V (n := 2) (As := [vI_ 0, vI_ 499]) kc_8 hf33 he52 (lw_V q1800 q1802 qs42 q97 q1803) (by decide +kernel) rfl (Nat.le_of_ble_eq_true rfl) (Nat.le_of_ble_eq_true rfl) (Nat.le_of_ble_eq_true rfl) dX8_book_70) (fun z => (os_av (As := [vI_ 0, vI_ 499]) z).2.1) ?_
        refine a_istore (ls' := [(4, vI_ v53), (3, vI_ (gI_ m47 p32 4)), (0, vR_ (some p32)), (2, vI_ x42)]) dX8_book_73 (Nat.le_of_ble_eq_true rfl) rfl ?_
        refine a_iconst (v := 0) dX8_book_75 (by decide) ?_
        refine a_istore (ls' := [(5, vI_ 0), (4, vI_ v53), (3, vI_ (gI_ m47 p32 4)), (0, vR_ (some p32)), (2, vI_ x42)]) dX8_book_76 (Nat.le_of_ble_eq_true rfl) rfl ?_
        obtain ⟨k54, e112, h⟩ := jn1_some h
        have hk54 : ∀  (m55 : pm_M), k54 m55 = some (r, m') → AW_ cX8_book RX8 (some (.int), "book", 4, 6, m0, m', (.inl (some (vI_ r))), G, l, [], true) m55 117 [(0, vR_ (some p32)), (2, vI_ x42), (3, vI_ (gI_ m47 p32 4)), (4, vI_ v53)] [] := by
          intro m55 h
          have h := (e112 m55).symm.trans h
          refine a_aload_n 0 dX8_book_117 rfl rfl ?_
          obtain ⟨v58, m56, e57, h⟩ := bm_some h
          have he57 := e_X8_fine (G := G) hl hf33 e57
          refine c_I he57.1 (rn_V (n := 0) (As := []) kc_8 hf33 he57 (lw_V q1752 q1754 qs34 q97 q1755) (by decide +kernel) rfl (Nat.le_of_ble_eq_true rfl) (Nat.le_of_ble_eq_true rfl) (Nat.le_of_ble_eq_true rfl) dX8_book_118) (fun z => (os_av (As := []) z).2.1) ?_
          obtain ⟨k59, e88, h⟩ := jn1_some h
          have hk59 : ∀  (m60 : pm_M), k59 m60 = some (r, m') → AW_ cX8_book RX8 (some (.int), "book", 4, 6, m0, m', (.inl (some (vI_ r))), G, l, [], true) m60 136 [(0, vR_ (some p32)), (2, vI_ x42), (4, vI_ v53)] [] := by
            intro m60 h
            have h := (e88 m60).symm.trans h
            refine a_aload_n 0 dX8_book_136 rfl rfl ?_
            refine a_iconst (v := 0) dX8_book_137 (by decide) ?_
            refine a_sipush (v := 999) dX8_book_138 (by decide) ?_
            obtain ⟨v63, m61, e62, h⟩ := bm_some h
            have he62 := e_X8_readNumber (G := G) hl hf33 e62
            refine c_I he62.1 (rn_V (n := 2) (As := [vI_ 0, vI_ 999]) kc_8 hf33 he62 (lw_V q1800 q1802 qs42 q97 q1803) (by decide +kernel) rfl (Nat.le_of_ble_eq_true rfl) (Nat.le_of_ble_eq_true rfl) (Nat.le_of_ble_eq_true rfl) dX8_book_141) (fun z => (os_av (As := [vI_ 0, vI_ 999]) z).2.1) ?_
            refine a_istore (ls' := [(5, vI_ v63), (0, vR_ (some p32)), (2, vI_ x42), (4, vI_ v53)]) dX8_book_144 (Nat.le_of_ble_eq_true rfl) rfl ?_
            refine a_aload_n 1 dX8_book_146 rfl rfl ?_
            refine a_bipush (v := 59) dX8_book_147 (by decide) ?_
            obtain ⟨v66, m64, e65, h⟩ := bm_some h
            have he65 := e_X8_sign (G := G) hl hf33 e65
            refine c_V he65.1 (rn_V (n := 1) (As := [vI_ 59]) kc_8 hf33 he65 (lw_V q1811 q1813 qs44 q97 q1814) (by decide +kernel) rfl (Nat.le_of_ble_eq_true rfl) (Nat.le_of_ble_eq_true rfl) (Nat.le_of_ble_eq_true rfl) dX8_book_149) (fun z => (os_av (As := [vI_ 59]) z).2.1) ?_
            refine a_aload_n 1 dX8_book_152 rfl rfl ?_
            obtain ⟨v69, m67, e68, h⟩ := bm_some h
            have he68 := e_X8_fine (G := G) hl hf33 e68
            refine c_I he68.1 (rn_V (n := 0) (As := []) kc_8 hf33 he68 (lw_V q1752 q1754 qs34 q97 q1755) (by decide +kernel) rfl (Nat.le_of_ble_eq_true rfl) (Nat.le_of_ble_eq_true rfl) (Nat.le_of_ble_eq_true rfl) dX8_book_153) (fun z => (os_av (As := []) z).2.1) ?_
            refine a_if_ne (tgt := 162) dX8_book_156 (by decide) (fun c70 => ?_) (fun c70 => ?_)
            · replace h := ifn_ c70 h
              refine a_aload_n 1 dX8_book_162 rfl rfl ?_
              refine a_getR kc_8 43 (by decide) rfl hf33 q1597 dX8_book_163 ?_
              refine a_iconst (v := 2) dX8_book_166 (by decide) ?_
              refine a_iload_n 2 dX8_book_167 rfl rfl ?_
              refine a_imul dX8_book_168 ?_
              refine a_iload 3 dX8_book_169 rfl ?_
              obtain ⟨a71, e72, f73, h⟩ := gd_some h
              rw [e72]
              obtain ⟨c74, h⟩ := iz_some h
              obtain ⟨m75, e76, h⟩ := lt_some h
              refine a_iast f73 (bn_ c74) dX8_book_171 ?_
              rw [← e76]
              refine a_aload_n 1 dX8_book_172 rfl rfl ?_
              refine a_getR kc_8 43 (by decide) rfl hf33 q1597 dX8_book_173 ?_
              refine a_iconst (v := 2) dX8_book_176 (by decide) ?_
              refine a_iload_n 2 dX8_book_177 rfl rfl ?_
              refine a_imul dX8_book_178 ?_
              refine a_iconst (v := 1) dX8_book_179 (by decide) ?_
              refine a_iadd dX8_book_180 ?_
              refine a_iload 0 dX8_book_181 rfl ?_
              obtain ⟨a77, e78, f79, h⟩ := gd_some h
              rw [e78]
              obtain ⟨c80, h⟩ := iz_some h
              obtain ⟨m81, e82, h⟩ := lt_some h
              refine a_iast f79 (bn_ c80) dX8_book_183 ?_
              rw [← e82]
              refine a_iinc (v := x42 + 1) (ls' := [(2, vI_ (x42 + 1)), (5, vI_ v63), (0, vR_ (some p32)), (4, vI_ v53)]) 2 dX8_book_184 rfl rfl (Nat.le_of_ble_eq_true rfl) rfl ?_
              refine a_goto (tgt := 46) dX8_book_187 (by decide) ?_
              refine aw_pick [2, 0] rfl ?_
              exact ih _ _ h
            · replace h := ifp_ c70 h
              refine aw_pick [1, 2] rfl ?_
              exact hk37 _ _ h
          refine a_if_eq (tgt := 136) dX8_book_121 (by decide) (fun c83 => ?_) (fun c83 => ?_)
          · replace h := ifp_ c83 h
            refine aw_pick [0, 1, 3] rfl ?_
            exact hk59 _ h
          · replace h := ifn_ c83 h
            refine a_iload_n 1 dX8_book_124 rfl rfl ?_
            refine a_bipush (v := 8) dX8_book_125 (by decide) ?_
            refine a_icmp_ne (tgt := 136) dX8_book_127 (by decide) (fun c84 => ?_) (fun c84 => ?_)
            · replace h := ifn_ c84 h
              refine aw_pick [0, 1, 3] rfl ?_
              exact hk59 _ h
            · replace h := ifp_ c84 h
              refine a_aload_n 0 dX8_book_130 rfl rfl ?_
              refine a_iconst (v := 3) dX8_book_131 (by decide) ?_
              refine a_iload_n 2 dX8_book_132 rfl rfl ?_
              obtain ⟨v87, m85, e86, h⟩ := bm_some h
              have he86 := e_X8_wrong (G := G) hl hf33 e86
              refine c_V he86.1 (rn_V (n := 2) (As := [vI_ 3, vI_ (gI_ m47 p32 4)]) kc_8 hf33 he86 (lw_V q1788 q1790 qs39 q97 q1791) (by decide +kernel) rfl (Nat.le_of_ble_eq_true rfl) (Nat.le_of_ble_eq_true rfl) (Nat.le_of_ble_eq_true rfl) dX8_book_133) (fun z => (os_av (As := [vI_ 3, vI_ (gI_ m47 p32 4)]) z).2.1) ?_
              refine aw_pick [0, 1, 3] rfl ?_
              exact hk59 _ h
        refine aw_pick [3, 4, 2, 1, 0] rfl ?_
        exact w_X8_book_L78 hl _ _ _ _ _ hf33 hk54 _ _ _ h
def f_X8_book (F : Nat)  (t : pm_A) (i0 : Int32) (m : pm_M) : Option (Int32 × pm_M) :=
  lt_ (pI_ m t 0 0) fun m1 =>
  jn_ (fun (y5 : Option pm_A) (y6 : Int32) (m4 : pm_M) =>
    gd_ 8 y5 fun a7 =>
    bm_ (f_X8_may F a7 y6 1 1 m4) fun v12 m10 =>
    if v12 = 0 then
      some (0, m10)
    else
      bm_ (f_X8_begins F t i0 m10) fun v16 m14 =>
      jn_ (fun (x19 : Int32) (m18 : pm_M) =>
        bm_ (f_X8_result F t x19 m18) fun v22 m20 =>
        if (gI_ m20 t 5) = ((-1)) then
          lt_ (pI_ m20 t 45 x19) fun m24 =>
          bm_ (f_X8_copies F t (gR_ m24 t 43) (gR_ m24 t 44) (2 * x19) m24) fun v28 m26 =>
          some (v22, m26)
        else
          some (v22, m20)
      ) fun k17 =>
      jn_ (fun (x31 : Int32) (m30 : pm_M) =>
        k17 x31 m30
      ) fun k29 =>
      f_X8_book_L46 F t k17 k29 F 0 m14
  ) fun k3 =>
  jn_ (fun (y117 : Option pm_A) (m116 : pm_M) =>
    k3 y117 0 m116
  ) fun k115 =>
  if i0 < 0 then
    k115 (some t) m1
  else
    if (gI_ m1 t 2) < i0 then
      k115 (some t) m1
    else
      if 100 < i0 then
        k115 (some t) m1
      else
        k3 (some t) 1 m1
set_option maxHeartbeats 4000000 in
theorem e_X8_book {G : xg_T} {l : Launch} (hl : l.stackTraces = false) {F : Nat}    {t : pm_A} {i0 : Int32} {m0 m' : pm_M} {r : Int32} (ht : t.1 = 8) (h : f_X8_book F t i0 m0 = some (r, m')) : Cal_ G l yX8_book (ws_ yX8_book cX8_book 6 (some .int)) 4 [vR_ (some t), vI_ i0] m0 (.inl (some (vI_ r))) m' := by
  refine cal_of (by decide +kernel) (Nat.le_of_ble_eq_true rfl) ?_
  unfold f_X8_book at h
  show AW_ cX8_book RX8 (some (.int), "book", 4, 6, m0, m', (.inl (some (vI_ r))), G, l, [], true) m0 0 [(0, vR_ (some t)), (1, vI_ i0)] []
  refine a_aload_n 0 dX8_book_0 rfl rfl ?_
  refine a_iconst (v := 0) dX8_book_1 (by decide) ?_
  obtain ⟨m1, e2, h⟩ := lt_some h
  refine a_putI kc_8 0 (by decide) rfl ht q1554 rfl rfl rfl dX8_book_2 ?_
  rw [← e2]
  refine a_aload_n 0 dX8_book_5 rfl rfl ?_
  refine a_iload_n 1 dX8_book_6 rfl rfl ?_
  obtain ⟨k3, e122, h⟩ := jn3_some h
  have hk3 : ∀ (y5 : Option pm_A) (y6 : Int32) (m4 : pm_M), k3 y5 y6 m4 = some (r, m') → AW_ cX8_book RX8 (some (.int), "book", 4, 6, m0, m', (.inl (some (vI_ r))), G, l, [], true) m4 29 [(0, vR_ (some t)), (1, vI_ i0)] [vI_ y6, vR_ y5] := by
    intro y5 y6 m4 h
    have h := (e122 y5 y6 m4).symm.trans h
    refine a_iconst (v := 1) dX8_book_29 (by decide) ?_
    refine a_iconst (v := 1) dX8_book_30 (by decide) ?_
    obtain ⟨a7, e8, f9, h⟩ := gd_some h
    rw [e8]
    obtain ⟨v12, m10, e11, h⟩ := bm_some h
    have he11 := e_X8_may (G := G) hl f9 e11
    refine c_I he11.1 (rn_V (n := 3) (As := [vI_ y6, vI_ 1, vI_ 1]) kc_8 f9 he11 (lw_V q1744 q1746 qs32 q97 q1747) (by decide +kernel) rfl (Nat.le_of_ble_eq_true rfl) (Nat.le_of_ble_eq_true rfl) (Nat.le_of_ble_eq_true rfl) dX8_book_31) (fun z => (os_av (As := [vI_ y6, vI_ 1, vI_ 1]) z).2.1) ?_
    refine a_if_ne (tgt := 39) dX8_book_34 (by decide) (fun c13 => ?_) (fun c13 => ?_)
    · replace h := ifn_ c13 h
      refine a_aload_n 0 dX8_book_39 rfl rfl ?_
      refine a_iload_n 1 dX8_book_40 rfl rfl ?_
      obtain ⟨v16, m14, e15, h⟩ := bm_some h
      have he15 := e_X8_begins (G := G) hl ht e15
      refine c_V he15.1 (rn_V (n := 1) (As := [vI_ i0]) kc_8 ht he15 (lw_V q1748 q1750 qs33 q97 q1751) (by decide +kernel) rfl (Nat.le_of_ble_eq_true rfl) (Nat.le_of_ble_eq_true rfl) (Nat.le_of_ble_eq_true rfl) dX8_book_41) (fun z => (os_av (As := [vI_ i0]) z).2.1) ?_
      refine a_iconst (v := 0) dX8_book_44 (by decide) ?_
      refine a_istore_n (ls' := [(2, vI_ 0), (0, vR_ (some t)), (1, vI_ i0)]) dX8_book_45 rfl (Nat.le_of_ble_eq_true rfl) rfl ?_
      obtain ⟨k17, e114, h⟩ := jn2_some h
      have hk17 : ∀ (x19 : Int32) (m18 : pm_M), k17 x19 m18 = some (r, m') → AW_ cX8_book RX8 (some (.int), "book", 4, 6, m0, m', (.inl (some (vI_ r))), G, l, [], true) m18 190 [(0, vR_ (some t)), (2, vI_ x19)] [] := by
        intro x19 m18 h
        have h := (e114 x19 m18).symm.trans h
        refine a_aload_n 0 dX8_book_190 rfl rfl ?_
        refine a_iload_n 1 dX8_book_191 rfl rfl ?_
        obtain ⟨v22, m20, e21, h⟩ := bm_some h
        have he21 := e_X8_result (G := G) hl ht e21
        refine c_I he21.1 (rn_V (n := 1) (As := [vI_ x19]) kc_8 ht he21 (lw_V q1815 q1817 qs45 q97 q1818) (by decide +kernel) rfl (Nat.le_of_ble_eq_true rfl) (Nat.le_of_ble_eq_true rfl) (Nat.le_of_ble_eq_true rfl) dX8_book_192) (fun z => (os_av (As := [vI_ x19]) z).2.1) ?_
        refine a_istore_n (ls' := [(3, vI_ v22), (0, vR_ (some t)), (2, vI_ x19)]) dX8_book_195 rfl (Nat.le_of_ble_eq_true rfl) rfl ?_
        refine a_aload_n 1 dX8_book_196 rfl rfl ?_
        refine a_getI kc_8 5 (by decide) rfl ht q1559 dX8_book_197 ?_
        refine a_iconst (v := (-1)) dX8_book_200 (by decide) ?_
        refine a_icmp_eq (tgt := 206) dX8_book_201 (by decide) (fun c23 => ?_) (fun c23 => ?_)
        · replace h := ifp_ c23 h
          refine a_aload_n 1 dX8_book_206 rfl rfl ?_
          refine a_iload_n 2 dX8_book_207 rfl rfl ?_
          obtain ⟨m24, e25, h⟩ := lt_some h
          refine a_putI kc_8 45 (by decide) rfl ht q1599 rfl rfl rfl dX8_book_208 ?_
          rw [← e25]
          refine a_aload_n 1 dX8_book_211 rfl rfl ?_
          refine a_aload_n 1 dX8_book_212 rfl rfl ?_
          refine a_getR kc_8 43 (by decide) rfl ht q1597 dX8_book_213 ?_
          refine a_aload_n 1 dX8_book_216 rfl rfl ?_
          refine a_getR kc_8 44 (by decide) rfl ht q1598 dX8_book_217 ?_
          refine a_iconst (v := 2) dX8_book_220 (by decide) ?_
          refine a_iload_n 2 dX8_book_221 rfl rfl ?_
          refine a_imul dX8_book_222 ?_
          obtain ⟨v28, m26, e27, h⟩ := bm_some h
          have he27 := e_X8_copies (G := G) hl ht e27
          refine c_V he27.1 (rn_V (n := 3) (As := [vR_ (gR_ m24 t 43), vR_ (gR_ m24 t 44), vI_ (2 * x19)]) kc_8 ht he27 (lw_V q1550 q1552 qs31 q97 q1553) (by decide +kernel) rfl (Nat.le_of_ble_eq_true rfl) (Nat.le_of_ble_eq_true rfl) (Nat.le_of_ble_eq_true rfl) dX8_book_223) (fun z => (os_av (As := [vR_ (gR_ m24 t 43), vR_ (gR_ m24 t 44), vI_ (2 * x19)]) z).2.1) ?_
          refine a_iload_n 0 dX8_book_226 rfl rfl ?_
          cases h
          exact a_ireturn rfl rfl rfl rfl rfl dX8_book_227
        · replace h := ifn_ c23 h
          refine a_iload_n 0 dX8_book_204 rfl rfl ?_
          cases h
          exact a_ireturn rfl rfl rfl rfl rfl dX8_book_205
      obtain ⟨k29, e113, h⟩ := jn2_some h
      have hk29 : ∀ (x31 : Int32) (m30 : pm_M), k29 x31 m30 = some (r, m') → AW_ cX8_book RX8 (some (.int), "book", 4, 6, m0, m', (.inl (some (vI_ r))), G, l, [], true) m30 159 [(0, vR_ (some t)), (2, vI_ x31)] [] := by
        intro x31 m30 h
        have h := (e113 x31 m30).symm.trans h
        refine a_goto (tgt := 190) dX8_book_159 (by decide) ?_
        exact hk17 _ _ h
      refine aw_pick [1, 0] rfl ?_
      exact w_X8_book_L46 hl _ _ _ ht hk17 hk29 _ _ _ h
    · replace h := ifp_ c13 h
      refine a_iconst (v := 0) dX8_book_37 (by decide) ?_
      cases h
      exact a_ireturn rfl rfl rfl rfl rfl dX8_book_38
  obtain ⟨k115, e121, h⟩ := jn2_some h
  have hk115 : ∀ (y117 : Option pm_A) (m116 : pm_M), k115 y117 m116 = some (r, m') → AW_ cX8_book RX8 (some (.int), "book", 4, 6, m0, m', (.inl (some (vI_ r))), G, l, [], true) m116 28 [(0, vR_ (some t)), (1, vI_ i0)] [vR_ y117] := by
    intro y117 m116 h
    have h := (e121 y117 m116).symm.trans h
    refine a_iconst (v := 0) dX8_book_28 (by decide) ?_
    exact hk3 _ _ _ h
  refine a_if_lt (tgt := 28) dX8_book_7 (by decide) (fun c118 => ?_) (fun c118 => ?_)
  · replace h := ifp_ c118 h
    exact hk115 _ _ h
  · replace h := ifn_ c118 h
    refine a_iload_n 1 dX8_book_10 rfl rfl ?_
    refine a_aload_n 0 dX8_book_11 rfl rfl ?_
    refine a_getI kc_8 2 (by decide) rfl ht q1556 dX8_book_12 ?_
    refine a_icmp_gt (tgt := 28) dX8_book_15 (by decide) (fun c119 => ?_) (fun c119 => ?_)
    · replace h := ifp_ c119 h
      exact hk115 _ _ h
    · replace h := ifn_ c119 h
      refine a_iload_n 1 dX8_book_18 rfl rfl ?_
      refine a_bipush (v := 100) dX8_book_19 (by decide) ?_
      refine a_icmp_gt (tgt := 28) dX8_book_21 (by decide) (fun c120 => ?_) (fun c120 => ?_)
      · replace h := ifp_ c120 h
        exact hk115 _ _ h
      · replace h := ifn_ c120 h
        refine a_iconst (v := 1) dX8_book_24 (by decide) ?_
        refine a_goto (tgt := 29) dX8_book_25 (by decide) ?_
        exact hk3 _ _ _ h
def f_X8_undo_L26 (F : Nat)  (p10 : pm_A) (k12 : pm_M → Option (Int32 × pm_M)) : Nat → Int32 → pm_M → Option (Int32 × pm_M)
  | 0, _, _ => none
  | n14 + 1, x16, m15 =>
    if 66 ≤ x16 then
      k12 m15
    else
      gd_ 100 (gR_ m15 p10 39) fun a18 =>
      iz_ (!(ib_ ((66 * (gI_ m15 p10 32)) + x16) a18.2.1)) <|
      gd_ 100 (gR_ m15 p10 37) fun a22 =>
      iz_ (!(ib_ x16 a22.2.1)) <|
      lt_ (pI_ m15 a22 x16.toNatClampNeg (gI_ m15 a18 ((66 * (gI_ m15 p10 32)) + x16).toNatClampNeg)) fun m26 =>
      (f_X8_undo_L26 F p10 k12 n14) (x16 + 1) m26
set_option maxHeartbeats 4000000 in
theorem w_X8_undo_L26 {G : xg_T} {l : Launch} (hl : l.stackTraces = false) {F : Nat}    (p10 : pm_A) (k12 : pm_M → Option (Int32 × pm_M)) {m0 m' : pm_M} {r : Int32} (hf11 : p10.1 = 8) (hk12 : ∀ (m13 : pm_M), k12 m13 = some (r, m') → AW_ cX8_undo RX8 (some (.int), "undo", 2, 2, m0, m', (.inl (some (vI_ r))), G, l, [], true) m13 58 [(0, vR_ (some p10))] []) : ∀ (n : Nat) (x16 : Int32) (m15 : pm_M), f_X8_undo_L26 F p10 k12 n x16 m15 = some (r, m') → AW_ cX8_undo RX8 (some (.int), "undo", 2, 2, m0, m', (.inl (some (vI_ r))), G, l, [], true) m15 26 [(0, vR_ (some p10)), (1, vI_ x16)] [] := by
  intro n
  induction n with
  | zero => intro x16 m15 h; cases h
  | succ n14 ih =>
    intro x16 m15 h
    rw [f_X8_undo_L26] at h
    refine a_iload_n 1 dX8_undo_26 rfl rfl ?_
    refine a_bipush (v := 66) dX8_undo_27 (by decide) ?_
    refine a_icmp_ge (tgt := 58) dX8_undo_29 (by decide) (fun c17 => ?_) (fun c17 => ?_)
    · replace h := ifp_ c17 h
      refine aw_pick [0] rfl ?_
      exact hk12 _ h
    · replace h := ifn_ c17 h
      refine a_aload_n 0 dX8_undo_32 rfl rfl ?_
      refine a_getR kc_8 37 (by decide) rfl hf11 q1591 dX8_undo_33 ?_
      refine a_iload_n 1 dX8_undo_36 rfl rfl ?_
      refine a_aload_n 0 dX8_undo_37 rfl rfl ?_
      refine a_getR kc_8 39 (by decide) rfl hf11 q1593 dX8_undo_38 ?_
      refine a_bipush (v := 66) dX8_undo_41 (by decide) ?_
      refine a_aload_n 0 dX8_undo_43 rfl rfl ?_
      refine a_getI kc_8 32 (by decide) rfl hf11 q1586 dX8_undo_44 ?_
      refine a_imul dX8_undo_47 ?_
      refine a_iload_n 1 dX8_undo_48 rfl rfl ?_
      refine a_iadd dX8_undo_49 ?_
      obtain ⟨a18, e19, f20, h⟩ := gd_some h
      rw [e19]
      obtain ⟨c21, h⟩ := iz_some h
      refine a_iald f20 (bn_ c21) dX8_undo_50 ?_
      obtain ⟨a22, e23, f24, h⟩ := gd_some h
      rw [e23]
      obtain ⟨c25, h⟩ := iz_some h
      obtain ⟨m26, e27, h⟩ := lt_some h
      refine a_iast f24 (bn_ c25) dX8_undo_51 ?_
      rw [← e27]
      refine a_iinc (v := x16 + 1) (ls' := [(1, vI_ (x16 + 1)), (0, vR_ (some p10))]) 1 dX8_undo_52 rfl rfl (Nat.le_of_ble_eq_true rfl) rfl ?_
      refine a_goto (tgt := 26) dX8_undo_55 (by decide) ?_
      refine aw_pick [1, 0] rfl ?_
      exact ih _ _ h
def f_X8_undo (F : Nat)  (t : pm_A) (m : pm_M) : Option (Int32 × pm_M) :=
  lt_ (pI_ m t 0 0) fun m1 =>
  if (gI_ m1 t 32) = 0 then
    some (((-1)), m1)
  else
    lt_ (pI_ m1 t 32 ((gI_ m1 t 32) - 1)) fun m4 =>
    jn_ (fun  (m7 : pm_M) =>
      lt_ (pI_ m7 t 33 0) fun m8 =>
      some ((gI_ m8 t 32), m8)
    ) fun k6 =>
    f_X8_undo_L26 F t k6 F 0 m4
set_option maxHeartbeats 4000000 in
theorem e_X8_undo {G : xg_T} {l : Launch} (hl : l.stackTraces = false) {F : Nat}    {t : pm_A} {m0 m' : pm_M} {r : Int32} (ht : t.1 = 8) (h : f_X8_undo F t m0 = some (r, m')) : Cal_ G l yX8_undo (ws_ yX8_undo cX8_undo 2 (some .int)) 2 [vR_ (some t)] m0 (.inl (some (vI_ r))) m' := by
  refine cal_of (by decide +kernel) (Nat.le_of_ble_eq_true rfl) ?_
  unfold f_X8_undo at h
  show AW_ cX8_undo RX8 (some (.int), "undo", 2, 2, m0, m', (.inl (some (vI_ r))), G, l, [], true) m0 0 [(0, vR_ (some t))] []
  refine a_aload_n 0 dX8_undo_0 rfl rfl ?_
  refine a_iconst (v := 0) dX8_undo_1 (by decide) ?_
  obtain ⟨m1, e2, h⟩ := lt_some h
  refine a_putI kc_8 0 (by decide) rfl ht q1554 rfl rfl rfl dX8_undo_2 ?_
  rw [← e2]
  refine a_aload_n 0 dX8_undo_5 rfl rfl ?_
  refine a_getI kc_8 32 (by decide) rfl ht q1586 dX8_undo_6 ?_
  refine a_if_ne (tgt := 14) dX8_undo_9 (by decide) (fun c3 => ?_) (fun c3 => ?_)
  · replace h := ifn_ c3 h
    refine a_aload_n 0 dX8_undo_14 rfl rfl ?_
    refine a_dup dX8_undo_15 rfl ?_
    refine a_getI kc_8 32 (by decide) rfl ht q1586 dX8_undo_16 ?_
    refine a_iconst (v := 1) dX8_undo_19 (by decide) ?_
    refine a_isub dX8_undo_20 ?_
    obtain ⟨m4, e5, h⟩ := lt_some h
    refine a_putI kc_8 32 (by decide) rfl ht q1586 rfl rfl rfl dX8_undo_21 ?_
    rw [← e5]
    refine a_iconst (v := 0) dX8_undo_24 (by decide) ?_
    refine a_istore_n (ls' := [(1, vI_ 0), (0, vR_ (some t))]) dX8_undo_25 rfl (Nat.le_of_ble_eq_true rfl) rfl ?_
    obtain ⟨k6, e28, h⟩ := jn1_some h
    have hk6 : ∀  (m7 : pm_M), k6 m7 = some (r, m') → AW_ cX8_undo RX8 (some (.int), "undo", 2, 2, m0, m', (.inl (some (vI_ r))), G, l, [], true) m7 58 [(0, vR_ (some t))] [] := by
      intro m7 h
      have h := (e28 m7).symm.trans h
      refine a_aload_n 0 dX8_undo_58 rfl rfl ?_
      refine a_iconst (v := 0) dX8_undo_59 (by decide) ?_
      obtain ⟨m8, e9, h⟩ := lt_some h
      refine a_putI kc_8 33 (by decide) rfl ht q1587 rfl rfl rfl dX8_undo_60 ?_
      rw [← e9]
      refine a_aload_n 0 dX8_undo_63 rfl rfl ?_
      refine a_getI kc_8 32 (by decide) rfl ht q1586 dX8_undo_64 ?_
      cases h
      exact a_ireturn rfl rfl rfl rfl rfl dX8_undo_67
    refine aw_pick [1, 0] rfl ?_
    exact w_X8_undo_L26 hl _ _ ht hk6 _ _ _ h
  · replace h := ifp_ c3 h
    refine a_iconst (v := (-1)) dX8_undo_12 (by decide) ?_
    cases h
    exact a_ireturn rfl rfl rfl rfl rfl dX8_undo_13
def f_X8_told (F : Nat)  (t : pm_A) (i0 : Int32) (m : pm_M) : Option (Int32 × pm_M) :=
  lt_ (pI_ m t 0 0) fun m1 =>
  bm_ (f_X8_within F i0 0 10 m1) fun v5 m3 =>
  bm_ (f_X8_may F t v5 1 1 m3) fun v8 m6 =>
  if v8 = 0 then
    some (0, m6)
  else
    bm_ (f_X8_take F t m6) fun v12 m10 =>
    if 4 ≤ i0 then
      if 8 ≤ i0 then
        if i0 = 8 then
          some ((gI_ m10 t 45), m10)
        else
          if i0 = 9 then
            some ((gI_ m10 t 33), m10)
          else
            some ((gI_ m10 t 20), m10)
      else
        bm_ (f_X8_many F t (i0 - 4) m10) fun v19 m17 =>
        some (v19, m17)
    else
      if i0 = 0 then
        some ((gI_ m10 t 18), m10)
      else
        if i0 = 1 then
          some ((gI_ m10 t 19), m10)
        else
          if i0 = 2 then
            gd_ 100 (gR_ m10 t 38) fun a27 =>
            iz_ (!(ib_ 64 a27.2.1)) <|
            some ((gI_ m10 a27 (64 : Int32).toNatClampNeg), m10)
          else
            gd_ 100 (gR_ m10 t 38) fun a23 =>
            iz_ (!(ib_ 65 a23.2.1)) <|
            some ((gI_ m10 a23 (65 : Int32).toNatClampNeg), m10)
set_option maxHeartbeats 4000000 in
theorem e_X8_told {G : xg_T} {l : Launch} (hl : l.stackTraces = false) {F : Nat}    {t : pm_A} {i0 : Int32} {m0 m' : pm_M} {r : Int32} (ht : t.1 = 8) (h : f_X8_told F t i0 m0 = some (r, m')) : Cal_ G l yX8_told (ws_ yX8_told cX8_told 2 (some .int)) 4 [vR_ (some t), vI_ i0] m0 (.inl (some (vI_ r))) m' := by
  refine cal_of (by decide +kernel) (Nat.le_of_ble_eq_true rfl) ?_
  unfold f_X8_told at h
  show AW_ cX8_told RX8 (some (.int), "told", 4, 2, m0, m', (.inl (some (vI_ r))), G, l, [], true) m0 0 [(0, vR_ (some t)), (1, vI_ i0)] []
  refine a_aload_n 0 dX8_told_0 rfl rfl ?_
  refine a_iconst (v := 0) dX8_told_1 (by decide) ?_
  obtain ⟨m1, e2, h⟩ := lt_some h
  refine a_putI kc_8 0 (by decide) rfl ht q1554 rfl rfl rfl dX8_told_2 ?_
  rw [← e2]
  refine a_aload_n 0 dX8_told_5 rfl rfl ?_
  refine a_iload_n 1 dX8_told_6 rfl rfl ?_
  refine a_iconst (v := 0) dX8_told_7 (by decide) ?_
  refine a_bipush (v := 10) dX8_told_8 (by decide) ?_
  obtain ⟨v5, m3, e4, h⟩ := bm_some h
  have he4 := e_X8_within (G := G) hl e4
  refine c_I he4.1 (rn_S (n := 3) (As := [vI_ i0, vI_ 0, vI_ 10]) he4 (lw_S q1823 q1824 q97 q1825) (by decide +kernel) rfl (Nat.le_of_ble_eq_true rfl) (Nat.le_of_ble_eq_true rfl) (Nat.le_of_ble_eq_true rfl) dX8_told_10) (fun z => (os_aS (As := [vI_ i0, vI_ 0, vI_ 10]) z).2) ?_
  refine a_iconst (v := 1) dX8_told_13 (by decide) ?_
  refine a_iconst (v := 1) dX8_told_14 (by decide) ?_
  obtain ⟨v8, m6, e7, h⟩ := bm_some h
  have he7 := e_X8_may (G := G) hl ht e7
  refine c_I he7.1 (rn_V (n := 3) (As := [vI_ v5, vI_ 1, vI_ 1]) kc_8 ht he7 (lw_V q1744 q1746 qs32 q97 q1747) (by decide +kernel) rfl (Nat.le_of_ble_eq_true rfl) (Nat.le_of_ble_eq_true rfl) (Nat.le_of_ble_eq_true rfl) dX8_told_15) (fun z => (os_av (As := [vI_ v5, vI_ 1, vI_ 1]) z).2.1) ?_
  refine a_if_ne (tgt := 23) dX8_told_18 (by decide) (fun c9 => ?_) (fun c9 => ?_)
  · replace h := ifn_ c9 h
    refine a_aload_n 0 dX8_told_23 rfl rfl ?_
    obtain ⟨v12, m10, e11, h⟩ := bm_some h
    have he11 := e_X8_take (G := G) hl ht e11
    refine c_V he11.1 (rn_V (n := 0) (As := []) kc_8 ht he11 (lw_V q1888 q1890 qs56 q97 q1891) (by decide +kernel) rfl (Nat.le_of_ble_eq_true rfl) (Nat.le_of_ble_eq_true rfl) (Nat.le_of_ble_eq_true rfl) dX8_told_24) (fun z => (os_av (As := []) z).2.1) ?_
    refine a_iload_n 1 dX8_told_27 rfl rfl ?_
    refine a_iconst (v := 4) dX8_told_28 (by decide) ?_
    refine a_icmp_ge (tgt := 78) dX8_told_29 (by decide) (fun c13 => ?_) (fun c13 => ?_)
    · replace h := ifp_ c13 h
      refine a_iload_n 1 dX8_told_78 rfl rfl ?_
      refine a_bipush (v := 8) dX8_told_79 (by decide) ?_
      refine a_icmp_ge (tgt := 92) dX8_told_81 (by decide) (fun c14 => ?_) (fun c14 => ?_)
      · replace h := ifp_ c14 h
        refine a_iload_n 1 dX8_told_92 rfl rfl ?_
        refine a_bipush (v := 8) dX8_told_93 (by decide) ?_
        refine a_icmp_ne (tgt := 105) dX8_told_95 (by decide) (fun c15 => ?_) (fun c15 => ?_)
        · replace h := ifn_ c15 h
          refine a_iload_n 1 dX8_told_105 rfl rfl ?_
          refine a_bipush (v := 9) dX8_told_106 (by decide) ?_
          refine a_icmp_ne (tgt := 118) dX8_told_108 (by decide) (fun c16 => ?_) (fun c16 => ?_)
          · replace h := ifn_ c16 h
            refine a_aload_n 0 dX8_told_118 rfl rfl ?_
            refine a_getI kc_8 20 (by decide) rfl ht q1574 dX8_told_119 ?_
            cases h
            exact a_ireturn rfl rfl rfl rfl rfl dX8_told_122
          · replace h := ifp_ c16 h
            refine a_aload_n 0 dX8_told_111 rfl rfl ?_
            refine a_getI kc_8 33 (by decide) rfl ht q1587 dX8_told_112 ?_
            refine a_goto (tgt := 122) dX8_told_115 (by decide) ?_
            cases h
            exact a_ireturn rfl rfl rfl rfl rfl dX8_told_122
        · replace h := ifp_ c15 h
          refine a_aload_n 0 dX8_told_98 rfl rfl ?_
          refine a_getI kc_8 45 (by decide) rfl ht q1599 dX8_told_99 ?_
          refine a_goto (tgt := 122) dX8_told_102 (by decide) ?_
          cases h
          exact a_ireturn rfl rfl rfl rfl rfl dX8_told_122
      · replace h := ifn_ c14 h
        refine a_aload_n 0 dX8_told_84 rfl rfl ?_
        refine a_iload_n 1 dX8_told_85 rfl rfl ?_
        refine a_iconst (v := 4) dX8_told_86 (by decide) ?_
        refine a_isub dX8_told_87 ?_
        obtain ⟨v19, m17, e18, h⟩ := bm_some h
        have he18 := e_X8_many (G := G) hl ht e18
        refine c_I he18.1 (rn_V (n := 1) (As := [vI_ (i0 - 4)]) kc_8 ht he18 (lw_V q1904 q1906 qs60 q97 q1907) (by decide +kernel) rfl (Nat.le_of_ble_eq_true rfl) (Nat.le_of_ble_eq_true rfl) (Nat.le_of_ble_eq_true rfl) dX8_told_88) (fun z => (os_av (As := [vI_ (i0 - 4)]) z).2.1) ?_
        cases h
        exact a_ireturn rfl rfl rfl rfl rfl dX8_told_91
    · replace h := ifn_ c13 h
      refine a_iload_n 1 dX8_told_32 rfl rfl ?_
      refine a_if_ne (tgt := 43) dX8_told_33 (by decide) (fun c20 => ?_) (fun c20 => ?_)
      · replace h := ifn_ c20 h
        refine a_iload_n 1 dX8_told_43 rfl rfl ?_
        refine a_iconst (v := 1) dX8_told_44 (by decide) ?_
        refine a_icmp_ne (tgt := 55) dX8_told_45 (by decide) (fun c21 => ?_) (fun c21 => ?_)
        · replace h := ifn_ c21 h
          refine a_iload_n 1 dX8_told_55 rfl rfl ?_
          refine a_iconst (v := 2) dX8_told_56 (by decide) ?_
          refine a_icmp_ne (tgt := 70) dX8_told_57 (by decide) (fun c22 => ?_) (fun c22 => ?_)
          · replace h := ifn_ c22 h
            refine a_aload_n 0 dX8_told_70 rfl rfl ?_
            refine a_getR kc_8 38 (by decide) rfl ht q1592 dX8_told_71 ?_
            refine a_bipush (v := 65) dX8_told_74 (by decide) ?_
            obtain ⟨a23, e24, f25, h⟩ := gd_some h
            rw [e24]
            obtain ⟨c26, h⟩ := iz_some h
            refine a_iald f25 (bn_ c26) dX8_told_76 ?_
            cases h
            exact a_ireturn rfl rfl rfl rfl rfl dX8_told_77
          · replace h := ifp_ c22 h
            refine a_aload_n 0 dX8_told_60 rfl rfl ?_
            refine a_getR kc_8 38 (by decide) rfl ht q1592 dX8_told_61 ?_
            refine a_bipush (v := 64) dX8_told_64 (by decide) ?_
            obtain ⟨a27, e28, f29, h⟩ := gd_some h
            rw [e28]
            obtain ⟨c30, h⟩ := iz_some h
            refine a_iald f29 (bn_ c30) dX8_told_66 ?_
            refine a_goto (tgt := 77) dX8_told_67 (by decide) ?_
            cases h
            exact a_ireturn rfl rfl rfl rfl rfl dX8_told_77
        · replace h := ifp_ c21 h
          refine a_aload_n 0 dX8_told_48 rfl rfl ?_
          refine a_getI kc_8 19 (by decide) rfl ht q1573 dX8_told_49 ?_
          refine a_goto (tgt := 77) dX8_told_52 (by decide) ?_
          cases h
          exact a_ireturn rfl rfl rfl rfl rfl dX8_told_77
      · replace h := ifp_ c20 h
        refine a_aload_n 0 dX8_told_36 rfl rfl ?_
        refine a_getI kc_8 18 (by decide) rfl ht q1572 dX8_told_37 ?_
        refine a_goto (tgt := 77) dX8_told_40 (by decide) ?_
        cases h
        exact a_ireturn rfl rfl rfl rfl rfl dX8_told_77
  · replace h := ifp_ c9 h
    refine a_iconst (v := 0) dX8_told_21 (by decide) ?_
    cases h
    exact a_ireturn rfl rfl rfl rfl rfl dX8_told_22
def f_X8_isSigner (F : Nat)  (t : pm_A) (i0 : Int32) (i1 : Int32) (m : pm_M) : Option (Int32 × pm_M) :=
  bm_ (f_X8_within F i0 0 ((gI_ m t 18) - 1) m) fun v3 m1 =>
  bm_ (f_X8_may F t v3 i1 0 m1) fun v6 m4 =>
  iz_ (!(nr_ .boolean v6)) <|
  some (v6, m4)
set_option maxHeartbeats 4000000 in
theorem e_X8_isSigner {G : xg_T} {l : Launch} (hl : l.stackTraces = false) {F : Nat}    {t : pm_A} {i0 : Int32} {i1 : Int32} {m0 m' : pm_M} {r : Int32} (ht : t.1 = 8) (h : f_X8_isSigner F t i0 i1 m0 = some (r, m')) : Cal_ G l yX8_isSigner (ws_ yX8_isSigner cX8_isSigner 3 (some .boolean)) 3 [vR_ (some t), vI_ i0, vI_ i1] m0 (.inl (some (vI_ r))) m' := by
  refine cal_of (by decide +kernel) (Nat.le_of_ble_eq_true rfl) ?_
  unfold f_X8_isSigner at h
  show AW_ cX8_isSigner RX8 (some (.boolean), "isSigner", 3, 3, m0, m', (.inl (some (vI_ r))), G, l, [], true) m0 0 [(0, vR_ (some t)), (1, vI_ i0), (2, vI_ i1)] []
  refine a_aload_n 0 dX8_isSigner_0 rfl rfl ?_
  refine a_iload_n 1 dX8_isSigner_1 rfl rfl ?_
  refine a_iconst (v := 0) dX8_isSigner_2 (by decide) ?_
  refine a_aload_n 0 dX8_isSigner_3 rfl rfl ?_
  refine a_getI kc_8 18 (by decide) rfl ht q1572 dX8_isSigner_4 ?_
  refine a_iconst (v := 1) dX8_isSigner_7 (by decide) ?_
  refine a_isub dX8_isSigner_8 ?_
  obtain ⟨v3, m1, e2, h⟩ := bm_some h
  have he2 := e_X8_within (G := G) hl e2
  refine c_I he2.1 (rn_S (n := 3) (As := [vI_ i0, vI_ 0, vI_ ((gI_ m0 t 18) - 1)]) he2 (lw_S q1823 q1824 q97 q1825) (by decide +kernel) rfl (Nat.le_of_ble_eq_true rfl) (Nat.le_of_ble_eq_true rfl) (Nat.le_of_ble_eq_true rfl) dX8_isSigner_9) (fun z => (os_aS (As := [vI_ i0, vI_ 0, vI_ ((gI_ m0 t 18) - 1)]) z).2) ?_
  refine a_iload_n 2 dX8_isSigner_12 rfl rfl ?_
  refine a_iconst (v := 0) dX8_isSigner_13 (by decide) ?_
  obtain ⟨v6, m4, e5, h⟩ := bm_some h
  have he5 := e_X8_may (G := G) hl ht e5
  refine c_I he5.1 (rn_V (n := 3) (As := [vI_ v3, vI_ i1, vI_ 0]) kc_8 ht he5 (lw_V q1744 q1746 qs32 q97 q1747) (by decide +kernel) rfl (Nat.le_of_ble_eq_true rfl) (Nat.le_of_ble_eq_true rfl) (Nat.le_of_ble_eq_true rfl) dX8_isSigner_14) (fun z => (os_av (As := [vI_ v3, vI_ i1, vI_ 0]) z).2.1) ?_
  obtain ⟨c7, h⟩ := iz_some h
  cases h
  exact a_ireturn rfl (nr_ok (bn_ c7)) rfl rfl rfl dX8_isSigner_17
def f_X8_signer (F : Nat)  (t : pm_A) (i0 : Int32) (i1 : Int32) (m : pm_M) : Option (Int32 × pm_M) :=
  lt_ (pI_ m t 0 0) fun m1 =>
  bm_ (f_X8_isSigner F t i0 1 m1) fun v5 m3 =>
  if v5 = 0 then
    some (0, m3)
  else
    bm_ (f_X8_within F i1 0 9 m3) fun v9 m7 =>
    bm_ (f_X8_may F t v9 2 1 m7) fun v12 m10 =>
    if v12 = 0 then
      some (0, m10)
    else
      if 3 ≤ i1 then
        if 6 ≤ i1 then
          if 8 ≤ i1 then
            if i1 = 8 then
              gd_ 100 (gR_ m10 t 37) fun a22 =>
              iz_ (!(ib_ (40 + i0) a22.2.1)) <|
              some ((gI_ m10 a22 (40 + i0).toNatClampNeg), m10)
            else
              gd_ 100 (gR_ m10 t 37) fun a18 =>
              iz_ (!(ib_ (56 + i0) a18.2.1)) <|
              some ((gI_ m10 a18 (56 + i0).toNatClampNeg), m10)
          else
            if i1 = 6 then
              gd_ 100 (gR_ m10 t 37) fun a31 =>
              iz_ (!(ib_ (24 + i0) a31.2.1)) <|
              some ((gI_ m10 a31 (24 + i0).toNatClampNeg), m10)
            else
              gd_ 100 (gR_ m10 t 37) fun a27 =>
              iz_ (!(ib_ (32 + i0) a27.2.1)) <|
              some ((gI_ m10 a27 (32 + i0).toNatClampNeg), m10)
        else
          if i1 = 3 then
            gd_ 100 (gR_ m10 t 37) fun a45 =>
            iz_ (!(ib_ (0 + i0) a45.2.1)) <|
            some ((gI_ m10 a45 (0 + i0).toNatClampNeg), m10)
          else
            if i1 = 4 then
              gd_ 100 (gR_ m10 t 37) fun a41 =>
              iz_ (!(ib_ (8 + i0) a41.2.1)) <|
              some ((gI_ m10 a41 (8 + i0).toNatClampNeg), m10)
            else
              gd_ 100 (gR_ m10 t 37) fun a37 =>
              iz_ (!(ib_ (16 + i0) a37.2.1)) <|
              some ((gI_ m10 a37 (16 + i0).toNatClampNeg), m10)
      else
        gd_ 100 (gR_ m10 t 12) fun a49 =>
        iz_ (!(ib_ ((4 * i0) + i1) a49.2.1)) <|
        some ((gI_ m10 a49 ((4 * i0) + i1).toNatClampNeg), m10)
set_option maxHeartbeats 4000000 in
theorem e_X8_signer {G : xg_T} {l : Launch} (hl : l.stackTraces = false) {F : Nat}    {t : pm_A} {i0 : Int32} {i1 : Int32} {m0 m' : pm_M} {r : Int32} (ht : t.1 = 8) (h : f_X8_signer F t i0 i1 m0 = some (r, m')) : Cal_ G l yX8_signer (ws_ yX8_signer cX8_signer 3 (some .int)) 4 [vR_ (some t), vI_ i0, vI_ i1] m0 (.inl (some (vI_ r))) m' := by
  refine cal_of (by decide +kernel) (Nat.le_of_ble_eq_true rfl) ?_
  unfold f_X8_signer at h
  show AW_ cX8_signer RX8 (some (.int), "signer", 4, 3, m0, m', (.inl (some (vI_ r))), G, l, [], true) m0 0 [(0, vR_ (some t)), (1, vI_ i0), (2, vI_ i1)] []
  refine a_aload_n 0 dX8_signer_0 rfl rfl ?_
  refine a_iconst (v := 0) dX8_signer_1 (by decide) ?_
  obtain ⟨m1, e2, h⟩ := lt_some h
  refine a_putI kc_8 0 (by decide) rfl ht q1554 rfl rfl rfl dX8_signer_2 ?_
  rw [← e2]
  refine a_aload_n 0 dX8_signer_5 rfl rfl ?_
  refine a_iload_n 1 dX8_signer_6 rfl rfl ?_
  refine a_iconst (v := 1) dX8_signer_7 (by decide) ?_
  obtain ⟨v5, m3, e4, h⟩ := bm_some h
  have he4 := e_X8_isSigner (G := G) hl ht e4
  refine c_I he4.1 (rn_V (n := 2) (As := [vI_ i0, vI_ 1]) kc_8 ht he4 (lw_V q1983 q1985 qs75 q97 q1986) (by decide +kernel) rfl (Nat.le_of_ble_eq_true rfl) (Nat.le_of_ble_eq_true rfl) (Nat.le_of_ble_eq_true rfl) dX8_signer_8) (fun z => (os_av (As := [vI_ i0, vI_ 1]) z).2.1) ?_
  refine a_if_eq (tgt := 30) dX8_signer_11 (by decide) (fun c6 => ?_) (fun c6 => ?_)
  · replace h := ifp_ c6 h
    refine a_iconst (v := 0) dX8_signer_30 (by decide) ?_
    cases h
    exact a_ireturn rfl rfl rfl rfl rfl dX8_signer_31
  · replace h := ifn_ c6 h
    refine a_aload_n 0 dX8_signer_14 rfl rfl ?_
    refine a_iload_n 2 dX8_signer_15 rfl rfl ?_
    refine a_iconst (v := 0) dX8_signer_16 (by decide) ?_
    refine a_bipush (v := 9) dX8_signer_17 (by decide) ?_
    obtain ⟨v9, m7, e8, h⟩ := bm_some h
    have he8 := e_X8_within (G := G) hl e8
    refine c_I he8.1 (rn_S (n := 3) (As := [vI_ i1, vI_ 0, vI_ 9]) he8 (lw_S q1823 q1824 q97 q1825) (by decide +kernel) rfl (Nat.le_of_ble_eq_true rfl) (Nat.le_of_ble_eq_true rfl) (Nat.le_of_ble_eq_true rfl) dX8_signer_19) (fun z => (os_aS (As := [vI_ i1, vI_ 0, vI_ 9]) z).2) ?_
    refine a_iconst (v := 2) dX8_signer_22 (by decide) ?_
    refine a_iconst (v := 1) dX8_signer_23 (by decide) ?_
    obtain ⟨v12, m10, e11, h⟩ := bm_some h
    have he11 := e_X8_may (G := G) hl ht e11
    refine c_I he11.1 (rn_V (n := 3) (As := [vI_ v9, vI_ 2, vI_ 1]) kc_8 ht he11 (lw_V q1744 q1746 qs32 q97 q1747) (by decide +kernel) rfl (Nat.le_of_ble_eq_true rfl) (Nat.le_of_ble_eq_true rfl) (Nat.le_of_ble_eq_true rfl) dX8_signer_24) (fun z => (os_av (As := [vI_ v9, vI_ 2, vI_ 1]) z).2.1) ?_
    refine a_if_ne (tgt := 32) dX8_signer_27 (by decide) (fun c13 => ?_) (fun c13 => ?_)
    · replace h := ifn_ c13 h
      refine a_iload_n 2 dX8_signer_32 rfl rfl ?_
      refine a_iconst (v := 3) dX8_signer_33 (by decide) ?_
      refine a_icmp_ge (tgt := 48) dX8_signer_34 (by decide) (fun c14 => ?_) (fun c14 => ?_)
      · replace h := ifp_ c14 h
        refine a_iload_n 2 dX8_signer_48 rfl rfl ?_
        refine a_bipush (v := 6) dX8_signer_49 (by decide) ?_
        refine a_icmp_ge (tgt := 97) dX8_signer_51 (by decide) (fun c15 => ?_) (fun c15 => ?_)
        · replace h := ifp_ c15 h
          refine a_iload_n 2 dX8_signer_97 rfl rfl ?_
          refine a_bipush (v := 8) dX8_signer_98 (by decide) ?_
          refine a_icmp_ge (tgt := 131) dX8_signer_100 (by decide) (fun c16 => ?_) (fun c16 => ?_)
          · replace h := ifp_ c16 h
            refine a_iload_n 2 dX8_signer_131 rfl rfl ?_
            refine a_bipush (v := 8) dX8_signer_132 (by decide) ?_
            refine a_icmp_ne (tgt := 149) dX8_signer_134 (by decide) (fun c17 => ?_) (fun c17 => ?_)
            · replace h := ifn_ c17 h
              refine a_aload_n 0 dX8_signer_149 rfl rfl ?_
              refine a_getR kc_8 37 (by decide) rfl ht q1591 dX8_signer_150 ?_
              refine a_bipush (v := 56) dX8_signer_153 (by decide) ?_
              refine a_iload_n 1 dX8_signer_155 rfl rfl ?_
              refine a_iadd dX8_signer_156 ?_
              obtain ⟨a18, e19, f20, h⟩ := gd_some h
              rw [e19]
              obtain ⟨c21, h⟩ := iz_some h
              refine a_iald f20 (bn_ c21) dX8_signer_157 ?_
              cases h
              exact a_ireturn rfl rfl rfl rfl rfl dX8_signer_158
            · replace h := ifp_ c17 h
              refine a_aload_n 0 dX8_signer_137 rfl rfl ?_
              refine a_getR kc_8 37 (by decide) rfl ht q1591 dX8_signer_138 ?_
              refine a_bipush (v := 40) dX8_signer_141 (by decide) ?_
              refine a_iload_n 1 dX8_signer_143 rfl rfl ?_
              refine a_iadd dX8_signer_144 ?_
              obtain ⟨a22, e23, f24, h⟩ := gd_some h
              rw [e23]
              obtain ⟨c25, h⟩ := iz_some h
              refine a_iald f24 (bn_ c25) dX8_signer_145 ?_
              refine a_goto (tgt := 158) dX8_signer_146 (by decide) ?_
              cases h
              exact a_ireturn rfl rfl rfl rfl rfl dX8_signer_158
          · replace h := ifn_ c16 h
            refine a_iload_n 2 dX8_signer_103 rfl rfl ?_
            refine a_bipush (v := 6) dX8_signer_104 (by decide) ?_
            refine a_icmp_ne (tgt := 121) dX8_signer_106 (by decide) (fun c26 => ?_) (fun c26 => ?_)
            · replace h := ifn_ c26 h
              refine a_aload_n 0 dX8_signer_121 rfl rfl ?_
              refine a_getR kc_8 37 (by decide) rfl ht q1591 dX8_signer_122 ?_
              refine a_bipush (v := 32) dX8_signer_125 (by decide) ?_
              refine a_iload_n 1 dX8_signer_127 rfl rfl ?_
              refine a_iadd dX8_signer_128 ?_
              obtain ⟨a27, e28, f29, h⟩ := gd_some h
              rw [e28]
              obtain ⟨c30, h⟩ := iz_some h
              refine a_iald f29 (bn_ c30) dX8_signer_129 ?_
              cases h
              exact a_ireturn rfl rfl rfl rfl rfl dX8_signer_130
            · replace h := ifp_ c26 h
              refine a_aload_n 0 dX8_signer_109 rfl rfl ?_
              refine a_getR kc_8 37 (by decide) rfl ht q1591 dX8_signer_110 ?_
              refine a_bipush (v := 24) dX8_signer_113 (by decide) ?_
              refine a_iload_n 1 dX8_signer_115 rfl rfl ?_
              refine a_iadd dX8_signer_116 ?_
              obtain ⟨a31, e32, f33, h⟩ := gd_some h
              rw [e32]
              obtain ⟨c34, h⟩ := iz_some h
              refine a_iald f33 (bn_ c34) dX8_signer_117 ?_
              refine a_goto (tgt := 130) dX8_signer_118 (by decide) ?_
              cases h
              exact a_ireturn rfl rfl rfl rfl rfl dX8_signer_130
        · replace h := ifn_ c15 h
          refine a_iload_n 2 dX8_signer_54 rfl rfl ?_
          refine a_iconst (v := 3) dX8_signer_55 (by decide) ?_
          refine a_icmp_ne (tgt := 70) dX8_signer_56 (by decide) (fun c35 => ?_) (fun c35 => ?_)
          · replace h := ifn_ c35 h
            refine a_iload_n 2 dX8_signer_70 rfl rfl ?_
            refine a_iconst (v := 4) dX8_signer_71 (by decide) ?_
            refine a_icmp_ne (tgt := 87) dX8_signer_72 (by decide) (fun c36 => ?_) (fun c36 => ?_)
            · replace h := ifn_ c36 h
              refine a_aload_n 0 dX8_signer_87 rfl rfl ?_
              refine a_getR kc_8 37 (by decide) rfl ht q1591 dX8_signer_88 ?_
              refine a_bipush (v := 16) dX8_signer_91 (by decide) ?_
              refine a_iload_n 1 dX8_signer_93 rfl rfl ?_
              refine a_iadd dX8_signer_94 ?_
              obtain ⟨a37, e38, f39, h⟩ := gd_some h
              rw [e38]
              obtain ⟨c40, h⟩ := iz_some h
              refine a_iald f39 (bn_ c40) dX8_signer_95 ?_
              cases h
              exact a_ireturn rfl rfl rfl rfl rfl dX8_signer_96
            · replace h := ifp_ c36 h
              refine a_aload_n 0 dX8_signer_75 rfl rfl ?_
              refine a_getR kc_8 37 (by decide) rfl ht q1591 dX8_signer_76 ?_
              refine a_bipush (v := 8) dX8_signer_79 (by decide) ?_
              refine a_iload_n 1 dX8_signer_81 rfl rfl ?_
              refine a_iadd dX8_signer_82 ?_
              obtain ⟨a41, e42, f43, h⟩ := gd_some h
              rw [e42]
              obtain ⟨c44, h⟩ := iz_some h
              refine a_iald f43 (bn_ c44) dX8_signer_83 ?_
              refine a_goto (tgt := 96) dX8_signer_84 (by decide) ?_
              cases h
              exact a_ireturn rfl rfl rfl rfl rfl dX8_signer_96
          · replace h := ifp_ c35 h
            refine a_aload_n 0 dX8_signer_59 rfl rfl ?_
            refine a_getR kc_8 37 (by decide) rfl ht q1591 dX8_signer_60 ?_
            refine a_iconst (v := 0) dX8_signer_63 (by decide) ?_
            refine a_iload_n 1 dX8_signer_64 rfl rfl ?_
            refine a_iadd dX8_signer_65 ?_
            obtain ⟨a45, e46, f47, h⟩ := gd_some h
            rw [e46]
            obtain ⟨c48, h⟩ := iz_some h
            refine a_iald f47 (bn_ c48) dX8_signer_66 ?_
            refine a_goto (tgt := 96) dX8_signer_67 (by decide) ?_
            cases h
            exact a_ireturn rfl rfl rfl rfl rfl dX8_signer_96
      · replace h := ifn_ c14 h
        refine a_aload_n 0 dX8_signer_37 rfl rfl ?_
        refine a_getR kc_8 12 (by decide) rfl ht q1566 dX8_signer_38 ?_
        refine a_iconst (v := 4) dX8_signer_41 (by decide) ?_
        refine a_iload_n 1 dX8_signer_42 rfl rfl ?_
        refine a_imul dX8_signer_43 ?_
        refine a_iload_n 2 dX8_signer_44 rfl rfl ?_
        refine a_iadd dX8_signer_45 ?_
        obtain ⟨a49, e50, f51, h⟩ := gd_some h
        rw [e50]
        obtain ⟨c52, h⟩ := iz_some h
        refine a_iald f51 (bn_ c52) dX8_signer_46 ?_
        cases h
        exact a_ireturn rfl rfl rfl rfl rfl dX8_signer_47
    · replace h := ifp_ c13 h
      refine a_iconst (v := 0) dX8_signer_30 (by decide) ?_
      cases h
      exact a_ireturn rfl rfl rfl rfl rfl dX8_signer_31
def f_X8_isTaker (F : Nat)  (t : pm_A) (i0 : Int32) (i1 : Int32) (m : pm_M) : Option (Int32 × pm_M) :=
  bm_ (f_X8_within F i0 0 ((gI_ m t 19) - 1) m) fun v3 m1 =>
  bm_ (f_X8_may F t v3 i1 0 m1) fun v6 m4 =>
  iz_ (!(nr_ .boolean v6)) <|
  some (v6, m4)
set_option maxHeartbeats 4000000 in
theorem e_X8_isTaker {G : xg_T} {l : Launch} (hl : l.stackTraces = false) {F : Nat}    {t : pm_A} {i0 : Int32} {i1 : Int32} {m0 m' : pm_M} {r : Int32} (ht : t.1 = 8) (h : f_X8_isTaker F t i0 i1 m0 = some (r, m')) : Cal_ G l yX8_isTaker (ws_ yX8_isTaker cX8_isTaker 3 (some .boolean)) 3 [vR_ (some t), vI_ i0, vI_ i1] m0 (.inl (some (vI_ r))) m' := by
  refine cal_of (by decide +kernel) (Nat.le_of_ble_eq_true rfl) ?_
  unfold f_X8_isTaker at h
  show AW_ cX8_isTaker RX8 (some (.boolean), "isTaker", 3, 3, m0, m', (.inl (some (vI_ r))), G, l, [], true) m0 0 [(0, vR_ (some t)), (1, vI_ i0), (2, vI_ i1)] []
  refine a_aload_n 0 dX8_isTaker_0 rfl rfl ?_
  refine a_iload_n 1 dX8_isTaker_1 rfl rfl ?_
  refine a_iconst (v := 0) dX8_isTaker_2 (by decide) ?_
  refine a_aload_n 0 dX8_isTaker_3 rfl rfl ?_
  refine a_getI kc_8 19 (by decide) rfl ht q1573 dX8_isTaker_4 ?_
  refine a_iconst (v := 1) dX8_isTaker_7 (by decide) ?_
  refine a_isub dX8_isTaker_8 ?_
  obtain ⟨v3, m1, e2, h⟩ := bm_some h
  have he2 := e_X8_within (G := G) hl e2
  refine c_I he2.1 (rn_S (n := 3) (As := [vI_ i0, vI_ 0, vI_ ((gI_ m0 t 19) - 1)]) he2 (lw_S q1823 q1824 q97 q1825) (by decide +kernel) rfl (Nat.le_of_ble_eq_true rfl) (Nat.le_of_ble_eq_true rfl) (Nat.le_of_ble_eq_true rfl) dX8_isTaker_9) (fun z => (os_aS (As := [vI_ i0, vI_ 0, vI_ ((gI_ m0 t 19) - 1)]) z).2) ?_
  refine a_iload_n 2 dX8_isTaker_12 rfl rfl ?_
  refine a_iconst (v := 0) dX8_isTaker_13 (by decide) ?_
  obtain ⟨v6, m4, e5, h⟩ := bm_some h
  have he5 := e_X8_may (G := G) hl ht e5
  refine c_I he5.1 (rn_V (n := 3) (As := [vI_ v3, vI_ i1, vI_ 0]) kc_8 ht he5 (lw_V q1744 q1746 qs32 q97 q1747) (by decide +kernel) rfl (Nat.le_of_ble_eq_true rfl) (Nat.le_of_ble_eq_true rfl) (Nat.le_of_ble_eq_true rfl) dX8_isTaker_14) (fun z => (os_av (As := [vI_ v3, vI_ i1, vI_ 0]) z).2.1) ?_
  obtain ⟨c7, h⟩ := iz_some h
  cases h
  exact a_ireturn rfl (nr_ok (bn_ c7)) rfl rfl rfl dX8_isTaker_17
def f_X8_taker (F : Nat)  (t : pm_A) (i0 : Int32) (i1 : Int32) (m : pm_M) : Option (Int32 × pm_M) :=
  lt_ (pI_ m t 0 0) fun m1 =>
  bm_ (f_X8_isTaker F t i0 1 m1) fun v5 m3 =>
  if v5 = 0 then
    some (0, m3)
  else
    bm_ (f_X8_within F i1 0 3 m3) fun v9 m7 =>
    bm_ (f_X8_may F t v9 2 1 m7) fun v12 m10 =>
    if v12 = 0 then
      some (0, m10)
    else
      bm_ (f_X8_take F t m10) fun v16 m14 =>
      if 3 ≤ i1 then
        bm_ (f_X8_boundTo F t i0 m14) fun v20 m18 =>
        some (v20, m18)
      else
        gd_ 100 (gR_ m14 t 13) fun a21 =>
        iz_ (!(ib_ ((3 * i0) + i1) a21.2.1)) <|
        some ((gI_ m14 a21 ((3 * i0) + i1).toNatClampNeg), m14)
set_option maxHeartbeats 4000000 in
theorem e_X8_taker {G : xg_T} {l : Launch} (hl : l.stackTraces = false) {F : Nat}    {t : pm_A} {i0 : Int32} {i1 : Int32} {m0 m' : pm_M} {r : Int32} (ht : t.1 = 8) (h : f_X8_taker F t i0 i1 m0 = some (r, m')) : Cal_ G l yX8_taker (ws_ yX8_taker cX8_taker 3 (some .int)) 4 [vR_ (some t), vI_ i0, vI_ i1] m0 (.inl (some (vI_ r))) m' := by
  refine cal_of (by decide +kernel) (Nat.le_of_ble_eq_true rfl) ?_
  unfold f_X8_taker at h
  show AW_ cX8_taker RX8 (some (.int), "taker", 4, 3, m0, m', (.inl (some (vI_ r))), G, l, [], true) m0 0 [(0, vR_ (some t)), (1, vI_ i0), (2, vI_ i1)] []
  refine a_aload_n 0 dX8_taker_0 rfl rfl ?_
  refine a_iconst (v := 0) dX8_taker_1 (by decide) ?_
  obtain ⟨m1, e2, h⟩ := lt_some h
  refine a_putI kc_8 0 (by decide) rfl ht q1554 rfl rfl rfl dX8_taker_2 ?_
  rw [← e2]
  refine a_aload_n 0 dX8_taker_5 rfl rfl ?_
  refine a_iload_n 1 dX8_taker_6 rfl rfl ?_
  refine a_iconst (v := 1) dX8_taker_7 (by decide) ?_
  obtain ⟨v5, m3, e4, h⟩ := bm_some h
  have he4 := e_X8_isTaker (G := G) hl ht e4
  refine c_I he4.1 (rn_V (n := 2) (As := [vI_ i0, vI_ 1]) kc_8 ht he4 (lw_V q1991 q1993 qs76 q97 q1994) (by decide +kernel) rfl (Nat.le_of_ble_eq_true rfl) (Nat.le_of_ble_eq_true rfl) (Nat.le_of_ble_eq_true rfl) dX8_taker_8) (fun z => (os_av (As := [vI_ i0, vI_ 1]) z).2.1) ?_
  refine a_if_eq (tgt := 29) dX8_taker_11 (by decide) (fun c6 => ?_) (fun c6 => ?_)
  · replace h := ifp_ c6 h
    refine a_iconst (v := 0) dX8_taker_29 (by decide) ?_
    cases h
    exact a_ireturn rfl rfl rfl rfl rfl dX8_taker_30
  · replace h := ifn_ c6 h
    refine a_aload_n 0 dX8_taker_14 rfl rfl ?_
    refine a_iload_n 2 dX8_taker_15 rfl rfl ?_
    refine a_iconst (v := 0) dX8_taker_16 (by decide) ?_
    refine a_iconst (v := 3) dX8_taker_17 (by decide) ?_
    obtain ⟨v9, m7, e8, h⟩ := bm_some h
    have he8 := e_X8_within (G := G) hl e8
    refine c_I he8.1 (rn_S (n := 3) (As := [vI_ i1, vI_ 0, vI_ 3]) he8 (lw_S q1823 q1824 q97 q1825) (by decide +kernel) rfl (Nat.le_of_ble_eq_true rfl) (Nat.le_of_ble_eq_true rfl) (Nat.le_of_ble_eq_true rfl) dX8_taker_18) (fun z => (os_aS (As := [vI_ i1, vI_ 0, vI_ 3]) z).2) ?_
    refine a_iconst (v := 2) dX8_taker_21 (by decide) ?_
    refine a_iconst (v := 1) dX8_taker_22 (by decide) ?_
    obtain ⟨v12, m10, e11, h⟩ := bm_some h
    have he11 := e_X8_may (G := G) hl ht e11
    refine c_I he11.1 (rn_V (n := 3) (As := [vI_ v9, vI_ 2, vI_ 1]) kc_8 ht he11 (lw_V q1744 q1746 qs32 q97 q1747) (by decide +kernel) rfl (Nat.le_of_ble_eq_true rfl) (Nat.le_of_ble_eq_true rfl) (Nat.le_of_ble_eq_true rfl) dX8_taker_23) (fun z => (os_av (As := [vI_ v9, vI_ 2, vI_ 1]) z).2.1) ?_
    refine a_if_ne (tgt := 31) dX8_taker_26 (by decide) (fun c13 => ?_) (fun c13 => ?_)
    · replace h := ifn_ c13 h
      refine a_aload_n 0 dX8_taker_31 rfl rfl ?_
      obtain ⟨v16, m14, e15, h⟩ := bm_some h
      have he15 := e_X8_take (G := G) hl ht e15
      refine c_V he15.1 (rn_V (n := 0) (As := []) kc_8 ht he15 (lw_V q1888 q1890 qs56 q97 q1891) (by decide +kernel) rfl (Nat.le_of_ble_eq_true rfl) (Nat.le_of_ble_eq_true rfl) (Nat.le_of_ble_eq_true rfl) dX8_taker_32) (fun z => (os_av (As := []) z).2.1) ?_
      refine a_iload_n 2 dX8_taker_35 rfl rfl ?_
      refine a_iconst (v := 3) dX8_taker_36 (by decide) ?_
      refine a_icmp_ge (tgt := 53) dX8_taker_37 (by decide) (fun c17 => ?_) (fun c17 => ?_)
      · replace h := ifp_ c17 h
        refine a_aload_n 0 dX8_taker_53 rfl rfl ?_
        refine a_iload_n 1 dX8_taker_54 rfl rfl ?_
        obtain ⟨v20, m18, e19, h⟩ := bm_some h
        have he19 := e_X8_boundTo (G := G) hl ht e19
        refine c_I he19.1 (rn_V (n := 1) (As := [vI_ i0]) kc_8 ht he19 (lw_V q1912 q1914 qs62 q97 q1915) (by decide +kernel) rfl (Nat.le_of_ble_eq_true rfl) (Nat.le_of_ble_eq_true rfl) (Nat.le_of_ble_eq_true rfl) dX8_taker_55) (fun z => (os_av (As := [vI_ i0]) z).2.1) ?_
        cases h
        exact a_ireturn rfl rfl rfl rfl rfl dX8_taker_58
      · replace h := ifn_ c17 h
        refine a_aload_n 0 dX8_taker_40 rfl rfl ?_
        refine a_getR kc_8 13 (by decide) rfl ht q1567 dX8_taker_41 ?_
        refine a_iconst (v := 3) dX8_taker_44 (by decide) ?_
        refine a_iload_n 1 dX8_taker_45 rfl rfl ?_
        refine a_imul dX8_taker_46 ?_
        refine a_iload_n 2 dX8_taker_47 rfl rfl ?_
        refine a_iadd dX8_taker_48 ?_
        obtain ⟨a21, e22, f23, h⟩ := gd_some h
        rw [e22]
        obtain ⟨c24, h⟩ := iz_some h
        refine a_iald f23 (bn_ c24) dX8_taker_49 ?_
        refine a_goto (tgt := 58) dX8_taker_50 (by decide) ?_
        cases h
        exact a_ireturn rfl rfl rfl rfl rfl dX8_taker_58
    · replace h := ifp_ c13 h
      refine a_iconst (v := 0) dX8_taker_29 (by decide) ?_
      cases h
      exact a_ireturn rfl rfl rfl rfl rfl dX8_taker_30
def f_X8_asks (F : Nat)  (t : pm_A) (i0 : Int32) (i1 : Int32) (m : pm_M) : Option (Int32 × pm_M) :=
  lt_ (pI_ m t 0 0) fun m1 =>
  bm_ (f_X8_isSigner F t i0 1 m1) fun v5 m3 =>
  if v5 = 0 then
    some (0, m3)
  else
    bm_ (f_X8_within F i1 0 1 m3) fun v9 m7 =>
    bm_ (f_X8_may F t v9 2 1 m7) fun v12 m10 =>
    if v12 = 0 then
      some (0, m10)
    else
      bm_ (f_X8_take F t m10) fun v16 m14 =>
      bm_ (f_X8_asksBy F t i0 i1 m14) fun v19 m17 =>
      some (v19, m17)
set_option maxHeartbeats 4000000 in
theorem e_X8_asks {G : xg_T} {l : Launch} (hl : l.stackTraces = false) {F : Nat}    {t : pm_A} {i0 : Int32} {i1 : Int32} {m0 m' : pm_M} {r : Int32} (ht : t.1 = 8) (h : f_X8_asks F t i0 i1 m0 = some (r, m')) : Cal_ G l yX8_asks (ws_ yX8_asks cX8_asks 3 (some .int)) 7 [vR_ (some t), vI_ i0, vI_ i1] m0 (.inl (some (vI_ r))) m' := by
  refine cal_of (by decide +kernel) (Nat.le_of_ble_eq_true rfl) ?_
  unfold f_X8_asks at h
  show AW_ cX8_asks RX8 (some (.int), "asks", 7, 3, m0, m', (.inl (some (vI_ r))), G, l, [], true) m0 0 [(0, vR_ (some t)), (1, vI_ i0), (2, vI_ i1)] []
  refine a_aload_n 0 dX8_asks_0 rfl rfl ?_
  refine a_iconst (v := 0) dX8_asks_1 (by decide) ?_
  obtain ⟨m1, e2, h⟩ := lt_some h
  refine a_putI kc_8 0 (by decide) rfl ht q1554 rfl rfl rfl dX8_asks_2 ?_
  rw [← e2]
  refine a_aload_n 0 dX8_asks_5 rfl rfl ?_
  refine a_iload_n 1 dX8_asks_6 rfl rfl ?_
  refine a_iconst (v := 1) dX8_asks_7 (by decide) ?_
  obtain ⟨v5, m3, e4, h⟩ := bm_some h
  have he4 := e_X8_isSigner (G := G) hl ht e4
  refine c_I he4.1 (rn_V (n := 2) (As := [vI_ i0, vI_ 1]) kc_8 ht he4 (lw_V q1983 q1985 qs75 q97 q1986) (by decide +kernel) rfl (Nat.le_of_ble_eq_true rfl) (Nat.le_of_ble_eq_true rfl) (Nat.le_of_ble_eq_true rfl) dX8_asks_8) (fun z => (os_av (As := [vI_ i0, vI_ 1]) z).2.1) ?_
  refine a_if_eq (tgt := 29) dX8_asks_11 (by decide) (fun c6 => ?_) (fun c6 => ?_)
  · replace h := ifp_ c6 h
    refine a_iconst (v := 0) dX8_asks_29 (by decide) ?_
    cases h
    exact a_ireturn rfl rfl rfl rfl rfl dX8_asks_30
  · replace h := ifn_ c6 h
    refine a_aload_n 0 dX8_asks_14 rfl rfl ?_
    refine a_iload_n 2 dX8_asks_15 rfl rfl ?_
    refine a_iconst (v := 0) dX8_asks_16 (by decide) ?_
    refine a_iconst (v := 1) dX8_asks_17 (by decide) ?_
    obtain ⟨v9, m7, e8, h⟩ := bm_some h
    have he8 := e_X8_within (G := G) hl e8
    refine c_I he8.1 (rn_S (n := 3) (As := [vI_ i1, vI_ 0, vI_ 1]) he8 (lw_S q1823 q1824 q97 q1825) (by decide +kernel) rfl (Nat.le_of_ble_eq_true rfl) (Nat.le_of_ble_eq_true rfl) (Nat.le_of_ble_eq_true rfl) dX8_asks_18) (fun z => (os_aS (As := [vI_ i1, vI_ 0, vI_ 1]) z).2) ?_
    refine a_iconst (v := 2) dX8_asks_21 (by decide) ?_
    refine a_iconst (v := 1) dX8_asks_22 (by decide) ?_
    obtain ⟨v12, m10, e11, h⟩ := bm_some h
    have he11 := e_X8_may (G := G) hl ht e11
    refine c_I he11.1 (rn_V (n := 3) (As := [vI_ v9, vI_ 2, vI_ 1]) kc_8 ht he11 (lw_V q1744 q1746 qs32 q97 q1747) (by decide +kernel) rfl (Nat.le_of_ble_eq_true rfl) (Nat.le_of_ble_eq_true rfl) (Nat.le_of_ble_eq_true rfl) dX8_asks_23) (fun z => (os_av (As := [vI_ v9, vI_ 2, vI_ 1]) z).2.1) ?_
    refine a_if_ne (tgt := 31) dX8_asks_26 (by decide) (fun c13 => ?_) (fun c13 => ?_)
    · replace h := ifn_ c13 h
      refine a_aload_n 0 dX8_asks_31 rfl rfl ?_
      obtain ⟨v16, m14, e15, h⟩ := bm_some h
      have he15 := e_X8_take (G := G) hl ht e15
      refine c_V he15.1 (rn_V (n := 0) (As := []) kc_8 ht he15 (lw_V q1888 q1890 qs56 q97 q1891) (by decide +kernel) rfl (Nat.le_of_ble_eq_true rfl) (Nat.le_of_ble_eq_true rfl) (Nat.le_of_ble_eq_true rfl) dX8_asks_32) (fun z => (os_av (As := []) z).2.1) ?_
      refine a_aload_n 0 dX8_asks_35 rfl rfl ?_
      refine a_iload_n 1 dX8_asks_36 rfl rfl ?_
      refine a_iload_n 2 dX8_asks_37 rfl rfl ?_
      obtain ⟨v19, m17, e18, h⟩ := bm_some h
      have he18 := e_X8_asksBy (G := G) hl ht e18
      refine c_I he18.1 (rn_V (n := 2) (As := [vI_ i0, vI_ i1]) kc_8 ht he18 (lw_V q1932 q1934 qs67 q97 q1935) (by decide +kernel) rfl (Nat.le_of_ble_eq_true rfl) (Nat.le_of_ble_eq_true rfl) (Nat.le_of_ble_eq_true rfl) dX8_asks_38) (fun z => (os_av (As := [vI_ i0, vI_ i1]) z).2.1) ?_
      cases h
      exact a_ireturn rfl rfl rfl rfl rfl dX8_asks_41
    · replace h := ifp_ c13 h
      refine a_iconst (v := 0) dX8_asks_29 (by decide) ?_
      cases h
      exact a_ireturn rfl rfl rfl rfl rfl dX8_asks_30
def f_X8_owes (F : Nat)  (t : pm_A) (i0 : Int32) (m : pm_M) : Option (Int32 × pm_M) :=
  lt_ (pI_ m t 0 0) fun m1 =>
  bm_ (f_X8_isSigner F t i0 1 m1) fun v5 m3 =>
  if v5 = 0 then
    some (0, m3)
  else
    bm_ (f_X8_take F t m3) fun v9 m7 =>
    bm_ (f_X8_owesOf F t i0 m7) fun v12 m10 =>
    some (v12, m10)
set_option maxHeartbeats 4000000 in
theorem e_X8_owes {G : xg_T} {l : Launch} (hl : l.stackTraces = false) {F : Nat}    {t : pm_A} {i0 : Int32} {m0 m' : pm_M} {r : Int32} (ht : t.1 = 8) (h : f_X8_owes F t i0 m0 = some (r, m')) : Cal_ G l yX8_owes (ws_ yX8_owes cX8_owes 2 (some .int)) 8 [vR_ (some t), vI_ i0] m0 (.inl (some (vI_ r))) m' := by
  refine cal_of (by decide +kernel) (Nat.le_of_ble_eq_true rfl) ?_
  unfold f_X8_owes at h
  show AW_ cX8_owes RX8 (some (.int), "owes", 8, 2, m0, m', (.inl (some (vI_ r))), G, l, [], true) m0 0 [(0, vR_ (some t)), (1, vI_ i0)] []
  refine a_aload_n 0 dX8_owes_0 rfl rfl ?_
  refine a_iconst (v := 0) dX8_owes_1 (by decide) ?_
  obtain ⟨m1, e2, h⟩ := lt_some h
  refine a_putI kc_8 0 (by decide) rfl ht q1554 rfl rfl rfl dX8_owes_2 ?_
  rw [← e2]
  refine a_aload_n 0 dX8_owes_5 rfl rfl ?_
  refine a_iload_n 1 dX8_owes_6 rfl rfl ?_
  refine a_iconst (v := 1) dX8_owes_7 (by decide) ?_
  obtain ⟨v5, m3, e4, h⟩ := bm_some h
  have he4 := e_X8_isSigner (G := G) hl ht e4
  refine c_I he4.1 (rn_V (n := 2) (As := [vI_ i0, vI_ 1]) kc_8 ht he4 (lw_V q1983 q1985 qs75 q97 q1986) (by decide +kernel) rfl (Nat.le_of_ble_eq_true rfl) (Nat.le_of_ble_eq_true rfl) (Nat.le_of_ble_eq_true rfl) dX8_owes_8) (fun z => (os_av (As := [vI_ i0, vI_ 1]) z).2.1) ?_
  refine a_if_ne (tgt := 16) dX8_owes_11 (by decide) (fun c6 => ?_) (fun c6 => ?_)
  · replace h := ifn_ c6 h
    refine a_aload_n 0 dX8_owes_16 rfl rfl ?_
    obtain ⟨v9, m7, e8, h⟩ := bm_some h
    have he8 := e_X8_take (G := G) hl ht e8
    refine c_V he8.1 (rn_V (n := 0) (As := []) kc_8 ht he8 (lw_V q1888 q1890 qs56 q97 q1891) (by decide +kernel) rfl (Nat.le_of_ble_eq_true rfl) (Nat.le_of_ble_eq_true rfl) (Nat.le_of_ble_eq_true rfl) dX8_owes_17) (fun z => (os_av (As := []) z).2.1) ?_
    refine a_aload_n 0 dX8_owes_20 rfl rfl ?_
    refine a_iload_n 1 dX8_owes_21 rfl rfl ?_
    obtain ⟨v12, m10, e11, h⟩ := bm_some h
    have he11 := e_X8_owesOf (G := G) hl ht e11
    refine c_I he11.1 (rn_V (n := 1) (As := [vI_ i0]) kc_8 ht he11 (lw_V q1928 q1930 qs66 q97 q1931) (by decide +kernel) rfl (Nat.le_of_ble_eq_true rfl) (Nat.le_of_ble_eq_true rfl) (Nat.le_of_ble_eq_true rfl) dX8_owes_22) (fun z => (os_av (As := [vI_ i0]) z).2.1) ?_
    cases h
    exact a_ireturn rfl rfl rfl rfl rfl dX8_owes_25
  · replace h := ifp_ c6 h
    refine a_iconst (v := 0) dX8_owes_14 (by decide) ?_
    cases h
    exact a_ireturn rfl rfl rfl rfl rfl dX8_owes_15
def f_X8_would (F : Nat)  (t : pm_A) (i0 : Int32) (i1 : Int32) (i2 : Int32) (i3 : Int32) (i4 : Int32) (i5 : Int32) (m : pm_M) : Option (Int32 × pm_M) :=
  lt_ (pI_ m t 0 0) fun m1 =>
  bm_ (f_X8_within F i0 1 9 m1) fun v5 m3 =>
  jn_ (fun (y8 : Option pm_A) (y9 : Int32) (m7 : pm_M) =>
    gd_ 8 y8 fun a10 =>
    bm_ (f_X8_may F a10 y9 1 1 m7) fun v15 m13 =>
    if v15 = 0 then
      some (0, m13)
    else
      gd_ 100 (gR_ m13 t 28) fun a17 =>
      iz_ (!(ib_ 0 a17.2.1)) <|
      lt_ (pI_ m13 a17 ((0 : Int32).toNatClampNeg) i0) fun m21 =>
      gd_ 100 (gR_ m21 t 28) fun a23 =>
      iz_ (!(ib_ 1 a23.2.1)) <|
      lt_ (pI_ m21 a23 ((1 : Int32).toNatClampNeg) i1) fun m27 =>
      gd_ 100 (gR_ m27 t 28) fun a29 =>
      iz_ (!(ib_ 2 a29.2.1)) <|
      lt_ (pI_ m27 a29 ((2 : Int32).toNatClampNeg) i2) fun m33 =>
      gd_ 100 (gR_ m33 t 28) fun a35 =>
      iz_ (!(ib_ 3 a35.2.1)) <|
      lt_ (pI_ m33 a35 ((3 : Int32).toNatClampNeg) i3) fun m39 =>
      gd_ 100 (gR_ m39 t 28) fun a41 =>
      iz_ (!(ib_ 4 a41.2.1)) <|
      lt_ (pI_ m39 a41 ((4 : Int32).toNatClampNeg) 0) fun m45 =>
      gd_ 100 (gR_ m45 t 28) fun a47 =>
      iz_ (!(ib_ 5 a47.2.1)) <|
      lt_ (pI_ m45 a47 ((5 : Int32).toNatClampNeg) i4) fun m51 =>
      gd_ 100 (gR_ m51 t 28) fun a53 =>
      iz_ (!(ib_ 6 a53.2.1)) <|
      lt_ (pI_ m51 a53 ((6 : Int32).toNatClampNeg) 0) fun m57 =>
      gd_ 100 (gR_ m57 t 28) fun a59 =>
      iz_ (!(ib_ 7 a59.2.1)) <|
      lt_ (pI_ m57 a59 ((7 : Int32).toNatClampNeg) i5) fun m63 =>
      bm_ (f_X8_asksNow F t 0 m63) fun v67 m65 =>
      some (v67, m65)
  ) fun k6 =>
  jn_ (fun (y70 : Option pm_A) (m69 : pm_M) =>
    k6 y70 0 m69
  ) fun k68 =>
  if v5 = 0 then
    k68 (some t) m3
  else
    bm_ (f_X8_within F i1 0 99 m3) fun v74 m72 =>
    if v74 = 0 then
      k68 (some t) m72
    else
      bm_ (f_X8_within F i2 0 5 m72) fun v78 m76 =>
      if v78 = 0 then
        k68 (some t) m76
      else
        bm_ (f_X8_within F i3 0 99 m76) fun v82 m80 =>
        if v82 = 0 then
          k68 (some t) m80
        else
          bm_ (f_X8_within F i4 0 1 m80) fun v86 m84 =>
          if v86 = 0 then
            k68 (some t) m84
          else
            bm_ (f_X8_within F i5 0 900 m84) fun v90 m88 =>
            if v90 = 0 then
              k68 (some t) m88
            else
              k6 (some t) 1 m88
set_option maxHeartbeats 4000000 in
theorem e_X8_would {G : xg_T} {l : Launch} (hl : l.stackTraces = false) {F : Nat}    {t : pm_A} {i0 : Int32} {i1 : Int32} {i2 : Int32} {i3 : Int32} {i4 : Int32} {i5 : Int32} {m0 m' : pm_M} {r : Int32} (ht : t.1 = 8) (h : f_X8_would F t i0 i1 i2 i3 i4 i5 m0 = some (r, m')) : Cal_ G l yX8_would (ws_ yX8_would cX8_would 7 (some .int)) 5 [vR_ (some t), vI_ i0, vI_ i1, vI_ i2, vI_ i3, vI_ i4, vI_ i5] m0 (.inl (some (vI_ r))) m' := by
  refine cal_of (by decide +kernel) (Nat.le_of_ble_eq_true rfl) ?_
  unfold f_X8_would at h
  show AW_ cX8_would RX8 (some (.int), "would", 5, 7, m0, m', (.inl (some (vI_ r))), G, l, [], true) m0 0 [(0, vR_ (some t)), (1, vI_ i0), (2, vI_ i1), (3, vI_ i2), (4, vI_ i3), (5, vI_ i4), (6, vI_ i5)] []
  refine a_aload_n 0 dX8_would_0 rfl rfl ?_
  refine a_iconst (v := 0) dX8_would_1 (by decide) ?_
  obtain ⟨m1, e2, h⟩ := lt_some h
  refine a_putI kc_8 0 (by decide) rfl ht q1554 rfl rfl rfl dX8_would_2 ?_
  rw [← e2]
  refine a_aload_n 0 dX8_would_5 rfl rfl ?_
  refine a_iload_n 1 dX8_would_6 rfl rfl ?_
  refine a_iconst (v := 1) dX8_would_7 (by decide) ?_
  refine a_bipush (v := 9) dX8_would_8 (by decide) ?_
  obtain ⟨v5, m3, e4, h⟩ := bm_some h
  have he4 := e_X8_within (G := G) hl e4
  refine c_I he4.1 (rn_S (n := 3) (As := [vI_ i0, vI_ 1, vI_ 9]) he4 (lw_S q1823 q1824 q97 q1825) (by decide +kernel) rfl (Nat.le_of_ble_eq_true rfl) (Nat.le_of_ble_eq_true rfl) (Nat.le_of_ble_eq_true rfl) dX8_would_10) (fun z => (os_aS (As := [vI_ i0, vI_ 1, vI_ 9]) z).2) ?_
  obtain ⟨k6, e93, h⟩ := jn3_some h
  have hk6 : ∀ (y8 : Option pm_A) (y9 : Int32) (m7 : pm_M), k6 y8 y9 m7 = some (r, m') → AW_ cX8_would RX8 (some (.int), "would", 5, 7, m0, m', (.inl (some (vI_ r))), G, l, [], true) m7 73 [(0, vR_ (some t)), (1, vI_ i0), (2, vI_ i1), (3, vI_ i2), (4, vI_ i3), (5, vI_ i4), (6, vI_ i5)] [vI_ y9, vR_ y8] := by
    intro y8 y9 m7 h
    have h := (e93 y8 y9 m7).symm.trans h
    refine a_iconst (v := 1) dX8_would_73 (by decide) ?_
    refine a_iconst (v := 1) dX8_would_74 (by decide) ?_
    obtain ⟨a10, e11, f12, h⟩ := gd_some h
    rw [e11]
    obtain ⟨v15, m13, e14, h⟩ := bm_some h
    have he14 := e_X8_may (G := G) hl f12 e14
    refine c_I he14.1 (rn_V (n := 3) (As := [vI_ y9, vI_ 1, vI_ 1]) kc_8 f12 he14 (lw_V q1744 q1746 qs32 q97 q1747) (by decide +kernel) rfl (Nat.le_of_ble_eq_true rfl) (Nat.le_of_ble_eq_true rfl) (Nat.le_of_ble_eq_true rfl) dX8_would_75) (fun z => (os_av (As := [vI_ y9, vI_ 1, vI_ 1]) z).2.1) ?_
    refine a_if_ne (tgt := 83) dX8_would_78 (by decide) (fun c16 => ?_) (fun c16 => ?_)
    · replace h := ifn_ c16 h
      refine a_aload_n 0 dX8_would_83 rfl rfl ?_
      refine a_getR kc_8 28 (by decide) rfl ht q1582 dX8_would_84 ?_
      refine a_iconst (v := 0) dX8_would_87 (by decide) ?_
      refine a_iload_n 1 dX8_would_88 rfl rfl ?_
      obtain ⟨a17, e18, f19, h⟩ := gd_some h
      rw [e18]
      obtain ⟨c20, h⟩ := iz_some h
      obtain ⟨m21, e22, h⟩ := lt_some h
      refine a_iast f19 (bn_ c20) dX8_would_89 ?_
      rw [← e22]
      refine a_aload_n 0 dX8_would_90 rfl rfl ?_
      refine a_getR kc_8 28 (by decide) rfl ht q1582 dX8_would_91 ?_
      refine a_iconst (v := 1) dX8_would_94 (by decide) ?_
      refine a_iload_n 2 dX8_would_95 rfl rfl ?_
      obtain ⟨a23, e24, f25, h⟩ := gd_some h
      rw [e24]
      obtain ⟨c26, h⟩ := iz_some h
      obtain ⟨m27, e28, h⟩ := lt_some h
      refine a_iast f25 (bn_ c26) dX8_would_96 ?_
      rw [← e28]
      refine a_aload_n 0 dX8_would_97 rfl rfl ?_
      refine a_getR kc_8 28 (by decide) rfl ht q1582 dX8_would_98 ?_
      refine a_iconst (v := 2) dX8_would_101 (by decide) ?_
      refine a_iload_n 3 dX8_would_102 rfl rfl ?_
      obtain ⟨a29, e30, f31, h⟩ := gd_some h
      rw [e30]
      obtain ⟨c32, h⟩ := iz_some h
      obtain ⟨m33, e34, h⟩ := lt_some h
      refine a_iast f31 (bn_ c32) dX8_would_103 ?_
      rw [← e34]
      refine a_aload_n 0 dX8_would_104 rfl rfl ?_
      refine a_getR kc_8 28 (by decide) rfl ht q1582 dX8_would_105 ?_
      refine a_iconst (v := 3) dX8_would_108 (by decide) ?_
      refine a_iload 4 dX8_would_109 rfl ?_
      obtain ⟨a35, e36, f37, h⟩ := gd_some h
      rw [e36]
      obtain ⟨c38, h⟩ := iz_some h
      obtain ⟨m39, e40, h⟩ := lt_some h
      refine a_iast f37 (bn_ c38) dX8_would_111 ?_
      rw [← e40]
      refine a_aload_n 0 dX8_would_112 rfl rfl ?_
      refine a_getR kc_8 28 (by decide) rfl ht q1582 dX8_would_113 ?_
      refine a_iconst (v := 4) dX8_would_116 (by decide) ?_
      refine a_iconst (v := 0) dX8_would_117 (by decide) ?_
      obtain ⟨a41, e42, f43, h⟩ := gd_some h
      rw [e42]
      obtain ⟨c44, h⟩ := iz_some h
      obtain ⟨m45, e46, h⟩ := lt_some h
      refine a_iast f43 (bn_ c44) dX8_would_118 ?_
      rw [← e46]
      refine a_aload_n 0 dX8_would_119 rfl rfl ?_
      refine a_getR kc_8 28 (by decide) rfl ht q1582 dX8_would_120 ?_
      refine a_iconst (v := 5) dX8_would_123 (by decide) ?_
      refine a_iload 5 dX8_would_124 rfl ?_
      obtain ⟨a47, e48, f49, h⟩ := gd_some h
      rw [e48]
      obtain ⟨c50, h⟩ := iz_some h
      obtain ⟨m51, e52, h⟩ := lt_some h
      refine a_iast f49 (bn_ c50) dX8_would_126 ?_
      rw [← e52]
      refine a_aload_n 0 dX8_would_127 rfl rfl ?_
      refine a_getR kc_8 28 (by decide) rfl ht q1582 dX8_would_128 ?_
      refine a_bipush (v := 6) dX8_would_131 (by decide) ?_
      refine a_iconst (v := 0) dX8_would_133 (by decide) ?_
      obtain ⟨a53, e54, f55, h⟩ := gd_some h
      rw [e54]
      obtain ⟨c56, h⟩ := iz_some h
      obtain ⟨m57, e58, h⟩ := lt_some h
      refine a_iast f55 (bn_ c56) dX8_would_134 ?_
      rw [← e58]
      refine a_aload_n 0 dX8_would_135 rfl rfl ?_
      refine a_getR kc_8 28 (by decide) rfl ht q1582 dX8_would_136 ?_
      refine a_bipush (v := 7) dX8_would_139 (by decide) ?_
      refine a_iload 6 dX8_would_141 rfl ?_
      obtain ⟨a59, e60, f61, h⟩ := gd_some h
      rw [e60]
      obtain ⟨c62, h⟩ := iz_some h
      obtain ⟨m63, e64, h⟩ := lt_some h
      refine a_iast f61 (bn_ c62) dX8_would_143 ?_
      rw [← e64]
      refine a_aload_n 0 dX8_would_144 rfl rfl ?_
      refine a_iconst (v := 0) dX8_would_145 (by decide) ?_
      obtain ⟨v67, m65, e66, h⟩ := bm_some h
      have he66 := e_X8_asksNow (G := G) hl ht e66
      refine c_I he66.1 (rn_V (n := 1) (As := [vI_ 0]) kc_8 ht he66 (lw_V q1948 q1950 qs71 q97 q1951) (by decide +kernel) rfl (Nat.le_of_ble_eq_true rfl) (Nat.le_of_ble_eq_true rfl) (Nat.le_of_ble_eq_true rfl) dX8_would_146) (fun z => (os_av (As := [vI_ 0]) z).2.1) ?_
      cases h
      exact a_ireturn rfl rfl rfl rfl rfl dX8_would_149
    · replace h := ifp_ c16 h
      refine a_iconst (v := 0) dX8_would_81 (by decide) ?_
      cases h
      exact a_ireturn rfl rfl rfl rfl rfl dX8_would_82
  obtain ⟨k68, e92, h⟩ := jn2_some h
  have hk68 : ∀ (y70 : Option pm_A) (m69 : pm_M), k68 y70 m69 = some (r, m') → AW_ cX8_would RX8 (some (.int), "would", 5, 7, m0, m', (.inl (some (vI_ r))), G, l, [], true) m69 72 [(0, vR_ (some t)), (1, vI_ i0), (2, vI_ i1), (3, vI_ i2), (4, vI_ i3), (5, vI_ i4), (6, vI_ i5)] [vR_ y70] := by
    intro y70 m69 h
    have h := (e92 y70 m69).symm.trans h
    refine a_iconst (v := 0) dX8_would_72 (by decide) ?_
    exact hk6 _ _ _ h
  refine a_if_eq (tgt := 72) dX8_would_13 (by decide) (fun c71 => ?_) (fun c71 => ?_)
  · replace h := ifp_ c71 h
    exact hk68 _ _ h
  · replace h := ifn_ c71 h
    refine a_iload_n 2 dX8_would_16 rfl rfl ?_
    refine a_iconst (v := 0) dX8_would_17 (by decide) ?_
    refine a_bipush (v := 99) dX8_would_18 (by decide) ?_
    obtain ⟨v74, m72, e73, h⟩ := bm_some h
    have he73 := e_X8_within (G := G) hl e73
    refine c_I he73.1 (rn_S (n := 3) (As := [vI_ i1, vI_ 0, vI_ 99]) he73 (lw_S q1823 q1824 q97 q1825) (by decide +kernel) rfl (Nat.le_of_ble_eq_true rfl) (Nat.le_of_ble_eq_true rfl) (Nat.le_of_ble_eq_true rfl) dX8_would_20) (fun z => (os_aS (As := [vI_ i1, vI_ 0, vI_ 99]) z).2) ?_
    refine a_if_eq (tgt := 72) dX8_would_23 (by decide) (fun c75 => ?_) (fun c75 => ?_)
    · replace h := ifp_ c75 h
      exact hk68 _ _ h
    · replace h := ifn_ c75 h
      refine a_iload_n 3 dX8_would_26 rfl rfl ?_
      refine a_iconst (v := 0) dX8_would_27 (by decide) ?_
      refine a_iconst (v := 5) dX8_would_28 (by decide) ?_
      obtain ⟨v78, m76, e77, h⟩ := bm_some h
      have he77 := e_X8_within (G := G) hl e77
      refine c_I he77.1 (rn_S (n := 3) (As := [vI_ i2, vI_ 0, vI_ 5]) he77 (lw_S q1823 q1824 q97 q1825) (by decide +kernel) rfl (Nat.le_of_ble_eq_true rfl) (Nat.le_of_ble_eq_true rfl) (Nat.le_of_ble_eq_true rfl) dX8_would_29) (fun z => (os_aS (As := [vI_ i2, vI_ 0, vI_ 5]) z).2) ?_
      refine a_if_eq (tgt := 72) dX8_would_32 (by decide) (fun c79 => ?_) (fun c79 => ?_)
      · replace h := ifp_ c79 h
        exact hk68 _ _ h
      · replace h := ifn_ c79 h
        refine a_iload 4 dX8_would_35 rfl ?_
        refine a_iconst (v := 0) dX8_would_37 (by decide) ?_
        refine a_bipush (v := 99) dX8_would_38 (by decide) ?_
        obtain ⟨v82, m80, e81, h⟩ := bm_some h
        have he81 := e_X8_within (G := G) hl e81
        refine c_I he81.1 (rn_S (n := 3) (As := [vI_ i3, vI_ 0, vI_ 99]) he81 (lw_S q1823 q1824 q97 q1825) (by decide +kernel) rfl (Nat.le_of_ble_eq_true rfl) (Nat.le_of_ble_eq_true rfl) (Nat.le_of_ble_eq_true rfl) dX8_would_40) (fun z => (os_aS (As := [vI_ i3, vI_ 0, vI_ 99]) z).2) ?_
        refine a_if_eq (tgt := 72) dX8_would_43 (by decide) (fun c83 => ?_) (fun c83 => ?_)
        · replace h := ifp_ c83 h
          exact hk68 _ _ h
        · replace h := ifn_ c83 h
          refine a_iload 5 dX8_would_46 rfl ?_
          refine a_iconst (v := 0) dX8_would_48 (by decide) ?_
          refine a_iconst (v := 1) dX8_would_49 (by decide) ?_
          obtain ⟨v86, m84, e85, h⟩ := bm_some h
          have he85 := e_X8_within (G := G) hl e85
          refine c_I he85.1 (rn_S (n := 3) (As := [vI_ i4, vI_ 0, vI_ 1]) he85 (lw_S q1823 q1824 q97 q1825) (by decide +kernel) rfl (Nat.le_of_ble_eq_true rfl) (Nat.le_of_ble_eq_true rfl) (Nat.le_of_ble_eq_true rfl) dX8_would_50) (fun z => (os_aS (As := [vI_ i4, vI_ 0, vI_ 1]) z).2) ?_
          refine a_if_eq (tgt := 72) dX8_would_53 (by decide) (fun c87 => ?_) (fun c87 => ?_)
          · replace h := ifp_ c87 h
            exact hk68 _ _ h
          · replace h := ifn_ c87 h
            refine a_iload 6 dX8_would_56 rfl ?_
            refine a_iconst (v := 0) dX8_would_58 (by decide) ?_
            refine a_sipush (v := 900) dX8_would_59 (by decide) ?_
            obtain ⟨v90, m88, e89, h⟩ := bm_some h
            have he89 := e_X8_within (G := G) hl e89
            refine c_I he89.1 (rn_S (n := 3) (As := [vI_ i5, vI_ 0, vI_ 900]) he89 (lw_S q1823 q1824 q97 q1825) (by decide +kernel) rfl (Nat.le_of_ble_eq_true rfl) (Nat.le_of_ble_eq_true rfl) (Nat.le_of_ble_eq_true rfl) dX8_would_62) (fun z => (os_aS (As := [vI_ i5, vI_ 0, vI_ 900]) z).2) ?_
            refine a_if_eq (tgt := 72) dX8_would_65 (by decide) (fun c91 => ?_) (fun c91 => ?_)
            · replace h := ifp_ c91 h
              exact hk68 _ _ h
            · replace h := ifn_ c91 h
              refine a_iconst (v := 1) dX8_would_68 (by decide) ?_
              refine a_goto (tgt := 73) dX8_would_69 (by decide) ?_
              exact hk6 _ _ _ h
def f_X8_held_L13 (F : Nat)  (p6 : pm_A) : Nat → Int32 → Int32 → pm_M → Option (Int32 × pm_M)
  | 0, _, _, _ => none
  | n8 + 1, x10, x11, m9 =>
    if (gI_ m9 p6 18) ≤ x11 then
      some (x10, m9)
    else
      gd_ 100 (gR_ m9 p6 38) fun a13 =>
      iz_ (!(ib_ (0 + x11) a13.2.1)) <|
      if (gI_ m9 a13 (0 + x11).toNatClampNeg) = 2 then
        gd_ 100 (gR_ m9 p6 38) fun a18 =>
        iz_ (!(ib_ (16 + x11) a18.2.1)) <|
        bm_ (f_X8_asksBy F p6 x11 1 m9) fun v24 m22 =>
        if (gI_ m9 a18 (16 + x11).toNatClampNeg) < v24 then
          (f_X8_held_L13 F p6 n8) (x10 ||| 0) (x11 + 1) m22
        else
          (f_X8_held_L13 F p6 n8) (x10 ||| ((1 : Int32) <<< (x11 &&& 31))) (x11 + 1) m22
      else
        (f_X8_held_L13 F p6 n8) (x10 ||| 0) (x11 + 1) m9
set_option maxHeartbeats 4000000 in
theorem w_X8_held_L13 {G : xg_T} {l : Launch} (hl : l.stackTraces = false) {F : Nat}    (p6 : pm_A) {m0 m' : pm_M} {r : Int32} (hf7 : p6.1 = 8)  : ∀ (n : Nat) (x10 : Int32) (x11 : Int32) (m9 : pm_M), f_X8_held_L13 F p6 n x10 x11 m9 = some (r, m') → AW_ cX8_held RX8 (some (.int), "held", 7, 3, m0, m', (.inl (some (vI_ r))), G, l, [], true) m9 13 [(0, vR_ (some p6)), (1, vI_ x10), (2, vI_ x11)] [] := by
  intro n
  induction n with
  | zero => intro x10 x11 m9 h; cases h
  | succ n8 ih =>
    intro x10 x11 m9 h
    rw [f_X8_held_L13] at h
    refine a_iload_n 2 dX8_held_13 rfl rfl ?_
    refine a_aload_n 0 dX8_held_14 rfl rfl ?_
    refine a_getI kc_8 18 (by decide) rfl hf7 q1572 dX8_held_15 ?_
    refine a_icmp_ge (tgt := 67) dX8_held_18 (by decide) (fun c12 => ?_) (fun c12 => ?_)
    · replace h := ifp_ c12 h
      refine a_iload_n 1 dX8_held_67 rfl rfl ?_
      cases h
      exact a_ireturn rfl rfl rfl rfl rfl dX8_held_68
    · replace h := ifn_ c12 h
      refine a_iload_n 1 dX8_held_21 rfl rfl ?_
      refine a_aload_n 0 dX8_held_22 rfl rfl ?_
      refine a_getR kc_8 38 (by decide) rfl hf7 q1592 dX8_held_23 ?_
      refine a_iconst (v := 0) dX8_held_26 (by decide) ?_
      refine a_iload_n 2 dX8_held_27 rfl rfl ?_
      refine a_iadd dX8_held_28 ?_
      obtain ⟨a13, e14, f15, h⟩ := gd_some h
      rw [e14]
      obtain ⟨c16, h⟩ := iz_some h
      refine a_iald f15 (bn_ c16) dX8_held_29 ?_
      refine a_iconst (v := 2) dX8_held_30 (by decide) ?_
      refine a_icmp_ne (tgt := 58) dX8_held_31 (by decide) (fun c17 => ?_) (fun c17 => ?_)
      · replace h := ifn_ c17 h
        refine a_iconst (v := 0) dX8_held_58 (by decide) ?_
        refine a_ior dX8_held_59 ?_
        refine a_istore_n (ls' := [(1, vI_ (x10 ||| 0)), (0, vR_ (some p6)), (2, vI_ x11)]) dX8_held_60 rfl (Nat.le_of_ble_eq_true rfl) rfl ?_
        refine a_iinc (v := x11 + 1) (ls' := [(2, vI_ (x11 + 1)), (1, vI_ (x10 ||| 0)), (0, vR_ (some p6))]) 2 dX8_held_61 rfl rfl (Nat.le_of_ble_eq_true rfl) rfl ?_
        refine a_goto (tgt := 13) dX8_held_64 (by decide) ?_
        refine aw_pick [2, 1, 0] rfl ?_
        exact ih _ _ _ h
      · replace h := ifp_ c17 h
        refine a_aload_n 0 dX8_held_34 rfl rfl ?_
        refine a_getR kc_8 38 (by decide) rfl hf7 q1592 dX8_held_35 ?_
        refine a_bipush (v := 16) dX8_held_38 (by decide) ?_
        refine a_iload_n 2 dX8_held_40 rfl rfl ?_
        refine a_iadd dX8_held_41 ?_
        obtain ⟨a18, e19, f20, h⟩ := gd_some h
        rw [e19]
        obtain ⟨c21, h⟩ := iz_some h
        refine a_iald f20 (bn_ c21) dX8_held_42 ?_
        refine a_aload_n 0 dX8_held_43 rfl rfl ?_
        refine a_iload_n 2 dX8_held_44 rfl rfl ?_
        refine a_iconst (v := 1) dX8_held_45 (by decide) ?_
        obtain ⟨v24, m22, e23, h⟩ := bm_some h
        have he23 := e_X8_asksBy (G := G) hl hf7 e23
        refine c_I he23.1 (rn_V (n := 2) (As := [vI_ x11, vI_ 1]) kc_8 hf7 he23 (lw_V q1932 q1934 qs67 q97 q1935) (by decide +kernel) rfl (Nat.le_of_ble_eq_true rfl) (Nat.le_of_ble_eq_true rfl) (Nat.le_of_ble_eq_true rfl) dX8_held_46) (fun z => (os_av (As := [vI_ x11, vI_ 1]) z).2.1) ?_
        refine a_icmp_lt (tgt := 58) dX8_held_49 (by decide) (fun c25 => ?_) (fun c25 => ?_)
        · replace h := ifp_ c25 h
          refine a_iconst (v := 0) dX8_held_58 (by decide) ?_
          refine a_ior dX8_held_59 ?_
          refine a_istore_n (ls' := [(1, vI_ (x10 ||| 0)), (0, vR_ (some p6)), (2, vI_ x11)]) dX8_held_60 rfl (Nat.le_of_ble_eq_true rfl) rfl ?_
          refine a_iinc (v := x11 + 1) (ls' := [(2, vI_ (x11 + 1)), (1, vI_ (x10 ||| 0)), (0, vR_ (some p6))]) 2 dX8_held_61 rfl rfl (Nat.le_of_ble_eq_true rfl) rfl ?_
          refine a_goto (tgt := 13) dX8_held_64 (by decide) ?_
          refine aw_pick [2, 1, 0] rfl ?_
          exact ih _ _ _ h
        · replace h := ifn_ c25 h
          refine a_iconst (v := 1) dX8_held_52 (by decide) ?_
          refine a_iload_n 2 dX8_held_53 rfl rfl ?_
          refine a_ishl dX8_held_54 ?_
          refine a_goto (tgt := 59) dX8_held_55 (by decide) ?_
          refine a_ior dX8_held_59 ?_
          refine a_istore_n (ls' := [(1, vI_ (x10 ||| ((1 : Int32) <<< (x11 &&& 31)))), (0, vR_ (some p6)), (2, vI_ x11)]) dX8_held_60 rfl (Nat.le_of_ble_eq_true rfl) rfl ?_
          refine a_iinc (v := x11 + 1) (ls' := [(2, vI_ (x11 + 1)), (1, vI_ (x10 ||| ((1 : Int32) <<< (x11 &&& 31)))), (0, vR_ (some p6))]) 2 dX8_held_61 rfl rfl (Nat.le_of_ble_eq_true rfl) rfl ?_
          refine a_goto (tgt := 13) dX8_held_64 (by decide) ?_
          refine aw_pick [2, 1, 0] rfl ?_
          exact ih _ _ _ h
def f_X8_held (F : Nat)  (t : pm_A) (m : pm_M) : Option (Int32 × pm_M) :=
  lt_ (pI_ m t 0 0) fun m1 =>
  bm_ (f_X8_take F t m1) fun v5 m3 =>
  f_X8_held_L13 F t F 0 0 m3
set_option maxHeartbeats 4000000 in
theorem e_X8_held {G : xg_T} {l : Launch} (hl : l.stackTraces = false) {F : Nat}    {t : pm_A} {m0 m' : pm_M} {r : Int32} (ht : t.1 = 8) (h : f_X8_held F t m0 = some (r, m')) : Cal_ G l yX8_held (ws_ yX8_held cX8_held 3 (some .int)) 7 [vR_ (some t)] m0 (.inl (some (vI_ r))) m' := by
  refine cal_of (by decide +kernel) (Nat.le_of_ble_eq_true rfl) ?_
  unfold f_X8_held at h
  show AW_ cX8_held RX8 (some (.int), "held", 7, 3, m0, m', (.inl (some (vI_ r))), G, l, [], true) m0 0 [(0, vR_ (some t))] []
  refine a_aload_n 0 dX8_held_0 rfl rfl ?_
  refine a_iconst (v := 0) dX8_held_1 (by decide) ?_
  obtain ⟨m1, e2, h⟩ := lt_some h
  refine a_putI kc_8 0 (by decide) rfl ht q1554 rfl rfl rfl dX8_held_2 ?_
  rw [← e2]
  refine a_aload_n 0 dX8_held_5 rfl rfl ?_
  obtain ⟨v5, m3, e4, h⟩ := bm_some h
  have he4 := e_X8_take (G := G) hl ht e4
  refine c_V he4.1 (rn_V (n := 0) (As := []) kc_8 ht he4 (lw_V q1888 q1890 qs56 q97 q1891) (by decide +kernel) rfl (Nat.le_of_ble_eq_true rfl) (Nat.le_of_ble_eq_true rfl) (Nat.le_of_ble_eq_true rfl) dX8_held_6) (fun z => (os_av (As := []) z).2.1) ?_
  refine a_iconst (v := 0) dX8_held_9 (by decide) ?_
  refine a_istore_n (ls' := [(1, vI_ 0), (0, vR_ (some t))]) dX8_held_10 rfl (Nat.le_of_ble_eq_true rfl) rfl ?_
  refine a_iconst (v := 0) dX8_held_11 (by decide) ?_
  refine a_istore_n (ls' := [(2, vI_ 0), (1, vI_ 0), (0, vR_ (some t))]) dX8_held_12 rfl (Nat.le_of_ble_eq_true rfl) rfl ?_
  refine aw_pick [2, 1, 0] rfl ?_
  exact w_X8_held_L13 hl _ ht _ _ _ _ h
