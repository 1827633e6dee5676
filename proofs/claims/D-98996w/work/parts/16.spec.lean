/-! LIFTED ROWS: the classes' facts; texts, statics of the JDK's, arraycopy, exceptions made -/
set_option maxRecDepth 100000
theorem kc_1 : kc_ 1 RX1 TX1 19 tyX1 := ⟨rfl, rfl, by decide, in_X1, tyX1_ok, nmX1, by decide +kernel⟩
theorem kc_2 : kc_ 2 RX2 TX2 1 tyX2 := ⟨rfl, rfl, by decide, in_X2, tyX2_ok, nmX2, by decide +kernel⟩
theorem kc_3 : kc_ 3 RX3 TX3 2 tyX3 := ⟨rfl, rfl, by decide, in_X3, tyX3_ok, nmX3, by decide +kernel⟩
theorem kc_4 : kc_ 4 RX4 TX4 14 tyX4 := ⟨rfl, rfl, by decide, in_X4, tyX4_ok, nmX4, by decide +kernel⟩
theorem kc_5 : kc_ 5 RX5 TX5 8 tyX5 := ⟨rfl, rfl, by decide, in_X5, tyX5_ok, nmX5, by decide +kernel⟩
theorem kc_6 : kc_ 6 RX6 TX6 11 tyX6 := ⟨rfl, rfl, by decide, in_X6, tyX6_ok, nmX6, by decide +kernel⟩
theorem kc_7 : kc_ 7 RX7 TX7 6 tyX7 := ⟨rfl, rfl, by decide, in_X7, tyX7_ok, nmX7, by decide +kernel⟩
theorem kc_8 : kc_ 8 RX8 TX8 59 tyX8 := ⟨rfl, rfl, by decide, in_X8, tyX8_ok, nmX8, by decide +kernel⟩
theorem kc_9 : kc_ 9 RX9 TX9 4 tyX9 := ⟨rfl, rfl, by decide, in_X9, tyX9_ok, nmX9, by decide +kernel⟩
theorem kc_10 : kc_ 10 RX10 TX10 4 tyX10 := ⟨rfl, rfl, by decide, in_X10, tyX10_ok, nmX10, by decide +kernel⟩
theorem kc_11 : kc_ 11 RX11 TX11 8 tyX11 := ⟨rfl, rfl, by decide, in_X11, tyX11_ok, nmX11, by decide +kernel⟩
theorem kc_12 : kc_ 12 RX12 TX12 2 tyX12 := ⟨rfl, rfl, by decide, in_X12, tyX12_ok, nmX12, by decide +kernel⟩
theorem kc_13 : kc_ 13 RX13 TX13 3 tyX13 := ⟨rfl, rfl, by decide, in_X13, tyX13_ok, nmX13, by decide +kernel⟩
theorem kc_14 : kc_ 14 RX14 TX14 1 tyX14 := ⟨rfl, rfl, by decide, in_X14, tyX14_ok, nmX14, by decide +kernel⟩
theorem kc_15 : kc_ 15 RX15 TX15 1 tyX15 := ⟨rfl, rfl, by decide, in_X15, tyX15_ok, nmX15, by decide +kernel⟩
theorem kc_16 : kc_ 16 RX16 TX16 3 tyX16 := ⟨rfl, rfl, by decide, in_X16, tyX16_ok, nmX16, by decide +kernel⟩
theorem kc_18 : kc_ 18 RX18 TX18 3 tyX18 := ⟨rfl, rfl, by decide, in_X18, tyX18_ok, nmX18, by decide +kernel⟩
theorem kc_19 : kc_ 19 RX19 TX19 2 tyX19 := ⟨rfl, rfl, by decide, in_X19, tyX19_ok, nmX19, by decide +kernel⟩
theorem kc_20 : kc_ 20 RX20 TX20 2 tyX20 := ⟨rfl, rfl, by decide, in_X20, tyX20_ok, nmX20, by decide +kernel⟩
theorem kc_23 : kc_ 23 RX23 TX23 2 tyX23 := ⟨rfl, rfl, by decide, in_X23, tyX23_ok, nmX23, by decide +kernel⟩
theorem kc_24 : kc_ 24 RX24 TX24 4 tyX24 := ⟨rfl, rfl, by decide, in_X24, tyX24_ok, nmX24, by decide +kernel⟩
theorem kc_21 : kc_ 21 RX21 t0_ 0 ki_ := ⟨rfl, rfl, by decide, fun w h => (nomatch h), fun k h => absurd h (Nat.not_lt_zero k), fun k h => absurd h (Nat.not_lt_zero k), fun k h => absurd h (Nat.not_lt_zero k)⟩
theorem kc_22 : kc_ 22 RX22 t0_ 0 ki_ := ⟨rfl, rfl, by decide, fun w h => (nomatch h), fun k h => absurd h (Nat.not_lt_zero k), fun k h => absurd h (Nat.not_lt_zero k), fun k h => absurd h (Nat.not_lt_zero k)⟩
theorem kc_25 : kc_ 25 RJ3 t0_ 0 ki_ := ⟨rfl, rfl, by decide, fun w h => (nomatch h), fun k h => absurd h (Nat.not_lt_zero k), fun k h => absurd h (Nat.not_lt_zero k), fun k h => absurd h (Nat.not_lt_zero k)⟩
theorem kc_26 : kc_ 26 RJ10 t0_ 0 ki_ := ⟨rfl, rfl, by decide, fun w h => (nomatch h), fun k h => absurd h (Nat.not_lt_zero k), fun k h => absurd h (Nat.not_lt_zero k), fun k h => absurd h (Nat.not_lt_zero k)⟩
section AWS
variable {cc : ByteArray} {own : String} {K : kx_T} {X : cx_T} {m : pm_M} {pc : Nat} {ls : List (Nat × pm_V)} {st : List pm_V}
theorem ldcSW_ {p : Program} {l : Launch} {e : Env} {R : Room} {s : State} {m : MethodId} {args : Array Value} {below : List Frame} {meth : Method} {c : Code} {T : State} {locs : List Loc} {cells slots : Nat}
    (X : Stand p l e R s m args below meth c T locs cells slots) (hexec : p.tables.exec = Jvm.exec) {own text : String} {index : Nat} {a : Addr} (hown : s.vm.findClass own = some m.cls)
    (hconst : (Cond.stringRef own index text).before args s = true) (hev : (Term.string own index).eval args s none [] s = some (.ref a)) {g : JFrame} (hg : g.method = m) (hdg : decode c.code g.pc = .ok (.ldc_w index, 3)) :
    ∀ target, Steps p.tables e below (T.setTop { g with pc := g.pc + 3, stack := .ref a :: g.stack }) target → Steps p.tables e below (T.setTop g) target := by
  obtain ⟨k, cf, i, a', hk, hcf, hcp, -, hr, hev'⟩ := Cond.stringRef_spec hown hconst
  cases hev.symm.trans hev'
  obtain ⟨k', hk', he⟩ := X.warmed.alike.2.2 _ _ hk
  have hr' : k'.resolved[index]? = some (some (.string a)) := by
    rcases X.warmed.entry hk hk' index with h | ⟨h, -⟩
    · rw [h]; exact hr
    · rw [hr] at h; cases h
  intro target hrest
  subst hg
  jvm_step X.here [hexec, hdg, ldc_w.wp_string (e := e) (s := T) (f := g) X.here.top hk' (by rw [he]; exact hcf) hcp hr']
  exact hrest
theorem va_ldcSW {p : Program} {l : Launch} {e : Env} {R : Room} {s : State} {m : MethodId} {args : Array Value} {below : List Frame} {meth : Method} {c : Code} {H : Heap} {locs : List Loc} {cells slots : Nat} {Q : State → Prop} {cc : ByteArray} {pc : Nat} {ls : Array Slot} {rest : List Value} (hexec : p.tables.exec = Jvm.exec) (hb : c.code = cc) {own tx : String} {index q : Nat} (hown : s.vm.findClass own = some m.cls) (hZ : vk_R own index tx q s) (hdg : decode cc pc = .ok (.ldc_w index, 3))
    (k : W p l e R s m args below meth c H locs cells slots Q (F0 m (pc + 3) ls (.ref q :: rest))) : W p l e R s m args below meth c H locs cells slots Q (F0 m pc ls rest) := by
  intro T hT X
  obtain ⟨t, a1, b1⟩ := k T hT X
  exact ⟨t, ldcSW_ X hexec hown (text := tx) (a := q) hZ.1 hZ.2 (g := F0 m pc ls rest) rfl (by rw [hb]; exact hdg) t a1, b1⟩
theorem a_ldcS {index n : Nat} {tx : String} (q : (own, index, tx, n) ∈ sc_) (hn : n < 23) (dg : decode cc pc = .ok (.ldc index, 2)) (k : AW_ cc own K m (pc + 2) ls (vR_ (some (200, 0, n)) :: st)) : AW_ cc own K m pc ls st :=
  aw_st (fun _ h => os_k (v := vR_ (some (200, 0, n))) (Or.inl ⟨Nat.le_refl _, hn⟩) h) (fun X hk ad H locs arr c9 s9 hy w => va_ldcS hk.1 hk.2.1 hk.2.2.2.1 (hk.2.2.2.2.2.2.2.2.2.2.1.2.2.2.2.1 _ q) dg w) k
theorem a_ldcSW {index n : Nat} {tx : String} (q : (own, index, tx, n) ∈ sc_) (hn : n < 23) (dg : decode cc pc = .ok (.ldc_w index, 3)) (k : AW_ cc own K m (pc + 3) ls (vR_ (some (200, 0, n)) :: st)) : AW_ cc own K m pc ls st :=
  aw_st (fun _ h => os_k (v := vR_ (some (200, 0, n))) (Or.inl ⟨Nat.le_refl _, hn⟩) h) (fun X hk ad H locs arr c9 s9 hy w => va_ldcSW hk.1 hk.2.1 hk.2.2.2.1 (hk.2.2.2.2.2.2.2.2.2.2.1.2.2.2.2.1 _ q) dg w) k
theorem tx_of (hk : ck_ cc own K X) {a : pm_A} (ha : a.1 = 200) (ho : oa_ m a) : a.2.2 < 23 ∧ ∀ ad : Nat → Nat, ca_ (kx_G K) ad a = xg_k (kx_G K) a.2.2 := by
  refine ⟨by rcases ho with z | z <;> omega, fun ad => ?_⟩
  unfold ca_
  rw [if_neg (by omega), if_pos ha]
theorem a_getSV {a : pm_A} (ha : a.1 = 200) {index : Nat} (q : Cond.fieldLink own index "java/lang/String" "value" "[B" ∈ lw_all) (dg : decode cc pc = .ok (.getfield index, 3)) (k : AW_ cc own K m (pc + 3) ls (vR_ (some (202, 0, a.2.2)) :: st)) : AW_ cc own K m pc ls (vR_ (some a) :: st) := by
  refine aw_s2 (fun X hk ad H locs arr c9 s9 hy hs => ?_) k
  obtain ⟨h1, h2⟩ := tx_of hk ha (os_c hs).1
  refine ⟨os_k (v := vR_ (some (202, 0, a.2.2))) (Or.inl ⟨by show 200 ≤ 202; omega, h1⟩) (os_c hs).2, fun w => ?_⟩
  show WX_ K X H locs c9 s9 pc arr (.ref (ca_ (kx_G K) ad a) :: st.map (cv_ (kx_G K) ad))
  rw [h2 ad]
  exact vk_getf hk.1 hk.2.1 ((en_S hk.2.2.2.2.2.2.2.2.2.2.1).1 _ h1).2.2.1 hy.2.2.2.1 hk.2.2.2.1 (hk.2.2.2.2.1 _ q) (fun _ h => h) dg w
theorem a_getSC {a : pm_A} (ha : a.1 = 200) {index : Nat} (q : Cond.fieldLink own index "java/lang/String" "coder" "B" ∈ lw_all) (dg : decode cc pc = .ok (.getfield index, 3)) (k : AW_ cc own K m (pc + 3) ls (vI_ 0 :: st)) : AW_ cc own K m pc ls (vR_ (some a) :: st) := by
  refine aw_s2 (fun X hk ad H locs arr c9 s9 hy hs => ?_) k
  obtain ⟨h1, h2⟩ := tx_of hk ha (os_c hs).1
  refine ⟨os_i (os_c hs).2, fun w => ?_⟩
  show WX_ K X H locs c9 s9 pc arr (.ref (ca_ (kx_G K) ad a) :: st.map (cv_ (kx_G K) ad))
  rw [h2 ad]
  exact vk_getf hk.1 hk.2.1 ((en_S hk.2.2.2.2.2.2.2.2.2.2.1).1 _ h1).2.1 hy.2.2.2.1 hk.2.2.2.1 (hk.2.2.2.2.1 _ q) (fun _ h => h) dg w
theorem tv_of {a : pm_A} (ha : a.1 = 202) (ho : oa_ m a) {G : xg_T} : a.2.2 < 23 ∧ ∀ ad : Nat → Nat, ca_ G ad a = xg_v G a.2.2 := by
  refine ⟨by rcases ho with z | z <;> omega, fun ad => ?_⟩
  unfold ca_
  rw [if_neg (by omega), if_neg (by omega), if_neg (by omega), if_pos ha]
theorem a_slen {a : pm_A} (ha : a.1 = 202) (dg : decode cc pc = .ok (.arraylength, 1)) (k : AW_ cc own K m (pc + 1) ls (vI_ (Int32.ofNat (sn_.getD a.2.2 0)) :: st)) : AW_ cc own K m pc ls (vR_ (some a) :: st) := by
  refine aw_s2 (fun X hk ad H locs arr c9 s9 hy hs => ?_) k
  obtain ⟨h1, h2⟩ := tv_of (G := kx_G K) ha (os_c hs).1
  refine ⟨os_i (os_c hs).2, fun w => ?_⟩
  show WX_ K X H locs c9 s9 pc arr (.ref (ca_ (kx_G K) ad a) :: st.map (cv_ (kx_G K) ad))
  rw [h2 ad]
  exact va_tlen hk.1 hk.2.1 ((en_S hk.2.2.2.2.2.2.2.2.2.2.1).1 _ h1).2.2.2 hy.2.2.2.1 rfl dg w
theorem a_sbald {a : pm_A} (ha : a.1 = 202) {i : Int32} (hi : ib_ i (sn_.getD a.2.2 0) = true) (dg : decode cc pc = .ok (.baload, 1)) (k : AW_ cc own K m (pc + 1) ls (vI_ ((sy_.getD a.2.2 []).getD i.toNatClampNeg 0) :: st)) : AW_ cc own K m pc ls (vI_ i :: vR_ (some a) :: st) := by
  refine aw_s2 (fun X hk ad H locs arr c9 s9 hy hs => ?_) k
  obtain ⟨h1, h2⟩ := tv_of (G := kx_G K) ha (os_c (os_c hs).2).1
  refine ⟨os_i (os_c (os_c hs).2).2, fun w => ?_⟩
  show WX_ K X H locs c9 s9 pc arr (.int i :: .ref (ca_ (kx_G K) ad a) :: st.map (cv_ (kx_G K) ad))
  rw [h2 ad]
  exact va_tb hk.1 hk.2.1 ((en_S hk.2.2.2.2.2.2.2.2.2.2.1).1 _ h1).2.2.2 hy.2.2.2.1 (ib_in hi) rfl dg w
theorem a_gsC {index : Nat} (q : Cond.fieldLink own index "java/lang/String" "COMPACT_STRINGS" "Z" ∈ lw_all) (dg : decode cc pc = .ok (.getstatic index, 3)) (k : AW_ cc own K m (pc + 3) ls (vI_ 1 :: st)) : AW_ cc own K m pc ls st :=
  aw_st (fun _ h => os_i h) (fun X hk ad H locs arr c9 s9 hy w => va_gets hk.1 hk.2.1 hk.2.2.2.2.2.2.2.2.2.2.1.2.2.2.2.2.2.2.2.1 hy.2.2.2.1 hk.2.2.2.1 (hk.2.2.2.2.1 _ q) (fun _ h => h) dg w) k
/-- a static of which only 'null or a reference' is said -/
theorem a_gsX {index i : Nat} {C n d : String} (z : (C, n, d, i) ∈ zs_) (hi : i < 23) (q : Cond.fieldLink own index C n d ∈ lw_all) (dg : decode cc pc = .ok (.getstatic index, 3)) (k : ∀ r : Option pm_A, AW_ cc own K m (pc + 3) ls (vR_ r :: st)) : AW_ cc own K m pc ls st := by
  refine ⟨(k none).1, fun X hk ad H locs arr hy hs => ?_⟩
  rcases hk.2.2.2.2.2.2.2.2.2.2.1.2.2.2.2.2.2.2.2.2.2.2 _ z with g | g
  · exact va_gets hk.1 hk.2.1 g hy.2.2.2.1 hk.2.2.2.1 (hk.2.2.2.2.1 _ q) (fun _ h => h) dg ((k none).2 X hk ad H locs arr hy (os_k (v := vR_ none) trivial hs))
  · exact va_gets hk.1 hk.2.1 g hy.2.2.2.1 hk.2.2.2.1 (hk.2.2.2.2.1 _ q) (fun _ h => h) dg ((k (some (203, 0, i))).2 X hk ad H locs arr hy (os_k (v := vR_ (some (203, 0, i))) (Or.inl ⟨by show 200 ≤ 203; omega, hi⟩) hs))
/-- a call through a text -/
theorem rn_VT {index n d1 maxL : Nat} {y : MethodName} {bytes : ByteArray} {rt : Option FieldType} {As : List pm_V} {a : pm_A} {o : pm_O} {m1 : pm_M} (ha : a.1 = 200) (hcal : Cal_ (kx_G K) (kx_l K) y (ws_ y bytes maxL rt) d1 (vR_ (some a) :: As) m o m1) (cw : GoodIn lw_all (wsV own index "java/lang/String" y (ws_ y bytes maxL rt))) (hd : y.cls = "java/lang/String" ∧ y.cls ≠ "java/lang/invoke/MethodHandle" ∧ y.cls ≠ "java/lang/invoke/VarHandle" ∧ (parseMethodDescriptor y.desc).map (fun d => d.parameters.length) = some n) (hn : As.length = n) (hdep : d1 + 1 ≤ kx_d K) (hmx : maxL ≤ 80) (hw : wd_ st ≤ 8) (dg : decode cc pc = .ok (.invokevirtual index, 3)) : rn_ cc own K m pc 3 ls (As.reverse ++ vR_ (some a) :: st) st o m1 := by
  intro X hk ad H locs arr hy hs hE1 hE2
  obtain ⟨hs1, hs2, hs3⟩ := os_av hs
  obtain ⟨h1, h2⟩ := tx_of hk ha hs3
  rw [st_rev]
  exact vx_runV (C := "java/lang/String") (b := ca_ (kx_G K) ad a) (As := As.map (cv_ (kx_G K) ad)) (rest := st.map (cv_ (kx_G K) ad)) ⟨hk.1, hk.2.1, hk.2.2.1, hk.2.2.2.1, hk.2.2.2.2.1⟩ (hcal.2 ad) (cwV n hk.2.2.2.2.1 cw rfl rfl rfl hd (rm_ok hk hdep hmx)) ⟨pc_blind, by rw [h2 ad]; exact vk_recv (en_S hk.2.2.2.2.2.2.2.2.2.2.1) h1 hy.2.2.2.1, pc_now hk hy hs1⟩ rfl (by rw [List.length_map]; exact hn) hy.2.2.2.2.1.1 rfl (by show 2 * 0 + _ ≤ 8; rw [wd_ok]; omega) dg (rm_cs hk hy.1 hcal.1 hE1 hE2)
theorem pC_ne {a b x : pm_A} {sp dp n : Nat} (h : x ≠ b) : gI_ (pC_ m a sp b dp n) x = gI_ m x := by
  funext j
  show (if x = b then va_cpy (m.1 a) (m.1 b) sp dp n j else m.1 x j) = m.1 x j
  rw [if_neg h]
theorem pC_up {a b : pm_A} {sp dp n : Nat} : gI_ (pC_ m a sp b dp n) b = va_cpy (gI_ m a) (gI_ m b) sp dp n := by
  funext j
  show (if b = b then va_cpy (m.1 a) (m.1 b) sp dp n j else m.1 b j) = _
  rw [if_pos rfl]
  rfl
theorem nfw_ : nativeFrameWords "java/lang/System" "arraycopy" 5 ≤ 60 := by decide +kernel
def bz_ (m : pm_M) (a : pm_A) (sp n : Nat) : Bool := (List.range n).all (fun i => fits .boolean (.int (gI_ m a (sp + i))))
theorem a_cpyI {index : Nat} (q : Cond.methodLink own index arraycopyName ∈ lw_all) {a b : pm_A} (ha : a.1 = 100) (hb : b.1 = 100) {sp dp n : Int32} (h1 : ¬ sp < 0) (h2 : ¬ dp < 0) (h3 : ¬ n < 0) (h4 : sp.toNatClampNeg + n.toNatClampNeg ≤ a.2.1) (h5 : dp.toNatClampNeg + n.toNatClampNeg ≤ b.2.1) (hdep : 1 ≤ kx_d K) (hw : wd_ st ≤ 8) (dg : decode cc pc = .ok (.invokestatic index, 3)) (kk : AW_ cc own K (pC_ m a sp.toNatClampNeg b dp.toNatClampNeg n.toNatClampNeg) (pc + 3) ls st) : AW_ cc own K m pc ls (vI_ n :: vI_ dp :: vR_ (some b) :: vI_ sp :: vR_ (some a) :: st) := by
  refine aw_wr (m' := pC_ m a sp.toNatClampNeg b dp.toNatClampNeg n.toNatClampNeg) rfl rfl rfl (fun X hk ad H locs arr c9 s9 hy hs => ⟨(os_c (os_c (os_c (os_c (os_c hs).2).2).2).2).2, hy.2.2.1.2.2, fun w => ?_⟩) kk
  have R := hk.2.2.2.2.2.2.2.2.1
  have hob := (os_c (os_c (os_c hs).2).2).1
  have hoa := (os_c (os_c (os_c (os_c (os_c hs).2).2).2).2).1
  have e := pw_setA (G := kx_G K) (ad := ad) (m := m) (a := b) (m' := pC_ m a sp.toNatClampNeg b dp.toNatClampNeg n.toNatClampNeg) (by omega) hob rfl rfl (fun x h => ⟨pC_ne h, rfl, rfl⟩) (ce_i (by omega) (by omega))
  have hq0 := pw_i (G := kx_G K) (ad := ad) (m := m) (a := a) (by omega) (by omega) hoa
  have hq1 := pw_i (G := kx_G K) (ad := ad) (m := m) (a := b) (by omega) (by omega) hob
  rw [show a.1 - 100 = 0 by omega] at hq0
  rw [show b.1 - 100 = 0 by omega] at e hq1
  rw [show ((b.1, b.2.1, b.2.2) : pm_A) = b from rfl, pC_up] at e
  refine va_copyi hk.1 hk.2.1 (by rw [hk.2.2.1]; exact hy.2.2.2.2.1.1.symm) hk.2.2.2.1 (hk.2.2.2.2.1 _ q) (hk.2.2.2.2.1 _ q559) (hk.2.2.2.2.1 _ q558) (hk.2.2.2.2.1 _ q123) hk.2.2.2.2.2.2.2.2.2.2.1.1 hy.2.2.1.1 hy.2.2.1.2.1 hy.2.2.2.1 a.2.2 b.2.2 0 0 hq0 hq1 (ts_at (by decide)) (ts_at (by decide)) rfl h1 h2 h3 h4 h5 (fun i hi => rfl) (by rw [R.1]; exact hdep) (by have h9 := nfw_; rw [wd_ok, R.2.1]; omega) dg (fun H1 locs1 hP hD hS => ?_)
  rw [e] at hP hD
  exact w H1 locs1 hP hD hS
theorem a_cpyZ {index : Nat} (q : Cond.methodLink own index arraycopyName ∈ lw_all) {a b : pm_A} (ha : a.1 = 102) (hb : b.1 = 102) {sp dp n : Int32} (h1 : ¬ sp < 0) (h2 : ¬ dp < 0) (h3 : ¬ n < 0) (h4 : sp.toNatClampNeg + n.toNatClampNeg ≤ a.2.1) (h5 : dp.toNatClampNeg + n.toNatClampNeg ≤ b.2.1) (hbz : bz_ m a sp.toNatClampNeg n.toNatClampNeg = true) (hdep : 1 ≤ kx_d K) (hw : wd_ st ≤ 8) (dg : decode cc pc = .ok (.invokestatic index, 3)) (kk : AW_ cc own K (pC_ m a sp.toNatClampNeg b dp.toNatClampNeg n.toNatClampNeg) (pc + 3) ls st) : AW_ cc own K m pc ls (vI_ n :: vI_ dp :: vR_ (some b) :: vI_ sp :: vR_ (some a) :: st) := by
  refine aw_wr (m' := pC_ m a sp.toNatClampNeg b dp.toNatClampNeg n.toNatClampNeg) rfl rfl rfl (fun X hk ad H locs arr c9 s9 hy hs => ⟨(os_c (os_c (os_c (os_c (os_c hs).2).2).2).2).2, hy.2.2.1.2.2, fun w => ?_⟩) kk
  have R := hk.2.2.2.2.2.2.2.2.1
  have hob := (os_c (os_c (os_c hs).2).2).1
  have hoa := (os_c (os_c (os_c (os_c (os_c hs).2).2).2).2).1
  have e := pw_setA (G := kx_G K) (ad := ad) (m := m) (a := b) (m' := pC_ m a sp.toNatClampNeg b dp.toNatClampNeg n.toNatClampNeg) (by omega) hob rfl rfl (fun x h => ⟨pC_ne h, rfl, rfl⟩) (ce_i (by omega) (by omega))
  have hq0 := pw_i (G := kx_G K) (ad := ad) (m := m) (a := a) (by omega) (by omega) hoa
  have hq1 := pw_i (G := kx_G K) (ad := ad) (m := m) (a := b) (by omega) (by omega) hob
  rw [show a.1 - 100 = 2 by omega] at hq0
  rw [show b.1 - 100 = 2 by omega] at e hq1
  rw [show ((b.1, b.2.1, b.2.2) : pm_A) = b from rfl, pC_up] at e
  refine va_copyi hk.1 hk.2.1 (by rw [hk.2.2.1]; exact hy.2.2.2.2.1.1.symm) hk.2.2.2.1 (hk.2.2.2.2.1 _ q) (hk.2.2.2.2.1 _ q559) (hk.2.2.2.2.1 _ q558) (hk.2.2.2.2.1 _ q123) hk.2.2.2.2.2.2.2.2.2.2.1.1 hy.2.2.1.1 hy.2.2.1.2.1 hy.2.2.2.1 a.2.2 b.2.2 2 2 hq0 hq1 (ts_at (by decide)) (ts_at (by decide)) rfl h1 h2 h3 h4 h5 (fun i hi => List.all_eq_true.mp hbz i (List.mem_range.mpr hi)) (by rw [R.1]; exact hdep) (by have h9 := nfw_; rw [wd_ok, R.2.1]; omega) dg (fun H1 locs1 hP hD hS => ?_)
  rw [e] at hP hD
  exact w H1 locs1 hP hD hS
/-- words of the tables: good ones, or of the kinds that the environment keeps -/
def wk_ (L : List Cond) (ps : List Nat) : Bool := decide (L = ps.filterMap (fun i => lw_tbl[i]?)) && L.all (fun w => goodWord w || nw_ w)
theorem nw_ot {w : Cond} (h : nw_ w = true) : w.onTables = true := by cases w <;> first | rfl | cases h
theorem wk_us (hk : ck_ cc own K X) {L : List Cond} {ps : List Nat} (h : wk_ L ps = true) : ∀ w ∈ L, w.before (cx_a X) (cx_s X) = true := by
  unfold wk_ at h
  rw [Bool.and_eq_true, decide_eq_true_eq] at h
  intro w hw
  have h2 := List.all_eq_true.mp h.2 w hw
  have h1 : w ∈ lw_tbl := by
    rw [h.1] at hw
    obtain ⟨i, -, hi⟩ := List.mem_filterMap.mp hw
    exact List.mem_of_getElem? hi
  rw [Bool.or_eq_true] at h2
  rcases h2 with g | g
  · exact hk.2.2.2.2.1 _ (lw_g h1 g)
  · exact nw_us hk h1 g (nw_ot g)
theorem a_make0 (hl : (kx_l K).stackTraces = false) {c ik ic : Nat} {cls : String} {ps : List Nat} (hc : kc_ c cls t0_ 0 ki_) (hcls : Bundle.fit cls = true) (q1 : Cond.classLink own ik cls ∈ lw_all) (q2 : Cond.initialized cls ∈ lw_all) (hat : wk_ (vx_at0 own ic cls ["java/lang/RuntimeException", "java/lang/Exception"]) ps = true)
    (hg : (Cond.classLink own ik cls :: Cond.initialized cls :: vx_at0 own ic cls ["java/lang/RuntimeException", "java/lang/Exception"]).all vx_ot = true) (hnm : ∀ n ∈ (["java/lang/RuntimeException", "java/lang/Exception"] : List String), Bundle.fit n = true) (hdep : 6 ≤ kx_d K) (hw : wd_ st ≤ 8)
    (d0 : decode cc pc = .ok (.new ik, 3)) (d3 : decode cc (pc + 3) = .ok (.dup, 1)) (d4 : decode cc (pc + 4) = .ok (.invokespecial ic, 3)) (kk : AW_ cc own K (pN_ m c 0 6) (pc + 7) ls (vR_ (some (c, 0, gN_ m)) :: st)) : AW_ cc own K m pc ls st := by
  have hc9 := hc.2.2.1
  refine aw_nw (by omega) (fun h => h) rfl (fun X hk ad H locs arr c9 s9 hy hs hc1 hc2 w => ?_) kk
  have R := hk.2.2.2.2.2.2.2.2.1
  have hS : va_S (xg_A (kx_G K)) (cx_s X).heap H locs := hy.2.2.2.1
  refine vx_make0 (ci := c) (T0 := t0_) (names := ["java/lang/RuntimeException", "java/lang/Exception"]) hk.1 hk.2.1 hl hk.2.2.2.1 hcls hnm (hk.2.2.2.2.1 _ q1) (hk.2.2.2.2.1 _ q2) (wk_us hk hat) (fun w9 h9 => List.all_eq_true.mp hg w9 h9) hk.2.2.2.2.2.2.2.2.2.2.1.2.2.2.2.2.2.1 hk.2.2.2.2.2.2.2.2.2.2.1.2.2.2.2.2.2.2.1 hS (by rw [hk.2.2.1]; exact hy.2.2.2.2.1.1) d0 d3 d4 hk.2.2.2.2.2.2.2.2.2.2.1.1 hy.2.2.1.1 hy.2.2.1.2.1 (fun q h => Nat.le_trans hk.2.2.2.2.2.2.2.2.2.1 h) hc.1 (by rw [R.1]; show 2 + 3 < _; omega) (by rw [wd_ok, R.2.1]; show _ + (13 * 3 + 42) ≤ _; omega) (by rw [R.2.2.1]; exact hc1) (by rw [R.2.2.2]; exact hc2) (fun q H1 hP hD hS1 => ?_)
  have e := pw_new (G := kx_G K) (ad := ad) hy.2.2.1 (b := c) (l := 0) (w := 6) (q := q) (ce_o hc)
  have e2 : fs_ (kx_G K) (ux_ ad (gN_ m) q) (pN_ m c 0 6) (c, 0, gN_ m) 0 ki_ = [] := rfl
  rw [e2] at e
  rw [e] at hP hD
  exact w q H1 hP hD hS1
end AWS
