/-! LIFTED ROWS: stack, locals, branches (printed by tools/rows.py) -/
set_option maxRecDepth 100000
section AWR
variable {cc : ByteArray} {own : String} {K : kx_T} {m : pm_M} {pc : Nat} {ls : List (Nat × pm_V)} {st : List pm_V}
theorem a_iconst  {n : Int} {v : Int32} (dg : decode cc pc = .ok (.iconst n, 1)) (hv : Int32.ofInt n = v) (k : AW_ cc own K m (pc + 1) ls (vI_ v :: st)) : AW_ cc own K m pc ls st :=
  aw_st (fun _ h => os_i h) (fun X hk ad H locs arr c9 s9 hy w => lv_iconst hk.1 hk.2.1 dg hv w) k
theorem a_bipush  {n : Int} {v : Int32} (dg : decode cc pc = .ok (.bipush n, 2)) (hv : (Int8.ofInt n).toInt32 = v) (k : AW_ cc own K m (pc + 2) ls (vI_ v :: st)) : AW_ cc own K m pc ls st :=
  aw_st (fun _ h => os_i h) (fun X hk ad H locs arr c9 s9 hy w => lv_bipush hk.1 hk.2.1 dg hv w) k
theorem a_sipush  {n : Int} {v : Int32} (dg : decode cc pc = .ok (.sipush n, 3)) (hv : (Int16.ofInt n).toInt32 = v) (k : AW_ cc own K m (pc + 3) ls (vI_ v :: st)) : AW_ cc own K m pc ls st :=
  aw_st (fun _ h => os_i h) (fun X hk ad H locs arr c9 s9 hy w => lv_sipush hk.1 hk.2.1 dg hv w) k
theorem a_lconst  {n : Fin 2} {v : Int64} (dg : decode cc pc = .ok (.lconst n, 1)) (hv : Int64.ofNat (n : Nat) = v) (k : AW_ cc own K m (pc + 1) ls (vL_ v :: st)) : AW_ cc own K m pc ls st :=
  aw_st (fun _ h => os_l h) (fun X hk ad H locs arr c9 s9 hy w => lv_lconst hk.1 hk.2.1 dg hv w) k
theorem a_ldc  {index : Nat} {v : Int32} (q : Cond.constant own index v ∈ lw_all) (dg : decode cc pc = .ok (.ldc index, 2)) (k : AW_ cc own K m (pc + 2) ls (vI_ v :: st)) : AW_ cc own K m pc ls st :=
  aw_st (fun _ h => os_i h) (fun X hk ad H locs arr c9 s9 hy w => lv_ldc hk.1 hk.2.1 hk.2.2.2.1 (hk.2.2.2.2.1 _ q) dg w) k
theorem a_ldcw  {index : Nat} {v : Int32} (q : Cond.constant own index v ∈ lw_all) (dg : decode cc pc = .ok (.ldc_w index, 3)) (k : AW_ cc own K m (pc + 3) ls (vI_ v :: st)) : AW_ cc own K m pc ls st :=
  aw_st (fun _ h => os_i h) (fun X hk ad H locs arr c9 s9 hy w => lv_ldcw hk.1 hk.2.1 hk.2.2.2.1 (hk.2.2.2.2.1 _ q) dg w) k
theorem a_ldc2  {index : Nat} {v : Int64} (q : Cond.constantLong own index v ∈ lw_all) (dg : decode cc pc = .ok (.ldc2_w index, 3)) (k : AW_ cc own K m (pc + 3) ls (vL_ v :: st)) : AW_ cc own K m pc ls st :=
  aw_st (fun _ h => os_l h) (fun X hk ad H locs arr c9 s9 hy w => lv_ldc2 hk.1 hk.2.1 hk.2.2.2.1 (hk.2.2.2.2.1 _ q) dg w) k
theorem a_iload_n  (j : Nat) {k4 : Fin 4} {i : Nat} {x : Int32} (dg : decode cc pc = .ok (.iload_n k4, 1)) (hi : (k4 : Nat) = i) (hj : ls[j]? = some (i, vI_ x)) (k : AW_ cc own K m (pc + 1) ls (vI_ x :: st)) : AW_ cc own K m pc ls st :=
  aw_st (fun _ h => os_i h) (fun X hk ad H locs arr c9 s9 hy w => lv_iload_n hk.1 hk.2.1 dg hi (ls_at hy hj) w) k
theorem a_iload  (j : Nat) {i : Nat} {x : Int32} (dg : decode cc pc = .ok (.iload i, 2)) (hj : ls[j]? = some (i, vI_ x)) (k : AW_ cc own K m (pc + 2) ls (vI_ x :: st)) : AW_ cc own K m pc ls st :=
  aw_st (fun _ h => os_i h) (fun X hk ad H locs arr c9 s9 hy w => lv_iload hk.1 hk.2.1 dg (ls_at hy hj) w) k
theorem a_lload_n  (j : Nat) {k4 : Fin 4} {i : Nat} {x : Int64} (dg : decode cc pc = .ok (.lload_n k4, 1)) (hi : (k4 : Nat) = i) (hj : ls[j]? = some (i, vL_ x)) (k : AW_ cc own K m (pc + 1) ls (vL_ x :: st)) : AW_ cc own K m pc ls st :=
  aw_st (fun _ h => os_l h) (fun X hk ad H locs arr c9 s9 hy w => lv_lload_n hk.1 hk.2.1 dg hi (ls_at hy hj) w) k
theorem a_lload  (j : Nat) {i : Nat} {x : Int64} (dg : decode cc pc = .ok (.lload i, 2)) (hj : ls[j]? = some (i, vL_ x)) (k : AW_ cc own K m (pc + 2) ls (vL_ x :: st)) : AW_ cc own K m pc ls st :=
  aw_st (fun _ h => os_l h) (fun X hk ad H locs arr c9 s9 hy w => lv_lload hk.1 hk.2.1 dg (ls_at hy hj) w) k
theorem a_aload_n  (j : Nat) {k4 : Fin 4} {i : Nat} {r : Option pm_A} (dg : decode cc pc = .ok (.aload_n k4, 1)) (hi : (k4 : Nat) = i) (hj : ls[j]? = some (i, vR_ r)) (k : AW_ cc own K m (pc + 1) ls (vR_ r :: st)) : AW_ cc own K m pc ls st := by
  refine aw_st (fun h0 h => os_k (ls_ov h0 hj) h) (fun X hk ad H locs arr c9 s9 hy w => ?_) k
  have h1 := ls_at hy hj
  cases r with
  | none => exact lv_aload_nN hk.1 hk.2.1 dg hi h1 w
  | some a => exact lv_aload_n hk.1 hk.2.1 dg hi h1 w
theorem a_aload  (j : Nat) {i : Nat} {r : Option pm_A} (dg : decode cc pc = .ok (.aload i, 2)) (hj : ls[j]? = some (i, vR_ r)) (k : AW_ cc own K m (pc + 2) ls (vR_ r :: st)) : AW_ cc own K m pc ls st := by
  refine aw_st (fun h0 h => os_k (ls_ov h0 hj) h) (fun X hk ad H locs arr c9 s9 hy w => ?_) k
  have h1 := ls_at hy hj
  cases r with
  | none => exact lv_aloadN hk.1 hk.2.1 dg h1 w
  | some a => exact lv_aload hk.1 hk.2.1 dg h1 w
theorem a_istore_n  {k4 : Fin 4} {i : Nat} {x : Int32} {ls' : List (Nat × pm_V)} (dg : decode cc pc = .ok (.istore_n k4, 1)) (hi : (k4 : Nat) = i) (hn : i < kx_L K) (hl : sl_ ls i (vI_ x) = ls') (k : AW_ cc own K m (pc + 1) ls' st) : AW_ cc own K m pc ls (vI_ x :: st) :=
  aw_ls hl (fun _ => trivial) (fun h => (os_c h).2) (fun X hk ad H locs arr c9 s9 hy w => lv_istore_n hk.1 hk.2.1 dg hi hy.2.2.2.2.1 hn (sl_map (G := kx_G K) (ad := ad) (v := vI_ x)) w) k (fun _ _ => trivial)
theorem a_istore  {i : Nat} {x : Int32} {ls' : List (Nat × pm_V)} (dg : decode cc pc = .ok (.istore i, 2)) (hn : i < kx_L K) (hl : sl_ ls i (vI_ x) = ls') (k : AW_ cc own K m (pc + 2) ls' st) : AW_ cc own K m pc ls (vI_ x :: st) :=
  aw_ls hl (fun _ => trivial) (fun h => (os_c h).2) (fun X hk ad H locs arr c9 s9 hy w => lv_istore hk.1 hk.2.1 dg hy.2.2.2.2.1 hn (sl_map (G := kx_G K) (ad := ad) (v := vI_ x)) w) k (fun _ _ => trivial)
theorem a_lstore_n  {k4 : Fin 4} {i : Nat} {x : Int64} {ls' : List (Nat × pm_V)} (dg : decode cc pc = .ok (.lstore_n k4, 1)) (hi : (k4 : Nat) = i) (hn : i + 1 < kx_L K) (hl : sl2_ ls i (vL_ x) = ls') (k : AW_ cc own K m (pc + 1) ls' st) : AW_ cc own K m pc ls (vL_ x :: st) :=
  aw_ls2 hl (fun h => (os_c h).2) (fun X hk ad H locs arr c9 s9 hy w => lv_lstore_n hk.1 hk.2.1 dg hi hy.2.2.2.2.1 hn (sl2_map (G := kx_G K) (ad := ad) (v := vL_ x)) w) k (fun _ _ => trivial)
theorem a_lstore  {i : Nat} {x : Int64} {ls' : List (Nat × pm_V)} (dg : decode cc pc = .ok (.lstore i, 2)) (hn : i + 1 < kx_L K) (hl : sl2_ ls i (vL_ x) = ls') (k : AW_ cc own K m (pc + 2) ls' st) : AW_ cc own K m pc ls (vL_ x :: st) :=
  aw_ls2 hl (fun h => (os_c h).2) (fun X hk ad H locs arr c9 s9 hy w => lv_lstore hk.1 hk.2.1 dg hy.2.2.2.2.1 hn (sl2_map (G := kx_G K) (ad := ad) (v := vL_ x)) w) k (fun _ _ => trivial)
theorem a_astore_n  {k4 : Fin 4} {i : Nat} {r : Option pm_A} {ls' : List (Nat × pm_V)} (dg : decode cc pc = .ok (.astore_n k4, 1)) (hi : (k4 : Nat) = i) (hn : i < kx_L K) (hl : sl_ ls i (vR_ r) = ls') (k : AW_ cc own K m (pc + 1) ls' st) : AW_ cc own K m pc ls (vR_ r :: st) := by
  subst hl
  refine ⟨k.1, fun X hk ad H locs arr hy hs => ?_⟩
  have hv := os_c hs
  have w : ∀ arr' : Array Slot, lv_has arr' (kx_L K) ((sl_ ls i (vR_ r)).map (cl_ (kx_G K) ad)) → WX_ K X H locs (gN_ m - gN_ (kx_0 K)) (gS_ m - gS_ (kx_0 K)) (pc + 1) arr' (st.map (cv_ (kx_G K) ad)) := fun arr' h' => k.2 X hk ad H locs arr' ⟨hy.1, hy.2.1, hy.2.2.1, hy.2.2.2.1, h', sl_os hy.2.2.2.2.2 hv.1⟩ hv.2
  cases r with
  | none => exact lv_astore_nN hk.1 hk.2.1 dg hi hy.2.2.2.2.1 hn (sl_map (G := kx_G K) (ad := ad) (v := vR_ none)) w
  | some a => exact lv_astore_n hk.1 hk.2.1 dg hi hy.2.2.2.2.1 hn (sl_map (G := kx_G K) (ad := ad) (v := vR_ (some a))) w
theorem a_astore   {i : Nat} {r : Option pm_A} {ls' : List (Nat × pm_V)} (dg : decode cc pc = .ok (.astore i, 2)) (hn : i < kx_L K) (hl : sl_ ls i (vR_ r) = ls') (k : AW_ cc own K m (pc + 2) ls' st) : AW_ cc own K m pc ls (vR_ r :: st) := by
  subst hl
  refine ⟨k.1, fun X hk ad H locs arr hy hs => ?_⟩
  have hv := os_c hs
  have w : ∀ arr' : Array Slot, lv_has arr' (kx_L K) ((sl_ ls i (vR_ r)).map (cl_ (kx_G K) ad)) → WX_ K X H locs (gN_ m - gN_ (kx_0 K)) (gS_ m - gS_ (kx_0 K)) (pc + 2) arr' (st.map (cv_ (kx_G K) ad)) := fun arr' h' => k.2 X hk ad H locs arr' ⟨hy.1, hy.2.1, hy.2.2.1, hy.2.2.2.1, h', sl_os hy.2.2.2.2.2 hv.1⟩ hv.2
  cases r with
  | none => exact lv_astoreN hk.1 hk.2.1 dg hy.2.2.2.2.1 hn (sl_map (G := kx_G K) (ad := ad) (v := vR_ none)) w
  | some a => exact lv_astore hk.1 hk.2.1 dg hy.2.2.2.2.1 hn (sl_map (G := kx_G K) (ad := ad) (v := vR_ (some a))) w
theorem a_iinc  (j : Nat) {i : Nat} {n : Int} {x v : Int32} {ls' : List (Nat × pm_V)} (dg : decode cc pc = .ok (.iinc i n, 3)) (hj : ls[j]? = some (i, vI_ x)) (hv : x + Int32.ofInt n = v) (hn : i < kx_L K) (hl : sl_ ls i (vI_ v) = ls') (k : AW_ cc own K m (pc + 3) ls' st) : AW_ cc own K m pc ls st :=
  aw_ls hl (fun _ => trivial) (fun h => h) (fun X hk ad H locs arr c9 s9 hy w => lv_iinc hk.1 hk.2.1 dg hy.2.2.2.2.1 (k := j) (by rw [List.getElem?_map, hj]; rfl) hv hn (sl_map (G := kx_G K) (ad := ad) (v := vI_ v)) w) k (fun _ _ => trivial)
theorem a_iadd  {x y : Int32} (dg : decode cc pc = .ok (.iadd, 1)) (k : AW_ cc own K m (pc + 1) ls (vI_ (x + y) :: st)) : AW_ cc own K m pc ls (vI_ y :: vI_ x :: st) :=
  aw_st (fun _ h => os_i (os_c (os_c h).2).2) (fun X hk ad H locs arr c9 s9 hy w => lv_iadd hk.1 hk.2.1 dg w) k
theorem a_isub  {x y : Int32} (dg : decode cc pc = .ok (.isub, 1)) (k : AW_ cc own K m (pc + 1) ls (vI_ (x - y) :: st)) : AW_ cc own K m pc ls (vI_ y :: vI_ x :: st) :=
  aw_st (fun _ h => os_i (os_c (os_c h).2).2) (fun X hk ad H locs arr c9 s9 hy w => lv_isub hk.1 hk.2.1 dg w) k
theorem a_imul  {x y : Int32} (dg : decode cc pc = .ok (.imul, 1)) (k : AW_ cc own K m (pc + 1) ls (vI_ (x * y) :: st)) : AW_ cc own K m pc ls (vI_ y :: vI_ x :: st) :=
  aw_st (fun _ h => os_i (os_c (os_c h).2).2) (fun X hk ad H locs arr c9 s9 hy w => lv_imul hk.1 hk.2.1 dg w) k
theorem a_iand  {x y : Int32} (dg : decode cc pc = .ok (.iand, 1)) (k : AW_ cc own K m (pc + 1) ls (vI_ (x &&& y) :: st)) : AW_ cc own K m pc ls (vI_ y :: vI_ x :: st) :=
  aw_st (fun _ h => os_i (os_c (os_c h).2).2) (fun X hk ad H locs arr c9 s9 hy w => lv_iand hk.1 hk.2.1 dg w) k
theorem a_ior  {x y : Int32} (dg : decode cc pc = .ok (.ior, 1)) (k : AW_ cc own K m (pc + 1) ls (vI_ (x ||| y) :: st)) : AW_ cc own K m pc ls (vI_ y :: vI_ x :: st) :=
  aw_st (fun _ h => os_i (os_c (os_c h).2).2) (fun X hk ad H locs arr c9 s9 hy w => lv_ior hk.1 hk.2.1 dg w) k
theorem a_ladd  {x y : Int64} (dg : decode cc pc = .ok (.ladd, 1)) (k : AW_ cc own K m (pc + 1) ls (vL_ (x + y) :: st)) : AW_ cc own K m pc ls (vL_ y :: vL_ x :: st) :=
  aw_st (fun _ h => os_l (os_c (os_c h).2).2) (fun X hk ad H locs arr c9 s9 hy w => lv_ladd hk.1 hk.2.1 dg w) k
theorem a_lsub  {x y : Int64} (dg : decode cc pc = .ok (.lsub, 1)) (k : AW_ cc own K m (pc + 1) ls (vL_ (x - y) :: st)) : AW_ cc own K m pc ls (vL_ y :: vL_ x :: st) :=
  aw_st (fun _ h => os_l (os_c (os_c h).2).2) (fun X hk ad H locs arr c9 s9 hy w => lv_lsub hk.1 hk.2.1 dg w) k
theorem a_lmul  {x y : Int64} (dg : decode cc pc = .ok (.lmul, 1)) (k : AW_ cc own K m (pc + 1) ls (vL_ (x * y) :: st)) : AW_ cc own K m pc ls (vL_ y :: vL_ x :: st) :=
  aw_st (fun _ h => os_l (os_c (os_c h).2).2) (fun X hk ad H locs arr c9 s9 hy w => lv_lmul hk.1 hk.2.1 dg w) k
theorem a_idiv  {x y : Int32} (dg : decode cc pc = .ok (.idiv, 1)) (hne : ¬ y = 0) (k : AW_ cc own K m (pc + 1) ls (vI_ (x / y) :: st)) : AW_ cc own K m pc ls (vI_ y :: vI_ x :: st) :=
  aw_st (fun _ h => os_i (os_c (os_c h).2).2) (fun X hk ad H locs arr c9 s9 hy w => lv_idiv hk.1 hk.2.1 dg hne w) k
theorem a_irem  {x y : Int32} (dg : decode cc pc = .ok (.irem, 1)) (hne : ¬ y = 0) (k : AW_ cc own K m (pc + 1) ls (vI_ (x - x / y * y) :: st)) : AW_ cc own K m pc ls (vI_ y :: vI_ x :: st) :=
  aw_st (fun _ h => os_i (os_c (os_c h).2).2) (fun X hk ad H locs arr c9 s9 hy w => lv_irem hk.1 hk.2.1 dg hne w) k
theorem a_ldiv  {x y : Int64} (dg : decode cc pc = .ok (.ldiv, 1)) (hne : ¬ y = 0) (k : AW_ cc own K m (pc + 1) ls (vL_ (x / y) :: st)) : AW_ cc own K m pc ls (vL_ y :: vL_ x :: st) :=
  aw_st (fun _ h => os_l (os_c (os_c h).2).2) (fun X hk ad H locs arr c9 s9 hy w => lv_ldiv hk.1 hk.2.1 dg hne w) k
theorem a_lrem  {x y : Int64} (dg : decode cc pc = .ok (.lrem, 1)) (hne : ¬ y = 0) (k : AW_ cc own K m (pc + 1) ls (vL_ (x - x / y * y) :: st)) : AW_ cc own K m pc ls (vL_ y :: vL_ x :: st) :=
  aw_st (fun _ h => os_l (os_c (os_c h).2).2) (fun X hk ad H locs arr c9 s9 hy w => lv_lrem hk.1 hk.2.1 dg hne w) k
theorem a_ishl  {x y : Int32} (dg : decode cc pc = .ok (.ishl, 1)) (k : AW_ cc own K m (pc + 1) ls (vI_ (x <<< (y &&& 31)) :: st)) : AW_ cc own K m pc ls (vI_ y :: vI_ x :: st) :=
  aw_st (fun _ h => os_i (os_c (os_c h).2).2) (fun X hk ad H locs arr c9 s9 hy w => lv_ishl hk.1 hk.2.1 dg w) k
theorem a_ishr  {x y : Int32} (dg : decode cc pc = .ok (.ishr, 1)) (k : AW_ cc own K m (pc + 1) ls (vI_ (x >>> (y &&& 31)) :: st)) : AW_ cc own K m pc ls (vI_ y :: vI_ x :: st) :=
  aw_st (fun _ h => os_i (os_c (os_c h).2).2) (fun X hk ad H locs arr c9 s9 hy w => lv_ishr hk.1 hk.2.1 dg w) k
theorem a_iushr  {x y : Int32} (dg : decode cc pc = .ok (.iushr, 1)) (k : AW_ cc own K m (pc + 1) ls (vI_ ((x.toUInt32 >>> (y.toUInt32 &&& Int32.toUInt32 31)).toInt32) :: st)) : AW_ cc own K m pc ls (vI_ y :: vI_ x :: st) :=
  aw_st (fun _ h => os_i (os_c (os_c h).2).2) (fun X hk ad H locs arr c9 s9 hy w => lv_iushr hk.1 hk.2.1 dg rfl w) k
theorem a_lshl  {x : Int64} {y : Int32} (dg : decode cc pc = .ok (.lshl, 1)) (k : AW_ cc own K m (pc + 1) ls (vL_ (x <<< (y.toInt64 &&& 63)) :: st)) : AW_ cc own K m pc ls (vI_ y :: vL_ x :: st) :=
  aw_st (fun _ h => os_l (os_c (os_c h).2).2) (fun X hk ad H locs arr c9 s9 hy w => lv_lshl hk.1 hk.2.1 dg rfl w) k
theorem a_lcmp  {x y : Int64} (dg : decode cc pc = .ok (.lcmp, 1)) (k : AW_ cc own K m (pc + 1) ls (vI_ (lg_cmp x y) :: st)) : AW_ cc own K m pc ls (vL_ y :: vL_ x :: st) :=
  aw_st (fun _ h => os_i (os_c (os_c h).2).2) (fun X hk ad H locs arr c9 s9 hy w => W.lcmp hk.1 hk.2.1 dg w) k
theorem a_i2l  {x : Int32} (dg : decode cc pc = .ok (.i2l, 1)) (k : AW_ cc own K m (pc + 1) ls (vL_ (x.toInt64) :: st)) : AW_ cc own K m pc ls (vI_ x :: st) :=
  aw_st (fun _ h => os_l (os_c h).2) (fun X hk ad H locs arr c9 s9 hy w => lv_i2l hk.1 hk.2.1 dg rfl w) k
theorem a_l2i  {x : Int64} (dg : decode cc pc = .ok (.l2i, 1)) (k : AW_ cc own K m (pc + 1) ls (vI_ (x.toInt32) :: st)) : AW_ cc own K m pc ls (vL_ x :: st) :=
  aw_st (fun _ h => os_i (os_c h).2) (fun X hk ad H locs arr c9 s9 hy w => lv_l2i hk.1 hk.2.1 dg rfl w) k
theorem a_i2b  {x : Int32} (dg : decode cc pc = .ok (.i2b, 1)) (k : AW_ cc own K m (pc + 1) ls (vI_ (x.toInt8.toInt32) :: st)) : AW_ cc own K m pc ls (vI_ x :: st) :=
  aw_st (fun _ h => os_i (os_c h).2) (fun X hk ad H locs arr c9 s9 hy w => lv_i2b hk.1 hk.2.1 dg rfl w) k
theorem a_i2c  {x : Int32} (dg : decode cc pc = .ok (.i2c, 1)) (k : AW_ cc own K m (pc + 1) ls (vI_ ((x.toUInt32 % 65536).toInt32) :: st)) : AW_ cc own K m pc ls (vI_ x :: st) :=
  aw_st (fun _ h => os_i (os_c h).2) (fun X hk ad H locs arr c9 s9 hy w => lv_i2c hk.1 hk.2.1 dg rfl w) k
theorem cv_c1 {G : xg_T} {ad : Nat → Nat} {v : pm_V} (h : (match v with | .inr (.inl _) => false | _ => true) = true) : (cv_ G ad v).category = 1 := by
  rcases v with x | x | x
  · rfl
  · cases h
  · cases x <;> rfl
theorem a_dup  {v : pm_V} (dg : decode cc pc = .ok (.dup, 1)) (h1 : (match v with | .inr (.inl _) => false | _ => true) = true) (k : AW_ cc own K m (pc + 1) ls (v :: v :: st)) : AW_ cc own K m pc ls (v :: st) :=
  aw_st (fun _ h => os_k (os_c h).1 h) (fun X hk ad H locs arr c9 s9 hy w => lv_dup hk.1 hk.2.1 dg (cv_c1 h1) w) k
theorem a_pop  {v : pm_V} (dg : decode cc pc = .ok (.pop, 1)) (h1 : (match v with | .inr (.inl _) => false | _ => true) = true) (k : AW_ cc own K m (pc + 1) ls st) : AW_ cc own K m pc ls (v :: st) :=
  aw_st (fun _ h => (os_c h).2) (fun X hk ad H locs arr c9 s9 hy w => lv_pop hk.1 hk.2.1 dg (cv_c1 h1) w) k
theorem a_dup_x1  {v u : pm_V} (dg : decode cc pc = .ok (.dup_x1, 1)) (h1 : (match v with | .inr (.inl _) => false | _ => true) = true) (h2 : (match u with | .inr (.inl _) => false | _ => true) = true) (k : AW_ cc own K m (pc + 1) ls (v :: u :: v :: st)) : AW_ cc own K m pc ls (v :: u :: st) :=
  aw_st (fun _ h => os_k (os_c h).1 (os_k (os_c (os_c h).2).1 (os_k (os_c h).1 (os_c (os_c h).2).2))) (fun X hk ad H locs arr c9 s9 hy w => lv_dup_x1 hk.1 hk.2.1 dg (cv_c1 h1) (cv_c1 h2) w) k
theorem a_dup2  {v u : pm_V} (dg : decode cc pc = .ok (.dup2, 1)) (h1 : (match v with | .inr (.inl _) => false | _ => true) = true) (h2 : (match u with | .inr (.inl _) => false | _ => true) = true) (k : AW_ cc own K m (pc + 1) ls (v :: u :: v :: u :: st)) : AW_ cc own K m pc ls (v :: u :: st) :=
  aw_st (fun _ h => os_k (os_c h).1 (os_k (os_c (os_c h).2).1 h)) (fun X hk ad H locs arr c9 s9 hy w => lv_dup2_11 hk.1 hk.2.1 dg (cv_c1 h1) (cv_c1 h2) w) k
theorem a_dup2L  {x : Int64} (dg : decode cc pc = .ok (.dup2, 1)) (k : AW_ cc own K m (pc + 1) ls (vL_ x :: vL_ x :: st)) : AW_ cc own K m pc ls (vL_ x :: st) :=
  aw_st (fun _ h => os_l h) (fun X hk ad H locs arr c9 s9 hy w => lv_dup2_2 hk.1 hk.2.1 dg rfl w) k
theorem a_null  (dg : decode cc pc = .ok (.aconst_null, 1)) (k : AW_ cc own K m (pc + 1) ls (vR_ none :: st)) : AW_ cc own K m pc ls st :=
  aw_st (fun _ h => os_k (v := vR_ none) trivial h) (fun X hk ad H locs arr c9 s9 hy w => lv_null hk.1 hk.2.1 dg w) k
theorem a_icmp_eq  {x y : Int32} {off : Int} {tgt : Nat} (dg : decode cc pc = .ok (.if_icmp .eq off, 3)) (ht : (pc : Int) + off = (tgt : Int)) (kt : x = y → AW_ cc own K m tgt ls st) (kf : ¬ x = y → AW_ cc own K m (pc + 3) ls st) : AW_ cc own K m pc ls (vI_ y :: vI_ x :: st) := by
  by_cases q : x = y
  · exact aw_st (fun _ h => (os_c (os_c h).2).2) (fun X hk ad H locs arr c9 s9 hy w => lv_icmp_eq hk.1 hk.2.1 dg ht (fun _ => w) (fun z => absurd q z)) (kt q)
  · exact aw_st (fun _ h => (os_c (os_c h).2).2) (fun X hk ad H locs arr c9 s9 hy w => lv_icmp_eq hk.1 hk.2.1 dg ht (fun z => absurd z q) (fun _ => w)) (kf q)
theorem a_if_eq  {x : Int32} {off : Int} {tgt : Nat} (dg : decode cc pc = .ok (.ifCond .eq off, 3)) (ht : (pc : Int) + off = (tgt : Int)) (kt : x = 0 → AW_ cc own K m tgt ls st) (kf : ¬ x = 0 → AW_ cc own K m (pc + 3) ls st) : AW_ cc own K m pc ls (vI_ x :: st) := by
  by_cases q : x = 0
  · exact aw_st (fun _ h => (os_c h).2) (fun X hk ad H locs arr c9 s9 hy w => lv_if_eq hk.1 hk.2.1 dg ht (fun _ => w) (fun z => absurd q z)) (kt q)
  · exact aw_st (fun _ h => (os_c h).2) (fun X hk ad H locs arr c9 s9 hy w => lv_if_eq hk.1 hk.2.1 dg ht (fun z => absurd z q) (fun _ => w)) (kf q)
theorem a_icmp_ne  {x y : Int32} {off : Int} {tgt : Nat} (dg : decode cc pc = .ok (.if_icmp .ne off, 3)) (ht : (pc : Int) + off = (tgt : Int)) (kt : ¬ x = y → AW_ cc own K m tgt ls st) (kf : x = y → AW_ cc own K m (pc + 3) ls st) : AW_ cc own K m pc ls (vI_ y :: vI_ x :: st) := by
  by_cases q : ¬ x = y
  · exact aw_st (fun _ h => (os_c (os_c h).2).2) (fun X hk ad H locs arr c9 s9 hy w => lv_icmp_ne hk.1 hk.2.1 dg ht (fun _ => w) (fun z => absurd z q)) (kt q)
  · exact aw_st (fun _ h => (os_c (os_c h).2).2) (fun X hk ad H locs arr c9 s9 hy w => lv_icmp_ne hk.1 hk.2.1 dg ht (fun z => absurd (Decidable.not_not.mp q) z) (fun _ => w)) (kf (Decidable.not_not.mp q))
theorem a_if_ne  {x : Int32} {off : Int} {tgt : Nat} (dg : decode cc pc = .ok (.ifCond .ne off, 3)) (ht : (pc : Int) + off = (tgt : Int)) (kt : ¬ x = 0 → AW_ cc own K m tgt ls st) (kf : x = 0 → AW_ cc own K m (pc + 3) ls st) : AW_ cc own K m pc ls (vI_ x :: st) := by
  by_cases q : ¬ x = 0
  · exact aw_st (fun _ h => (os_c h).2) (fun X hk ad H locs arr c9 s9 hy w => lv_if_ne hk.1 hk.2.1 dg ht (fun _ => w) (fun z => absurd z q)) (kt q)
  · exact aw_st (fun _ h => (os_c h).2) (fun X hk ad H locs arr c9 s9 hy w => lv_if_ne hk.1 hk.2.1 dg ht (fun z => absurd (Decidable.not_not.mp q) z) (fun _ => w)) (kf (Decidable.not_not.mp q))
theorem a_icmp_lt  {x y : Int32} {off : Int} {tgt : Nat} (dg : decode cc pc = .ok (.if_icmp .lt off, 3)) (ht : (pc : Int) + off = (tgt : Int)) (kt : x < y → AW_ cc own K m tgt ls st) (kf : ¬ x < y → AW_ cc own K m (pc + 3) ls st) : AW_ cc own K m pc ls (vI_ y :: vI_ x :: st) := by
  by_cases q : x < y
  · exact aw_st (fun _ h => (os_c (os_c h).2).2) (fun X hk ad H locs arr c9 s9 hy w => lv_icmp_lt hk.1 hk.2.1 dg ht (fun _ => w) (fun z => absurd q z)) (kt q)
  · exact aw_st (fun _ h => (os_c (os_c h).2).2) (fun X hk ad H locs arr c9 s9 hy w => lv_icmp_lt hk.1 hk.2.1 dg ht (fun z => absurd z q) (fun _ => w)) (kf q)
theorem a_if_lt  {x : Int32} {off : Int} {tgt : Nat} (dg : decode cc pc = .ok (.ifCond .lt off, 3)) (ht : (pc : Int) + off = (tgt : Int)) (kt : x < 0 → AW_ cc own K m tgt ls st) (kf : ¬ x < 0 → AW_ cc own K m (pc + 3) ls st) : AW_ cc own K m pc ls (vI_ x :: st) := by
  by_cases q : x < 0
  · exact aw_st (fun _ h => (os_c h).2) (fun X hk ad H locs arr c9 s9 hy w => lv_if_lt hk.1 hk.2.1 dg ht (fun _ => w) (fun z => absurd q z)) (kt q)
  · exact aw_st (fun _ h => (os_c h).2) (fun X hk ad H locs arr c9 s9 hy w => lv_if_lt hk.1 hk.2.1 dg ht (fun z => absurd z q) (fun _ => w)) (kf q)
theorem a_icmp_ge  {x y : Int32} {off : Int} {tgt : Nat} (dg : decode cc pc = .ok (.if_icmp .ge off, 3)) (ht : (pc : Int) + off = (tgt : Int)) (kt : y ≤ x → AW_ cc own K m tgt ls st) (kf : ¬ y ≤ x → AW_ cc own K m (pc + 3) ls st) : AW_ cc own K m pc ls (vI_ y :: vI_ x :: st) := by
  by_cases q : y ≤ x
  · exact aw_st (fun _ h => (os_c (os_c h).2).2) (fun X hk ad H locs arr c9 s9 hy w => lv_icmp_ge hk.1 hk.2.1 dg ht (fun _ => w) (fun z => absurd q z)) (kt q)
  · exact aw_st (fun _ h => (os_c (os_c h).2).2) (fun X hk ad H locs arr c9 s9 hy w => lv_icmp_ge hk.1 hk.2.1 dg ht (fun z => absurd z q) (fun _ => w)) (kf q)
theorem a_if_ge  {x : Int32} {off : Int} {tgt : Nat} (dg : decode cc pc = .ok (.ifCond .ge off, 3)) (ht : (pc : Int) + off = (tgt : Int)) (kt : 0 ≤ x → AW_ cc own K m tgt ls st) (kf : ¬ 0 ≤ x → AW_ cc own K m (pc + 3) ls st) : AW_ cc own K m pc ls (vI_ x :: st) := by
  by_cases q : 0 ≤ x
  · exact aw_st (fun _ h => (os_c h).2) (fun X hk ad H locs arr c9 s9 hy w => lv_if_ge hk.1 hk.2.1 dg ht (fun _ => w) (fun z => absurd q z)) (kt q)
  · exact aw_st (fun _ h => (os_c h).2) (fun X hk ad H locs arr c9 s9 hy w => lv_if_ge hk.1 hk.2.1 dg ht (fun z => absurd z q) (fun _ => w)) (kf q)
theorem a_icmp_gt  {x y : Int32} {off : Int} {tgt : Nat} (dg : decode cc pc = .ok (.if_icmp .gt off, 3)) (ht : (pc : Int) + off = (tgt : Int)) (kt : y < x → AW_ cc own K m tgt ls st) (kf : ¬ y < x → AW_ cc own K m (pc + 3) ls st) : AW_ cc own K m pc ls (vI_ y :: vI_ x :: st) := by
  by_cases q : y < x
  · exact aw_st (fun _ h => (os_c (os_c h).2).2) (fun X hk ad H locs arr c9 s9 hy w => lv_icmp_gt hk.1 hk.2.1 dg ht (fun _ => w) (fun z => absurd q z)) (kt q)
  · exact aw_st (fun _ h => (os_c (os_c h).2).2) (fun X hk ad H locs arr c9 s9 hy w => lv_icmp_gt hk.1 hk.2.1 dg ht (fun z => absurd z q) (fun _ => w)) (kf q)
theorem a_if_gt  {x : Int32} {off : Int} {tgt : Nat} (dg : decode cc pc = .ok (.ifCond .gt off, 3)) (ht : (pc : Int) + off = (tgt : Int)) (kt : 0 < x → AW_ cc own K m tgt ls st) (kf : ¬ 0 < x → AW_ cc own K m (pc + 3) ls st) : AW_ cc own K m pc ls (vI_ x :: st) := by
  by_cases q : 0 < x
  · exact aw_st (fun _ h => (os_c h).2) (fun X hk ad H locs arr c9 s9 hy w => lv_if_gt hk.1 hk.2.1 dg ht (fun _ => w) (fun z => absurd q z)) (kt q)
  · exact aw_st (fun _ h => (os_c h).2) (fun X hk ad H locs arr c9 s9 hy w => lv_if_gt hk.1 hk.2.1 dg ht (fun z => absurd z q) (fun _ => w)) (kf q)
theorem a_icmp_le  {x y : Int32} {off : Int} {tgt : Nat} (dg : decode cc pc = .ok (.if_icmp .le off, 3)) (ht : (pc : Int) + off = (tgt : Int)) (kt : x ≤ y → AW_ cc own K m tgt ls st) (kf : ¬ x ≤ y → AW_ cc own K m (pc + 3) ls st) : AW_ cc own K m pc ls (vI_ y :: vI_ x :: st) := by
  by_cases q : x ≤ y
  · exact aw_st (fun _ h => (os_c (os_c h).2).2) (fun X hk ad H locs arr c9 s9 hy w => lv_icmp_le hk.1 hk.2.1 dg ht (fun _ => w) (fun z => absurd q z)) (kt q)
  · exact aw_st (fun _ h => (os_c (os_c h).2).2) (fun X hk ad H locs arr c9 s9 hy w => lv_icmp_le hk.1 hk.2.1 dg ht (fun z => absurd z q) (fun _ => w)) (kf q)
theorem a_if_le  {x : Int32} {off : Int} {tgt : Nat} (dg : decode cc pc = .ok (.ifCond .le off, 3)) (ht : (pc : Int) + off = (tgt : Int)) (kt : x ≤ 0 → AW_ cc own K m tgt ls st) (kf : ¬ x ≤ 0 → AW_ cc own K m (pc + 3) ls st) : AW_ cc own K m pc ls (vI_ x :: st) := by
  by_cases q : x ≤ 0
  · exact aw_st (fun _ h => (os_c h).2) (fun X hk ad H locs arr c9 s9 hy w => lv_if_le hk.1 hk.2.1 dg ht (fun _ => w) (fun z => absurd q z)) (kt q)
  · exact aw_st (fun _ h => (os_c h).2) (fun X hk ad H locs arr c9 s9 hy w => lv_if_le hk.1 hk.2.1 dg ht (fun z => absurd z q) (fun _ => w)) (kf q)
theorem a_goto  {off : Int} {tgt : Nat} (dg : decode cc pc = .ok (.goto off, 3)) (ht : (pc : Int) + off = (tgt : Int)) (k : AW_ cc own K m tgt ls st) : AW_ cc own K m pc ls st :=
  aw_st (fun _ h => h) (fun X hk ad H locs arr c9 s9 hy w => lv_goto hk.1 hk.2.1 dg ht w) k
theorem a_ifnull  {r : Option pm_A} {off : Int} {tgt : Nat} (dg : decode cc pc = .ok (.ifnull off, 3)) (ht : (pc : Int) + off = (tgt : Int)) (kt : r = none → AW_ cc own K m tgt ls st) (kf : ¬ r = none → AW_ cc own K m (pc + 3) ls st) : AW_ cc own K m pc ls (vR_ r :: st) := by
  cases r with
  | none => exact aw_st (fun _ h => (os_c h).2) (fun X hk ad H locs arr c9 s9 hy w => lv_ifnullN hk.1 hk.2.1 dg ht w) (kt rfl)
  | some a => exact aw_st (fun _ h => (os_c h).2) (fun X hk ad H locs arr c9 s9 hy w => lv_ifnull hk.1 hk.2.1 dg w) (kf (fun h => nomatch h))
theorem a_ifnonnull  {r : Option pm_A} {off : Int} {tgt : Nat} (dg : decode cc pc = .ok (.ifnonnull off, 3)) (ht : (pc : Int) + off = (tgt : Int)) (kt : ¬ r = none → AW_ cc own K m tgt ls st) (kf : r = none → AW_ cc own K m (pc + 3) ls st) : AW_ cc own K m pc ls (vR_ r :: st) := by
  cases r with
  | none => exact aw_st (fun _ h => (os_c h).2) (fun X hk ad H locs arr c9 s9 hy w => lv_ifnonnullN hk.1 hk.2.1 dg w) (kf rfl)
  | some a => exact aw_st (fun _ h => (os_c h).2) (fun X hk ad H locs arr c9 s9 hy w => lv_ifnonnull hk.1 hk.2.1 dg ht w) (kt (fun h => nomatch h))
theorem a_tabIn  {dflt lo hi : Int} {offs : Array Int} {len : Nat} {x : Int32} {off : Int} {tgt : Nat} (dg : decode cc pc = .ok (.tableswitch dflt lo hi offs, len)) (h1 : ¬ x.toInt < lo) (h2 : ¬ hi < x.toInt) (ho : offs[(x.toInt - lo).toNat]? = some off) (ht : (pc : Int) + off = (tgt : Int)) (k : AW_ cc own K m tgt ls st) : AW_ cc own K m pc ls (vI_ x :: st) :=
  aw_st (fun _ h => (os_c h).2) (fun X hk ad H locs arr c9 s9 hy w => lv_tableIn hk.1 hk.2.1 dg h1 h2 ho ht w) k
theorem a_tabOut  {dflt lo hi : Int} {offs : Array Int} {len : Nat} {x : Int32} {tgt : Nat} (dg : decode cc pc = .ok (.tableswitch dflt lo hi offs, len)) (h : x.toInt < lo ∨ hi < x.toInt) (ht : (pc : Int) + dflt = (tgt : Int)) (k : AW_ cc own K m tgt ls st) : AW_ cc own K m pc ls (vI_ x :: st) :=
  aw_st (fun _ h => (os_c h).2) (fun X hk ad H locs arr c9 s9 hy w => lv_tableOut hk.1 hk.2.1 dg h ht w) k
theorem a_lookup  {dflt : Int} {ps : Array (Int × Int)} {len : Nat} {x : Int32} {off : Int} {tgt : Nat} (dg : decode cc pc = .ok (.lookupswitch dflt ps, len)) (hp : (ps.toList.zip (ps.toList.drop 1)).all (fun (a, next) => a.1 < next.1) = true) (ho : Op.lookupswitch.offset ps.toList dflt x.toInt = off) (ht : (pc : Int) + off = (tgt : Int)) (k : AW_ cc own K m tgt ls st) : AW_ cc own K m pc ls (vI_ x :: st) :=
  aw_st (fun _ h => (os_c h).2) (fun X hk ad H locs arr c9 s9 hy w => lv_lookup hk.1 hk.2.1 dg hp ho ht w) k
end AWR
