/-! CONTRACTS over the abstract memory: calls, returns, throws -/
set_option maxRecDepth 100000
/-- the contract: called with av at m, y ends with o at m' -/
def Cal_ (G : xg_T) (l : Launch) (y : MethodName) (ws : List Cond) (d : Nat) (av : List pm_V) (m : pm_M) (o : pm_O) (m' : pm_M) : Prop :=
  (gN_ m ≤ gN_ m' ∧ gS_ m ≤ gS_ m') ∧ ∀ ad : Nat → Nat, vx_Met l y ws (rm_ d m m') (pc_ G ad av m) (qc_ G ad m o m') (qx_ G ad m o m') (gN_ m' - gN_ m) (gS_ m' - gS_ m) (xg_A G)
theorem pc_blind {G : xg_T} {ad : Nat → Nat} {av : List pm_V} {m : pm_M} : FrameBlind (pc_ G ad av m) := fun a U g mk h => ⟨h.1, en_mv (u := U) (U := U.calling g mk a) h.2.1 (State.WarmedH.refl U) (fun _ _ _ => rfl), h.2.2.1, h.2.2.2.1, h.2.2.2.2⟩
section AWC
variable {cc : ByteArray} {own : String} {K : kx_T} {X : cx_T} {m : pm_M} {pc : Nat} {ls : List (Nat × pm_V)} {st : List pm_V}
theorem pc_now (hk : ck_ cc own K X) {ad : Nat → Nat} {H : Heap} {locs : List Loc} {arr : Array Slot} (hy : hy_ K X m ls ad H locs arr) {av : List pm_V} (hs : os_ m av) : ∀ U : State, U.heap = H → (cx_s X).WarmedH U.vm → pc_ (kx_G K) ad av m (av.map (cv_ (kx_G K) ad)).toArray U := by
  intro U hU hW
  have h := hy.2.2.2.1
  exact ⟨rfl, en_mv hk.2.2.2.2.2.2.2.2.2.2.1 hW (by rw [hU]; exact h.2.1), by rw [hU]; exact hy.2.2.1, hs, by rw [hU]; exact Nat.le_trans hk.2.2.2.2.2.2.2.2.2.1 h.1⟩
/-- the frame's goal with a thrown one over it -/
def AX_ (cc : ByteArray) (own : String) (K : kx_T) (m : pm_M) (pc : Nat) (ls : List (Nat × pm_V)) (b : pm_A) : Prop :=
  (gN_ m ≤ gN_ (kx_E K) ∧ gS_ m ≤ gS_ (kx_E K)) ∧ ∀ (X : cx_T), ck_ cc own K X → ∀ (ad : Nat → Nat) (H : Heap) (locs : List Loc) (arr : Array Slot) (rest : List Value) (ce : Cell), hy_ K X m ls ad H locs arr → oa_ m b → H[ca_ (kx_G K) ad b]? = some ce → ce.vm = .none → (cx_s X).vm.findClass (cn_ b.1) = some ce.cls →
    vx_W (cx_p X) (kx_l K) (cx_e X) (cx_R X) (cx_s X) (cx_i X) (cx_a X) (cx_b X) (cx_m X) (cx_c X) H locs (gN_ m - gN_ (kx_0 K)) (gS_ m - gS_ (kx_0 K)) (cx_Q X) (F0 (cx_i X) pc arr rest) (ca_ (kx_G K) ad b)
/-- behind a call (of ln bytes) that returned -/
theorem aw_ret (hk : ck_ cc own K X) {G : xg_T} (hG : G = kx_G K) {m1 : pm_M} {o : pm_O} {ln pc1 : Nat} {st0 : List Value} (hpc : pc + ln = pc1) {r : Option pm_V} (ho : o = .inl r) (hst : os_ m st) {ad : Nat → Nat} {H : Heap} {locs : List Loc} {arr : Array Slot} (hy : hy_ K X m ls ad H locs arr) (hb : xg_b G ≤ (cx_s X).heap.size) (h1 : gN_ m ≤ gN_ m1 ∧ gS_ m ≤ gS_ m1)
    (k : AW_ cc own K m1 pc1 ls (r.toList ++ st)) {v : Option Value} {st₀ t T' : State} {L : List Loc} (h0 : st₀.heap = H) (XS : Stand (cx_p X) (kx_l K) (cx_e X) (cx_R X) (cx_s X) (cx_i X) (cx_a X) (cx_b X) (cx_m X) (cx_c X) T' (locs ++ L) (gN_ m - gN_ (kx_0 K) + (gN_ m1 - gN_ m)) (gS_ m - gS_ (kx_0 K) + (gS_ m1 - gS_ m)))
    (hL : ∀ q ∈ L, xg_A G q.base) (e1 : T'.heap = t.heap) (hq : qc_ G ad m o m1 (cx_a X) st₀ (.returned v) t) {T : State} (go : ∀ tg, Steps (cx_p X).tables (cx_e X) (cx_b X) (T'.setTop (F0 (cx_i X) pc1 arr (v.toList ++ st.map (cv_ G ad)))) tg → Steps (cx_p X).tables (cx_e X) (cx_b X) (T.setTop (F0 (cx_i X) pc arr st0)) tg) :
    ∃ t, Steps (cx_p X).tables (cx_e X) (cx_b X) (T.setTop (F0 (cx_i X) pc arr st0)) t ∧ cx_Q X t := by
  subst hG
  obtain ⟨hF, r2, ad', e2, hag, hx, e3, hr, hm⟩ := hq
  rw [ho] at e2
  cases e2
  cases e3
  obtain ⟨k1, k2, k3⟩ := vx_keep h0 e1 hy.2.2.2.1 (fun q _ h => h) (fun q h => h) hL hF
  have x1 := hy.1.1
  have x2 := hy.1.2.1
  have hy' : hy_ K X m1 ls ad' T'.heap (locs ++ L) arr := by
    refine ⟨xt_tr hy.1 hx, ag_tr hy.1 hy.2.1 hag, by rw [e1]; exact hm, k3, ?_, os_x hx hy.2.2.2.2.2⟩
    rw [cl_ag hag hy.2.2.2.2.2]
    exact hy.2.2.2.2.1
  have w := k.2 X hk ad' T'.heap (locs ++ L) arr hy' (os_a hr (os_x hx hst))
  rw [List.map_append, cs_ag hag hst] at w
  have XS' : Stand (cx_p X) (kx_l K) (cx_e X) (cx_R X) (cx_s X) (cx_i X) (cx_a X) (cx_b X) (cx_m X) (cx_c X) T' (locs ++ L) (gN_ m1 - gN_ (kx_0 K)) (gS_ m1 - gS_ (kx_0 K)) := stand_widen XS (by omega) (by omega)
  obtain ⟨t2, a1, b1⟩ := w T' rfl XS'
  refine ⟨t2, go t2 ?_, b1⟩
  cases r <;> exact a1
/-- behind a call that threw -/
theorem aw_thr (hk : ck_ cc own K X) {G : xg_T} (hG : G = kx_G K) {m1 : pm_M} {o : pm_O} {st0 : List Value} {b : pm_A} (ho : o = .inr b) {ad : Nat → Nat} {H : Heap} {locs : List Loc} {arr : Array Slot} (hy : hy_ K X m ls ad H locs arr) (h1 : gN_ m ≤ gN_ m1 ∧ gS_ m ≤ gS_ m1)
    (k : AX_ cc own K m1 pc ls b) {rest : List Value} {q : Addr} {st₀ t T' : State} {L : List Loc} {E : String} {ce : Cell} (h0 : st₀.heap = H) (XS : Stand (cx_p X) (kx_l K) (cx_e X) (cx_R X) (cx_s X) (cx_i X) (cx_a X) (cx_b X) (cx_m X) (cx_c X) T' (locs ++ L) (gN_ m - gN_ (kx_0 K) + (gN_ m1 - gN_ m)) (gS_ m - gS_ (kx_0 K) + (gS_ m1 - gS_ m)))
    (hL : ∀ q ∈ L, xg_A G q.base) (e1 : T'.heap = t.heap) (hq : qx_ G ad m o m1 q E st₀ t) (hce : t.heap[q]? = some ce) (hv : ce.vm = .none) (hcl : (cx_s X).vm.findClass E = some ce.cls) {T : State} (go : Steps (cx_p X).tables (cx_e X) (cx_b X) (T.setTop (F0 (cx_i X) pc arr st0)) ((T'.setTop (F0 (cx_i X) pc arr rest)).pushFrame (.throwing q))) :
    ∃ t, Steps (cx_p X).tables (cx_e X) (cx_b X) (T.setTop (F0 (cx_i X) pc arr st0)) t ∧ cx_Q X t := by
  subst hG
  obtain ⟨hF, b2, ad', e2, hag, hx, e3, e4, hr, hm⟩ := hq
  rw [ho] at e2
  cases e2
  obtain ⟨k1, k2, k3⟩ := vx_keep h0 e1 hy.2.2.2.1 (fun q _ h => h) (fun q h => h) hL hF
  have x1 := hy.1.1
  have x2 := hy.1.2.1
  have hy' : hy_ K X m1 ls ad' T'.heap (locs ++ L) arr := by
    refine ⟨xt_tr hy.1 hx, ag_tr hy.1 hy.2.1 hag, by rw [e1]; exact hm, k3, ?_, os_x hx hy.2.2.2.2.2⟩
    rw [cl_ag hag hy.2.2.2.2.2]
    exact hy.2.2.2.2.1
  have w := k.2 X hk ad' T'.heap (locs ++ L) arr rest ce hy' hr (by rw [← e3, e1]; exact hce) hv (by rw [← e4]; exact hcl)
  have XS' : Stand (cx_p X) (kx_l K) (cx_e X) (cx_R X) (cx_s X) (cx_i X) (cx_a X) (cx_b X) (cx_m X) (cx_c X) T' (locs ++ L) (gN_ m1 - gN_ (kx_0 K)) (gS_ m1 - gS_ (kx_0 K)) := stand_widen XS (by omega) (by omega)
  obtain ⟨t2, a1, b1⟩ := w T' rfl XS'
  rw [← e3] at a1
  exact ⟨t2, go.trans a1, b1⟩
/-- what a call's row gives: the run of the callee -/
def rn_ (cc : ByteArray) (own : String) (K : kx_T) (m : pm_M) (pc ln : Nat) (ls : List (Nat × pm_V)) (st0 st : List pm_V) (o : pm_O) (m1 : pm_M) : Prop :=
  ∀ (X : cx_T), ck_ cc own K X → ∀ (ad : Nat → Nat) (H : Heap) (locs : List Loc) (arr : Array Slot), hy_ K X m ls ad H locs arr → os_ m st0 → gN_ m1 ≤ gN_ (kx_E K) → gS_ m1 ≤ gS_ (kx_E K) → ∀ T : State, T.heap = H → Stand (cx_p X) (kx_l K) (cx_e X) (cx_R X) (cx_s X) (cx_i X) (cx_a X) (cx_b X) (cx_m X) (cx_c X) T locs (gN_ m - gN_ (kx_0 K)) (gS_ m - gS_ (kx_0 K)) →
    (∃ (v : Option Value) (st₀ t T' : State) (L : List Loc), st₀.heap = H ∧ Stand (cx_p X) (kx_l K) (cx_e X) (cx_R X) (cx_s X) (cx_i X) (cx_a X) (cx_b X) (cx_m X) (cx_c X) T' (locs ++ L) (gN_ m - gN_ (kx_0 K) + (gN_ m1 - gN_ m)) (gS_ m - gS_ (kx_0 K) + (gS_ m1 - gS_ m)) ∧ (∀ q ∈ L, xg_A (kx_G K) q.base) ∧ T'.heap = t.heap ∧ T'.vm = t.vm ∧ qc_ (kx_G K) ad m o m1 (cx_a X) st₀ (.returned v) t ∧
      Goes (cx_p X) (cx_e X) (cx_b X) T (F0 (cx_i X) pc arr (st0.map (cv_ (kx_G K) ad))) T' (F0 (cx_i X) (pc + ln) arr (v.toList ++ st.map (cv_ (kx_G K) ad)))) ∨
    (∃ (q : Addr) (st₀ t T' : State) (L : List Loc) (E : String) (ce : Cell), st₀.heap = H ∧ Stand (cx_p X) (kx_l K) (cx_e X) (cx_R X) (cx_s X) (cx_i X) (cx_a X) (cx_b X) (cx_m X) (cx_c X) T' (locs ++ L) (gN_ m - gN_ (kx_0 K) + (gN_ m1 - gN_ m)) (gS_ m - gS_ (kx_0 K) + (gS_ m1 - gS_ m)) ∧ (∀ z ∈ L, xg_A (kx_G K) z.base) ∧ T'.heap = t.heap ∧ T'.vm = t.vm ∧ qx_ (kx_G K) ad m o m1 q E st₀ t ∧ t.heap[q]? = some ce ∧ ce.vm = .none ∧ (cx_s X).vm.findClass E = some ce.cls ∧
      Steps (cx_p X).tables (cx_e X) (cx_b X) (T.setTop (F0 (cx_i X) pc arr (st0.map (cv_ (kx_G K) ad)))) ((T'.setTop (F0 (cx_i X) pc arr (st.map (cv_ (kx_G K) ad)))).pushFrame (.throwing q)))
theorem a_call {m1 : pm_M} {ln : Nat} {st0 : List pm_V} {r : Option pm_V} (h1 : gN_ m ≤ gN_ m1 ∧ gS_ m ≤ gS_ m1) (hr : rn_ cc own K m pc ln ls st0 st (.inl r) m1) (hst : os_ m st0 → os_ m st) (k : AW_ cc own K m1 (pc + ln) ls (r.toList ++ st)) : AW_ cc own K m pc ls st0 := by
  refine ⟨⟨Nat.le_trans h1.1 k.1.1, Nat.le_trans h1.2 k.1.2⟩, fun X hk ad H locs arr hy hs T hT XS => ?_⟩
  rcases hr X hk ad H locs arr hy hs k.1.1 k.1.2 T hT XS with ⟨v, st₀, t, T', L, h0, X', hL, e1, e2, hq, go⟩ | ⟨q, st₀, t, T', L, E, ce, h0, X', hL, e1, e2, ⟨hF, b2, ad', e9, -⟩, -⟩
  · exact aw_ret hk rfl rfl rfl (hst hs) hy hk.2.2.2.2.2.2.2.2.2.1 h1 k h0 X' hL e1 hq go
  · cases e9
theorem a_callX {m1 : pm_M} {ln : Nat} {st0 : List pm_V} {b : pm_A} (h1 : gN_ m ≤ gN_ m1 ∧ gS_ m ≤ gS_ m1) (hr : rn_ cc own K m pc ln ls st0 st (.inr b) m1) (k : AX_ cc own K m1 pc ls b) : AW_ cc own K m pc ls st0 := by
  refine ⟨⟨Nat.le_trans h1.1 k.1.1, Nat.le_trans h1.2 k.1.2⟩, fun X hk ad H locs arr hy hs T hT XS => ?_⟩
  rcases hr X hk ad H locs arr hy hs k.1.1 k.1.2 T hT XS with ⟨v, st₀, t, T', L, h0, X', hL, e1, e2, ⟨hF, r2, ad', e9, -⟩, go⟩ | ⟨q, st₀, t, T', L, E, ce, h0, X', hL, e1, e2, hq, hce, hv, hcl, go⟩
  · cases e9
  · exact aw_thr hk rfl rfl hy h1 k h0 X' hL e1 hq hce hv hcl go
def wd_ (st : List pm_V) : Nat := (st.map (fun v => match v with | .inr (.inl _) => 2 | _ => 1)).sum
theorem wd_ok {G : xg_T} {ad : Nat → Nat} {st : List pm_V} : ((st.map (cv_ G ad)).map fun v => v.category).sum = wd_ st := by
  unfold wd_
  rw [List.map_map]
  congr 1
  apply List.map_congr_left
  intro v _
  rcases v with x | x | x
  · rfl
  · rfl
  · cases x <;> rfl
theorem st_rev {G : xg_T} {ad : Nat → Nat} {As st : List pm_V} {a : pm_A} : (As.reverse ++ vR_ (some a) :: st).map (cv_ G ad) = (As.map (cv_ G ad)).reverse ++ .ref (ca_ G ad a) :: st.map (cv_ G ad) := by
  rw [List.map_append, List.map_reverse]
  rfl
theorem st_revS {G : xg_T} {ad : Nat → Nat} {As st : List pm_V} : (As.reverse ++ st).map (cv_ G ad) = (As.map (cv_ G ad)).reverse ++ st.map (cv_ G ad) := by
  rw [List.map_append, List.map_reverse]
theorem os_av {As : List pm_V} {a : pm_A} (h : os_ m (As.reverse ++ vR_ (some a) :: st)) : os_ m (vR_ (some a) :: As) ∧ os_ m st ∧ oa_ m a := by
  obtain ⟨h1, h2⟩ := os_al h
  have h3 := os_r h1
  rw [List.reverse_reverse] at h3
  exact ⟨os_k (os_c h2).1 h3, (os_c h2).2, (os_c h2).1⟩
theorem os_aS {As : List pm_V} (h : os_ m (As.reverse ++ st)) : os_ m As ∧ os_ m st := by
  obtain ⟨h1, h2⟩ := os_al h
  have h3 := os_r h1
  rw [List.reverse_reverse] at h3
  exact ⟨h3, h2⟩
theorem rm_ok (hk : ck_ cc own K X) {d1 maxL : Nat} {m1 : pm_M} (h : d1 + 1 ≤ kx_d K) (hm : maxL ≤ 80) : (rm_ d1 m m1).frames + 1 ≤ (cx_R X).frames ∧ 8 + (maxL + 11) + (rm_ d1 m m1).locals ≤ (cx_R X).locals := by
  have R := hk.2.2.2.2.2.2.2.2.1
  rw [R.1, R.2.1]
  unfold rm_
  exact ⟨h, by show 8 + (maxL + 11) + 100 * d1 ≤ 100 * kx_d K; omega⟩
theorem rm_cs (hk : ck_ cc own K X) {m1 : pm_M} (hx : xt_ (kx_0 K) m) (h1 : gN_ m ≤ gN_ m1 ∧ gS_ m ≤ gS_ m1) (hE1 : gN_ m1 ≤ gN_ (kx_E K)) (hE2 : gS_ m1 ≤ gS_ (kx_E K)) : gN_ m - gN_ (kx_0 K) + (gN_ m1 - gN_ m) ≤ (cx_R X).cells ∧ gS_ m - gS_ (kx_0 K) + (gS_ m1 - gS_ m) ≤ (cx_R X).slots := by
  have R := hk.2.2.2.2.2.2.2.2.1
  have x1 := hx.1
  have x2 := hx.2.1
  rw [R.2.2.1, R.2.2.2]
  omega
theorem rn_V {c : Nat} {C : String} {T : u_T} {N : Nat} {ty : Nat → FieldType} {index n d1 maxL : Nat} {y : MethodName} {bytes : ByteArray} {rt : Option FieldType} {As : List pm_V} {a : pm_A} {o : pm_O} {m1 : pm_M} (hc : kc_ c C T N ty) (ha : a.1 = c) (hcal : Cal_ (kx_G K) (kx_l K) y (ws_ y bytes maxL rt) d1 (vR_ (some a) :: As) m o m1) (cw : GoodIn lw_all (wsV own index C y (ws_ y bytes maxL rt))) (hd : y.cls = C ∧ y.cls ≠ "java/lang/invoke/MethodHandle" ∧ y.cls ≠ "java/lang/invoke/VarHandle" ∧ (parseMethodDescriptor y.desc).map (fun d => d.parameters.length) = some n) (hn : As.length = n) (hdep : d1 + 1 ≤ kx_d K) (hmx : maxL ≤ 80) (hw : wd_ st ≤ 8) (dg : decode cc pc = .ok (.invokevirtual index, 3)) : rn_ cc own K m pc 3 ls (As.reverse ++ vR_ (some a) :: st) st o m1 := by
  intro X hk ad H locs arr hy hs hE1 hE2
  obtain ⟨hs1, hs2, hs3⟩ := os_av hs
  rw [st_rev]
  exact vx_runV (C := C) (b := ca_ (kx_G K) ad a) (As := As.map (cv_ (kx_G K) ad)) (rest := st.map (cv_ (kx_G K) ad)) ⟨hk.1, hk.2.1, hk.2.2.1, hk.2.2.2.1, hk.2.2.2.2.1⟩ (hcal.2 ad) (cwV n hk.2.2.2.2.1 cw rfl rfl rfl hd (rm_ok hk hdep hmx)) ⟨pc_blind, va_recv hk.2.2.2.2.2.2.2.2.2.2.1.1 hy.2.2.1.1 hc.1 (pw_o hc ha hs3), pc_now hk hy hs1⟩ rfl (by rw [List.length_map]; exact hn) hy.2.2.2.2.1.1 rfl (by show 2 * 0 + _ ≤ 8; rw [wd_ok]; omega) dg (rm_cs hk hy.1 hcal.1 hE1 hE2)
theorem rn_VN {c : Nat} {C : String} {T : u_T} {N : Nat} {ty : Nat → FieldType} {index n d1 maxL : Nat} {y : MethodName} {bytes : ByteArray} {rt : Option FieldType} {As : List pm_V} {a : pm_A} {o : pm_O} {m1 : pm_M} (hc : kc_ c C T N ty) (ha : a.1 = c) (hcal : Cal_ (kx_G K) (kx_l K) y (ws_ y bytes maxL rt) d1 (vR_ (some a) :: As) m o m1) {host : String} (q : Cond.methodLinkNest own index y host ∈ lw_tbl) (q2 : Cond.instanceMethod y ∈ lw_all) (q3 : Cond.selects C y y ∈ lw_all) (q4 : Cond.initialized y.cls ∈ lw_all) (q5 : Cond.code y bytes maxL rt ∈ lw_all) (hd : y.cls ≠ "java/lang/invoke/MethodHandle" ∧ y.cls ≠ "java/lang/invoke/VarHandle" ∧ (parseMethodDescriptor y.desc).map (fun d => d.parameters.length) = some n) (hn : As.length = n) (hdep : d1 + 1 ≤ kx_d K) (hmx : maxL ≤ 80) (hw : wd_ st ≤ 8) (dg : decode cc pc = .ok (.invokevirtual index, 3)) : rn_ cc own K m pc 3 ls (As.reverse ++ vR_ (some a) :: st) st o m1 := by
  intro X hk ad H locs arr hy hs hE1 hE2
  obtain ⟨hs1, hs2, hs3⟩ := os_av hs
  rw [st_rev]
  exact vx_runVN (C := C) (b := ca_ (kx_G K) ad a) (As := As.map (cv_ (kx_G K) ad)) (rest := st.map (cv_ (kx_G K) ad)) ⟨hk.1, hk.2.1, hk.2.2.1, hk.2.2.2.1, hk.2.2.2.2.1⟩ (hcal.2 ad) ⟨va_cnB n hk.2.2.2.2.1 (lw_meth q5) rfl rfl rfl (hk.2.2.2.2.2.2.2.2.2.2.1.2.1 _ q rfl) (hk.2.2.2.2.1 _ q4) hd (rm_ok hk hdep hmx), hk.2.2.2.2.1 _ q2, hk.2.2.2.2.1 _ q3⟩ ⟨pc_blind, va_recv hk.2.2.2.2.2.2.2.2.2.2.1.1 hy.2.2.1.1 hc.1 (pw_o hc ha hs3), pc_now hk hy hs1⟩ rfl (by rw [List.length_map]; exact hn) hy.2.2.2.2.1.1 rfl (by show 2 * 0 + _ ≤ 8; rw [wd_ok]; omega) dg (rm_cs hk hy.1 hcal.1 hE1 hE2)
theorem rn_VH {c : Nat} {C : String} {T : u_T} {N : Nat} {ty : Nat → FieldType} {index n d1 maxL : Nat} {y : MethodName} {bytes : ByteArray} {rt : Option FieldType} {As : List pm_V} {a : pm_A} {o : pm_O} {m1 : pm_M} {hh : List (Nat × Nat × Nat × Nat)} (hc : kc_ c C T N ty) (ha : a.1 = c) (hcal : Cal_ (kx_G K) (kx_l K) y (wsW_ y bytes maxL rt hh) d1 (vR_ (some a) :: As) m o m1) (cw : GoodIn lw_all (wsV own index C y (wsW_ y bytes maxL rt hh))) (hd : y.cls = C ∧ y.cls ≠ "java/lang/invoke/MethodHandle" ∧ y.cls ≠ "java/lang/invoke/VarHandle" ∧ (parseMethodDescriptor y.desc).map (fun d => d.parameters.length) = some n) (hn : As.length = n) (hdep : d1 + 1 ≤ kx_d K) (hmx : maxL ≤ 80) (hw : wd_ st ≤ 8) (dg : decode cc pc = .ok (.invokevirtual index, 3)) : rn_ cc own K m pc 3 ls (As.reverse ++ vR_ (some a) :: st) st o m1 := by
  intro X hk ad H locs arr hy hs hE1 hE2
  obtain ⟨hs1, hs2, hs3⟩ := os_av hs
  rw [st_rev]
  exact vx_runVX (C := C) (b := ca_ (kx_G K) ad a) (As := As.map (cv_ (kx_G K) ad)) (rest := st.map (cv_ (kx_G K) ad)) ⟨hk.1, hk.2.1, hk.2.2.1, hk.2.2.2.1, hk.2.2.2.2.1⟩ (hcal.2 ad) (vx_cwVW n hk.2.2.2.2.1 cw rfl rfl rfl hd (rm_ok hk hdep hmx)) ⟨pc_blind, va_recv hk.2.2.2.2.2.2.2.2.2.2.1.1 hy.2.2.1.1 hc.1 (pw_o hc ha hs3), pc_now hk hy hs1⟩ rfl (by rw [List.length_map]; exact hn) hy.2.2.2.2.1.1 rfl (by show 2 * 0 + _ ≤ 8; rw [wd_ok]; omega) dg (rm_cs hk hy.1 hcal.1 hE1 hE2)
theorem rn_S {index n d1 maxL : Nat} {y : MethodName} {bytes : ByteArray} {rt : Option FieldType} {As : List pm_V} {o : pm_O} {m1 : pm_M} (hcal : Cal_ (kx_G K) (kx_l K) y (ws_ y bytes maxL rt) d1 As m o m1) (cw : GoodIn lw_all (va_wsS own index y (ws_ y bytes maxL rt))) (hd : y.cls ≠ "java/lang/invoke/MethodHandle" ∧ y.cls ≠ "java/lang/invoke/VarHandle" ∧ (parseMethodDescriptor y.desc).map (fun d => d.parameters.length) = some n) (hn : As.length = n) (hdep : d1 + 1 ≤ kx_d K) (hmx : maxL ≤ 80) (hw : wd_ st ≤ 8) (dg : decode cc pc = .ok (.invokestatic index, 3)) : rn_ cc own K m pc 3 ls (As.reverse ++ st) st o m1 := by
  intro X hk ad H locs arr hy hs hE1 hE2
  obtain ⟨hs1, hs2⟩ := os_aS hs
  rw [st_revS]
  exact vx_runS (As := As.map (cv_ (kx_G K) ad)) (rest := st.map (cv_ (kx_G K) ad)) ⟨hk.1, hk.2.1, hk.2.2.1, hk.2.2.2.1, hk.2.2.2.2.1⟩ (hcal.2 ad) (va_cwS n hk.2.2.2.2.1 cw rfl rfl rfl hd (rm_ok hk hdep hmx)) ⟨pc_blind, pc_now hk hy hs1⟩ rfl (by rw [List.length_map]; exact hn) hy.2.2.2.2.1.1 rfl (by show 2 * 0 + _ ≤ 8; rw [wd_ok]; omega) dg (rm_cs hk hy.1 hcal.1 hE1 hE2)
theorem rn_SN {index n d1 maxL : Nat} {y : MethodName} {bytes : ByteArray} {rt : Option FieldType} {As : List pm_V} {o : pm_O} {m1 : pm_M} (hcal : Cal_ (kx_G K) (kx_l K) y (ws_ y bytes maxL rt) d1 As m o m1) {host : String} (q : Cond.methodLinkNest own index y host ∈ lw_tbl) (q3 : Cond.static y ∈ lw_all) (q4 : Cond.initialized y.cls ∈ lw_all) (q5 : Cond.code y bytes maxL rt ∈ lw_all) (hd : y.cls ≠ "java/lang/invoke/MethodHandle" ∧ y.cls ≠ "java/lang/invoke/VarHandle" ∧ (parseMethodDescriptor y.desc).map (fun d => d.parameters.length) = some n) (hn : As.length = n) (hdep : d1 + 1 ≤ kx_d K) (hmx : maxL ≤ 80) (hw : wd_ st ≤ 8) (dg : decode cc pc = .ok (.invokestatic index, 3)) : rn_ cc own K m pc 3 ls (As.reverse ++ st) st o m1 := by
  intro X hk ad H locs arr hy hs hE1 hE2
  obtain ⟨hs1, hs2⟩ := os_aS hs
  rw [st_revS]
  exact vx_runSN (As := As.map (cv_ (kx_G K) ad)) (rest := st.map (cv_ (kx_G K) ad)) ⟨hk.1, hk.2.1, hk.2.2.1, hk.2.2.2.1, hk.2.2.2.2.1⟩ (hcal.2 ad) ⟨va_cnB n hk.2.2.2.2.1 (lw_meth q5) rfl rfl rfl (hk.2.2.2.2.2.2.2.2.2.2.1.2.1 _ q rfl) (hk.2.2.2.2.1 _ q4) hd (rm_ok hk hdep hmx), hk.2.2.2.2.1 _ q3, trivial⟩ ⟨pc_blind, pc_now hk hy hs1⟩ rfl (by rw [List.length_map]; exact hn) hy.2.2.2.2.1.1 rfl (by show 2 * 0 + _ ≤ 8; rw [wd_ok]; omega) dg (rm_cs hk hy.1 hcal.1 hE1 hE2)
theorem rn_SH {index n d1 maxL : Nat} {y : MethodName} {bytes : ByteArray} {rt : Option FieldType} {As : List pm_V} {o : pm_O} {m1 : pm_M} {hh : List (Nat × Nat × Nat × Nat)} (hcal : Cal_ (kx_G K) (kx_l K) y (wsW_ y bytes maxL rt hh) d1 As m o m1) (cw : GoodIn lw_all (va_wsS own index y (wsW_ y bytes maxL rt hh))) (hd : y.cls ≠ "java/lang/invoke/MethodHandle" ∧ y.cls ≠ "java/lang/invoke/VarHandle" ∧ (parseMethodDescriptor y.desc).map (fun d => d.parameters.length) = some n) (hn : As.length = n) (hdep : d1 + 1 ≤ kx_d K) (hmx : maxL ≤ 80) (hw : wd_ st ≤ 8) (dg : decode cc pc = .ok (.invokestatic index, 3)) : rn_ cc own K m pc 3 ls (As.reverse ++ st) st o m1 := by
  intro X hk ad H locs arr hy hs hE1 hE2
  obtain ⟨hs1, hs2⟩ := os_aS hs
  rw [st_revS]
  exact vx_runSX (As := As.map (cv_ (kx_G K) ad)) (rest := st.map (cv_ (kx_G K) ad)) ⟨hk.1, hk.2.1, hk.2.2.1, hk.2.2.2.1, hk.2.2.2.2.1⟩ (hcal.2 ad) (vx_cwSW n hk.2.2.2.2.1 cw rfl rfl rfl hd (rm_ok hk hdep hmx)) ⟨pc_blind, pc_now hk hy hs1⟩ rfl (by rw [List.length_map]; exact hn) hy.2.2.2.2.1.1 rfl (by show 2 * 0 + _ ≤ 8; rw [wd_ok]; omega) dg (rm_cs hk hy.1 hcal.1 hE1 hE2)
theorem rn_I {index n d1 maxL : Nat} {y : MethodName} {bytes : ByteArray} {As : List pm_V} {a : pm_A} {o : pm_O} {m1 : pm_M} (hcal : Cal_ (kx_G K) (kx_l K) y (ws_ y bytes maxL none) d1 (vR_ (some a) :: As) m o m1) (q : Cond.methodLink own index y ∈ lw_all) (q2 : Cond.instanceMethod y ∈ lw_all) (q4 : Cond.initialized y.cls ∈ lw_all) (q5 : Cond.code y bytes maxL none ∈ lw_all) (hy1 : y.name = "<init>") (hd : y.cls ≠ "java/lang/invoke/MethodHandle" ∧ y.cls ≠ "java/lang/invoke/VarHandle" ∧ (parseMethodDescriptor y.desc).map (fun d => d.parameters.length) = some n) (hn : As.length = n) (hdep : d1 + 1 ≤ kx_d K) (hmx : maxL ≤ 80) (hw : wd_ st ≤ 8) (dg : decode cc pc = .ok (.invokespecial index, 3)) : rn_ cc own K m pc 3 ls (As.reverse ++ vR_ (some a) :: st) st o m1 := by
  intro X hk ad H locs arr hy hs hE1 hE2
  obtain ⟨hs1, hs2, hs3⟩ := os_av hs
  rw [st_rev]
  exact vx_runI (b := ca_ (kx_G K) ad a) (As := As.map (cv_ (kx_G K) ad)) (rest := st.map (cv_ (kx_G K) ad)) ⟨hk.1, hk.2.1, hk.2.2.1, hk.2.2.2.1, hk.2.2.2.2.1⟩ (hcal.2 ad) (cwI n hk.2.2.2.2.1 (lw_meth q5) rfl rfl rfl (hk.2.2.2.2.1 _ q4) (hk.2.2.2.2.1 _ q) (hk.2.2.2.2.1 _ q2) hy1 hd (rm_ok hk hdep hmx)) ⟨pc_blind, pc_now hk hy hs1⟩ rfl (by rw [List.length_map]; exact hn) hy.2.2.2.2.1.1 rfl (by show 2 * 0 + _ ≤ 8; rw [wd_ok]; omega) dg (rm_cs hk hy.1 hcal.1 hE1 hE2)
theorem rn_IN {index n d1 maxL : Nat} {y : MethodName} {bytes : ByteArray} {As : List pm_V} {a : pm_A} {o : pm_O} {m1 : pm_M} (hcal : Cal_ (kx_G K) (kx_l K) y (ws_ y bytes maxL none) d1 (vR_ (some a) :: As) m o m1) {host : String} (q : Cond.methodLinkNest own index y host ∈ lw_tbl) (q2 : Cond.instanceMethod y ∈ lw_all) (q4 : Cond.initialized y.cls ∈ lw_all) (q5 : Cond.code y bytes maxL none ∈ lw_all) (hy1 : y.name = "<init>") (hd : y.cls ≠ "java/lang/invoke/MethodHandle" ∧ y.cls ≠ "java/lang/invoke/VarHandle" ∧ (parseMethodDescriptor y.desc).map (fun d => d.parameters.length) = some n) (hn : As.length = n) (hdep : d1 + 1 ≤ kx_d K) (hmx : maxL ≤ 80) (hw : wd_ st ≤ 8) (dg : decode cc pc = .ok (.invokespecial index, 3)) : rn_ cc own K m pc 3 ls (As.reverse ++ vR_ (some a) :: st) st o m1 := by
  intro X hk ad H locs arr hy hs hE1 hE2
  obtain ⟨hs1, hs2, hs3⟩ := os_av hs
  rw [st_rev]
  exact vx_runIN (b := ca_ (kx_G K) ad a) (As := As.map (cv_ (kx_G K) ad)) (rest := st.map (cv_ (kx_G K) ad)) ⟨hk.1, hk.2.1, hk.2.2.1, hk.2.2.2.1, hk.2.2.2.2.1⟩ (hcal.2 ad) ⟨va_cnB n hk.2.2.2.2.1 (lw_meth q5) rfl rfl rfl (hk.2.2.2.2.2.2.2.2.2.2.1.2.1 _ q rfl) (hk.2.2.2.2.1 _ q4) hd (rm_ok hk hdep hmx), hy1, hk.2.2.2.2.1 _ q2⟩ ⟨pc_blind, pc_now hk hy hs1⟩ rfl (by rw [List.length_map]; exact hn) hy.2.2.2.2.1.1 rfl (by show 2 * 0 + _ ≤ 8; rw [wd_ok]; omega) dg (rm_cs hk hy.1 hcal.1 hE1 hE2)
theorem rn_U {c : Nat} {C : String} {T : u_T} {N : Nat} {ty : Nat → FieldType} {index n d1 maxL : Nat} {y : MethodName} {bytes : ByteArray} {rt : Option FieldType} {As : List pm_V} {a : pm_A} {o : pm_O} {m1 : pm_M} {x : MethodName} {owner : String} (hc : kc_ c C T N ty) (ha : a.1 = c) (hcal : Cal_ (kx_G K) (kx_l K) y (ws_ y bytes maxL rt) d1 (vR_ (some a) :: As) m o m1) (cw : ∀ w ∈ va_wsU own index C owner x y (ws_ y bytes maxL rt), w ∈ lw_all) (q : Cond.declares ⟨owner, x.name, x.desc⟩ ∈ lw_tbl) (hd : owner ≠ "java/lang/invoke/MethodHandle" ∧ owner ≠ "java/lang/invoke/VarHandle" ∧ (parseMethodDescriptor x.desc).map (fun d => d.parameters.length) = some n) (hn : As.length = n) (hdep : d1 + 1 ≤ kx_d K) (hmx : maxL ≤ 80) (hw : wd_ st ≤ 8) (dg : decode cc pc = .ok (.invokevirtual index, 3)) : rn_ cc own K m pc 3 ls (As.reverse ++ vR_ (some a) :: st) st o m1 := by
  intro X hk ad H locs arr hy hs hE1 hE2
  obtain ⟨hs1, hs2, hs3⟩ := os_av hs
  rw [st_rev]
  exact vx_runU (C := C) (owner := owner) (x := x) (b := ca_ (kx_G K) ad a) (As := As.map (cv_ (kx_G K) ad)) (rest := st.map (cv_ (kx_G K) ad)) ⟨hk.1, hk.2.1, hk.2.2.1, hk.2.2.2.1, hk.2.2.2.2.1⟩ (hcal.2 ad) (va_cwA n hk.2.2.2.2.1 (lw_good cw) rfl rfl rfl (hk.2.2.2.2.2.2.2.2.2.2.1.2.1 _ q rfl) hd (rm_ok hk hdep hmx)) ⟨pc_blind, va_recv hk.2.2.2.2.2.2.2.2.2.2.1.1 hy.2.2.1.1 hc.1 (pw_o hc ha hs3), pc_now hk hy hs1⟩ rfl (by rw [List.length_map]; exact hn) hy.2.2.2.2.1.1 rfl (by show 2 * 0 + _ ≤ 8; rw [wd_ok]; omega) dg (rm_cs hk hy.1 hcal.1 hE1 hE2)
theorem rn_F {c : Nat} {C : String} {T : u_T} {N : Nat} {ty : Nat → FieldType} {index n d1 maxL : Nat} {y : MethodName} {bytes : ByteArray} {rt : Option FieldType} {As : List pm_V} {a : pm_A} {o : pm_O} {m1 : pm_M} {count : Nat} (hc : kc_ c C T N ty) (ha : a.1 = c) (hcal : Cal_ (kx_G K) (kx_l K) y (ws_ y bytes maxL rt) d1 (vR_ (some a) :: As) m o m1) (cw : ∀ w ∈ va_wsF own index C yTon_ y (ws_ y bytes maxL rt), w ∈ lw_all) (q : (C, y) ∈ fw_) (hd : yTon_.cls ≠ "java/lang/invoke/MethodHandle" ∧ yTon_.cls ≠ "java/lang/invoke/VarHandle" ∧ (parseMethodDescriptor yTon_.desc).map (fun d => d.parameters.length) = some n) (hn : As.length = n) (hdep : d1 + 1 ≤ kx_d K) (hmx : maxL ≤ 80) (hw : wd_ st ≤ 8) (dg : decode cc pc = .ok (.invokeinterface index count, 5)) : rn_ cc own K m pc 5 ls (As.reverse ++ vR_ (some a) :: st) st o m1 := by
  intro X hk ad H locs arr hy hs hE1 hE2
  obtain ⟨hs1, hs2, hs3⟩ := os_av hs
  rw [st_rev]
  exact vx_runF (C := C) (x := yTon_) (b := ca_ (kx_G K) ad a) (As := As.map (cv_ (kx_G K) ad)) (rest := st.map (cv_ (kx_G K) ad)) (hk.2.2.2.2.2.2.2.2.2.2.1.1.1 c _ hc.1).2 ⟨hk.1, hk.2.1, hk.2.2.1, hk.2.2.2.1, hk.2.2.2.2.1⟩ (hcal.2 ad) (va_cwF n hk.2.2.2.2.1 (lw_good cw) rfl rfl rfl (hk.2.2.2.2.2.2.2.2.2.2.1.2.2.2.1 _ q) hd (rm_ok hk hdep hmx)) ⟨pc_blind, va_recv hk.2.2.2.2.2.2.2.2.2.2.1.1 hy.2.2.1.1 hc.1 (pw_o hc ha hs3), pc_now hk hy hs1⟩ rfl (by rw [List.length_map]; exact hn) hy.2.2.2.2.1.1 rfl (by show 2 * 0 + _ ≤ 8; rw [wd_ok]; omega) dg (rm_cs hk hy.1 hcal.1 hE1 hE2)
theorem a_obj {index : Nat} {a : pm_A} (q : Cond.methodLink own index Lib.objectInit ∈ lw_all) (q1 : Cond.instanceMethod Lib.objectInit ∈ lw_all) (q2 : Cond.code Lib.objectInit ⟨#[0xb1]⟩ 1 none ∈ lw_all) (hdep : 1 ≤ kx_d K) (hw : wd_ st ≤ 8) (dg : decode cc pc = .ok (.invokespecial index, 3)) (k : AW_ cc own K m (pc + 3) ls st) : AW_ cc own K m pc ls (vR_ (some a) :: st) := by
  refine aw_st (fun _ h => (os_c h).2) (fun X hk ad H locs arr c9 s9 hy w => ?_) k
  have R := hk.2.2.2.2.2.2.2.2.1
  refine W.objInit hk.1 hk.2.1 hk.2.2.2.1 (hk.2.2.2.2.1 _ q) (hk.2.2.2.2.1 _ q1) (hk.2.2.2.2.1 _ q2) rfl (by rw [hk.2.2.1]; exact hy.2.2.2.2.1.1) rfl dg (by rw [R.1]; exact hdep) (by show 2 * 0 + _ + 12 ≤ _; rw [wd_ok, R.2.1]; omega) w
theorem qc_end {ad : Nat → Nat} {H : Heap} {locs : List Loc} {arr : Array Slot} (hy : hy_ K X m ls ad H locs arr) (hm : m = kx_E K) {r : Option pm_V} (hr : os_ m r.toList) {t : State} (ht : t.heap = H) : qc_ (kx_G K) (cx_d X) (kx_0 K) (.inl r) (kx_E K) (cx_a X) (cx_s X) (.returned (r.map (cv_ (kx_G K) ad))) t := by
  subst hm
  exact ⟨hy.2.2.2.1.F ht, r, ad, rfl, hy.2.1, hy.1, rfl, hr, by rw [ht]; exact hy.2.2.1⟩
theorem a_ireturn {v : Int32} {rt : FieldType} (hrt : kx_r K = some rt) (hnar : narrow rt (.int v) = .int v) (hb : kx_b K = true) (ho : kx_o K = .inl (some (vI_ v))) (hm : m = kx_E K) (dg : decode cc pc = .ok (.ireturn, 1)) : AW_ cc own K m pc ls [vI_ v] := by
  refine ⟨by rw [hm]; exact ⟨Nat.le_refl _, Nat.le_refl _⟩, fun X hk ad H locs arr hy hs => ?_⟩
  have hl := hk.2.2.2.2.2.1
  unfold WX_
  rw [hk.2.2.2.2.2.2.2.2.2.2.2.2.2 hb, ho]
  rw [show gN_ m = gN_ (kx_E K) by rw [hm], show gS_ m = gS_ (kx_E K) by rw [hm]]
  exact vx_ret (W.zret (ty := rt) (v := v) hk.1 hk.2.1 (hk.2.2.2.2.2.2.1.trans hrt) hnar (fun t ht _ => qc_end hy hm (r := some (vI_ v)) (os_k (os_c hs).1 os_n) ht) hy.2.2.2.1.2.2 dg hl)
theorem a_lreturn {v : Int64} (hrt : kx_r K = some .long) (hb : kx_b K = true) (ho : kx_o K = .inl (some (vL_ v))) (hm : m = kx_E K) (dg : decode cc pc = .ok (.lreturn, 1)) : AW_ cc own K m pc ls [vL_ v] := by
  refine ⟨by rw [hm]; exact ⟨Nat.le_refl _, Nat.le_refl _⟩, fun X hk ad H locs arr hy hs => ?_⟩
  have hl := hk.2.2.2.2.2.1
  unfold WX_
  rw [hk.2.2.2.2.2.2.2.2.2.2.2.2.2 hb, ho]
  rw [show gN_ m = gN_ (kx_E K) by rw [hm], show gS_ m = gS_ (kx_E K) by rw [hm]]
  exact vx_ret (W.lret hk.1 hk.2.1 (hk.2.2.2.2.2.2.1.trans hrt) (fun t ht _ => qc_end hy hm (r := some (vL_ v)) (os_k (os_c hs).1 os_n) ht) hy.2.2.2.1.2.2 dg hl)
theorem a_areturn {v : Option pm_A} {rt : FieldType} (hrt : kx_r K = some rt) (hob : (∃ n, rt = .object n) ∨ ∃ t, rt = .array t) (hb : kx_b K = true) (ho : kx_o K = .inl (some (vR_ v))) (hm : m = kx_E K) (dg : decode cc pc = .ok (.areturn, 1)) : AW_ cc own K m pc ls [vR_ v] := by
  refine ⟨by rw [hm]; exact ⟨Nat.le_refl _, Nat.le_refl _⟩, fun X hk ad H locs arr hy hs => ?_⟩
  have hl := hk.2.2.2.2.2.1
  unfold WX_
  rw [hk.2.2.2.2.2.2.2.2.2.2.2.2.2 hb, ho]
  rw [show gN_ m = gN_ (kx_E K) by rw [hm], show gS_ m = gS_ (kx_E K) by rw [hm]]
  exact vx_ret (W.aret (rt := rt) hk.1 hk.2.1 (hk.2.2.2.2.2.2.1.trans hrt) hob (by cases v with | none => exact Or.inl rfl | some z => exact Or.inr ⟨_, rfl⟩) (fun t ht _ => qc_end hy hm (r := some (vR_ v)) (os_k (os_c hs).1 os_n) ht) hy.2.2.2.1.2.2 dg hl)
theorem a_return (hrt : kx_r K = none) (hb : kx_b K = true) (ho : kx_o K = .inl (none)) (hm : m = kx_E K) (dg : decode cc pc = .ok (.return_, 1)) : AW_ cc own K m pc ls [] := by
  refine ⟨by rw [hm]; exact ⟨Nat.le_refl _, Nat.le_refl _⟩, fun X hk ad H locs arr hy hs => ?_⟩
  have hl := hk.2.2.2.2.2.1
  unfold WX_
  rw [hk.2.2.2.2.2.2.2.2.2.2.2.2.2 hb, ho]
  rw [show gN_ m = gN_ (kx_E K) by rw [hm], show gS_ m = gS_ (kx_E K) by rw [hm]]
  exact vx_ret (W.vret hk.1 hk.2.1 (hk.2.2.2.2.2.2.1.trans hrt) (fun t ht _ => qc_end hy hm (r := none) (os_n) ht) hy.2.2.2.1.2.2 dg hl)
theorem a_athrow {c : Nat} {C : String} {T : u_T} {N : Nat} {ty : Nat → FieldType} (hc : kc_ c C T N ty) {b : pm_A} (hb : b.1 = c) (dg : decode cc pc = .ok (.athrow, 1)) (k : AX_ cc own K m pc ls b) : AW_ cc own K m pc ls (vR_ (some b) :: st) := by
  refine ⟨k.1, fun X hk ad H locs arr hy hs => ?_⟩
  have ho := (os_c hs).1
  have hp := hy.2.2.1.1 b.2.2 _ (pw_o hc hb ho)
  obtain ⟨r, hr, ce, h1, h2, h3, -⟩ := hp
  have e9 : r = (C, T, N) := Option.some.inj (hr.symm.trans hc.1)
  subst e9
  have hcl : (cx_s X).vm.findClass (cn_ b.1) = some ce.cls := by
    have h5 := (hk.2.2.2.2.2.2.2.2.2.2.1.1.1 c _ hc.1).2.1
    have h6 : cn_ b.1 = C := by
      unfold cn_
      rw [hb, List.getD_eq_getElem?_getD, hc.1]
      rfl
    rw [h6, h2]
    exact h5
  exact vx_athrow hk.1 hk.2.1 dg (k.2 X hk ad H locs arr _ ce hy ho h1 h3 hcl)
def cov_ (t : Nat × Nat × Nat × Nat) (pc : Nat) : Bool := decide (t.1 ≤ pc) && decide (pc < t.2.1)
theorem a_out {b : pm_A} (htab : (tableOf (kx_t K)).all (fun x => !(covers x pc)) = true) (hb : kx_b K = true) (hQ : kx_o K = .inr b) (hm : m = kx_E K) : AX_ cc own K m pc ls b := by
  refine ⟨by rw [hm]; exact ⟨Nat.le_refl _, Nat.le_refl _⟩, fun X hk ad H locs arr rest ce hy ho h1 h2 h3 => ?_⟩
  rw [hk.2.2.2.2.2.2.2.2.2.2.2.2.2 hb, hQ]
  subst hm
  refine vx_out (fun x hx => ?_) hk.2.2.2.2.2.1 h1 h2 h3 (fun t ht _ => ⟨hy.2.2.2.1.F ht, b, ad, rfl, hy.2.1, hy.1, rfl, rfl, ho, by rw [ht]; exact hy.2.2.1⟩) hy.2.2.2.1.2.2 (Nat.le_refl _) (Nat.le_refl _)
  rw [hk.2.2.2.2.2.2.2.2.2.2.2.1] at hx
  have h9 := List.all_eq_true.mp htab x hx
  cases hq : covers x pc with
  | false => rfl
  | true => rw [hq] at h9; cases h9
theorem a_catch {b : pm_A} {name : String} (pre : List ExceptionTableEntry) (x : ExceptionTableEntry) (suf : List ExceptionTableEntry) (hsplit : tableOf (kx_t K) = pre ++ x :: suf)
    (hpass : ∀ z ∈ pre, covers z pc = false ∨ (z.catchType ≠ 0 ∧ ∃ nm : String, Cond.classLink own z.catchType nm ∈ lw_all ∧ cn_ b.1 = "java/lang/IllegalArgumentException" ∧ nm = "java/util/NoSuchElementException")) (hx : covers x pc = true) (h0 : x.catchType ≠ 0)
    (q : Cond.classLink own x.catchType name ∈ lw_all) (qc : Cond.castable (cn_ b.1) name ∈ lw_tbl) (k : AW_ cc own K m x.handlerPc ls [vR_ (some b)]) : AX_ cc own K m pc ls b :=
  ⟨k.1, fun X hk ad H locs arr rest ce hy ho h1 h2 h3 => by
    refine vx_catch hk.2.2.2.1 pre x suf (hk.2.2.2.2.2.2.2.2.2.2.2.1.trans hsplit) (fun z hz => ?_) hx h0 (hk.2.2.2.2.1 _ q) (nw_us hk qc rfl rfl) h1 h2 h3 (k.2 X hk ad H locs arr hy (os_k ho os_n))
    rcases hpass z hz with g | ⟨g1, n9, g2, g3, g4⟩
    · exact Or.inl g
    · exact Or.inr ⟨g1, n9, hk.2.2.2.2.1 _ g2, by rw [g3, g4]; exact hk.2.2.2.2.2.2.2.2.2.2.1.2.2.2.2.2.2.2.2.2.1⟩⟩
end AWC
/-- the locals at the entry -/
def la_ : Nat → List pm_V → List (Nat × pm_V)
  | _, [] => []
  | i, v :: vs => (i, v) :: la_ (i + (match v with | .inr (.inl _) => 2 | _ => 1)) vs
theorem la_map {G : xg_T} {ad : Nat → Nat} : ∀ (vs : List pm_V) (i : Nat), (la_ i vs).map (cl_ G ad) = lv_args i (vs.map (cv_ G ad)) := by
  intro vs
  induction vs with
  | nil => intro i; rfl
  | cons v vs ih =>
    intro i
    rcases v with x | x | x
    · simp [la_, lv_args, cl_, cv_, Value.category, ih]
    · simp [la_, lv_args, cl_, cv_, Value.category, ih]
    · cases x <;> simp [la_, lv_args, cl_, cv_, Value.category, va_rf, ih]
theorem la_snd : ∀ (vs : List pm_V) (i : Nat), (la_ i vs).map Prod.snd = vs := by
  intro vs
  induction vs with
  | nil => intro i; rfl
  | cons v vs ih =>
    intro i
    rcases v with x | x | x <;> simp [la_, ih]
theorem lg_len {G : xg_T} {ad : Nat → Nat} (vs : List pm_V) : (lg_sl (vs.map (cv_ G ad))).length = wd_ vs := by
  induction vs with
  | nil => rfl
  | cons v vs ih =>
    rcases v with x | x | x
    · show (lg_sl (vs.map (cv_ G ad))).length + 1 = 1 + wd_ vs
      omega
    · show (lg_sl (vs.map (cv_ G ad))).length + 1 + 1 = 2 + wd_ vs
      omega
    · cases x with
      | none => show (lg_sl (vs.map (cv_ G ad))).length + 1 = 1 + wd_ vs; omega
      | some a => show (lg_sl (vs.map (cv_ G ad))).length + 1 = 1 + wd_ vs; omega
/-- a method's contract out of its walk -/
theorem cal_key {G : xg_T} {l : Launch} {y : MethodName} {cc : ByteArray} {maxL d : Nat} {rt : Option FieldType} {av : List pm_V} {m m' : pm_M} {o : pm_O} {tb : List (Nat × Nat × Nat × Nat)} {ad : Nat → Nat} {ws : List Cond} (hw : wd_ av ≤ maxL) (hW : ∀ w ∈ lw_all, w ∈ ws)
    (body : AW_ cc y.cls (rt, y.name, d, maxL, m, m', o, G, l, tb, true) m 0 (la_ 0 av) []) {p : Program} {e : Env} {s : State} {mi : MethodId} {args : Array Value} {below : List Frame} {meth : Method} {c : Code} {s₁ : State} (B : BodyLoose p l y (headSpec ws (rm_ d m m')) cc maxL rt e s mi args below meth c s₁) (hml : c.maxLocals = maxL) (htab : c.exceptionTable.toList = tableOf tb) (hv : pc_ G ad av m args s) :
    W p l e (headSpec ws (rm_ d m m')).room s mi args below meth c s.heap [] 0 0 (vx_MQ below (qc_ G ad m o m') (qx_ G ad m o m') args s (gN_ m' - gN_ m) (gS_ m' - gS_ m) (xg_A G)) (entryFrame mi args maxL) := by
  obtain ⟨rfl, hen, hma, hos, hb⟩ := hv
  have hts := atoms_spec (ws := ws) B.pre
  have hl := lv_entry (av.map (cv_ G ad)) (n := maxL) (by rw [lg_len]; exact hw)
  rw [lg_entry_eq]
  generalize (lg_sl (av.map (cv_ G ad)) ++ List.replicate (maxL - (lg_sl (av.map (cv_ G ad))).length) Slot.unset).toArray = arr at hl ⊢
  rw [← la_map] at hl
  have w := body.2 (p, e, (headSpec ws (rm_ d m m')).room, s, mi, (av.map (cv_ G ad)).toArray, below, meth, c, vx_MQ below (qc_ G ad m o m') (qx_ G ad m o m') (av.map (cv_ G ad)).toArray s (gN_ m' - gN_ m) (gS_ m' - gS_ m) (xg_A G), ad)
    ⟨B.exec, B.bytes, hml, findClass_of_methodNamed B.named, fun w h => hts w (hW w h), B.notSynchronized, B.returns, (name_of_methodNamed B.named B.method).1, ⟨rfl, rfl, rfl, rfl⟩, hb, hen, htab, fun h9 => (nomatch h9), fun _ => rfl⟩
    ad s.heap [] arr ⟨xt_rf, fun _ _ => rfl, hma, va_S.rf, hl, by rw [la_snd]; exact hos⟩ os_n
  have e1 : gN_ m - gN_ m = 0 := Nat.sub_self _
  have e2 : gS_ m - gS_ m = 0 := Nat.sub_self _
  exact W.cs e1.symm e2.symm w
theorem cal_of {G : xg_T} {l : Launch} {y : MethodName} {cc : ByteArray} {maxL d : Nat} {rt : Option FieldType} {av : List pm_V} {m m' : pm_M} {o : pm_O} (hy : plainName y.cls = true) (hw : wd_ av ≤ maxL)
    (body : AW_ cc y.cls (rt, y.name, d, maxL, m, m', o, G, l, [], true) m 0 (la_ 0 av) []) : Cal_ G l y (ws_ y cc maxL rt) d av m o m' := by
  refine ⟨body.1, fun ad => vx_ofW (cc := cc) (maxL := maxL) (ret := rt) hy rfl ?_⟩
  intro p e s mi args below meth c s₁ B hml htab hv
  exact cal_key hw (fun w h => List.mem_cons_of_mem _ h) body B hml (List.eq_nil_iff_forall_not_mem.mpr (fun x hx => htab x hx)) hv
theorem cal_ofH {G : xg_T} {l : Launch} {y : MethodName} {cc : ByteArray} {maxL d : Nat} {rt : Option FieldType} {av : List pm_V} {m m' : pm_M} {o : pm_O} {hh : List (Nat × Nat × Nat × Nat)} (hy : plainName y.cls = true) (hw : wd_ av ≤ maxL)
    (body : AW_ cc y.cls (rt, y.name, d, maxL, m, m', o, G, l, hh, true) m 0 (la_ 0 av) []) : Cal_ G l y (wsW_ y cc maxL rt hh) d av m o m' := by
  refine ⟨body.1, fun ad => vx_ofWH (cc := cc) (maxL := maxL) (ret := rt) (hh := hh) hy rfl ?_⟩
  intro p e s mi args below meth c s₁ B hml hv
  have hts := atoms_spec (ws := wsW_ y cc maxL rt hh) B.pre
  exact cal_key hw (fun w h => List.mem_cons_of_mem _ h) body B hml (vx_table (x := y) B (hts _ List.mem_cons_self)) hv
