/-! LIFTED ROWS: fields, arrays, new cells -/
set_option maxRecDepth 100000
theorem aw_s2 {cc : ByteArray} {own : String} {K : kx_T} {m : pm_M} {pc : Nat} {ls : List (Nat × pm_V)} {st : List pm_V} {pc' : Nat} {st' : List pm_V}
    (hr : ∀ (X : cx_T), ck_ cc own K X → ∀ (ad : Nat → Nat) (H : Heap) (locs : List Loc) (arr : Array Slot) (c9 s9 : Nat), hy_ K X m ls ad H locs arr → os_ m st → os_ m st' ∧ (WX_ K X H locs c9 s9 pc' arr (st'.map (cv_ (kx_G K) ad)) → WX_ K X H locs c9 s9 pc arr (st.map (cv_ (kx_G K) ad))))
    (k : AW_ cc own K m pc' ls st') : AW_ cc own K m pc ls st :=
  ⟨k.1, fun X hk ad H locs arr h hs => (hr X hk ad H locs arr _ _ h hs).2 (k.2 X hk ad H locs arr h (hr X hk ad H locs arr 0 0 h hs).1)⟩
def fz_ (ty : FieldType) : Bool := match ty with
  | .float => false
  | .double => false
  | _ => true
/-- what is known of a class of ours: its number, name, fields -/
def kc_ (c : Nat) (C : String) (T : u_T) (N : Nat) (ty : Nat → FieldType) : Prop :=
  kl_[c]? = some (C, T, N) ∧ kt_[c]? = some ty ∧ c < 100 ∧ (∀ w ∈ u_ws C T N, w ∈ lw_all) ∧ (∀ k, k < N → parseFieldDescriptor (T k).2.2.1 = some (ty k)) ∧ (∀ a, a < N → ∀ b, b < N → a ≠ b → (T a).2.1 ≠ (T b).2.1) ∧ (∀ k, k < N → fz_ (ty k) = true)
theorem kc_N {c : Nat} {C : String} {T : u_T} {N : Nat} {ty : Nat → FieldType} (h : kc_ c C T N ty) : kN_ c = N ∧ kT_ c = ty := by
  unfold kN_ kT_
  rw [List.getD_eq_getElem?_getD, List.getD_eq_getElem?_getD, h.1, h.2.1]
  exact ⟨rfl, rfl⟩
def fs_ (G : xg_T) (ad : Nat → Nat) (m : pm_M) (a : pm_A) (N : Nat) (ty : Nat → FieldType) : List Value := (List.range N).map (fun k => fv_ G ad m a (ty k) k)
theorem fs_at {G : xg_T} {ad : Nat → Nat} {m : pm_M} {a : pm_A} {N : Nat} {ty : Nat → FieldType} {k : Nat} (h : k < N) : (fs_ G ad m a N ty)[k]? = some (fv_ G ad m a (ty k) k) := by
  simp [fs_, h]
theorem fs_len {G : xg_T} {ad : Nat → Nat} {m : pm_M} {a : pm_A} {N : Nat} {ty : Nat → FieldType} : (fs_ G ad m a N ty).length = N := by simp [fs_]
theorem ce_o {G : xg_T} {ad : Nat → Nat} {m : pm_M} {c : Nat} {C : String} {T : u_T} {N : Nat} {ty : Nat → FieldType} (h : kc_ c C T N ty) {l i : Nat} : ce_ G ad m (c, l) i = .inr (c, fs_ G ad m (c, l, i) N ty) := by
  obtain ⟨h1, h2⟩ := kc_N h
  unfold ce_ fs_
  rw [if_pos (show (c, l).1 < 100 from h.2.2.1), h1, h2]
theorem pw_o {G : xg_T} {ad : Nat → Nat} {m : pm_M} {c : Nat} {C : String} {T : u_T} {N : Nat} {ty : Nat → FieldType} (h : kc_ c C T N ty) {a : pm_A} (ha : a.1 = c) (ho : oa_ m a) : (pw_ G ad m)[a.2.2]? = some (ca_ G ad a, .inr (c, fs_ G ad m a N ty)) := by
  have hc := h.2.2.1
  obtain ⟨h1, h2⟩ := oa_c ho (by omega)
  rw [pw_at h1, h2, ca_c (by omega), ha, ce_o h]
  obtain ⟨a1, a2, a3⟩ := a
  cases ha
  rfl
/-- a cell is changed -/
theorem pw_set {G : xg_T} {ad : Nat → Nat} {m m' : pm_M} {s : Nat} {e : va_E} (hs : s < gN_ m) (hn : gN_ m' = gN_ m) (hk : gK_ m' = gK_ m) (ho : ∀ (q : Nat × Nat) (i : Nat), i ≠ s → ce_ G ad m' q i = ce_ G ad m q i) (he : ce_ G ad m' (gK_ m s) s = e) :
    pw_ G ad m' = (pw_ G ad m).set s (ad s, e) := by
  apply List.ext_getElem?
  intro i
  by_cases hi : i = s
  · subst hi
    rw [List.getElem?_set_self (by rw [pw_len]; exact hs), pw_at (by rw [hn]; exact hs), hk, he]
  · rw [List.getElem?_set_ne (Ne.symm hi)]
    by_cases h2 : i < gN_ m
    · rw [pw_at (by rw [hn]; exact h2), pw_at h2, hk, ho _ _ hi]
    · rw [List.getElem?_eq_none (by rw [pw_len]; omega), List.getElem?_eq_none (by rw [pw_len]; omega)]
theorem ce_cg {G : xg_T} {ad : Nat → Nat} {m m' : pm_M} {q : Nat × Nat} {i : Nat} (hI : gI_ m' (q.1, q.2, i) = gI_ m (q.1, q.2, i)) (hL : gL_ m' (q.1, q.2, i) = gL_ m (q.1, q.2, i)) (hR : gR_ m' (q.1, q.2, i) = gR_ m (q.1, q.2, i)) : ce_ G ad m' q i = ce_ G ad m q i := by
  unfold ce_ fv_
  simp only [hI, hL, hR]
theorem pI_ne {m : pm_M} {a b : pm_A} {k : Nat} {v : Int32} (h : b ≠ a) : gI_ (pI_ m a k v) b = gI_ m b := by
  funext j
  show (if b = a ∧ j = k then v else m.1 b j) = m.1 b j
  rw [if_neg (fun q => h q.1)]
theorem pL_ne {m : pm_M} {a b : pm_A} {k : Nat} {v : Int64} (h : b ≠ a) : gL_ (pL_ m a k v) b = gL_ m b := by
  funext j
  show (if b = a ∧ j = k then v else m.2.1 b j) = m.2.1 b j
  rw [if_neg (fun q => h q.1)]
theorem pR_ne {m : pm_M} {a b : pm_A} {k : Nat} {v : Option pm_A} (h : b ≠ a) : gR_ (pR_ m a k v) b = gR_ m b := by
  funext j
  show (if b = a ∧ j = k then v else m.2.2.1 b j) = m.2.2.1 b j
  rw [if_neg (fun q => h q.1)]
theorem pI_up {m : pm_M} {a : pm_A} {k : Nat} {v : Int32} : gI_ (pI_ m a k v) a = upd (gI_ m a) k v := by
  funext j
  show (if a = a ∧ j = k then v else m.1 a j) = upd (gI_ m a) k v j
  unfold upd
  by_cases h : j = k
  · rw [if_pos ⟨rfl, h⟩, if_pos h]
  · rw [if_neg (fun q => h q.2), if_neg h]; rfl
theorem pL_up {m : pm_M} {a : pm_A} {k : Nat} {v : Int64} : gL_ (pL_ m a k v) a = vp_updL (gL_ m a) k v := by
  funext j
  show (if a = a ∧ j = k then v else m.2.1 a j) = vp_updL (gL_ m a) k v j
  unfold vp_updL
  by_cases h : j = k
  · rw [if_pos ⟨rfl, h⟩, if_pos h]
  · rw [if_neg (fun q => h q.2), if_neg h]; rfl
theorem pR_up {m : pm_M} {a : pm_A} {k : Nat} {v : Option pm_A} : gR_ (pR_ m a k v) a = va_up (gR_ m a) k v := by
  funext j
  show (if a = a ∧ j = k then v else m.2.2.1 a j) = va_up (gR_ m a) k v j
  unfold va_up
  by_cases h : j = k
  · rw [if_pos ⟨rfl, h⟩, if_pos h]
  · rw [if_neg (fun q => h q.2), if_neg h]; rfl
theorem ad_ne {a : pm_A} {q : Nat × Nat} {i : Nat} (h : i ≠ a.2.2) : ((q.1, q.2, i) : pm_A) ≠ a := fun e => h (by rw [← e])
theorem fs_setI {G : xg_T} {ad : Nat → Nat} {m : pm_M} {a : pm_A} {N : Nat} {ty : Nat → FieldType} {k : Nat} {v : Int32} (hf : fk_ (ty k) = 0) : fs_ G ad (pI_ m a k v) a N ty = (fs_ G ad m a N ty).set k (.int v) := by
  apply List.ext_getElem?
  intro i
  by_cases h : i < N
  · rw [fs_at h]
    by_cases hi : i = k
    · subst hi
      rw [List.getElem?_set_self (by rw [fs_len]; exact h)]
      unfold fv_
      rw [hf, pI_up]
      simp [upd]
    · rw [List.getElem?_set_ne (Ne.symm hi), fs_at h]
      unfold fv_
      rw [pI_up]
      simp only [upd, if_neg hi]
      rfl
  · rw [List.getElem?_eq_none (by rw [fs_len]; omega), List.getElem?_eq_none (by rw [List.length_set, fs_len]; omega)]
theorem fs_setL {G : xg_T} {ad : Nat → Nat} {m : pm_M} {a : pm_A} {N : Nat} {ty : Nat → FieldType} {k : Nat} {v : Int64} (hf : fk_ (ty k) = 1) : fs_ G ad (pL_ m a k v) a N ty = (fs_ G ad m a N ty).set k (.long v) := by
  apply List.ext_getElem?
  intro i
  by_cases h : i < N
  · rw [fs_at h]
    by_cases hi : i = k
    · subst hi
      rw [List.getElem?_set_self (by rw [fs_len]; exact h)]
      unfold fv_
      rw [hf, pL_up]
      simp [vp_updL]
    · rw [List.getElem?_set_ne (Ne.symm hi), fs_at h]
      unfold fv_
      rw [pL_up]
      simp only [vp_updL, if_neg hi]
      rfl
  · rw [List.getElem?_eq_none (by rw [fs_len]; omega), List.getElem?_eq_none (by rw [List.length_set, fs_len]; omega)]
theorem fs_setR {G : xg_T} {ad : Nat → Nat} {m : pm_M} {a : pm_A} {N : Nat} {ty : Nat → FieldType} {k : Nat} {v : Option pm_A} (hf : fk_ (ty k) = 2) : fs_ G ad (pR_ m a k v) a N ty = (fs_ G ad m a N ty).set k (va_rf (v.map (ca_ G ad))) := by
  apply List.ext_getElem?
  intro i
  by_cases h : i < N
  · rw [fs_at h]
    by_cases hi : i = k
    · subst hi
      rw [List.getElem?_set_self (by rw [fs_len]; exact h)]
      unfold fv_
      rw [hf, pR_up]
      simp [va_up]
    · rw [List.getElem?_set_ne (Ne.symm hi), fs_at h]
      unfold fv_
      rw [pR_up]
      simp only [va_up, if_neg hi]
      rfl
  · rw [List.getElem?_eq_none (by rw [fs_len]; omega), List.getElem?_eq_none (by rw [List.length_set, fs_len]; omega)]
section AWM
variable {cc : ByteArray} {own : String} {K : kx_T} {X : cx_T} {m : pm_M} {pc : Nat} {ls : List (Nat × pm_V)} {st : List pm_V}
variable {c : Nat} {C : String} {T : u_T} {N : Nat} {ty : Nat → FieldType} {index : Nat} {a : pm_A}
theorem a_getI (hc : kc_ c C T N ty) (k : Nat) (hkN : k < N) (hf : fk_ (ty k) = 0) (ha : a.1 = c) (q : Cond.fieldLink own index (T k).1 (T k).2.1 (T k).2.2.1 ∈ lw_all) (dg : decode cc pc = .ok (.getfield index, 3)) (kk : AW_ cc own K m (pc + 3) ls (vI_ (gI_ m a k) :: st)) : AW_ cc own K m pc ls (vR_ (some a) :: st) := by
  refine aw_s2 (fun X hk ad H locs arr c9 s9 hy hs => ⟨os_i (os_c hs).2, fun w => ?_⟩) kk
  exact va_get (T := T) (N := N) hk.1 hk.2.1 hk.2.2.2.2.1 hc.2.2.2.1 hk.2.2.2.1 hk.2.2.2.2.2.2.2.2.2.2.1.1 hy.2.2.1.1 a.2.2 (pw_o hc ha (os_c hs).1) hc.1 k hkN (hk.2.2.2.2.1 _ q) (fun _ h => h) (fs_at hkN) dg (by unfold fv_; rw [hf]; exact w)
theorem a_getL (hc : kc_ c C T N ty) (k : Nat) (hkN : k < N) (hf : fk_ (ty k) = 1) (ha : a.1 = c) (q : Cond.fieldLink own index (T k).1 (T k).2.1 (T k).2.2.1 ∈ lw_all) (dg : decode cc pc = .ok (.getfield index, 3)) (kk : AW_ cc own K m (pc + 3) ls (vL_ (gL_ m a k) :: st)) : AW_ cc own K m pc ls (vR_ (some a) :: st) := by
  refine aw_s2 (fun X hk ad H locs arr c9 s9 hy hs => ⟨os_l (os_c hs).2, fun w => ?_⟩) kk
  exact va_get (T := T) (N := N) hk.1 hk.2.1 hk.2.2.2.2.1 hc.2.2.2.1 hk.2.2.2.1 hk.2.2.2.2.2.2.2.2.2.2.1.1 hy.2.2.1.1 a.2.2 (pw_o hc ha (os_c hs).1) hc.1 k hkN (hk.2.2.2.2.1 _ q) (fun _ h => h) (fs_at hkN) dg (by unfold fv_; rw [hf]; exact w)
theorem ov_R {G : xg_T} {ad : Nat → Nat} {H : Heap} (h : ma_ G ad m H) {k : Nat} : ov_ m (vR_ (gR_ m a k)) := by
  cases e : gR_ m a k with
  | none => trivial
  | some r => exact h.2.2 a k r e
theorem a_getR (hc : kc_ c C T N ty) (k : Nat) (hkN : k < N) (hf : fk_ (ty k) = 2) (ha : a.1 = c) (q : Cond.fieldLink own index (T k).1 (T k).2.1 (T k).2.2.1 ∈ lw_all) (dg : decode cc pc = .ok (.getfield index, 3)) (kk : AW_ cc own K m (pc + 3) ls (vR_ (gR_ m a k) :: st)) : AW_ cc own K m pc ls (vR_ (some a) :: st) := by
  refine aw_s2 (fun X hk ad H locs arr c9 s9 hy hs => ⟨os_k (ov_R hy.2.2.1) (os_c hs).2, fun w => ?_⟩) kk
  exact va_get (T := T) (N := N) hk.1 hk.2.1 hk.2.2.2.2.1 hc.2.2.2.1 hk.2.2.2.1 hk.2.2.2.2.2.2.2.2.2.2.1.1 hy.2.2.1.1 a.2.2 (pw_o hc ha (os_c hs).1) hc.1 k hkN (hk.2.2.2.2.1 _ q) (fun _ h => h) (fs_at hkN) dg (by unfold fv_; rw [hf]; exact w)
theorem nw_us (hk : ck_ cc own K X) {w : Cond} (q : w ∈ lw_tbl) (hn : nw_ w = true) (ho : w.onTables = true) : w.before (cx_a X) (cx_s X) = true := va_Nw.use ho (hk.2.2.2.2.2.2.2.2.2.2.1.2.1 w q hn)
theorem a_getIN {host : String} (hc : kc_ c C T N ty) (k : Nat) (hkN : k < N) (hf : fk_ (ty k) = 0) (ha : a.1 = c) (q : Cond.fieldLinkNest own index (T k).1 (T k).2.1 (T k).2.2.1 host ∈ lw_tbl) (dg : decode cc pc = .ok (.getfield index, 3)) (kk : AW_ cc own K m (pc + 3) ls (vI_ (gI_ m a k) :: st)) : AW_ cc own K m pc ls (vR_ (some a) :: st) := by
  refine aw_s2 (fun X hk ad H locs arr c9 s9 hy hs => ⟨os_i (os_c hs).2, fun w => ?_⟩) kk
  exact va_getN (T := T) (N := N) hk.1 hk.2.1 hk.2.2.2.2.1 hc.2.2.2.1 hk.2.2.2.1 hk.2.2.2.2.2.2.2.2.2.2.1.1 hy.2.2.1.1 a.2.2 (pw_o hc ha (os_c hs).1) hc.1 k hkN (nw_us hk q rfl rfl) (fun _ h => h) (fs_at hkN) dg (by unfold fv_; rw [hf]; exact w)
theorem a_getRN {host : String} (hc : kc_ c C T N ty) (k : Nat) (hkN : k < N) (hf : fk_ (ty k) = 2) (ha : a.1 = c) (q : Cond.fieldLinkNest own index (T k).1 (T k).2.1 (T k).2.2.1 host ∈ lw_tbl) (dg : decode cc pc = .ok (.getfield index, 3)) (kk : AW_ cc own K m (pc + 3) ls (vR_ (gR_ m a k) :: st)) : AW_ cc own K m pc ls (vR_ (some a) :: st) := by
  refine aw_s2 (fun X hk ad H locs arr c9 s9 hy hs => ⟨os_k (ov_R hy.2.2.1) (os_c hs).2, fun w => ?_⟩) kk
  exact va_getN (T := T) (N := N) hk.1 hk.2.1 hk.2.2.2.2.1 hc.2.2.2.1 hk.2.2.2.1 hk.2.2.2.2.2.2.2.2.2.2.1.1 hy.2.2.1.1 a.2.2 (pw_o hc ha (os_c hs).1) hc.1 k hkN (nw_us hk q rfl rfl) (fun _ h => h) (fs_at hkN) dg (by unfold fv_; rw [hf]; exact w)
/-- a row that changes one cell -/
theorem aw_wr {m' : pm_M} {pc' : Nat} {st' : List pm_V} (hN : gN_ m' = gN_ m) (hS : gS_ m' = gS_ m) (hK : gK_ m' = gK_ m)
    (hr : ∀ (X : cx_T), ck_ cc own K X → ∀ (ad : Nat → Nat) (H : Heap) (locs : List Loc) (arr : Array Slot) (c9 s9 : Nat), hy_ K X m ls ad H locs arr → os_ m st → os_ m st' ∧ (∀ (b : pm_A) (k : Nat) (r : pm_A), gR_ m' b k = some r → oa_ m r) ∧
      ((∀ (H1 : Heap) (locs1 : List Loc), va_P (xg_D (kx_G K)) kl_ (pw_ (kx_G K) ad m') H1 → va_D (xg_A (kx_G K)) (pw_ (kx_G K) ad m') → va_S (xg_A (kx_G K)) (cx_s X).heap H1 locs1 → WX_ K X H1 locs1 c9 s9 pc' arr (st'.map (cv_ (kx_G K) ad))) → WX_ K X H locs c9 s9 pc arr (st.map (cv_ (kx_G K) ad))))
    (k : AW_ cc own K m' pc' ls st') : AW_ cc own K m pc ls st := by
  have oe : ∀ r : pm_A, oa_ m r → oa_ m' r := fun r h => by
    unfold oa_ at h ⊢
    rw [hN, hK]
    exact h
  have ove : ∀ v : pm_V, ov_ m v → ov_ m' v := fun v h => by
    rcases v with x | x | x
    · trivial
    · trivial
    · cases x with
      | none => trivial
      | some r => exact oe r h
  refine ⟨by rw [← hN, ← hS]; exact k.1, fun X hk ad H locs arr h hs => ?_⟩
  obtain ⟨h1, h2, h3⟩ := hr X hk ad H locs arr (gN_ m - gN_ (kx_0 K)) (gS_ m - gS_ (kx_0 K)) h hs
  refine h3 (fun H1 locs1 hP hD hS1 => ?_)
  rw [← hN, ← hS]
  refine k.2 X hk ad H1 locs1 arr ⟨?_, h.2.1, ⟨hP, hD, fun b j r e => oe r (h2 b j r e)⟩, hS1, h.2.2.2.2.1, fun v hv => ove v (h.2.2.2.2.2 v hv)⟩ (fun v hv => ove v (h1 v hv))
  unfold xt_
  rw [hN, hS, hK]
  exact h.1
theorem pw_setO {G : xg_T} {ad : Nat → Nat} {m' : pm_M} {fs' : List Value} (hc : kc_ c C T N ty) (ha : a.1 = c) (ho : oa_ m a) (hn : gN_ m' = gN_ m) (hk : gK_ m' = gK_ m) (h : ∀ b : pm_A, b ≠ a → gI_ m' b = gI_ m b ∧ gL_ m' b = gL_ m b ∧ gR_ m' b = gR_ m b) (hf : fs_ G ad m' a N ty = fs') :
    (pw_ G ad m).set a.2.2 (ca_ G ad a, .inr (c, fs')) = pw_ G ad m' := by
  have hc9 := hc.2.2.1
  obtain ⟨h1, h2⟩ := oa_c ho (by omega)
  rw [ca_c (by omega)]
  refine (pw_set h1 hn hk (fun q i hi => ?_) ?_).symm
  · obtain ⟨q1, q2, q3⟩ := h _ (ad_ne (q := q) hi)
    exact ce_cg q1 q2 q3
  · rw [h2, ha, ce_o hc, ← hf]
    obtain ⟨a1, a2, a3⟩ := a
    cases ha
    rfl
theorem a_putI (hc : kc_ c C T N ty) (k : Nat) (hkN : k < N) (hf : fk_ (ty k) = 0) (ha : a.1 = c) (q : Cond.fieldLink own index (T k).1 (T k).2.1 (T k).2.2.1 ∈ lw_all) (hfin : (T k).2.2.2 = false) {v : Int32} (hn : narrow (ty k) (.int v) = .int v) (hft : fits (ty k) (.int v) = true) (dg : decode cc pc = .ok (.putfield index, 3)) (kk : AW_ cc own K (pI_ m a k v) (pc + 3) ls st) : AW_ cc own K m pc ls (vI_ v :: vR_ (some a) :: st) := by
  refine aw_wr (m' := pI_ m a k v) rfl rfl rfl (fun X hk ad H locs arr c9 s9 hy hs => ⟨(os_c (os_c hs).2).2, ?_, fun w => ?_⟩) kk
  · exact hy.2.2.1.2.2
  · have e := pw_setO (G := kx_G K) (ad := ad) (m := m) (m' := pI_ m a k v) hc ha (os_c (os_c hs).2).1 rfl rfl (fun b h => ⟨pI_ne h, rfl, rfl⟩) (fs_setI (G := kx_G K) (ad := ad) (N := N) (v := v) hf)
    refine va_put (v := .int v) (T := T) (N := N) hk.1 hk.2.1 hk.2.2.2.2.1 hc.2.2.2.1 ty hc.2.2.2.2.1 hc.2.2.2.2.2.1 hk.2.2.2.1 hk.2.2.2.2.2.2.2.2.2.2.1.1 hy.2.2.1.1 hy.2.2.1.2.1 hy.2.2.2.1 a.2.2 (pw_o hc ha (os_c (os_c hs).2).1) hc.1 k hkN (hk.2.2.2.2.1 _ q) (fun _ h => h) hfin (hc.2.2.2.2.1 k hkN) hn hft (by rw [fs_len]; exact hkN) dg (fun H1 locs1 hP hD hS => ?_)
    rw [e] at hP hD
    exact w H1 locs1 hP hD hS
theorem a_putL (hc : kc_ c C T N ty) (k : Nat) (hkN : k < N) (hf : fk_ (ty k) = 1) (ha : a.1 = c) (q : Cond.fieldLink own index (T k).1 (T k).2.1 (T k).2.2.1 ∈ lw_all) (hfin : (T k).2.2.2 = false) {v : Int64} (hn : narrow (ty k) (.long v) = .long v) (hft : fits (ty k) (.long v) = true) (dg : decode cc pc = .ok (.putfield index, 3)) (kk : AW_ cc own K (pL_ m a k v) (pc + 3) ls st) : AW_ cc own K m pc ls (vL_ v :: vR_ (some a) :: st) := by
  refine aw_wr (m' := pL_ m a k v) rfl rfl rfl (fun X hk ad H locs arr c9 s9 hy hs => ⟨(os_c (os_c hs).2).2, ?_, fun w => ?_⟩) kk
  · exact hy.2.2.1.2.2
  · have e := pw_setO (G := kx_G K) (ad := ad) (m := m) (m' := pL_ m a k v) hc ha (os_c (os_c hs).2).1 rfl rfl (fun b h => ⟨rfl, pL_ne h, rfl⟩) (fs_setL (G := kx_G K) (ad := ad) (N := N) (v := v) hf)
    refine va_put (v := .long v) (T := T) (N := N) hk.1 hk.2.1 hk.2.2.2.2.1 hc.2.2.2.1 ty hc.2.2.2.2.1 hc.2.2.2.2.2.1 hk.2.2.2.1 hk.2.2.2.2.2.2.2.2.2.2.1.1 hy.2.2.1.1 hy.2.2.1.2.1 hy.2.2.2.1 a.2.2 (pw_o hc ha (os_c (os_c hs).2).1) hc.1 k hkN (hk.2.2.2.2.1 _ q) (fun _ h => h) hfin (hc.2.2.2.2.1 k hkN) hn hft (by rw [fs_len]; exact hkN) dg (fun H1 locs1 hP hD hS => ?_)
    rw [e] at hP hD
    exact w H1 locs1 hP hD hS
theorem a_putR (hc : kc_ c C T N ty) (k : Nat) (hkN : k < N) (hf : fk_ (ty k) = 2) (ha : a.1 = c) (q : Cond.fieldLink own index (T k).1 (T k).2.1 (T k).2.2.1 ∈ lw_all) (hfin : (T k).2.2.2 = false) {v : Option pm_A} (hn : ∀ z : Option Nat, narrow (ty k) (va_rf z) = va_rf z ∧ fits (ty k) (va_rf z) = true) (dg : decode cc pc = .ok (.putfield index, 3)) (kk : AW_ cc own K (pR_ m a k v) (pc + 3) ls st) : AW_ cc own K m pc ls (vR_ v :: vR_ (some a) :: st) := by
  refine aw_wr (m' := pR_ m a k v) rfl rfl rfl (fun X hk ad H locs arr c9 s9 hy hs => ⟨(os_c (os_c hs).2).2, ?_, fun w => ?_⟩) kk
  · intro b j r e
    have e1 : (if b = a ∧ j = k then v else m.2.2.1 b j) = some r := e
    by_cases z : b = a ∧ j = k
    · rw [if_pos z] at e1
      have h1 := (os_c hs).1
      rw [e1] at h1
      exact h1
    · rw [if_neg z] at e1
      exact hy.2.2.1.2.2 b j r e1
  · have e := pw_setO (G := kx_G K) (ad := ad) (m := m) (m' := pR_ m a k v) hc ha (os_c (os_c hs).2).1 rfl rfl (fun b h => ⟨rfl, rfl, pR_ne h⟩) (fs_setR (G := kx_G K) (ad := ad) (N := N) (v := v) hf)
    refine va_put (v := va_rf (v.map (ca_ (kx_G K) ad))) (T := T) (N := N) hk.1 hk.2.1 hk.2.2.2.2.1 hc.2.2.2.1 ty hc.2.2.2.2.1 hc.2.2.2.2.2.1 hk.2.2.2.1 hk.2.2.2.2.2.2.2.2.2.2.1.1 hy.2.2.1.1 hy.2.2.1.2.1 hy.2.2.2.1 a.2.2 (pw_o hc ha (os_c (os_c hs).2).1) hc.1 k hkN (hk.2.2.2.2.1 _ q) (fun _ h => h) hfin (hc.2.2.2.2.1 k hkN) (hn _).1 (hn _).2 (by rw [fs_len]; exact hkN) dg (fun H1 locs1 hP hD hS => ?_)
    rw [e] at hP hD
    exact w H1 locs1 hP hD hS
theorem a_putIF (hc : kc_ c C T N ty) (k : Nat) (hkN : k < N) (hf : fk_ (ty k) = 0) (ha : a.1 = c) (q : Cond.fieldLink own index (T k).1 (T k).2.1 (T k).2.2.1 ∈ lw_all) (hfin : (T k).2.2.2 = true) (hnm : kx_n K = "<init>") (hown : (T k).1 = own) {v : Int32} (hn : narrow (ty k) (.int v) = .int v) (hft : fits (ty k) (.int v) = true) (dg : decode cc pc = .ok (.putfield index, 3)) (kk : AW_ cc own K (pI_ m a k v) (pc + 3) ls st) : AW_ cc own K m pc ls (vI_ v :: vR_ (some a) :: st) := by
  refine aw_wr (m' := pI_ m a k v) rfl rfl rfl (fun X hk ad H locs arr c9 s9 hy hs => ⟨(os_c (os_c hs).2).2, ?_, fun w => ?_⟩) kk
  · exact hy.2.2.1.2.2
  · have e := pw_setO (G := kx_G K) (ad := ad) (m := m) (m' := pI_ m a k v) hc ha (os_c (os_c hs).2).1 rfl rfl (fun b h => ⟨pI_ne h, rfl, rfl⟩) (fs_setI (G := kx_G K) (ad := ad) (N := N) (v := v) hf)
    refine va_putF (v := .int v) (T := T) (N := N) hk.1 hk.2.1 hk.2.2.2.2.1 hc.2.2.2.1 ty hc.2.2.2.2.1 hc.2.2.2.2.2.1 hk.2.2.2.1 hk.2.2.2.2.2.2.2.2.2.2.1.1 hy.2.2.1.1 hy.2.2.1.2.1 hy.2.2.2.1 a.2.2 (pw_o hc ha (os_c (os_c hs).2).1) hc.1 k hkN (hk.2.2.2.2.1 _ q) (fun _ h => h) hfin (hk.2.2.2.2.2.2.2.1.trans hnm) hown (hc.2.2.2.2.1 k hkN) hn hft (by rw [fs_len]; exact hkN) dg (fun H1 locs1 hP hD hS => ?_)
    rw [e] at hP hD
    exact w H1 locs1 hP hD hS
theorem a_putRF (hc : kc_ c C T N ty) (k : Nat) (hkN : k < N) (hf : fk_ (ty k) = 2) (ha : a.1 = c) (q : Cond.fieldLink own index (T k).1 (T k).2.1 (T k).2.2.1 ∈ lw_all) (hfin : (T k).2.2.2 = true) (hnm : kx_n K = "<init>") (hown : (T k).1 = own) {v : Option pm_A} (hn : ∀ z : Option Nat, narrow (ty k) (va_rf z) = va_rf z ∧ fits (ty k) (va_rf z) = true) (dg : decode cc pc = .ok (.putfield index, 3)) (kk : AW_ cc own K (pR_ m a k v) (pc + 3) ls st) : AW_ cc own K m pc ls (vR_ v :: vR_ (some a) :: st) := by
  refine aw_wr (m' := pR_ m a k v) rfl rfl rfl (fun X hk ad H locs arr c9 s9 hy hs => ⟨(os_c (os_c hs).2).2, ?_, fun w => ?_⟩) kk
  · intro b j r e
    have e1 : (if b = a ∧ j = k then v else m.2.2.1 b j) = some r := e
    by_cases z : b = a ∧ j = k
    · rw [if_pos z] at e1
      have h1 := (os_c hs).1
      rw [e1] at h1
      exact h1
    · rw [if_neg z] at e1
      exact hy.2.2.1.2.2 b j r e1
  · have e := pw_setO (G := kx_G K) (ad := ad) (m := m) (m' := pR_ m a k v) hc ha (os_c (os_c hs).2).1 rfl rfl (fun b h => ⟨rfl, rfl, pR_ne h⟩) (fs_setR (G := kx_G K) (ad := ad) (N := N) (v := v) hf)
    refine va_putF (v := va_rf (v.map (ca_ (kx_G K) ad))) (T := T) (N := N) hk.1 hk.2.1 hk.2.2.2.2.1 hc.2.2.2.1 ty hc.2.2.2.2.1 hc.2.2.2.2.2.1 hk.2.2.2.1 hk.2.2.2.2.2.2.2.2.2.2.1.1 hy.2.2.1.1 hy.2.2.1.2.1 hy.2.2.2.1 a.2.2 (pw_o hc ha (os_c (os_c hs).2).1) hc.1 k hkN (hk.2.2.2.2.1 _ q) (fun _ h => h) hfin (hk.2.2.2.2.2.2.2.1.trans hnm) hown (hc.2.2.2.2.1 k hkN) (hn _).1 (hn _).2 (by rw [fs_len]; exact hkN) dg (fun H1 locs1 hP hD hS => ?_)
    rw [e] at hP hD
    exact w H1 locs1 hP hD hS
theorem a_putIN {host : String} (hc : kc_ c C T N ty) (k : Nat) (hkN : k < N) (hf : fk_ (ty k) = 0) (ha : a.1 = c) (q : Cond.fieldLinkNest own index (T k).1 (T k).2.1 (T k).2.2.1 host ∈ lw_tbl) (hfin : (T k).2.2.2 = false) {v : Int32} (hn : narrow (ty k) (.int v) = .int v) (hft : fits (ty k) (.int v) = true) (dg : decode cc pc = .ok (.putfield index, 3)) (kk : AW_ cc own K (pI_ m a k v) (pc + 3) ls st) : AW_ cc own K m pc ls (vI_ v :: vR_ (some a) :: st) := by
  refine aw_wr (m' := pI_ m a k v) rfl rfl rfl (fun X hk ad H locs arr c9 s9 hy hs => ⟨(os_c (os_c hs).2).2, ?_, fun w => ?_⟩) kk
  · exact hy.2.2.1.2.2
  · have e := pw_setO (G := kx_G K) (ad := ad) (m := m) (m' := pI_ m a k v) hc ha (os_c (os_c hs).2).1 rfl rfl (fun b h => ⟨pI_ne h, rfl, rfl⟩) (fs_setI (G := kx_G K) (ad := ad) (N := N) (v := v) hf)
    refine va_putN (v := .int v) (T := T) (N := N) hk.1 hk.2.1 hk.2.2.2.2.1 hc.2.2.2.1 ty hc.2.2.2.2.1 hc.2.2.2.2.2.1 hk.2.2.2.1 hk.2.2.2.2.2.2.2.2.2.2.1.1 hy.2.2.1.1 hy.2.2.1.2.1 hy.2.2.2.1 a.2.2 (pw_o hc ha (os_c (os_c hs).2).1) hc.1 k hkN (nw_us hk q rfl rfl) (fun _ h => h) hfin (hc.2.2.2.2.1 k hkN) hn hft (by rw [fs_len]; exact hkN) dg (fun H1 locs1 hP hD hS => ?_)
    rw [e] at hP hD
    exact w H1 locs1 hP hD hS
theorem a_putRN {host : String} (hc : kc_ c C T N ty) (k : Nat) (hkN : k < N) (hf : fk_ (ty k) = 2) (ha : a.1 = c) (q : Cond.fieldLinkNest own index (T k).1 (T k).2.1 (T k).2.2.1 host ∈ lw_tbl) (hfin : (T k).2.2.2 = false) {v : Option pm_A} (hn : ∀ z : Option Nat, narrow (ty k) (va_rf z) = va_rf z ∧ fits (ty k) (va_rf z) = true) (dg : decode cc pc = .ok (.putfield index, 3)) (kk : AW_ cc own K (pR_ m a k v) (pc + 3) ls st) : AW_ cc own K m pc ls (vR_ v :: vR_ (some a) :: st) := by
  refine aw_wr (m' := pR_ m a k v) rfl rfl rfl (fun X hk ad H locs arr c9 s9 hy hs => ⟨(os_c (os_c hs).2).2, ?_, fun w => ?_⟩) kk
  · intro b j r e
    have e1 : (if b = a ∧ j = k then v else m.2.2.1 b j) = some r := e
    by_cases z : b = a ∧ j = k
    · rw [if_pos z] at e1
      have h1 := (os_c hs).1
      rw [e1] at h1
      exact h1
    · rw [if_neg z] at e1
      exact hy.2.2.1.2.2 b j r e1
  · have e := pw_setO (G := kx_G K) (ad := ad) (m := m) (m' := pR_ m a k v) hc ha (os_c (os_c hs).2).1 rfl rfl (fun b h => ⟨rfl, rfl, pR_ne h⟩) (fs_setR (G := kx_G K) (ad := ad) (N := N) (v := v) hf)
    refine va_putN (v := va_rf (v.map (ca_ (kx_G K) ad))) (T := T) (N := N) hk.1 hk.2.1 hk.2.2.2.2.1 hc.2.2.2.1 ty hc.2.2.2.2.1 hc.2.2.2.2.2.1 hk.2.2.2.1 hk.2.2.2.2.2.2.2.2.2.2.1.1 hy.2.2.1.1 hy.2.2.1.2.1 hy.2.2.2.1 a.2.2 (pw_o hc ha (os_c (os_c hs).2).1) hc.1 k hkN (nw_us hk q rfl rfl) (fun _ h => h) hfin (hc.2.2.2.2.1 k hkN) (hn _).1 (hn _).2 (by rw [fs_len]; exact hkN) dg (fun H1 locs1 hP hD hS => ?_)
    rw [e] at hP hD
    exact w H1 locs1 hP hD hS
end AWM
