/-! THE LIFTED GOAL: a method's frame over the abstract memory -/
set_option maxRecDepth 100000
/-- p e R s mid args below meth c Q ad0: the run -/
abbrev cx_T : Type := Program × Env × Room × State × MethodId × Array Value × List Frame × Method × Code × (State → Prop) × (Nat → Nat)
abbrev cx_p (X : cx_T) : Program := X.1
abbrev cx_e (X : cx_T) : Env := X.2.1
abbrev cx_R (X : cx_T) : Room := X.2.2.1
abbrev cx_s (X : cx_T) : State := X.2.2.2.1
abbrev cx_i (X : cx_T) : MethodId := X.2.2.2.2.1
abbrev cx_a (X : cx_T) : Array Value := X.2.2.2.2.2.1
abbrev cx_b (X : cx_T) : List Frame := X.2.2.2.2.2.2.1
abbrev cx_m (X : cx_T) : Method := X.2.2.2.2.2.2.2.1
abbrev cx_c (X : cx_T) : Code := X.2.2.2.2.2.2.2.2.1
abbrev cx_Q (X : cx_T) : State → Prop := X.2.2.2.2.2.2.2.2.2.1
abbrev cx_d (X : cx_T) : Nat → Nat := X.2.2.2.2.2.2.2.2.2.2
/-- ret name depth nL m0 mE outcome G l table mode: the method -/
abbrev kx_T : Type := Option FieldType × String × Nat × Nat × pm_M × pm_M × pm_O × xg_T × Launch × List (Nat × Nat × Nat × Nat) × Bool
abbrev kx_r (K : kx_T) : Option FieldType := K.1
abbrev kx_n (K : kx_T) : String := K.2.1
abbrev kx_d (K : kx_T) : Nat := K.2.2.1
abbrev kx_L (K : kx_T) : Nat := K.2.2.2.1
abbrev kx_0 (K : kx_T) : pm_M := K.2.2.2.2.1
abbrev kx_E (K : kx_T) : pm_M := K.2.2.2.2.2.1
abbrev kx_o (K : kx_T) : pm_O := K.2.2.2.2.2.2.1
abbrev kx_G (K : kx_T) : xg_T := K.2.2.2.2.2.2.2.1
abbrev kx_l (K : kx_T) : Launch := K.2.2.2.2.2.2.2.2.1
abbrev kx_t (K : kx_T) : List (Nat × Nat × Nat × Nat) := K.2.2.2.2.2.2.2.2.2.1
abbrev kx_b (K : kx_T) : Bool := K.2.2.2.2.2.2.2.2.2.2
abbrev WX_ (K : kx_T) (X : cx_T) (H : Heap) (locs : List Loc) (c9 s9 pc : Nat) (arr : Array Slot) (st : List Value) : Prop :=
  W (cx_p X) (kx_l K) (cx_e X) (cx_R X) (cx_s X) (cx_i X) (cx_a X) (cx_b X) (cx_m X) (cx_c X) H locs c9 s9 (cx_Q X) (F0 (cx_i X) pc arr st)
/-- what holds wherever the method stands: memory m, locals ls -/
def hy_ (K : kx_T) (X : cx_T) (m : pm_M) (ls : List (Nat × pm_V)) (ad : Nat → Nat) (H : Heap) (locs : List Loc) (arr : Array Slot) : Prop :=
  xt_ (kx_0 K) m ∧ ag_ (kx_0 K) (cx_d X) ad ∧ ma_ (kx_G K) ad m H ∧ va_S (xg_A (kx_G K)) (cx_s X).heap H locs ∧ lv_has arr (kx_L K) (ls.map (cl_ (kx_G K) ad)) ∧ os_ m (ls.map Prod.snd)
def rm_ (d : Nat) (m m' : pm_M) : Room := { frames := d, cells := gN_ m' - gN_ m, slots := gS_ m' - gS_ m, locals := 100 * d }
def cn_ (b : Nat) : String := (kl_.getD b (RX1, t0_, 0)).1
def pc_ (G : xg_T) (ad : Nat → Nat) (av : List pm_V) (m : pm_M) : Array Value → State → Prop := fun v U => v = (av.map (cv_ G ad)).toArray ∧ en_ G U ∧ ma_ G ad m U.heap ∧ os_ m av ∧ xg_b G ≤ U.heap.size
def qc_ (G : xg_T) (ad : Nat → Nat) (m : pm_M) (o : pm_O) (m' : pm_M) : Array Value → State → Outcome → State → Prop := fun _ st oc t => va_F (xg_A G) st t ∧ ∃ (r : Option pm_V) (ad' : Nat → Nat), o = .inl r ∧ ag_ m ad ad' ∧ xt_ m m' ∧ oc = .returned (r.map (cv_ G ad')) ∧ os_ m' r.toList ∧ ma_ G ad' m' t.heap
def qx_ (G : xg_T) (ad : Nat → Nat) (m : pm_M) (o : pm_O) (m' : pm_M) : Addr → String → State → State → Prop := fun q E st t => va_F (xg_A G) st t ∧ ∃ (a : pm_A) (ad' : Nat → Nat), o = .inr a ∧ ag_ m ad ad' ∧ xt_ m m' ∧ q = ca_ G ad' a ∧ E = cn_ a.1 ∧ oa_ m' a ∧ ma_ G ad' m' t.heap
/-- the law's own end -/
def lz_ (X : cx_T) : State → Prop := fun t => ∃ o, t.status = .running ∧ Ended t (cx_b X) o ∧ o = .returned (some (.int 1)) ∧ Framed (cx_s X) o t [] 601024 7293034
/-- the method's own facts: code, class, answer, the tables' words -/
def ck_ (cc : ByteArray) (own : String) (K : kx_T) (X : cx_T) : Prop :=
  (cx_p X).tables.exec = Jvm.exec ∧ (cx_c X).code = cc ∧ (cx_c X).maxLocals = kx_L K ∧ (cx_s X).vm.findClass own = some (cx_i X).cls ∧ (∀ w ∈ lw_all, w.before (cx_a X) (cx_s X) = true) ∧ (cx_m X).locks = false ∧ (cx_m X).sig.returnType = kx_r K ∧ (cx_m X).name = kx_n K ∧
  ((cx_R X).frames = kx_d K ∧ (cx_R X).locals = 100 * kx_d K ∧ (cx_R X).cells = gN_ (kx_E K) - gN_ (kx_0 K) ∧ (cx_R X).slots = gS_ (kx_E K) - gS_ (kx_0 K)) ∧
  xg_b (kx_G K) ≤ (cx_s X).heap.size ∧ en_ (kx_G K) (cx_s X) ∧ (cx_c X).exceptionTable.toList = tableOf (kx_t K) ∧
  (kx_b K = false → cx_Q X = lz_ X ∧ cx_a X = #[Value.ref (xg_s (kx_G K))] ∧ (cx_s X).heap.size ≤ xg_b (kx_G K)) ∧ (kx_b K = true → cx_Q X = vx_MQ (cx_b X) (qc_ (kx_G K) (cx_d X) (kx_0 K) (kx_o K) (kx_E K)) (qx_ (kx_G K) (cx_d X) (kx_0 K) (kx_o K) (kx_E K)) (cx_a X) (cx_s X) (gN_ (kx_E K) - gN_ (kx_0 K)) (gS_ (kx_E K) - gS_ (kx_0 K)) (xg_A (kx_G K)))
def AW_ (cc : ByteArray) (own : String) (K : kx_T) (m : pm_M) (pc : Nat) (ls : List (Nat × pm_V)) (st : List pm_V) : Prop :=
  (gN_ m ≤ gN_ (kx_E K) ∧ gS_ m ≤ gS_ (kx_E K)) ∧ ∀ (X : cx_T), ck_ cc own K X → ∀ (ad : Nat → Nat) (H : Heap) (locs : List Loc) (arr : Array Slot), hy_ K X m ls ad H locs arr → os_ m st →
    WX_ K X H locs (gN_ m - gN_ (kx_0 K)) (gS_ m - gS_ (kx_0 K)) pc arr (st.map (cv_ (kx_G K) ad))
section AWR
variable {cc : ByteArray} {own : String} {K : kx_T} {X : cx_T} {m : pm_M} {pc : Nat} {ls : List (Nat × pm_V)} {st : List pm_V}
/-- a row that changes the stack alone -/
theorem aw_st {pc' : Nat} {st' : List pm_V} (ho : os_ m (ls.map Prod.snd) → os_ m st → os_ m st')
    (hr : ∀ (X : cx_T), ck_ cc own K X → ∀ (ad : Nat → Nat) (H : Heap) (locs : List Loc) (arr : Array Slot) (c9 s9 : Nat), hy_ K X m ls ad H locs arr → WX_ K X H locs c9 s9 pc' arr (st'.map (cv_ (kx_G K) ad)) → WX_ K X H locs c9 s9 pc arr (st.map (cv_ (kx_G K) ad)))
    (k : AW_ cc own K m pc' ls st') : AW_ cc own K m pc ls st :=
  ⟨k.1, fun X hk ad H locs arr h hs => hr X hk ad H locs arr _ _ h (k.2 X hk ad H locs arr h (ho h.2.2.2.2.2 hs))⟩
/-- the locals behind a store -/
def sl_ (ls : List (Nat × pm_V)) (i : Nat) (v : pm_V) : List (Nat × pm_V) := (i, v) :: ls.filter (fun q => !(q.1 == i) && !(q.1 + 1 == i && (match q.2 with | .inr (.inl _) => true | _ => false)))
def sl2_ (ls : List (Nat × pm_V)) (i : Nat) (v : pm_V) : List (Nat × pm_V) := (i, v) :: ls.filter (fun q => !(q.1 == i) && (!(q.1 == i + 1) && !(q.1 + 1 == i && (match q.2 with | .inr (.inl _) => true | _ => false))))
theorem cv_cat {G : xg_T} {ad : Nat → Nat} (v : pm_V) : ((cv_ G ad v).category == 2) = (match v with | .inr (.inl _) => true | _ => false) := by
  rcases v with x | x | x
  · rfl
  · rfl
  · cases x <;> rfl
theorem sl_map {G : xg_T} {ad : Nat → Nat} {i : Nat} {v : pm_V} : (i, cv_ G ad v) :: (ls.map (cl_ G ad)).filter (fun q => !(q.1 == i) && !(q.1 + 1 == i && q.2.category == 2)) = (sl_ ls i v).map (cl_ G ad) := by
  unfold sl_
  rw [List.map_cons, List.filter_map]
  congr 2
  apply List.filter_congr
  intro q _
  show (!(q.1 == i) && !(q.1 + 1 == i && ((cv_ G ad q.2).category == 2))) = _
  rw [cv_cat]
theorem sl2_map {G : xg_T} {ad : Nat → Nat} {i : Nat} {v : pm_V} : (i, cv_ G ad v) :: (ls.map (cl_ G ad)).filter (fun q => !(q.1 == i) && (!(q.1 == i + 1) && !(q.1 + 1 == i && q.2.category == 2))) = (sl2_ ls i v).map (cl_ G ad) := by
  unfold sl2_
  rw [List.map_cons, List.filter_map]
  congr 2
  apply List.filter_congr
  intro q _
  show (!(q.1 == i) && (!(q.1 == i + 1) && !(q.1 + 1 == i && ((cv_ G ad q.2).category == 2)))) = _
  rw [cv_cat]
theorem sl_os {i : Nat} {v : pm_V} (h : os_ m (ls.map Prod.snd)) (hv : ov_ m v) : os_ m ((sl_ ls i v).map Prod.snd) := by
  intro w hw
  obtain ⟨q, hq, rfl⟩ := List.mem_map.mp hw
  rcases List.mem_cons.mp hq with e | e
  · rw [e]; exact hv
  · exact h _ (List.mem_map.mpr ⟨q, (List.mem_filter.mp e).1, rfl⟩)
theorem sl2_os {i : Nat} {v : pm_V} (h : os_ m (ls.map Prod.snd)) (hv : ov_ m v) : os_ m ((sl2_ ls i v).map Prod.snd) := by
  intro w hw
  obtain ⟨q, hq, rfl⟩ := List.mem_map.mp hw
  rcases List.mem_cons.mp hq with e | e
  · rw [e]; exact hv
  · exact h _ (List.mem_map.mpr ⟨q, (List.mem_filter.mp e).1, rfl⟩)
/-- a row that stores a local: one slot, two slots -/
theorem aw_ls {pc' i : Nat} {v : pm_V} {ls' : List (Nat × pm_V)} (hl : sl_ ls i v = ls') (ho : os_ m st → ov_ m v) {st0 : List pm_V} (ho2 : os_ m st0 → os_ m st)
    (hr : ∀ (X : cx_T), ck_ cc own K X → ∀ (ad : Nat → Nat) (H : Heap) (locs : List Loc) (arr : Array Slot) (c9 s9 : Nat), hy_ K X m ls ad H locs arr → (∀ arr' : Array Slot, lv_has arr' (kx_L K) ((sl_ ls i v).map (cl_ (kx_G K) ad)) → WX_ K X H locs c9 s9 pc' arr' (st.map (cv_ (kx_G K) ad))) → WX_ K X H locs c9 s9 pc arr (st0.map (cv_ (kx_G K) ad)))
    (k : AW_ cc own K m pc' ls' st) (hv : os_ m (ls.map Prod.snd) → os_ m st0 → ov_ m v) : AW_ cc own K m pc ls st0 := by
  subst hl
  exact ⟨k.1, fun X hk ad H locs arr h hs => hr X hk ad H locs arr _ _ h (fun arr' h' => k.2 X hk ad H locs arr' ⟨h.1, h.2.1, h.2.2.1, h.2.2.2.1, h', sl_os h.2.2.2.2.2 (hv h.2.2.2.2.2 hs)⟩ (ho2 hs))⟩
theorem aw_ls2 {pc' i : Nat} {v : pm_V} {ls' : List (Nat × pm_V)} (hl : sl2_ ls i v = ls') {st0 : List pm_V} (ho2 : os_ m st0 → os_ m st)
    (hr : ∀ (X : cx_T), ck_ cc own K X → ∀ (ad : Nat → Nat) (H : Heap) (locs : List Loc) (arr : Array Slot) (c9 s9 : Nat), hy_ K X m ls ad H locs arr → (∀ arr' : Array Slot, lv_has arr' (kx_L K) ((sl2_ ls i v).map (cl_ (kx_G K) ad)) → WX_ K X H locs c9 s9 pc' arr' (st.map (cv_ (kx_G K) ad))) → WX_ K X H locs c9 s9 pc arr (st0.map (cv_ (kx_G K) ad)))
    (k : AW_ cc own K m pc' ls' st) (hv : os_ m (ls.map Prod.snd) → os_ m st0 → ov_ m v) : AW_ cc own K m pc ls st0 := by
  subst hl
  exact ⟨k.1, fun X hk ad H locs arr h hs => hr X hk ad H locs arr _ _ h (fun arr' h' => k.2 X hk ad H locs arr' ⟨h.1, h.2.1, h.2.2.1, h.2.2.2.1, h', sl2_os h.2.2.2.2.2 (hv h.2.2.2.2.2 hs)⟩ (ho2 hs))⟩
/-- fewer locals, in any order -/
theorem aw_pick {ls' : List (Nat × pm_V)} (ks : List Nat) (hl : ks.filterMap (fun k => ls[k]?) = ls') (k : AW_ cc own K m pc ls' st) : AW_ cc own K m pc ls st := by
  subst hl
  refine ⟨k.1, fun X hk ad H locs arr h hs => k.2 X hk ad H locs arr ⟨h.1, h.2.1, h.2.2.1, h.2.2.2.1, ?_, ?_⟩ hs⟩
  · refine ⟨h.2.2.2.2.1.1, h.2.2.2.2.1.2.1, fun q hq => ?_⟩
    obtain ⟨q0, hq0, rfl⟩ := List.mem_map.mp hq
    obtain ⟨j, -, hj⟩ := List.mem_filterMap.mp hq0
    exact h.2.2.2.2.1.2.2 _ (List.mem_map.mpr ⟨q0, List.mem_of_getElem? hj, rfl⟩)
  · intro w hw
    obtain ⟨q0, hq0, rfl⟩ := List.mem_map.mp hw
    obtain ⟨j, -, hj⟩ := List.mem_filterMap.mp hq0
    exact h.2.2.2.2.2 _ (List.mem_map.mpr ⟨q0, List.mem_of_getElem? hj, rfl⟩)
theorem ls_at {ad : Nat → Nat} {H : Heap} {locs : List Loc} {arr : Array Slot} (h : hy_ K X m ls ad H locs arr) {j i : Nat} {v : pm_V} (hj : ls[j]? = some (i, v)) : arr[i]? = some (.val (cv_ (kx_G K) ad v)) :=
  lv_at h.2.2.2.2.1 j (by rw [List.getElem?_map, hj]; rfl)
theorem ls_ov {j i : Nat} {v : pm_V} (h : os_ m (ls.map Prod.snd)) (hj : ls[j]? = some (i, v)) : ov_ m v := h v (List.mem_map.mpr ⟨(i, v), List.mem_of_getElem? hj, rfl⟩)
end AWR
