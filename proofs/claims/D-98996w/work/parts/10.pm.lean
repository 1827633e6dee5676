/-! THE ABSTRACT MEMORY: typed words at abstract addresses (kind, length, serial) -/
set_option maxRecDepth 100000
abbrev pm_A : Type := Nat × Nat × Nat
abbrev pm_V : Type := Int32 ⊕ (Int64 ⊕ Option pm_A)
abbrev pm_O : Type := Option pm_V ⊕ pm_A
abbrev pm_M : Type := (pm_A → Nat → Int32) × (pm_A → Nat → Int64) × (pm_A → Nat → Option pm_A) × (Nat → Nat × Nat) × Nat × Nat
abbrev vI_ (x : Int32) : pm_V := Sum.inl x
abbrev vL_ (x : Int64) : pm_V := Sum.inr (Sum.inl x)
abbrev vR_ (r : Option pm_A) : pm_V := Sum.inr (Sum.inr r)
def gI_ (m : pm_M) (a : pm_A) (k : Nat) : Int32 := m.1 a k
def gL_ (m : pm_M) (a : pm_A) (k : Nat) : Int64 := m.2.1 a k
def gR_ (m : pm_M) (a : pm_A) (k : Nat) : Option pm_A := m.2.2.1 a k
def gK_ (m : pm_M) (i : Nat) : Nat × Nat := m.2.2.2.1 i
def gN_ (m : pm_M) : Nat := m.2.2.2.2.1
def gS_ (m : pm_M) : Nat := m.2.2.2.2.2
def pI_ (m : pm_M) (a : pm_A) (k : Nat) (v : Int32) : pm_M := (fun b j => if b = a ∧ j = k then v else m.1 b j, m.2)
def pL_ (m : pm_M) (a : pm_A) (k : Nat) (v : Int64) : pm_M := (m.1, fun b j => if b = a ∧ j = k then v else m.2.1 b j, m.2.2)
def pR_ (m : pm_M) (a : pm_A) (k : Nat) (v : Option pm_A) : pm_M := (m.1, m.2.1, fun b j => if b = a ∧ j = k then v else m.2.2.1 b j, m.2.2.2)
/-- a new cell of the kind b and length len, of w slots: all zero -/
def pN_ (m : pm_M) (b len w : Nat) : pm_M :=
  (fun x j => if x = (b, len, m.2.2.2.2.1) then 0 else m.1 x j, fun x j => if x = (b, len, m.2.2.2.2.1) then 0 else m.2.1 x j, fun x j => if x = (b, len, m.2.2.2.2.1) then none else m.2.2.1 x j,
    fun i => if i = m.2.2.2.2.1 then (b, len) else m.2.2.2.1 i, m.2.2.2.2.1 + 1, m.2.2.2.2.2 + w)
/-- ints copied from the cell a to the cell b -/
def pC_ (m : pm_M) (a : pm_A) (sp : Nat) (b : pm_A) (dp n : Nat) : pm_M := (fun x j => if x = b then va_cpy (m.1 a) (m.1 b) sp dp n j else m.1 x j, m.2)
/-- an index in range -/
def ib_ (i : Int32) (n : Nat) : Bool := !(decide (i < 0) || decide (n ≤ i.toNatClampNeg))
theorem ib_in {i : Int32} {n : Nat} (h : ib_ i n = true) : vp_in i n := by
  intro q
  unfold ib_ at h
  rcases q with q | q <;> simp [q] at h
/-- what the decompiled text is made of -/
def gd_ {α : Type} (b : Nat) (r : Option pm_A) (f : pm_A → Option α) : Option α := match r with
  | none => none
  | some a => if a.1 = b then f a else none
def nn_ {α : Type} (r : Option pm_A) (f : pm_A → Option α) : Option α := match r with
  | none => none
  | some a => f a
def bd_ {α β : Type} (x : Option α) (f : α → Option β) : Option β := match x with
  | none => none
  | some a => f a
def lt_ {α β : Type} (x : α) (f : α → Option β) : Option β := f x
theorem gd_some {α : Type} {b : Nat} {r : Option pm_A} {f : pm_A → Option α} {x : α} (h : gd_ b r f = some x) : ∃ a : pm_A, r = some a ∧ a.1 = b ∧ f a = some x := by
  cases r with
  | none => cases h
  | some a =>
    have h : (if a.1 = b then f a else none) = some x := h
    by_cases q : a.1 = b
    · rw [if_pos q] at h
      exact ⟨a, rfl, q, h⟩
    · rw [if_neg q] at h
      cases h
theorem nn_some {α : Type} {r : Option pm_A} {f : pm_A → Option α} {x : α} (h : nn_ r f = some x) : ∃ a : pm_A, r = some a ∧ f a = some x := by
  cases r with
  | none => cases h
  | some a => exact ⟨a, rfl, h⟩
theorem bd_some {α β : Type} {y : Option α} {f : α → Option β} {x : β} (h : bd_ y f = some x) : ∃ a : α, y = some a ∧ f a = some x := by
  cases y with
  | none => cases h
  | some a => exact ⟨a, rfl, h⟩
theorem if_some {α : Type} {c : Prop} [Decidable c] {y : Option α} {x : α} (h : (if c then y else none) = some x) : c ∧ y = some x := by
  by_cases q : c
  · rw [if_pos q] at h
    exact ⟨q, h⟩
  · rw [if_neg q] at h
    cases h
/-! the classes by their kinds, their fields' types; the arrays' kinds -/
def t0_ : u_T := fun _ => ("", "", "", false)
def kl_ : List vw_C := [(RX1, TX1, 19), (RX1, TX1, 19), (RX2, TX2, 1), (RX3, TX3, 2), (RX4, TX4, 14), (RX5, TX5, 8), (RX6, TX6, 11), (RX7, TX7, 6), (RX8, TX8, 59), (RX9, TX9, 4), (RX10, TX10, 4), (RX11, TX11, 8), (RX12, TX12, 2), (RX13, TX13, 3), (RX14, TX14, 1), (RX15, TX15, 1), (RX16, TX16, 3), (RX1, TX1, 19), (RX18, TX18, 3), (RX19, TX19, 2), (RX20, TX20, 2), (RX21, t0_, 0), (RX22, t0_, 0), (RX23, TX23, 2), (RX24, TX24, 4), (RJ3, t0_, 0), (RJ10, t0_, 0)]
def ki_ : Nat → FieldType := fun _ => .int
def kt_ : List (Nat → FieldType) := [tyX1, tyX1, tyX2, tyX3, tyX4, tyX5, tyX6, tyX7, tyX8, tyX9, tyX10, tyX11, tyX12, tyX13, tyX14, tyX15, tyX16, tyX1, tyX18, tyX19, tyX20, ki_, ki_, tyX23, tyX24, ki_, ki_]
abbrev xg_T : Type := va_G × (Nat → ClassId) × (Nat → Nat) × (Nat → Nat) × Nat × Nat × (Nat → Nat) × Nat × (Nat → Int32)
def xg_D (G : xg_T) : va_G := G.1
def xg_t (G : xg_T) : Nat → ClassId := G.2.1
def xg_k (G : xg_T) : Nat → Nat := G.2.2.1
def xg_v (G : xg_T) : Nat → Nat := G.2.2.2.1
def xg_s (G : xg_T) : Nat := G.2.2.2.2.1
def xg_b (G : xg_T) : Nat := G.2.2.2.2.2.1
def xg_f (G : xg_T) : Nat → Nat := G.2.2.2.2.2.2.1
def xg_L (G : xg_T) : Nat := G.2.2.2.2.2.2.2.1
def xg_x (G : xg_T) : Nat → Int32 := G.2.2.2.2.2.2.2.2
def xg_A (G : xg_T) : Nat → Prop := fun q => xg_b G ≤ q
def ta_ : List FieldType := [.int, .byte, .boolean, .long, .object "PassagePapers$Kept", .object "PassagePapers$State", .object "PassagePapers$Term", .object "PassagePapers$Step", .object "java/lang/String"]
def ts_ (G : xg_T) : List (ClassId × FieldType) := (List.range 9).map (fun i => (xg_t G i, ta_.getD i .int))
def fk_ (ty : FieldType) : Nat := match ty with
  | .long => 1
  | .object _ => 2
  | .array _ => 2
  | _ => 0
/-- real cells below 200; 200 texts, 201 the script, 202 the texts' bytes, 203 what three statics of the JDK's hold -/
def ca_ (G : xg_T) (ad : Nat → Nat) (a : pm_A) : Nat := if a.1 < 200 then ad a.2.2 else if a.1 = 200 then xg_k G a.2.2 else if a.1 = 201 then xg_s G else if a.1 = 202 then xg_v G a.2.2 else xg_f G a.2.2
def cv_ (G : xg_T) (ad : Nat → Nat) (v : pm_V) : Value := match v with
  | .inl x => .int x
  | .inr (.inl x) => .long x
  | .inr (.inr r) => va_rf (r.map (ca_ G ad))
def cl_ (G : xg_T) (ad : Nat → Nat) (q : Nat × pm_V) : Nat × Value := (q.1, cv_ G ad q.2)
def fv_ (G : xg_T) (ad : Nat → Nat) (m : pm_M) (a : pm_A) (ty : FieldType) (k : Nat) : Value := match fk_ ty with
  | 0 => .int (gI_ m a k)
  | 1 => .long (gL_ m a k)
  | _ => va_rf ((gR_ m a k).map (ca_ G ad))
def kN_ (b : Nat) : Nat := (kl_.getD b (RX1, t0_, 0)).2.2
def kT_ (b : Nat) : Nat → FieldType := kt_.getD b ki_
def ce_ (G : xg_T) (ad : Nat → Nat) (m : pm_M) (q : Nat × Nat) (i : Nat) : va_E :=
  if q.1 < 100 then .inr (q.1, (List.range (kN_ q.1)).map (fun k => fv_ G ad m (q.1, q.2, i) (kT_ q.1 k) k))
  else .inl (xg_t G (q.1 - 100), q.2, if q.1 < 103 then .inl (gI_ m (q.1, q.2, i)) else if q.1 = 103 then .inr (.inl (gL_ m (q.1, q.2, i))) else .inr (.inr (.inr (.inr (fun j => (gR_ m (q.1, q.2, i) j).map (ca_ G ad))))))
def pw_ (G : xg_T) (ad : Nat → Nat) (m : pm_M) : va_W := (List.range (gN_ m)).map (fun i => (ad i, ce_ G ad m (gK_ m i) i))
theorem pw_at {G : xg_T} {ad : Nat → Nat} {m : pm_M} {i : Nat} (h : i < gN_ m) : (pw_ G ad m)[i]? = some (ad i, ce_ G ad m (gK_ m i) i) := by
  simp [pw_, h]
theorem pw_len {G : xg_T} {ad : Nat → Nat} {m : pm_M} : (pw_ G ad m).length = gN_ m := by simp [pw_]
/-- a reference points at a cell that is there -/
def oa_ (m : pm_M) (a : pm_A) : Prop := (200 ≤ a.1 ∧ a.2.2 < 23) ∨ (a.1 < 200 ∧ a.2.2 < gN_ m ∧ gK_ m a.2.2 = (a.1, a.2.1))
def ov_ (m : pm_M) (v : pm_V) : Prop := match v with
  | .inr (.inr (some a)) => oa_ m a
  | _ => True
def os_ (m : pm_M) (st : List pm_V) : Prop := ∀ v ∈ st, ov_ m v
theorem os_c {m : pm_M} {v : pm_V} {st : List pm_V} (h : os_ m (v :: st)) : ov_ m v ∧ os_ m st := ⟨h v List.mem_cons_self, fun w hw => h w (List.mem_cons_of_mem _ hw)⟩
theorem os_k {m : pm_M} {v : pm_V} {st : List pm_V} (h1 : ov_ m v) (h : os_ m st) : os_ m (v :: st) := by
  intro w hw
  rcases List.mem_cons.mp hw with e | e
  · rw [e]; exact h1
  · exact h w e
theorem os_n {m : pm_M} : os_ m [] := fun w hw => nomatch hw
theorem os_i {m : pm_M} {x : Int32} {st : List pm_V} (h : os_ m st) : os_ m (vI_ x :: st) := os_k trivial h
theorem os_l {m : pm_M} {x : Int64} {st : List pm_V} (h : os_ m st) : os_ m (vL_ x :: st) := os_k trivial h
theorem os_a {m : pm_M} {a b : List pm_V} (h1 : os_ m a) (h2 : os_ m b) : os_ m (a ++ b) := by
  intro w hw
  rcases List.mem_append.mp hw with e | e
  · exact h1 w e
  · exact h2 w e
theorem os_al {m : pm_M} {a b : List pm_V} (h : os_ m (a ++ b)) : os_ m a ∧ os_ m b := ⟨fun w hw => h w (List.mem_append_left _ hw), fun w hw => h w (List.mem_append_right _ hw)⟩
theorem os_r {m : pm_M} {a : List pm_V} (h : os_ m a) : os_ m a.reverse := fun w hw => h w (List.mem_reverse.mp hw)
/-- m' has all cells of m, and more -/
def xt_ (m m' : pm_M) : Prop := gN_ m ≤ gN_ m' ∧ gS_ m ≤ gS_ m' ∧ ∀ i, i < gN_ m → gK_ m' i = gK_ m i
theorem xt_rf {m : pm_M} : xt_ m m := ⟨Nat.le_refl _, Nat.le_refl _, fun _ _ => rfl⟩
theorem xt_tr {a b c : pm_M} (h1 : xt_ a b) (h2 : xt_ b c) : xt_ a c := ⟨Nat.le_trans h1.1 h2.1, Nat.le_trans h1.2.1 h2.2.1, fun i hi => (h2.2.2 i (Nat.lt_of_lt_of_le hi h1.1)).trans (h1.2.2 i hi)⟩
theorem oa_x {m m' : pm_M} (h : xt_ m m') {a : pm_A} (ha : oa_ m a) : oa_ m' a := by
  rcases ha with q | ⟨q1, q2, q3⟩
  · exact Or.inl q
  · exact Or.inr ⟨q1, Nat.lt_of_lt_of_le q2 h.1, by rw [h.2.2 _ q2]; exact q3⟩
theorem ov_x {m m' : pm_M} (h : xt_ m m') {v : pm_V} (hv : ov_ m v) : ov_ m' v := by
  rcases v with x | x | x
  · trivial
  · trivial
  · cases x with
    | none => trivial
    | some a => exact oa_x h hv
theorem os_x {m m' : pm_M} (h : xt_ m m') {st : List pm_V} (hs : os_ m st) : os_ m' st := fun w hw => ov_x h (hs w hw)
/-- the two maps of serials to addresses agree on what m has -/
def ag_ (m : pm_M) (ad ad' : Nat → Nat) : Prop := ∀ i, i < gN_ m → ad' i = ad i
theorem ag_tr {m m' : pm_M} {a b c : Nat → Nat} (hx : xt_ m m') (h1 : ag_ m a b) (h2 : ag_ m' b c) : ag_ m a c := fun i hi => (h2 i (Nat.lt_of_lt_of_le hi hx.1)).trans (h1 i hi)
theorem ca_ag {G : xg_T} {m : pm_M} {ad ad' : Nat → Nat} (h : ag_ m ad ad') {a : pm_A} (ha : oa_ m a) : ca_ G ad' a = ca_ G ad a := by
  unfold ca_
  rcases ha with ⟨q, -⟩ | ⟨q1, q2, -⟩
  · rw [if_neg (show ¬ a.1 < 200 by omega), if_neg (show ¬ a.1 < 200 by omega)]
  · rw [if_pos q1, if_pos q1, h _ q2]
theorem cv_ag {G : xg_T} {m : pm_M} {ad ad' : Nat → Nat} (h : ag_ m ad ad') {v : pm_V} (hv : ov_ m v) : cv_ G ad' v = cv_ G ad v := by
  rcases v with x | x | x
  · rfl
  · rfl
  · cases x with
    | none => rfl
    | some a => show va_rf (some (ca_ G ad' a)) = va_rf (some (ca_ G ad a)); rw [ca_ag h hv]
theorem cs_ag {G : xg_T} {m : pm_M} {ad ad' : Nat → Nat} (h : ag_ m ad ad') {st : List pm_V} (hv : os_ m st) : st.map (cv_ G ad') = st.map (cv_ G ad) := List.map_congr_left fun v hm => cv_ag h (hv v hm)
theorem cl_ag {G : xg_T} {m : pm_M} {ad ad' : Nat → Nat} (h : ag_ m ad ad') {ls : List (Nat × pm_V)} (hv : os_ m (ls.map Prod.snd)) : ls.map (cl_ G ad') = ls.map (cl_ G ad) := List.map_congr_left fun v hm => by
  show (v.1, cv_ G ad' v.2) = (v.1, cv_ G ad v.2)
  rw [cv_ag h (hv v.2 (List.mem_map.mpr ⟨v, hm, rfl⟩))]
/-- a real cell -/
theorem oa_c {m : pm_M} {a : pm_A} (h : oa_ m a) (hb : a.1 < 200) : a.2.2 < gN_ m ∧ gK_ m a.2.2 = (a.1, a.2.1) := by
  rcases h with ⟨q, -⟩ | ⟨-, q2, q3⟩
  · omega
  · exact ⟨q2, q3⟩
theorem ca_c {G : xg_T} {ad : Nat → Nat} {a : pm_A} (hb : a.1 < 200) : ca_ G ad a = ad a.2.2 := by
  unfold ca_
  rw [if_pos hb]
/-- the heap holds the memory -/
def ma_ (G : xg_T) (ad : Nat → Nat) (m : pm_M) (H : Heap) : Prop := va_P (xg_D G) kl_ (pw_ G ad m) H ∧ va_D (xg_A G) (pw_ G ad m) ∧ ∀ (a : pm_A) (k : Nat) (r : pm_A), gR_ m a k = some r → oa_ m r
