/-! WHAT THE PRINTED WALKS USE: the combinators of the decompiled text, and rows of calls with their answers -/
set_option maxRecDepth 100000
theorem ifp_ {α : Type} {c : Prop} [Decidable c] {a b : Option α} {x : α} (hc : c) (h : (if c then a else b) = some x) : a = some x := by rwa [if_pos hc] at h
theorem ifn_ {α : Type} {c : Prop} [Decidable c] {a b : Option α} {x : α} (hc : ¬ c) (h : (if c then a else b) = some x) : b = some x := by rwa [if_neg hc] at h
theorem lt_some {α β : Type} {y : α} {f : α → Option β} {x : β} (h : lt_ y f = some x) : ∃ z : α, z = y ∧ f z = some x := ⟨y, rfl, h⟩
/-- a call that returns; one that may throw -/
def bm_ {α β : Type} (x : Option (α × pm_M)) (f : α → pm_M → Option β) : Option β := match x with
  | none => none
  | some (a, m) => f a m
theorem bm_some {α β : Type} {x : Option (α × pm_M)} {f : α → pm_M → Option β} {y : β} (h : bm_ x f = some y) : ∃ (a : α) (m : pm_M), x = some (a, m) ∧ f a m = some y := by
  cases x with
  | none => cases h
  | some q => exact ⟨q.1, q.2, rfl, h⟩
def bt_ {α β : Type} (x : Option ((α ⊕ pm_A) × pm_M)) (f : α → pm_M → Option β) (g : pm_A → pm_M → Option β) : Option β := match x with
  | none => none
  | some (.inl a, m) => f a m
  | some (.inr a, m) => g a m
theorem bt_some {α β : Type} {x : Option ((α ⊕ pm_A) × pm_M)} {f : α → pm_M → Option β} {g : pm_A → pm_M → Option β} {y : β} (h : bt_ x f g = some y) : (∃ (a : α) (m : pm_M), x = some (.inl a, m) ∧ f a m = some y) ∨ ∃ (a : pm_A) (m : pm_M), x = some (.inr a, m) ∧ g a m = some y := by
  cases x with
  | none => cases h
  | some q =>
    obtain ⟨q1, q2⟩ := q
    cases q1 with
    | inl a => exact Or.inl ⟨a, q2, rfl, h⟩
    | inr a => exact Or.inr ⟨a, q2, rfl, h⟩
/-- a text used at several places -/
def jn_ {α β : Type} (k : α) (f : α → β) : β := f k
theorem jn1_some {A1 β γ : Type} {k : A1 → Option β} {f : (A1 → Option β) → Option γ} {x : γ} (h : jn_ k f = some x) : ∃ z : A1 → Option β, (∀ a1, z a1 = k a1) ∧ f z = some x := ⟨k, fun _ => rfl, h⟩
theorem jn2_some {A1 A2 β γ : Type} {k : A1 → A2 → Option β} {f : (A1 → A2 → Option β) → Option γ} {x : γ} (h : jn_ k f = some x) : ∃ z : A1 → A2 → Option β, (∀ a1 a2, z a1 a2 = k a1 a2) ∧ f z = some x := ⟨k, fun _ _ => rfl, h⟩
theorem jn3_some {A1 A2 A3 β γ : Type} {k : A1 → A2 → A3 → Option β} {f : (A1 → A2 → A3 → Option β) → Option γ} {x : γ} (h : jn_ k f = some x) : ∃ z : A1 → A2 → A3 → Option β, (∀ a1 a2 a3, z a1 a2 a3 = k a1 a2 a3) ∧ f z = some x := ⟨k, fun _ _ _ => rfl, h⟩
theorem jn4_some {A1 A2 A3 A4 β γ : Type} {k : A1 → A2 → A3 → A4 → Option β} {f : (A1 → A2 → A3 → A4 → Option β) → Option γ} {x : γ} (h : jn_ k f = some x) : ∃ z : A1 → A2 → A3 → A4 → Option β, (∀ a1 a2 a3 a4, z a1 a2 a3 a4 = k a1 a2 a3 a4) ∧ f z = some x := ⟨k, fun _ _ _ _ => rfl, h⟩
theorem jn5_some {A1 A2 A3 A4 A5 β γ : Type} {k : A1 → A2 → A3 → A4 → A5 → Option β} {f : (A1 → A2 → A3 → A4 → A5 → Option β) → Option γ} {x : γ} (h : jn_ k f = some x) : ∃ z : A1 → A2 → A3 → A4 → A5 → Option β, (∀ a1 a2 a3 a4 a5, z a1 a2 a3 a4 a5 = k a1 a2 a3 a4 a5) ∧ f z = some x := ⟨k, fun _ _ _ _ _ => rfl, h⟩
theorem jn6_some {A1 A2 A3 A4 A5 A6 β γ : Type} {k : A1 → A2 → A3 → A4 → A5 → A6 → Option β} {f : (A1 → A2 → A3 → A4 → A5 → A6 → Option β) → Option γ} {x : γ} (h : jn_ k f = some x) : ∃ z : A1 → A2 → A3 → A4 → A5 → A6 → Option β, (∀ a1 a2 a3 a4 a5 a6, z a1 a2 a3 a4 a5 a6 = k a1 a2 a3 a4 a5 a6) ∧ f z = some x := ⟨k, fun _ _ _ _ _ _ => rfl, h⟩
/-- a narrow answer or field, a new array's length -/
def nr_ (ty : FieldType) (v : Int32) : Bool := decide (narrow ty (.int v) = .int v)
def nf_ (ty : FieldType) (v : Int32) : Bool := decide (narrow ty (.int v) = .int v) && fits ty (.int v)
def sz_ (v : Int32) : Bool := !(decide (v < 0)) && decide (v.toNatClampNeg ≤ 100000)
theorem nr_ok {ty : FieldType} {v : Int32} (h : nr_ ty v = true) : narrow ty (.int v) = .int v := of_decide_eq_true h
theorem nf_ok {ty : FieldType} {v : Int32} (h : nf_ ty v = true) : narrow ty (.int v) = .int v ∧ fits ty (.int v) = true := by
  unfold nf_ at h
  rw [Bool.and_eq_true] at h
  exact ⟨of_decide_eq_true h.1, h.2⟩
theorem sz_ok {v : Int32} (h : sz_ v = true) : ¬ v < 0 ∧ v.toNatClampNeg ≤ 100000 := by
  unfold sz_ at h
  rw [Bool.and_eq_true] at h
  refine ⟨fun q => ?_, of_decide_eq_true h.2⟩
  have h1 := h.1
  rw [decide_eq_true q] at h1
  cases h1
/-- outcomes of methods that may throw -/
def oI_ (r : Int32 ⊕ pm_A) : pm_O := match r with
  | .inl v => .inl (some (vI_ v))
  | .inr b => .inr b
def oL_ (r : Int64 ⊕ pm_A) : pm_O := match r with
  | .inl v => .inl (some (vL_ v))
  | .inr b => .inr b
def oR_ (r : Option pm_A ⊕ pm_A) : pm_O := match r with
  | .inl v => .inl (some (vR_ v))
  | .inr b => .inr b
def oV_ (r : Unit ⊕ pm_A) : pm_O := match r with
  | .inl _ => .inl none
  | .inr b => .inr b
section AWH
variable {cc : ByteArray} {own : String} {K : kx_T} {m m1 : pm_M} {pc ln : Nat} {ls : List (Nat × pm_V)} {st st0 : List pm_V}
theorem c_I {v : Int32} (h1 : gN_ m ≤ gN_ m1 ∧ gS_ m ≤ gS_ m1) (hr : rn_ cc own K m pc ln ls st0 st (.inl (some (vI_ v))) m1) (hst : os_ m st0 → os_ m st) (k : AW_ cc own K m1 (pc + ln) ls (vI_ v :: st)) : AW_ cc own K m pc ls st0 := a_call h1 hr hst k
theorem c_L {v : Int64} (h1 : gN_ m ≤ gN_ m1 ∧ gS_ m ≤ gS_ m1) (hr : rn_ cc own K m pc ln ls st0 st (.inl (some (vL_ v))) m1) (hst : os_ m st0 → os_ m st) (k : AW_ cc own K m1 (pc + ln) ls (vL_ v :: st)) : AW_ cc own K m pc ls st0 := a_call h1 hr hst k
theorem c_R {v : Option pm_A} (h1 : gN_ m ≤ gN_ m1 ∧ gS_ m ≤ gS_ m1) (hr : rn_ cc own K m pc ln ls st0 st (.inl (some (vR_ v))) m1) (hst : os_ m st0 → os_ m st) (k : AW_ cc own K m1 (pc + ln) ls (vR_ v :: st)) : AW_ cc own K m pc ls st0 := a_call h1 hr hst k
theorem c_V (h1 : gN_ m ≤ gN_ m1 ∧ gS_ m ≤ gS_ m1) (hr : rn_ cc own K m pc ln ls st0 st (.inl none) m1) (hst : os_ m st0 → os_ m st) (k : AW_ cc own K m1 (pc + ln) ls st) : AW_ cc own K m pc ls st0 := a_call h1 hr hst k
theorem c_X {b : pm_A} (h1 : gN_ m ≤ gN_ m1 ∧ gS_ m ≤ gS_ m1) (hr : rn_ cc own K m pc ln ls st0 st (.inr b) m1) (k : AX_ cc own K m1 pc ls b) : AW_ cc own K m pc ls st0 := a_callX h1 hr k
end AWH
theorem na_obj {C : String} : ∀ z : Option Nat, narrow (.object C) (va_rf z) = va_rf z ∧ fits (.object C) (va_rf z) = true := fun z => by cases z <;> exact ⟨rfl, rfl⟩
theorem na_arr {t : FieldType} : ∀ z : Option Nat, narrow (.array t) (va_rf z) = va_rf z ∧ fits (.array t) (va_rf z) = true := fun z => by cases z <;> exact ⟨rfl, rfl⟩
/-- guards -/
def iz_ {α : Type} (b : Bool) (x : Option α) : Option α := if b then none else x
theorem iz_some {α : Type} {b : Bool} {x : Option α} {y : α} (h : iz_ b x = some y) : b = false ∧ x = some y := by
  cases b with
  | true => cases h
  | false => exact ⟨rfl, h⟩
theorem bn_ {b : Bool} (h : (!b) = false) : b = true := by cases b <;> simp_all
theorem da_ok {A B : Prop} [Decidable A] [Decidable B] (h : (decide A && decide B) = true) : A ∧ B := by
  rw [Bool.and_eq_true] at h
  exact ⟨of_decide_eq_true h.1, of_decide_eq_true h.2⟩
/-- a body of a class that the machine has entries for, where it has none for this member -/
theorem cal_ofF {G : xg_T} {l : Launch} {y : MethodName} {cc : ByteArray} {maxL d : Nat} {rt : Option FieldType} {av : List pm_V} {m m' : pm_M} {o : pm_O} (hy : plainFor y = true) (hw : wd_ av ≤ maxL)
    (body : AW_ cc y.cls (rt, y.name, d, maxL, m, m', o, G, l, [], true) m 0 (la_ 0 av) []) : Cal_ G l y (ws_ y cc maxL rt) d av m o m' := by
  refine ⟨body.1, fun ad => MetFree.of_bodySF (code := cc) (maxLocals := maxL) (ret := rt) hy ?_ ?_⟩
  · intro args s mi h hn
    obtain ⟨meth, c, h1, h2, h3, h4, h5, h6, -, -⟩ := Cond.code_spec hn (atoms_spec (ws := ws_ y cc maxL rt) h _ List.mem_cons_self)
    exact ⟨meth, c, h1, h2, h3, h4, h5, h6⟩
  · intro p e s mi args below meth c s₁ B hml hv _
    have hh0 : s₁.heap = s.heap := by rw [B.state]; rfl
    have ht : c.exceptionTable.toList = [] := by
      obtain ⟨meth9, c9, h1, h2, -, -, -, -, h7, -⟩ := Cond.code_spec B.named (atoms_spec (ws := ws_ y cc maxL rt) B.pre _ List.mem_cons_self)
      cases Option.some.inj (h1.symm.trans B.method)
      cases Option.some.inj (h2.symm.trans (Stand.of_body B).code)
      rw [Array.isEmpty_iff.mp h7]
    obtain ⟨t, a1, o, b1, b2, b3⟩ := cal_key hw (fun w h => List.mem_cons_of_mem _ h) body B hml ht hv s₁ hh0 (Stand.of_body B)
    exact ⟨t, o, a1, b1, b2, b3⟩
