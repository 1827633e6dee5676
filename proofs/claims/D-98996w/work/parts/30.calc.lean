/-! THE PLAIN LAW, THE TOOLS: steps of the decompiled text as equations; small numbers; frames -/
set_option maxRecDepth 100000
section PL0
theorem gd_e {α : Type} {b : Nat} {a : pm_A} {f : pm_A → Option α} (hb : a.1 = b) : gd_ b (some a) f = f a := if_pos hb
theorem gd_t {α : Type} {b n k : Nat} {f : pm_A → Option α} : gd_ b (some (b, n, k)) f = f (b, n, k) := if_pos rfl
theorem nn_e {α : Type} {a : pm_A} {f : pm_A → Option α} : nn_ (some a) f = f a := rfl
theorem lt_e {α β : Type} {x : α} {f : α → Option β} : lt_ x f = f x := rfl
theorem jn_e {α β : Type} {k : α} {f : α → β} : jn_ k f = f k := rfl
theorem bm_e {α β : Type} {a : α} {m : pm_M} {f : α → pm_M → Option β} : bm_ (some (a, m)) f = f a m := rfl
theorem btl_e {α β : Type} {a : α} {m : pm_M} {f : α → pm_M → Option β} {g : pm_A → pm_M → Option β} : bt_ (some (.inl a, m)) f g = f a m := rfl
theorem btr_e {α β : Type} {a : pm_A} {m : pm_M} {f : α → pm_M → Option β} {g : pm_A → pm_M → Option β} : bt_ (some (.inr a, m)) f g = g a m := rfl
theorem iz_f {α : Type} {x : Option α} : iz_ false x = x := rfl
theorem iz_n {α : Type} {x : Option α} : iz_ (!true) x = x := rfl
/-- memories: reads behind writes -/
theorem gI_pI {m : pm_M} {a b : pm_A} {k j : Nat} {v : Int32} : gI_ (pI_ m a k v) b j = if b = a ∧ j = k then v else gI_ m b j := by
  by_cases h : b = a ∧ j = k
  · rw [if_pos h]; exact if_pos h
  · rw [if_neg h]; exact if_neg h
theorem gI_s {m : pm_M} {a : pm_A} {k : Nat} {v : Int32} : gI_ (pI_ m a k v) a k = v := by rw [gI_pI, if_pos ⟨rfl, rfl⟩]
theorem gI_d {m : pm_M} {a b : pm_A} {k j : Nat} {v : Int32} (h : b ≠ a) : gI_ (pI_ m a k v) b j = gI_ m b j := by rw [gI_pI, if_neg (fun q => h q.1)]
theorem gI_k {m : pm_M} {a b : pm_A} {k j : Nat} {v : Int32} (h : j ≠ k) : gI_ (pI_ m a k v) b j = gI_ m b j := by rw [gI_pI, if_neg (fun q => h q.2)]
theorem gI_pL {m : pm_M} {a : pm_A} {k : Nat} {v : Int64} : gI_ (pL_ m a k v) = gI_ m := funext fun _ => rfl
theorem gI_pR {m : pm_M} {a : pm_A} {k : Nat} {v : Option pm_A} : gI_ (pR_ m a k v) = gI_ m := funext fun _ => rfl
theorem gR_pI {m : pm_M} {a : pm_A} {k : Nat} {v : Int32} : gR_ (pI_ m a k v) = gR_ m := funext fun _ => rfl
theorem gR_pL {m : pm_M} {a : pm_A} {k : Nat} {v : Int64} : gR_ (pL_ m a k v) = gR_ m := funext fun _ => rfl
theorem gR_pR {m : pm_M} {a b : pm_A} {k j : Nat} {v : Option pm_A} : gR_ (pR_ m a k v) b j = if b = a ∧ j = k then v else gR_ m b j := by
  by_cases h : b = a ∧ j = k
  · rw [if_pos h]; exact if_pos h
  · rw [if_neg h]; exact if_neg h
theorem gL_pI {m : pm_M} {a : pm_A} {k : Nat} {v : Int32} : gL_ (pI_ m a k v) = gL_ m := funext fun _ => rfl
theorem gL_pR {m : pm_M} {a : pm_A} {k : Nat} {v : Option pm_A} : gL_ (pR_ m a k v) = gL_ m := funext fun _ => rfl
theorem gL_pL {m : pm_M} {a b : pm_A} {k j : Nat} {v : Int64} : gL_ (pL_ m a k v) b j = if b = a ∧ j = k then v else gL_ m b j := by
  by_cases h : b = a ∧ j = k
  · rw [if_pos h]; exact if_pos h
  · rw [if_neg h]; exact if_neg h
theorem gI_pN {m : pm_M} {b n w : Nat} {x : pm_A} {j : Nat} : gI_ (pN_ m b n w) x j = if x = (b, n, gN_ m) then 0 else gI_ m x j := by
  by_cases h : x = (b, n, gN_ m)
  · rw [if_pos h]; exact if_pos h
  · rw [if_neg h]; exact if_neg h
theorem gL_pN {m : pm_M} {b n w : Nat} {x : pm_A} {j : Nat} : gL_ (pN_ m b n w) x j = if x = (b, n, gN_ m) then 0 else gL_ m x j := by
  by_cases h : x = (b, n, gN_ m)
  · rw [if_pos h]; exact if_pos h
  · rw [if_neg h]; exact if_neg h
theorem gR_pN {m : pm_M} {b n w : Nat} {x : pm_A} {j : Nat} : gR_ (pN_ m b n w) x j = if x = (b, n, gN_ m) then none else gR_ m x j := by
  by_cases h : x = (b, n, gN_ m)
  · rw [if_pos h]; exact if_pos h
  · rw [if_neg h]; exact if_neg h
theorem gN_pI {m : pm_M} {a : pm_A} {k : Nat} {v : Int32} : gN_ (pI_ m a k v) = gN_ m := rfl
theorem gN_pL {m : pm_M} {a : pm_A} {k : Nat} {v : Int64} : gN_ (pL_ m a k v) = gN_ m := rfl
theorem gN_pR {m : pm_M} {a : pm_A} {k : Nat} {v : Option pm_A} : gN_ (pR_ m a k v) = gN_ m := rfl
theorem gN_pN {m : pm_M} {b n w : Nat} : gN_ (pN_ m b n w) = gN_ m + 1 := rfl
theorem gS_pI {m : pm_M} {a : pm_A} {k : Nat} {v : Int32} : gS_ (pI_ m a k v) = gS_ m := rfl
theorem gS_pL {m : pm_M} {a : pm_A} {k : Nat} {v : Int64} : gS_ (pL_ m a k v) = gS_ m := rfl
theorem gS_pR {m : pm_M} {a : pm_A} {k : Nat} {v : Option pm_A} : gS_ (pR_ m a k v) = gS_ m := rfl
theorem gS_pN {m : pm_M} {b n w : Nat} : gS_ (pN_ m b n w) = gS_ m + w := rfl
/-- small numbers -/
abbrev ni_ (n : Nat) : Int32 := Int32.ofNat n
theorem ni_c {n : Nat} (h : n < 2147483648) : (ni_ n).toNatClampNeg = n := Int32.toNatClampNeg_ofNat_of_lt h
theorem ni_s {n : Nat} : ni_ n + 1 = ni_ (n + 1) := (Int32.ofNat_add n 1).symm
theorem ni_a {a b : Nat} : ni_ a + ni_ b = ni_ (a + b) := (Int32.ofNat_add a b).symm
theorem ni_m {a b : Nat} : ni_ a * ni_ b = ni_ (a * b) := (Int32.ofNat_mul a b).symm
theorem ni_li {a b : Nat} (ha : a < 2147483648) (hb : b < 2147483648) : ni_ a ≤ ni_ b ↔ a ≤ b := Int32.ofNat_le_ofNat ha hb
theorem ni_lt {a b : Nat} (ha : a < 2147483648) (hb : b < 2147483648) : ni_ a < ni_ b ↔ a < b := by
  rw [← Int32.not_le, ni_li hb ha]
  omega
theorem ni_eq {a b : Nat} (ha : a < 2147483648) (hb : b < 2147483648) : ni_ a = ni_ b ↔ a = b := by
  constructor
  · intro h
    have := congrArg Int32.toNatClampNeg h
    rwa [ni_c ha, ni_c hb] at this
  · intro h; rw [h]
theorem ni_i {n : Nat} (h : n < 2147483648) : (ni_ n).toInt = n := Int32.toInt_ofNat_of_lt h
theorem ib_n {i n : Nat} (h : i < n) (hi : i < 2147483648) : ib_ (ni_ i) n = true := by
  unfold ib_
  rw [ni_c hi]
  have h1 : ¬ ni_ i < 0 := by
    rw [show (0 : Int32) = ni_ 0 from rfl, ni_lt hi (by omega)]
    omega
  simp [h1]
  omega
/-- the frame of a step that writes ints alone, at places (serial, slot) of S -/
def fi_ (S : Nat → Nat → Prop) (m m' : pm_M) : Prop := m'.2 = m.2 ∧ ∀ (a : pm_A) (k : Nat), ¬ S a.2.2 k → gI_ m' a k = gI_ m a k
theorem fi_r {S : Nat → Nat → Prop} {m : pm_M} : fi_ S m m := ⟨rfl, fun _ _ _ => rfl⟩
theorem fi_t {S : Nat → Nat → Prop} {a b c : pm_M} (h1 : fi_ S a b) (h2 : fi_ S b c) : fi_ S a c := ⟨h2.1.trans h1.1, fun x k h => (h2.2 x k h).trans (h1.2 x k h)⟩
theorem fi_w {S S' : Nat → Nat → Prop} {a b : pm_M} (h : fi_ S a b) (hs : ∀ q k, S q k → S' q k) : fi_ S' a b := ⟨h.1, fun x k n => h.2 x k (fun g => n (hs _ _ g))⟩
theorem fi_p {S : Nat → Nat → Prop} {m : pm_M} {a : pm_A} {k : Nat} {v : Int32} (h : S a.2.2 k) : fi_ S m (pI_ m a k v) := by
  refine ⟨rfl, fun x j n => ?_⟩
  rw [gI_pI]
  by_cases e : x = a ∧ j = k
  · obtain ⟨rfl, rfl⟩ := e; exact absurd h n
  · rw [if_neg e]
theorem fi_p2 {S : Nat → Nat → Prop} {m0 m : pm_M} {a : pm_A} {k : Nat} {v : Int32} (h0 : fi_ S m0 m) (h : S a.2.2 k) : fi_ S m0 (pI_ m a k v) := fi_t h0 (fi_p h)
theorem fi_R {S : Nat → Nat → Prop} {m m' : pm_M} (h : fi_ S m m') : gR_ m' = gR_ m := by
  unfold gR_; rw [h.1]
theorem fi_L {S : Nat → Nat → Prop} {m m' : pm_M} (h : fi_ S m m') : gL_ m' = gL_ m := by
  unfold gL_; rw [h.1]
theorem fi_N {S : Nat → Nat → Prop} {m m' : pm_M} (h : fi_ S m m') : gN_ m' = gN_ m := by
  unfold gN_; rw [h.1]
theorem fi_S {S : Nat → Nat → Prop} {m m' : pm_M} (h : fi_ S m m') : gS_ m' = gS_ m := by
  unfold gS_; rw [h.1]
theorem fi_a {S : Nat → Nat → Prop} {m m' : pm_M} (h : fi_ S m m') {a : pm_A} (ha : ∀ k, ¬ S a.2.2 k) : gI_ m' a = gI_ m a := funext fun k => h.2 a k (ha k)
end PL0
