/-! THE PLAIN LAW, THE DOMAIN: what both sides compute -/
set_option maxRecDepth 100000
/-- signers, takers, of signers Y T K coins, of takers T P C, the voyage, the two laws -/
abbrev W_T : Type := Nat × Nat × (Nat → Int32) × (Nat → Int32) × Int32 × List (Int32 × Int32) × List (Int32 × Int32)
def wS_ (w : W_T) : Nat := w.1
def wT_ (w : W_T) : Nat := w.2.1
def wg_ (w : W_T) : Nat → Int32 := w.2.2.1
def wt_ (w : W_T) : Nat → Int32 := w.2.2.2.1
def wv_ (w : W_T) : Int32 := w.2.2.2.2.1
def wl_ (w : W_T) (i : Nat) : List (Int32 × Int32) := if i = 0 then w.2.2.2.2.2.1 else w.2.2.2.2.2.2
/-- a landing: IS 0.., WITH 8.., SERVED 16.., MONTHS 24.., HUNGRY 32.., LOST 40.., PLACED 48.., PURSE 56.., TODAY 64, STORES 65 -/
abbrev R_T : Type := Nat → Int32
def up_ (r : R_T) (k : Nat) (v : Int32) : R_T := fun j => if j = k then v else r j
def cM_ (f : Nat → Bool) : Nat → Int32
  | 0 => 0
  | n + 1 => if f n then cM_ f n + 1 else cM_ f n
def kn_ (w : W_T) (a b : Nat) : Bool := !(decide (a = b)) && (decide (0 < wg_ w (4 * a + 2)) && decide (wg_ w (4 * a + 2) = wg_ w (4 * b + 2)))
def kb_ (f : Nat → Bool) : Nat → Int32
  | 0 => 0
  | n + 1 => if f n then kb_ f n ||| ((1 : Int32) <<< (ni_ n &&& 31)) else kb_ f n
def op_ (o a b : Int32) : Int32 := if o = 2 then a + b else if o = 3 then a - b else if o = 4 then a * b else if o = 5 then (if b = 0 then 0 else a / b) else if o = 6 then (if b < a then b else a) else (if a < b then b else a)
def e1_ (fs : Nat → Int32) (q : Int32 × Int32) (st : List Int32) : List Int32 := if q.1 = 0 then q.2 :: st else if q.1 = 1 then fs q.2.toNatClampNeg :: st else match st with
  | y :: x :: r => op_ q.1 x y :: r
  | _ => st
def ev_ (fs : Nat → Int32) : List (Int32 × Int32) → List Int32 → List Int32
  | [], st => st
  | q :: c, st => ev_ fs c (e1_ fs q st)
theorem ev_app {fs : Nat → Int32} {a b : List (Int32 × Int32)} {st : List Int32} : ev_ fs (a ++ b) st = ev_ fs b (ev_ fs a st) := by
  induction a generalizing st with
  | nil => rfl
  | cons q a ih => exact ih
def cl_9 (v : Int32) : Int32 := if v < 0 then 0 else if 999 < v then 999 else v
def lv_9 (c : List (Int32 × Int32)) (fs : Nat → Int32) : Int32 := cl_9 (if c = [] then 52 * fs 0 + 4 * fs 1 else (ev_ fs c []).headD 0)
def fa_ (w : W_T) (r : R_T) (p : Nat) (y a : Int32) : Nat → Int32 := fun k => if k = 0 then y else if k = 1 then a else if k = 2 then wg_ w (4 * p + 1) else if k = 3 then r (32 + p) else if k = 4 then cM_ (kn_ w p) (wS_ w) else if k = 5 then r (40 + p) else if k = 6 then (if r (48 + p) = -1 then r 64 else r (48 + p)) else r 64
def as_ (w : W_T) (r : R_T) (p : Nat) (y a : Int32) (i : Nat) : Int32 := lv_9 (wl_ w i) (fa_ w r p y a)
def ab_ (w : W_T) (r : R_T) (p i : Nat) : Int32 := as_ w r p (wg_ w (4 * p)) (r (24 + p)) i
def ow_ (w : W_T) (r : R_T) (p i : Nat) : Int32 := if r p = 3 then 0 else (if 0 < ab_ w r p i - r (16 + p) then ab_ w r p i - r (16 + p) else 0)
/-- a week: service, stores, hunger; the day; who is free by the law i -/
def p1_ (r : R_T) (p : Nat) : R_T := if r p = 2 then up_ r (16 + p) (r (16 + p) + 1) else if r p = 0 then (if 0 < r 65 then up_ r 65 (r 65 - 1) else up_ r (32 + p) (r (32 + p) + 1)) else r
def p1s_ (r : R_T) : Nat → R_T
  | 0 => r
  | n + 1 => p1_ (p1s_ r n) n
def fr_ (r : R_T) (p : Nat) : R_T := up_ (up_ r p 3) (8 + p) (-1)
def p2_ (w : W_T) (i : Nat) (r : R_T) (p : Nat) : R_T := if r p = 2 then (if ow_ w r p i = 0 then fr_ r p else r) else r
def p2s_ (w : W_T) (i : Nat) (r : R_T) : Nat → R_T
  | 0 => r
  | n + 1 => p2_ w i (p2s_ w i r n) n
def pa_ (w : W_T) (i : Nat) (r : R_T) : R_T := p2s_ w i (up_ (p1s_ r (wS_ w)) 64 (p1s_ r (wS_ w) 64 + 1)) (wS_ w)
def pas_ (w : W_T) (i : Nat) (r : R_T) : Nat → R_T
  | 0 => r
  | n + 1 => pa_ w i (pas_ w i r n)
theorem up_s {r : R_T} {k : Nat} {v : Int32} : up_ r k v k = v := if_pos rfl
theorem up_n {r : R_T} {k j : Nat} {v : Int32} (h : j ≠ k) : up_ r k v j = r j := if_neg h
/-- counting up to an end -/
theorem upto_ {S : Nat} {P : Nat → Nat → Prop} (h0 : ∀ n, P (n + 1) S) (h1 : ∀ n i, i < S → P n (i + 1) → P (n + 1) i) : ∀ n i : Nat, i ≤ S → S - i < n → P n i := by
  intro n
  induction n with
  | zero => intro i a b; omega
  | succ n ih =>
    intro i a b
    by_cases h : i = S
    · subst h; exact h0 n
    · exact h1 n i (by omega) (ih (i + 1) (by omega) (by omega))
/-! bits -/
def bc_ (i0 : Int32) : Int32 := match f_J9_bitCount 0 i0 e0_ with
  | some (v, _) => v
  | none => 0
theorem bc_e {F : Nat} {i0 : Int32} {m : pm_M} : f_J9_bitCount F i0 m = some (bc_ i0, m) := rfl
theorem bc_all : ∀ q ∈ List.range 8, ∀ b ∈ List.range (2 ^ q), bc_ (ni_ b ||| ((1 : Int32) <<< (ni_ q &&& 31))) = bc_ (ni_ b) + 1 ∧ ni_ b ||| ((1 : Int32) <<< (ni_ q &&& 31)) = ni_ (b + 2 ^ q) := by decide +kernel
theorem kb_nat {f : Nat → Bool} : ∀ n : Nat, n ≤ 8 → ∃ b : Nat, b < 2 ^ n ∧ kb_ f n = ni_ b ∧ bc_ (kb_ f n) = cM_ f n := by
  intro n
  induction n with
  | zero => intro _; exact ⟨0, by decide, rfl, by show bc_ 0 = 0; decide +kernel⟩
  | succ n ih =>
    intro h
    obtain ⟨b, h1, h2, h3⟩ := ih (by omega)
    rw [kb_, cM_]
    have h4 := bc_all n (List.mem_range.mpr (by omega)) b (List.mem_range.mpr h1)
    have h5 : 2 ^ (n + 1) = 2 ^ n + 2 ^ n := by rw [Nat.pow_succ]; omega
    cases f n with
    | false =>
      refine ⟨b, by omega, h2, h3⟩
    | true =>
      refine ⟨b + 2 ^ n, by omega, ?_, ?_⟩
      · rw [if_pos rfl, h2]; exact h4.2
      · rw [if_pos rfl, if_pos rfl, ← h3, h2]; exact h4.1
theorem kb_bc {f : Nat → Bool} {n : Nat} (h : n ≤ 8) : bc_ (kb_ f n) = cM_ f n := (kb_nat n h).choose_spec.2.2
