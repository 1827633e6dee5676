theorem no_traces (l : Launch) (hflags : l.flags = flags0) : l.stackTraces = false := by
  unfold Launch.stackTraces
  rw [hflags]
  decide +kernel
theorem pl_law {L : Nat} (hL : L ≤ 448) {xs : Nat → Int32} : ∃ (F : Nat) (mF : pm_M) (u : Unit), f_law F xs L e0_ = some (u, mF) ∧ gN_ mF ≤ 601024 ∧ gS_ mF ≤ 7293034 := by
  sorry
