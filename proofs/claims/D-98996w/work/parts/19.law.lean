/-! THE LAW'S OWN ROWS: the script, the end -/
set_option maxRecDepth 100000
section AWL
variable {cc : ByteArray} {own : String} {K : kx_T} {m : pm_M} {pc : Nat} {ls : List (Nat × pm_V)} {st : List pm_V}
theorem en_X {G : xg_T} {U : State} (h : en_ G U) : xg_s G < xg_b G ∧ va_X (xg_s G) (xg_L G) (xg_x G) U U.heap := h.2.2.2.2.2.2.2.2.2.2.1
theorem va_X_lt {b L : Nat} {xs : Nat → Int32} {U : State} {H : Heap} (h : va_X b L xs U H) : b < H.size := by
  obtain ⟨scr, h1, -⟩ := h
  exact (Array.getElem?_eq_some_iff.mp h1).1
theorem a_sld {i : Int32} (hi : ib_ i (xg_L (kx_G K)) = true) (dg : decode cc pc = .ok (.iaload, 1)) (kk : AW_ cc own K m (pc + 1) ls (vI_ (xg_x (kx_G K) i.toNatClampNeg) :: st)) : AW_ cc own K m pc ls (vI_ i :: vR_ (some (201, 0, 0)) :: st) := by
  refine aw_s2 (fun X hk ad H locs arr c9 s9 hy hs => ⟨os_i (os_c (os_c hs).2).2, fun w => ?_⟩) kk
  have e := en_X hk.2.2.2.2.2.2.2.2.2.2.1
  exact va_sld hk.1 hk.2.1 e.2 (va_X_lt e.2) (Nat.not_le.mpr e.1) hy.2.2.2.1 (ib_in hi) dg w
theorem a_slenS (dg : decode cc pc = .ok (.arraylength, 1)) (kk : AW_ cc own K m (pc + 1) ls (vI_ (Int32.ofNat (xg_L (kx_G K))) :: st)) : AW_ cc own K m pc ls (vR_ (some (201, 0, 0)) :: st) := by
  refine aw_s2 (fun X hk ad H locs arr c9 s9 hy hs => ⟨os_i (os_c hs).2, fun w => ?_⟩) kk
  have e := en_X hk.2.2.2.2.2.2.2.2.2.2.1
  exact va_slen hk.1 hk.2.1 e.2 (va_X_lt e.2) (Nat.not_le.mpr e.1) hy.2.2.2.1 dg w
theorem a_lawret (hb : kx_b K = false) (hr : kx_r K = some .boolean) (hE : gN_ (kx_E K) = 601024 ∧ gS_ (kx_E K) = 7293034) (h : gN_ m ≤ gN_ (kx_E K) ∧ gS_ m ≤ gS_ (kx_E K)) (hdg : decode cc pc = .ok (.ireturn, 1)) : AW_ cc own K m pc ls [vI_ 1] := by
  refine ⟨h, fun X hk ad H locs arr hy hs => ?_⟩
  rw [hE.1, hE.2] at h
  refine va_forget (fun q hq => Nat.le_trans (hk.2.2.2.2.2.2.2.2.2.2.2.2.1 hb).2.2 (hy.2.2.2.1.2.2 q hq)) ?_
  refine W.widen (k := 601024) (n := 7293034) (by omega) (by omega) ?_
  intro T hT Y
  obtain ⟨hQ, ha, -⟩ := hk.2.2.2.2.2.2.2.2.2.2.2.2.1 hb
  have hr9 : (cx_m X).sig.returnType = some .boolean := hk.2.2.2.2.2.2.1.trans hr
  have hlocks := hk.2.2.2.2.2.1
  have hexec := hk.1
  have hcode := hk.2.1
  obtain ⟨fs, hret, hrun, hended, hW, hframe⟩ := Y.leave (v := some (.int 1)) (hlocks := hlocks) (fun h => by rw [hr9] at h; cases h)
  have hmeth' : T.vm.method? (cx_i X) = some (cx_m X) := Y.method'
  rw [hQ]
  refine ⟨T.setFrames fs, ?_, .returned (some (.int 1)), hrun, hended, rfl, ⟨_, rfl⟩, hW, hframe⟩
  show Steps _ _ _ (T.setTop { method := cx_i X, pc := pc, locals := arr, stack := [.int 1], locked := none }) _
  jvm_step Y.here [Y.here.top, hexec, hcode, hdg, hmeth', hr9, narrow_b1]
  (try refine ⟨rfl, ?_⟩); (try refine ⟨rfl, ?_⟩)
  first | (intro acts; rw [hret _ acts rfl rfl rfl]) | rw [hret _ _ rfl rfl rfl]
  exact Steps.refl _
end AWL
