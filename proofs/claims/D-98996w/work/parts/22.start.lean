/-! THE START (printed by tools/start.py): what the Statement gives, as the environment; the law from its entry -/
set_option maxRecDepth 100000
section AWS
variable {s : State} {A9 : Array Value}
theorem st_kl (hts : ∀ w ∈ lw_tbl, w.before A9 s = true) : ∀ q ∈ kl_, ∃ (cC : ClassId) (iS : Nat → Nat), u_Kn s q.1 q.2.1 q.2.2 cC iS := by
  unfold kl_
  refine List.forall_mem_cons.mpr ⟨u_known (C := RX1) (T := TX1) (N := 19) (n := 19) hts (fun w h => lw_all_tbl (in_X1 w h)) (hts _ (lw_all_tbl q127)), ?_⟩
  refine List.forall_mem_cons.mpr ⟨u_known (C := RX1) (T := TX1) (N := 19) (n := 19) hts (fun w h => lw_all_tbl (in_X1 w h)) (hts _ (lw_all_tbl q127)), ?_⟩
  refine List.forall_mem_cons.mpr ⟨u_known (C := RX2) (T := TX2) (N := 1) (n := 1) hts (fun w h => lw_all_tbl (in_X2 w h)) (hts _ (lw_all_tbl q135)), ?_⟩
  refine List.forall_mem_cons.mpr ⟨u_known (C := RX3) (T := TX3) (N := 2) (n := 2) hts (fun w h => lw_all_tbl (in_X3 w h)) (hts _ (lw_all_tbl q149)), ?_⟩
  refine List.forall_mem_cons.mpr ⟨u_known (C := RX4) (T := TX4) (N := 14) (n := 14) hts (fun w h => lw_all_tbl (in_X4 w h)) (hts _ (lw_all_tbl q156)), ?_⟩
  refine List.forall_mem_cons.mpr ⟨u_known (C := RX5) (T := TX5) (N := 8) (n := 8) hts (fun w h => lw_all_tbl (in_X5 w h)) (hts _ (lw_all_tbl q162)), ?_⟩
  refine List.forall_mem_cons.mpr ⟨u_known (C := RX6) (T := TX6) (N := 11) (n := 11) hts (fun w h => lw_all_tbl (in_X6 w h)) (hts _ (lw_all_tbl q211)), ?_⟩
  refine List.forall_mem_cons.mpr ⟨u_known (C := RX7) (T := TX7) (N := 6) (n := 6) hts (fun w h => lw_all_tbl (in_X7 w h)) (hts _ (lw_all_tbl q350)), ?_⟩
  refine List.forall_mem_cons.mpr ⟨u_known (C := RX8) (T := TX8) (N := 59) (n := 59) hts (fun w h => lw_all_tbl (in_X8 w h)) (hts _ (lw_all_tbl q1537)), ?_⟩
  refine List.forall_mem_cons.mpr ⟨u_known (C := RX9) (T := TX9) (N := 4) (n := 4) hts (fun w h => lw_all_tbl (in_X9 w h)) (hts _ (lw_all_tbl q650)), ?_⟩
  refine List.forall_mem_cons.mpr ⟨u_known (C := RX10) (T := TX10) (N := 4) (n := 4) hts (fun w h => lw_all_tbl (in_X10 w h)) (hts _ (lw_all_tbl q656)), ?_⟩
  refine List.forall_mem_cons.mpr ⟨u_known (C := RX11) (T := TX11) (N := 8) (n := 8) hts (fun w h => lw_all_tbl (in_X11 w h)) (hts _ (lw_all_tbl q782)), ?_⟩
  refine List.forall_mem_cons.mpr ⟨u_known (C := RX12) (T := TX12) (N := 2) (n := 2) hts (fun w h => lw_all_tbl (in_X12 w h)) (hts _ (lw_all_tbl q849)), ?_⟩
  refine List.forall_mem_cons.mpr ⟨u_known (C := RX13) (T := TX13) (N := 3) (n := 3) hts (fun w h => lw_all_tbl (in_X13 w h)) (hts _ (lw_all_tbl q900)), ?_⟩
  refine List.forall_mem_cons.mpr ⟨u_known (C := RX14) (T := TX14) (N := 1) (n := 1) hts (fun w h => lw_all_tbl (in_X14 w h)) (hts _ (lw_all_tbl q918)), ?_⟩
  refine List.forall_mem_cons.mpr ⟨u_known (C := RX15) (T := TX15) (N := 1) (n := 1) hts (fun w h => lw_all_tbl (in_X15 w h)) (hts _ (lw_all_tbl q929)), ?_⟩
  refine List.forall_mem_cons.mpr ⟨u_known (C := RX16) (T := TX16) (N := 3) (n := 3) hts (fun w h => lw_all_tbl (in_X16 w h)) (hts _ (lw_all_tbl q954)), ?_⟩
  refine List.forall_mem_cons.mpr ⟨u_known (C := RX1) (T := TX1) (N := 19) (n := 19) hts (fun w h => lw_all_tbl (in_X1 w h)) (hts _ (lw_all_tbl q127)), ?_⟩
  refine List.forall_mem_cons.mpr ⟨u_known (C := RX18) (T := TX18) (N := 3) (n := 3) hts (fun w h => lw_all_tbl (in_X18 w h)) (hts _ (lw_all_tbl q984)), ?_⟩
  refine List.forall_mem_cons.mpr ⟨u_known (C := RX19) (T := TX19) (N := 2) (n := 2) hts (fun w h => lw_all_tbl (in_X19 w h)) (hts _ (lw_all_tbl q1016)), ?_⟩
  refine List.forall_mem_cons.mpr ⟨u_known (C := RX20) (T := TX20) (N := 2) (n := 2) hts (fun w h => lw_all_tbl (in_X20 w h)) (hts _ (lw_all_tbl q1034)), ?_⟩
  refine List.forall_mem_cons.mpr ⟨u_known (C := RX21) (T := t0_) (N := 0) (n := 0) hts (fun w h => (nomatch h)) (hts _ (lw_all_tbl q1047)), ?_⟩
  refine List.forall_mem_cons.mpr ⟨u_known (C := RX22) (T := t0_) (N := 0) (n := 0) hts (fun w h => (nomatch h)) (hts _ (lw_all_tbl q1054)), ?_⟩
  refine List.forall_mem_cons.mpr ⟨u_known (C := RX23) (T := TX23) (N := 2) (n := 2) hts (fun w h => lw_all_tbl (in_X23 w h)) (hts _ (lw_all_tbl q1072)), ?_⟩
  refine List.forall_mem_cons.mpr ⟨u_known (C := RX24) (T := TX24) (N := 4) (n := 4) hts (fun w h => lw_all_tbl (in_X24 w h)) (hts _ (lw_all_tbl q1085)), ?_⟩
  refine List.forall_mem_cons.mpr ⟨u_known (C := RJ3) (T := t0_) (N := 0) (n := 6) hts (fun w h => (nomatch h)) (hts _ (lw_all_tbl q586)), ?_⟩
  refine List.forall_mem_cons.mpr ⟨u_known (C := RJ10) (T := t0_) (N := 0) (n := 6) hts (fun w h => (nomatch h)) (hts _ (lw_all_tbl q1239)), ?_⟩
  exact fun q h => nomatch h
theorem st_ac (ty : FieldType) (hty : ∀ C, ty ≠ .object C) (h : (Cond.arrayClass ty).before A9 s = true) : ∃ cA : ClassId, ArrOfT s cA ty ∧ va_RA s cA ty := by
  obtain ⟨c, k, comp, h1, h2, h3⟩ := Cond.arrayClass_spec h
  refine ⟨c, fun n z => ⟨fun k h => (by cases h), k, h2, comp, h3⟩, ?_⟩
  cases ty with
  | object C => exact absurd rfl (hty C)
  | _ => exact h1
theorem st_ao (C : String) (h : (Cond.arrayOver (.object C)).before A9 s = true) : ∃ cA : ClassId, ArrOfT s cA (.object C) ∧ va_RA s cA (.object C) := by
  obtain ⟨comp, c, k, h1, -, h2, h3, h4⟩ := Cond.arrayOver_spec h
  exact ⟨c, fun n z => ⟨fun k h => (by cases h), k, h2, comp, h3⟩, k, comp, h2, h3, h1, h4⟩
theorem st_ts (hts : ∀ w ∈ lw_tbl, w.before A9 s = true) : ∀ ty ∈ ta_, ∃ cA : ClassId, ArrOfT s cA ty ∧ va_RA s cA ty := by
  unfold ta_
  refine List.forall_mem_cons.mpr ⟨st_ac _ (fun C h => by cases h) (hts _ (lw_all_tbl q208)), ?_⟩
  refine List.forall_mem_cons.mpr ⟨st_ac _ (fun C h => by cases h) (hts _ (lw_all_tbl q147)), ?_⟩
  refine List.forall_mem_cons.mpr ⟨st_ac _ (fun C h => by cases h) (hts _ (lw_all_tbl q209)), ?_⟩
  refine List.forall_mem_cons.mpr ⟨st_ac _ (fun C h => by cases h) (hts _ (lw_all_tbl q2192)), ?_⟩
  refine List.forall_mem_cons.mpr ⟨st_ao _ (hts _ (by decide +kernel)), ?_⟩
  refine List.forall_mem_cons.mpr ⟨st_ao _ (hts _ (by decide +kernel)), ?_⟩
  refine List.forall_mem_cons.mpr ⟨st_ao _ (hts _ (by decide +kernel)), ?_⟩
  refine List.forall_mem_cons.mpr ⟨st_ao _ (hts _ (by decide +kernel)), ?_⟩
  refine List.forall_mem_cons.mpr ⟨st_ao _ (hts _ (by decide +kernel)), ?_⟩
  exact fun q h => nomatch h
def rp_ : List (String × Nat) := [("PassagePapers$WorkReader", 21), ("PassagePapers$LawReader", 13), ("PassagePapers$WorkReader", 27), ("PassagePapers$WorkReader", 15), ("PassagePapers$LawReader", 17), ("PassagePapers$LawReader", 19), ("PassagePapers$RegisterReader", 15), ("PassagePapers$WorkReader", 23), ("PassagePapers$LawReader", 61), ("PassagePapers$WorkReader", 13), ("PassagePapers$LawReader", 21), ("PassagePapers$LawReader", 67), ("PassagePapers$WorkReader", 17), ("PassagePapers$WorkReader", 19), ("PassagePapers$LawReader", 23), ("PassagePapers$RegisterReader", 11), ("PassagePapers$RegisterReader", 17), ("PassagePapers$WorkReader", 11), ("PassagePapers$RegisterReader", 13), ("PassagePapers$LawReader", 15), ("PassagePapers$RegisterReader", 19), ("PassagePapers$LawReader", 25), ("PassagePapers$LawReader", 11)]
def rt_ (i : Nat) : Term := .string (rp_.getD i ("", 0)).1 (rp_.getD i ("", 0)).2
abbrev gv_ : Cond := .and given_1 narrow_1
theorem rq_ex : ∀ i ∈ List.range 23, Cond.exactly (rt_ i) "java/lang/String" ∈ flatC gv_ := by decide +kernel
theorem rq_co : ∀ i ∈ List.range 23, Cond.eq (.field (rt_ i) "java/lang/String" "coder" "B") (.int 0) ∈ flatC gv_ := by decide +kernel
theorem rq_ar : ∀ i ∈ List.range 23, Cond.arrayOf (.field (rt_ i) "java/lang/String" "value" "[B") .byte ∈ flatC gv_ := by decide +kernel
theorem rq_le : ∀ i ∈ List.range 23, Cond.eq (.length (.field (rt_ i) "java/lang/String" "value" "[B")) (.int (Int32.ofNat (sn_.getD i 0))) ∈ flatC gv_ := by decide +kernel
theorem rq_el : ∀ i ∈ List.range 23, ∀ j ∈ List.range (sn_.getD i 0), Cond.eq (.elem (.field (rt_ i) "java/lang/String" "value" "[B") (.int (Int32.ofNat j))) (.int ((sy_.getD i []).getD j 0)) ∈ flatC gv_ := by decide +kernel
theorem rq_sr : ∀ q ∈ sc_, Cond.stringRef q.1 q.2.1 q.2.2.1 ∈ lw_tbl := by decide +kernel
theorem rq_eq : ∀ q ∈ sc_, q.2.2.2 < 23 ∧ (rp_.getD q.2.2.2 ("", 0) = (q.1, q.2.1) ∨ Cond.eq (rt_ q.2.2.2) (.string q.1 q.2.1) ∈ flatC gv_) := by decide +kernel
theorem sy_ne : ∀ i ∈ List.range 23, ∀ j ∈ List.range 23, i ≠ j → sn_.getD i 0 ≠ sn_.getD j 0 ∨ ∃ k ∈ List.range (sn_.getD i 0), (sy_.getD i []).getD k 0 ≠ (sy_.getD j []).getD k 0 := by decide +kernel
theorem st_S {A : Nat → Prop} (hf : ∀ w ∈ flatC gv_, w.before A9 s = true) (hA : ∀ a : Nat, a < s.heap.size → ¬ A a) : ∃ adK adV : Nat → Nat, vk_S 23 sn_ sy_ adK adV A s s.heap ∧ ∀ i : Nat, i < 23 → (rt_ i).eval A9 s none [] s = some (.ref (adK i)) := by
  have hlen : ∀ i : Nat, i < 23 → sn_.getD i 0 < 2 ^ 31 := fun i hi => (show ∀ i ∈ List.range 23, sn_.getD i 0 < 2 ^ 31 by decide +kernel) i (List.mem_range.mpr hi)
  have h0 : ∀ i : Nat, ∃ q : Nat × Nat, i < 23 → (rt_ i).eval A9 s none [] s = some (.ref q.1) ∧ va_O "java/lang/String" q.1 A s s.heap ∧ va_OF "java/lang/String" "coder" "B" (.int 0) q.1 A s s.heap ∧ va_OF "java/lang/String" "value" "[B" (.ref q.2) q.1 A s s.heap ∧ va_T .byte q.2 (sn_.getD i 0) (fun j => .int ((sy_.getD i []).getD j 0)) A s s.heap := by
    intro i
    by_cases hi : i < 23
    · have hm := List.mem_range.mpr hi
      obtain ⟨a, c, cA, kA, q1, q2, q3, q4, q5, q6, -⟩ := Cond.exactly_spec (args := A9) (first := s) (o := none) (s := s) (idx := []) (t := rt_ i) (cls := "java/lang/String") (hf _ (rq_ex i hm))
      obtain ⟨t, ht, hT⟩ := va_Tof (f := fun j => .int ((sy_.getD i []).getD j 0)) (A := A) (hlen i hi) (hf _ (rq_ar i hm)) (va_eqt (hf _ (rq_le i hm))) (fun j hj => va_eqt (hf _ (rq_el i hm j (List.mem_range.mpr hj)))) hA
      exact ⟨(a, t), fun _ => ⟨q1, ⟨cA, q3, q5, by rw [q6]; exact q2, hA a (Array.getElem?_eq_some_iff.mp q3).1⟩, vk_OFof q1 (va_eqt (hf _ (rq_co i hm))) hA, vk_OFof q1 ht hA, hT⟩⟩
    · exact ⟨(0, 0), fun h => absurd h hi⟩
  obtain ⟨ad, had⟩ := Classical.axiomOfChoice h0
  refine ⟨fun i => (ad i).1, fun i => (ad i).2, ⟨fun i hi => (had i hi).2, fun i j hi hj e => ?_⟩, fun i hi => (had i hi).1⟩
  by_cases hij : i = j
  · exact hij
  · exfalso
    have e : (ad i).1 = (ad j).1 := e
    obtain ⟨-, -, -, ⟨cf, k, fi, f, cell, a1, a2, a3, a4, a5, -⟩, ⟨c1, t1, -, -, t2, t2', t3, -⟩⟩ := had i hi
    obtain ⟨-, -, -, ⟨cf', k', fi', f', cell', b1, b2, b3, b4, b5, -⟩, ⟨c2, u1, -, -, u2, u2', u3, -⟩⟩ := had j hj
    rw [b1] at a1
    cases a1
    rw [e, b3] at a3
    cases a3
    rw [b5] at a5
    have e2 : (ad j).2 = (ad i).2 := by injection a5 with a5; injection a5
    rw [e2, t1] at u1
    cases u1
    rcases sy_ne i (List.mem_range.mpr hi) j (List.mem_range.mpr hj) hij with g | ⟨k, hk, g⟩
    · rw [t2'] at u2'
      refine g ?_
      have l1 := hlen i hi
      have l2 := hlen j hj
      have h1 := congrArg Int32.toNatClampNeg u2'
      rwa [Int32.toNatClampNeg_ofNat_of_lt l1, Int32.toNatClampNeg_ofNat_of_lt l2] at h1
    · have hk := List.mem_range.mp hk
      by_cases hkj : k < sn_.getD j 0
      · have h1 := t3 k hk
        rw [u3 k hkj] at h1
        injection h1 with h1
        injection h1 with h1
        exact g h1.symm
      · refine absurd ?_ hkj
        rw [t2'] at u2'
        have l1 := hlen i hi
        have l2 := hlen j hj
        have h1 := congrArg Int32.toNatClampNeg u2'
        rw [Int32.toNatClampNeg_ofNat_of_lt l1, Int32.toNatClampNeg_ofNat_of_lt l2] at h1
        omega
theorem st_R {adK : Nat → Nat} (hts : ∀ w ∈ lw_tbl, w.before A9 s = true) (hf : ∀ w ∈ flatC gv_, w.before A9 s = true) (h : ∀ i : Nat, i < 23 → (rt_ i).eval A9 s none [] s = some (.ref (adK i))) : ∀ q ∈ sc_, vk_R q.1 q.2.1 q.2.2.1 (adK q.2.2.2) s := by
  intro q hq
  obtain ⟨h1, h2⟩ := rq_eq q hq
  have hsr := hts _ (rq_sr q hq)
  have e0 := h _ h1
  have key : (Term.string q.1 q.2.1).eval A9 s none [] s = some (.ref (adK q.2.2.2)) := by
    rcases h2 with h2 | h2
    · have e1 : rt_ q.2.2.2 = .string q.1 q.2.1 := by unfold rt_; rw [h2]
      rw [← e1]; exact e0
    · exact va_eqR (hf _ h2) e0
  exact vk_R.of hsr key
end AWS
