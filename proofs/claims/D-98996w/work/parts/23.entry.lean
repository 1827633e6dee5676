/-! THE LAW FROM ITS ENTRY -/
set_option maxRecDepth 100000
theorem hasRoom_less {s : State} {pl : Platform} {r r' : Room} (hf : r.frames ≤ r'.frames) (hl : r.locals ≤ r'.locals) (hc : r.cells ≤ r'.cells) (hs : r.slots ≤ r'.slots) (h : s.hasRoom pl r' = true) : s.hasRoom pl r = true := by
  simp only [State.hasRoom, Bool.and_eq_true, decide_eq_true_eq] at h ⊢
  obtain ⟨⟨⟨⟨y, a, b, c, d, e⟩, f⟩, g⟩, i⟩ := h
  exact ⟨⟨⟨⟨by omega, by omega, by omega, by omega, by omega, e⟩, by omega⟩, by omega⟩, i⟩
theorem W_less {p : Program} {l : Launch} {e : Env} {R R' : Room} {s : State} {m : MethodId} {args : Array Value} {below : List Frame} {meth : Method} {c : Code} {H : Heap} {locs : List Loc} {c9 s9 : Nat} {Q : State → Prop} {g : JFrame} (hf : R.frames ≤ R'.frames) (hl : R.locals ≤ R'.locals) (hc : R.cells ≤ R'.cells) (hs : R.slots ≤ R'.slots) (k : W p l e R s m args below meth c H locs c9 s9 Q g) : W p l e R' s m args below meth c H locs c9 s9 Q g :=
  fun T hT X => k T hT { X with room := hasRoom_less hf hl hc hs X.room }
def zr_ (i : Nat) : String × String × String := if i = 0 then ("jdk/internal/util/Preconditions", "SIOOBE_FORMATTER", "Ljava/util/function/BiFunction;") else if i = 1 then ("java/lang/Throwable", "UNASSIGNED_STACK", "[Ljava/lang/StackTraceElement;") else ("java/lang/Throwable", "SUPPRESSED_SENTINEL", "Ljava/util/List;")
theorem zr_in : ∀ i ∈ List.range 3, Cond.laysStatic (zr_ i).1 (zr_ i).2.1 (zr_ i).2.2 ∈ lw_tbl ∧ Cond.initialized (zr_ i).1 ∈ lw_tbl ∧ Cond.isRef (.static (zr_ i).1 (zr_ i).2.1 (zr_ i).2.2) ∈ flatC gv_ := by decide +kernel
theorem zs_zr : ∀ q ∈ zs_, q.2.2.2 < 3 ∧ (q.1, q.2.1, q.2.2.1) = zr_ q.2.2.2 := by decide +kernel
theorem cs_in : Cond.laysStatic "java/lang/String" "COMPACT_STRINGS" "Z" ∈ lw_tbl ∧ Cond.initialized "java/lang/String" ∈ lw_tbl ∧ Cond.eq (.static "java/lang/String" "COMPACT_STRINGS" "Z") (.int 1) ∈ flatC gv_ := by decide +kernel
theorem tq_in : (Cond.laysStatic Bundle.tN "UNASSIGNED_STACK" Bundle.steD ∈ lw_tbl ∧ Cond.initialized Bundle.tN ∈ lw_tbl ∧ Cond.isRef (.static Bundle.tN "UNASSIGNED_STACK" Bundle.steD) ∈ flatC gv_) ∧ (Cond.laysStatic Bundle.tN "SUPPRESSED_SENTINEL" Bundle.listD ∈ lw_tbl ∧ Cond.isRef (.static Bundle.tN "SUPPRESSED_SENTINEL" Bundle.listD) ∈ flatC gv_) := by decide +kernel
theorem nc_in : Cond.not (.castable "java/lang/IllegalArgumentException" "java/util/NoSuchElementException") ∈ flatC gv_ := by decide +kernel
theorem ao_in : ∀ C ∈ ao_, Cond.arrayOver (.object C) ∈ lw_tbl := by decide +kernel
theorem fw_in : ∀ q ∈ fw_, Cond.declares yTon_ ∈ lw_tbl ∧ Cond.interfaceMethod yTon_.cls yTon_.cls yTon_.name yTon_.desc ∈ lw_tbl ∧ Cond.publicMethod q.2 ∈ lw_tbl ∧ Cond.unhidden q.1 yTon_.name yTon_.desc ∈ lw_tbl ∧ Cond.castable q.1 yTon_.cls ∈ lw_tbl := by decide +kernel
theorem nw_tb {w : Cond} (h : nw_ w = true) : w.onTables = true := by
  cases w <;> first | rfl | cases h
theorem st_en {s : State} {A9 : Array Value} {b L : Nat} {xs : Nat → Int32} (hts : ∀ w ∈ lw_tbl, w.before A9 s = true) (hgv : gv_.before A9 s = true) (hX : va_X b L xs s s.heap) (hbl : b < s.heap.size) :
    ∃ G : xg_T, en_ G s ∧ xg_s G = b ∧ xg_L G = L ∧ xg_x G = xs ∧ xg_b G = s.heap.size := by
  have hf : ∀ w ∈ flatC gv_, w.before A9 s = true := fun w h => flat_of_before _ hgv w h
  have hA : ∀ a : Nat, a < s.heap.size → ¬ s.heap.size ≤ a := fun a h => Nat.not_le.mpr h
  have h1 : ∀ c : Nat, ∃ q9 : ClassId × (Nat → Nat), ∀ q : vw_C, kl_[c]? = some q → u_Kn s q.1 q.2.1 q.2.2 q9.1 q9.2 := by
    intro c
    cases hc : kl_[c]? with
    | none => exact ⟨(0, fun _ => 0), fun q h => by cases h⟩
    | some q =>
      obtain ⟨cC, iS, h⟩ := st_kl hts q (List.mem_of_getElem? hc)
      exact ⟨(cC, iS), fun q' h' => by cases h'; exact h⟩
  obtain ⟨fC, hC⟩ := Classical.axiomOfChoice h1
  have h2 : ∀ i : Nat, ∃ cA : ClassId, ∀ ty, ta_[i]? = some ty → ArrOfT s cA ty ∧ va_RA s cA ty := by
    intro i
    cases hc : ta_[i]? with
    | none => exact ⟨0, fun q h => by cases h⟩
    | some ty =>
      obtain ⟨cA, h⟩ := st_ts hts ty (List.mem_of_getElem? hc)
      exact ⟨cA, fun q' h' => by cases h'; exact h⟩
  obtain ⟨fT, hT⟩ := Classical.axiomOfChoice h2
  obtain ⟨adK, adV, hS, hK⟩ := st_S (A := fun q => s.heap.size ≤ q) hf hA
  have hR := st_R hts hf hK
  have h3 : ∀ i : Nat, ∃ t : Nat, i < 3 → va_Z (zr_ i).1 (zr_ i).2.1 (zr_ i).2.2 .null (fun q => s.heap.size ≤ q) s s.heap ∨ va_Z (zr_ i).1 (zr_ i).2.1 (zr_ i).2.2 (.ref t) (fun q => s.heap.size ≤ q) s s.heap := by
    intro i
    by_cases hi : i < 3
    · obtain ⟨g1, g2, g3⟩ := zr_in i (List.mem_range.mpr hi)
      rcases va_Zqof (A := fun q => s.heap.size ≤ q) (hts _ g1) (hts _ g2) (hf _ g3) hA with h | ⟨t, h⟩
      · exact ⟨0, fun _ => Or.inl h⟩
      · exact ⟨t, fun _ => Or.inr h⟩
    · exact ⟨0, fun h => absurd h hi⟩
  obtain ⟨fZ, hZ⟩ := Classical.axiomOfChoice h3
  refine ⟨(((fun c => (fC c).1, fun c => (fC c).2) : va_G), fT, adK, adV, b, s.heap.size, fZ, L, xs), ⟨⟨fun c q h => hC c q h, fun k q h => ?_⟩, fun w hw hn => va_Nw.of (nw_tb hn) (hts w hw), fun C h => va_AO.of (hts _ (ao_in C h)), fun q h => ?_, hR, hS, ?_, ?_, ?_, va_Nc.of (hf _ nc_in), ⟨hbl, hX⟩, fun q h => ?_⟩, rfl, rfl, rfl, rfl⟩
  · have hk : k < 9 := by
      have := (List.getElem?_eq_some_iff.mp h).1
      simpa [ts_] using this
    have e : q = (fT k, ta_.getD k .int) := by
      have h9 : (ts_ (((fun c => (fC c).1, fun c => (fC c).2) : va_G), fT, adK, adV, b, s.heap.size, fZ, L, xs))[k]? = some (fT k, ta_.getD k .int) := by simp [ts_, hk]; rfl
      exact Option.some.inj (h.symm.trans h9)
    rw [e]
    refine hT k _ ?_
    have hk9 : k < ta_.length := hk
    rw [List.getElem?_eq_getElem hk9]
    simp [List.getD, hk9]
  · obtain ⟨g1, g2, g3, g4, g5⟩ := fw_in q h
    exact va_Fw.of (hts _ g1) (hts _ g2) (hts _ g3) (hts _ g4) (hts _ g5)
  · exact vx_Zqof (hts _ tq_in.1.1) (hts _ tq_in.1.2.1) (hf _ tq_in.1.2.2) hA
  · exact vx_Zqof (hts _ tq_in.2.1) (hts _ tq_in.1.2.1) (hf _ tq_in.2.2) hA
  · exact va_Zof (hts _ cs_in.1) (hts _ cs_in.2.1) (va_eqt (hf _ cs_in.2.2)) hA
  · obtain ⟨g1, g2⟩ := zs_zr q h
    have g3 := hZ _ g1
    rw [← g2] at g3
    exact g3
set_option maxHeartbeats 4000000 in
theorem st_law {p : Program} {e : Env} {s : State} {m : MethodId} {below : List Frame} {meth : Method} {c : Code} (l : Launch) (hst : l.stackTraces = false) {b L : Nat} {xs : Nat → Int32} (hx : p.tables.exec = Jvm.exec) (hb : c.code = code) (hr : meth.sig.returnType = some .boolean) (hml : c.maxLocals = 8) (hown : s.vm.findClass RX0 = some m.cls) (hts : ∀ w ∈ lw_tbl, w.before #[Value.ref b] s = true) (hX : va_X b L xs s s.heap) (hbl : b < s.heap.size) (hlocks : meth.locks = false) (hgv : gv_.before #[Value.ref b] s = true)
    {F : Nat} {mF : pm_M} {u : Unit} (hrun : f_law F xs L e0_ = some (u, mF)) (hbF : gN_ mF ≤ 601024 ∧ gS_ mF ≤ 7293034) : W p l e room_1 s m #[Value.ref b] below meth c s.heap [] 0 0 (fun t => ∃ o, t.status = .running ∧ Ended t below o ∧ o = .returned (some (.int 1)) ∧ Framed s o t [] 601024 7293034) (entryFrame m ([Value.ref b] : List Value).toArray 8) := by
  obtain ⟨G, hen, g1, g2, g3, g4⟩ := st_en hts hgv hX hbl
  subst g1 g2 g3
  have body := e_law (nm9 := meth.name) (tb9 := c.exceptionTable.toList.map (fun x => (x.startPc, x.endPc, x.handlerPc, x.catchType))) (G := G) (l := l) hst hbF hrun
  have hl := lv_entry ([.ref (xg_s G)]) (n := 8) (Nat.le_of_ble_eq_true rfl)
  rw [lg_entry_eq]
  generalize (lg_sl ([.ref (xg_s G)]) ++ List.replicate (8 - (lg_sl ([.ref (xg_s G)])).length) Slot.unset).toArray = arr at hl ⊢
  refine W_less (R := { frames := 1000, cells := 601024, slots := 7293034, locals := 100000 }) (Nat.le_of_ble_eq_true rfl) (Nat.le_of_ble_eq_true rfl) (Nat.le_refl _) (Nat.le_refl _) ?_
  have hma : ma_ G (fun _ => 0) e0_ s.heap := by
    refine ⟨?_, ?_, fun a k r h => by cases h⟩
    · show va_P (xg_D G) kl_ [] s.heap
      exact fun k q h => by simp at h
    · show va_D (xg_A G) []
      exact ⟨fun i j p q h => by simp at h, fun k q h => by simp at h⟩
  have htb : c.exceptionTable.toList = tableOf (c.exceptionTable.toList.map (fun x => (x.startPc, x.endPc, x.handlerPc, x.catchType))) := by
    unfold tableOf
    rw [List.map_map]
    exact (List.map_id _).symm
  have w := body.2 (p, e, { frames := 1000, cells := 601024, slots := 7293034, locals := 100000 }, s, m, #[Value.ref (xg_s G)], below, meth, c, (fun t => ∃ o, t.status = .running ∧ Ended t below o ∧ o = .returned (some (.int 1)) ∧ Framed s o t [] 601024 7293034), fun _ => 0)
    ⟨hx, hb, hml, hown, fun w h => hts w (lw_all_tbl h), hlocks, hr, rfl, ⟨rfl, rfl, rfl, rfl⟩, Nat.le_of_eq g4, hen, htb, fun _ => ⟨rfl, rfl, Nat.le_of_eq g4.symm⟩, fun h => nomatch h⟩
    (fun _ => 0) s.heap [] arr ⟨xt_rf, fun _ _ => rfl, hma, va_S.rf, hl, os_k (Or.inl ⟨by show 200 ≤ 201; omega, by show 0 < 23; omega⟩) os_n⟩ os_n
  exact w
