-- ===== PART A: goes FIRST, ahead of the names: the tables' words, and 'selects' of the private methods out of them =====
/-- a private method of a class that the tables say can be made, by its rows of tables_1 -/
def lw_okq (q : MethodName × Nat) : Prop := (q.1.cls ≠ "java/lang/invoke/MethodHandle" ∧ q.1.cls ≠ "java/lang/invoke/VarHandle") ∧ Cond.instantiable q.1.cls q.2 ∈ tables_1 ∧ Cond.privateMethod q.1 ∈ tables_1 ∧ Cond.instanceMethod q.1 ∈ tables_1
set_option maxRecDepth 100000
theorem lw_t1 {w : Cond} (h : w ∈ tables_1_1) : w ∈ tables_1 := List.mem_append_left _ h
theorem lw_t2 {w : Cond} (h : w ∈ tables_1_2) : w ∈ tables_1 := List.mem_append_right _ (List.mem_append_left _ h)
theorem lw_t3 {w : Cond} (h : w ∈ tables_1_3) : w ∈ tables_1 := List.mem_append_right _ (List.mem_append_right _ (List.mem_append_left _ h))
theorem lw_t4 {w : Cond} (h : w ∈ tables_1_4) : w ∈ tables_1 := List.mem_append_right _ (List.mem_append_right _ (List.mem_append_right _ (List.mem_append_left _ h)))
theorem lw_t5 {w : Cond} (h : w ∈ tables_1_5) : w ∈ tables_1 := List.mem_append_right _ (List.mem_append_right _ (List.mem_append_right _ (List.mem_append_right _ (List.mem_append_left _ h))))
theorem lw_t6 {w : Cond} (h : w ∈ tables_1_6) : w ∈ tables_1 := List.mem_append_right _ (List.mem_append_right _ (List.mem_append_right _ (List.mem_append_right _ (List.mem_append_right _ (List.mem_append_left _ h)))))
theorem lw_t7 {w : Cond} (h : w ∈ tables_1_7) : w ∈ tables_1 := List.mem_append_right _ (List.mem_append_right _ (List.mem_append_right _ (List.mem_append_right _ (List.mem_append_right _ (List.mem_append_right _ (List.mem_append_left _ h))))))
theorem lw_t8 {w : Cond} (h : w ∈ tables_1_8) : w ∈ tables_1 := List.mem_append_right _ (List.mem_append_right _ (List.mem_append_right _ (List.mem_append_right _ (List.mem_append_right _ (List.mem_append_right _ (List.mem_append_right _ (List.mem_append_left _ h)))))))
theorem lw_t9 {w : Cond} (h : w ∈ tables_1_9) : w ∈ tables_1 := List.mem_append_right _ (List.mem_append_right _ (List.mem_append_right _ (List.mem_append_right _ (List.mem_append_right _ (List.mem_append_right _ (List.mem_append_right _ (List.mem_append_right _ h)))))))
theorem lw_p0 : lw_okq (⟨"PassagePapers", "within", "(III)V"⟩, 19) := ⟨⟨by decide +kernel, by decide +kernel⟩, lw_t1 (List.mem_of_getElem? (i := 38) rfl), lw_t3 (List.mem_of_getElem? (i := 13) rfl), lw_t3 (List.mem_of_getElem? (i := 14) rfl)⟩
theorem lw_p1 : lw_okq (⟨"java/lang/Throwable", "fillInStackTrace", "(I)Ljava/lang/Throwable;"⟩, 6) := ⟨⟨by decide +kernel, by decide +kernel⟩, lw_t3 (List.mem_of_getElem? (i := 55) rfl), lw_t3 (List.mem_of_getElem? (i := 53) rfl), lw_t3 (List.mem_of_getElem? (i := 54) rfl)⟩
theorem lw_p2 : lw_okq (⟨"PassagePapers", "reader", "(I)LPassagePapers$Reader;"⟩, 19) := ⟨⟨by decide +kernel, by decide +kernel⟩, lw_t1 (List.mem_of_getElem? (i := 38) rfl), lw_t3 (List.mem_of_getElem? (i := 83) rfl), lw_t3 (List.mem_of_getElem? (i := 84) rfl)⟩
theorem lw_p3 : lw_okq (⟨"PassagePapers$Reader", "byteAt", "(I)I"⟩, 4) := ⟨⟨by decide +kernel, by decide +kernel⟩, lw_t3 (List.mem_of_getElem? (i := 87) rfl), lw_t3 (List.mem_of_getElem? (i := 140) rfl), lw_t3 (List.mem_of_getElem? (i := 141) rfl)⟩
theorem lw_p4 : lw_okq (⟨"PassagePapers$RegisterReader", "clause", "()V"⟩, 4) := ⟨⟨by decide +kernel, by decide +kernel⟩, lw_t3 (List.mem_of_getElem? (i := 81) rfl), lw_t3 (List.mem_of_getElem? (i := 144) rfl), lw_t3 (List.mem_of_getElem? (i := 145) rfl)⟩
theorem lw_p5 : lw_okq (⟨"PassagePapers$RegisterReader", "signer", "(I)V"⟩, 4) := ⟨⟨by decide +kernel, by decide +kernel⟩, lw_t3 (List.mem_of_getElem? (i := 81) rfl), lw_t4 (List.mem_of_getElem? (i := 5) rfl), lw_t4 (List.mem_of_getElem? (i := 6) rfl)⟩
theorem lw_p6 : lw_okq (⟨"PassagePapers$RegisterReader", "taker", "(I)V"⟩, 4) := ⟨⟨by decide +kernel, by decide +kernel⟩, lw_t3 (List.mem_of_getElem? (i := 81) rfl), lw_t4 (List.mem_of_getElem? (i := 20) rfl), lw_t4 (List.mem_of_getElem? (i := 21) rfl)⟩
theorem lw_p7 : lw_okq (⟨"PassagePapers", "faulty", "(LPassagePapers$Wrong;)I"⟩, 19) := ⟨⟨by decide +kernel, by decide +kernel⟩, lw_t1 (List.mem_of_getElem? (i := 38) rfl), lw_t4 (List.mem_of_getElem? (i := 28) rfl), lw_t4 (List.mem_of_getElem? (i := 29) rfl)⟩
theorem lw_p8 : lw_okq (⟨"PassagePapers$LawReader", "sum", "()LPassagePapers$Term;"⟩, 2) := ⟨⟨by decide +kernel, by decide +kernel⟩, lw_t4 (List.mem_of_getElem? (i := 40) rfl), lw_t4 (List.mem_of_getElem? (i := 66) rfl), lw_t4 (List.mem_of_getElem? (i := 67) rfl)⟩
theorem lw_p9 : lw_okq (⟨"PassagePapers$LawReader", "product", "()LPassagePapers$Term;"⟩, 2) := ⟨⟨by decide +kernel, by decide +kernel⟩, lw_t4 (List.mem_of_getElem? (i := 40) rfl), lw_t4 (List.mem_of_getElem? (i := 70) rfl), lw_t4 (List.mem_of_getElem? (i := 71) rfl)⟩
theorem lw_p10 : lw_okq (⟨"PassagePapers$LawReader", "value", "()LPassagePapers$Term;"⟩, 2) := ⟨⟨by decide +kernel, by decide +kernel⟩, lw_t4 (List.mem_of_getElem? (i := 40) rfl), lw_t4 (List.mem_of_getElem? (i := 74) rfl), lw_t4 (List.mem_of_getElem? (i := 75) rfl)⟩
theorem lw_p11 : lw_okq (⟨"PassagePapers$WorkReader", "step", "()LPassagePapers$Step;"⟩, 3) := ⟨⟨by decide +kernel, by decide +kernel⟩, lw_t4 (List.mem_of_getElem? (i := 145) rfl), lw_t4 (List.mem_of_getElem? (i := 197) rfl), lw_t4 (List.mem_of_getElem? (i := 198) rfl)⟩
theorem lw_p12 : lw_okq (⟨"PassagePapers$WorkReader", "signer", "()I"⟩, 3) := ⟨⟨by decide +kernel, by decide +kernel⟩, lw_t4 (List.mem_of_getElem? (i := 145) rfl), lw_t4 (List.mem_of_getElem? (i := 209) rfl), lw_t4 (List.mem_of_getElem? (i := 210) rfl)⟩
theorem lw_p13 : lw_okq (⟨"PassagePapers$WorkReader", "again", "()LPassagePapers$Row;"⟩, 3) := ⟨⟨by decide +kernel, by decide +kernel⟩, lw_t4 (List.mem_of_getElem? (i := 145) rfl), lw_t5 (List.mem_of_getElem? (i := 12) rfl), lw_t5 (List.mem_of_getElem? (i := 13) rfl)⟩
theorem lw_p14 : lw_okq (⟨"PassagePapers$State", "frees", "(I)V"⟩, 14) := ⟨⟨by decide +kernel, by decide +kernel⟩, lw_t1 (List.mem_of_getElem? (i := 67) rfl), lw_t5 (List.mem_of_getElem? (i := 115) rfl), lw_t5 (List.mem_of_getElem? (i := 116) rfl)⟩
theorem lw_p15 : lw_okq (⟨"PassagePapers", "signerOf", "(I)V"⟩, 19) := ⟨⟨by decide +kernel, by decide +kernel⟩, lw_t1 (List.mem_of_getElem? (i := 38) rfl), lw_t5 (List.mem_of_getElem? (i := 186) rfl), lw_t5 (List.mem_of_getElem? (i := 187) rfl)⟩
def lw_privs_1 : List (MethodName × Nat) := [(⟨"PassagePapers", "within", "(III)V"⟩, 19), (⟨"java/lang/Throwable", "fillInStackTrace", "(I)Ljava/lang/Throwable;"⟩, 6), (⟨"PassagePapers", "reader", "(I)LPassagePapers$Reader;"⟩, 19), (⟨"PassagePapers$Reader", "byteAt", "(I)I"⟩, 4), (⟨"PassagePapers$RegisterReader", "clause", "()V"⟩, 4), (⟨"PassagePapers$RegisterReader", "signer", "(I)V"⟩, 4), (⟨"PassagePapers$RegisterReader", "taker", "(I)V"⟩, 4), (⟨"PassagePapers", "faulty", "(LPassagePapers$Wrong;)I"⟩, 19), (⟨"PassagePapers$LawReader", "sum", "()LPassagePapers$Term;"⟩, 2), (⟨"PassagePapers$LawReader", "product", "()LPassagePapers$Term;"⟩, 2), (⟨"PassagePapers$LawReader", "value", "()LPassagePapers$Term;"⟩, 2), (⟨"PassagePapers$WorkReader", "step", "()LPassagePapers$Step;"⟩, 3), (⟨"PassagePapers$WorkReader", "signer", "()I"⟩, 3), (⟨"PassagePapers$WorkReader", "again", "()LPassagePapers$Row;"⟩, 3), (⟨"PassagePapers$State", "frees", "(I)V"⟩, 14), (⟨"PassagePapers", "signerOf", "(I)V"⟩, 19)]
theorem lw_r1 : ∀ q ∈ lw_privs_1, lw_okq q := List.forall_mem_cons.mpr ⟨lw_p0, List.forall_mem_cons.mpr ⟨lw_p1, List.forall_mem_cons.mpr ⟨lw_p2, List.forall_mem_cons.mpr ⟨lw_p3, List.forall_mem_cons.mpr ⟨lw_p4, List.forall_mem_cons.mpr ⟨lw_p5, List.forall_mem_cons.mpr ⟨lw_p6, List.forall_mem_cons.mpr ⟨lw_p7, List.forall_mem_cons.mpr ⟨lw_p8, List.forall_mem_cons.mpr ⟨lw_p9, List.forall_mem_cons.mpr ⟨lw_p10, List.forall_mem_cons.mpr ⟨lw_p11, List.forall_mem_cons.mpr ⟨lw_p12, List.forall_mem_cons.mpr ⟨lw_p13, List.forall_mem_cons.mpr ⟨lw_p14, List.forall_mem_cons.mpr ⟨lw_p15, fun _ h => absurd h List.not_mem_nil⟩⟩⟩⟩⟩⟩⟩⟩⟩⟩⟩⟩⟩⟩⟩⟩
theorem lw_p16 : lw_okq (⟨"PassagePapers", "takerOf", "(I)V"⟩, 19) := ⟨⟨by decide +kernel, by decide +kernel⟩, lw_t1 (List.mem_of_getElem? (i := 38) rfl), lw_t5 (List.mem_of_getElem? (i := 212) rfl), lw_t5 (List.mem_of_getElem? (i := 213) rfl)⟩
theorem lw_p17 : lw_okq (⟨"PassagePapers", "freeBy", "(II)I"⟩, 19) := ⟨⟨by decide +kernel, by decide +kernel⟩, lw_t1 (List.mem_of_getElem? (i := 38) rfl), lw_t6 (List.mem_of_getElem? (i := 8) rfl), lw_t6 (List.mem_of_getElem? (i := 9) rfl)⟩
theorem lw_p18 : lw_okq (⟨"PassagePapers", "tried", "()LPassagePapers$State;"⟩, 19) := ⟨⟨by decide +kernel, by decide +kernel⟩, lw_t1 (List.mem_of_getElem? (i := 38) rfl), lw_t6 (List.mem_of_getElem? (i := 12) rfl), lw_t6 (List.mem_of_getElem? (i := 13) rfl)⟩
theorem lw_p19 : lw_okq (⟨"PassagePapers$Places", "mostOf", "(I)I"⟩, 6) := ⟨⟨by decide +kernel, by decide +kernel⟩, lw_t2 (List.mem_of_getElem? (i := 21) rfl), lw_t6 (List.mem_of_getElem? (i := 61) rfl), lw_t6 (List.mem_of_getElem? (i := 62) rfl)⟩
theorem lw_p20 : lw_okq (⟨"PassagePapers$Places", "tries", "(II)V"⟩, 6) := ⟨⟨by decide +kernel, by decide +kernel⟩, lw_t2 (List.mem_of_getElem? (i := 21) rfl), lw_t6 (List.mem_of_getElem? (i := 67) rfl), lw_t6 (List.mem_of_getElem? (i := 68) rfl)⟩
theorem lw_p21 : lw_okq (⟨"PassagePapers$Places", "kinAt", "(I)I"⟩, 6) := ⟨⟨by decide +kernel, by decide +kernel⟩, lw_t2 (List.mem_of_getElem? (i := 21) rfl), lw_t6 (List.mem_of_getElem? (i := 72) rfl), lw_t6 (List.mem_of_getElem? (i := 73) rfl)⟩
theorem lw_p22 : lw_okq (⟨"PassagePapers", "isSaid", "(I)Z"⟩, 19) := ⟨⟨by decide +kernel, by decide +kernel⟩, lw_t1 (List.mem_of_getElem? (i := 38) rfl), lw_t6 (List.mem_of_getElem? (i := 133) rfl), lw_t6 (List.mem_of_getElem? (i := 134) rfl)⟩
theorem lw_p23 : lw_okq (⟨"PassagePapers", "counts", "(I)V"⟩, 19) := ⟨⟨by decide +kernel, by decide +kernel⟩, lw_t1 (List.mem_of_getElem? (i := 38) rfl), lw_t6 (List.mem_of_getElem? (i := 145) rfl), lw_t6 (List.mem_of_getElem? (i := 146) rfl)⟩
theorem lw_p24 : lw_okq (⟨"PassagePapers", "isTold", "(I)Z"⟩, 19) := ⟨⟨by decide +kernel, by decide +kernel⟩, lw_t1 (List.mem_of_getElem? (i := 38) rfl), lw_t6 (List.mem_of_getElem? (i := 149) rfl), lw_t6 (List.mem_of_getElem? (i := 150) rfl)⟩
theorem lw_p25 : lw_okq (⟨"PassagePapers", "odd", "(I)V"⟩, 19) := ⟨⟨by decide +kernel, by decide +kernel⟩, lw_t1 (List.mem_of_getElem? (i := 38) rfl), lw_t6 (List.mem_of_getElem? (i := 160) rfl), lw_t6 (List.mem_of_getElem? (i := 161) rfl)⟩
theorem lw_p26 : lw_okq (⟨"PassagePapers", "voyageOf", "(III)V"⟩, 19) := ⟨⟨by decide +kernel, by decide +kernel⟩, lw_t1 (List.mem_of_getElem? (i := 38) rfl), lw_t6 (List.mem_of_getElem? (i := 224) rfl), lw_t6 (List.mem_of_getElem? (i := 225) rfl)⟩
theorem lw_p27 : lw_okq (⟨"PassagePapers", "sails", "(IIII)LPassagePapers$State;"⟩, 19) := ⟨⟨by decide +kernel, by decide +kernel⟩, lw_t1 (List.mem_of_getElem? (i := 38) rfl), lw_t6 (List.mem_of_getElem? (i := 228) rfl), lw_t6 (List.mem_of_getElem? (i := 229) rfl)⟩
theorem lw_p28 : lw_okq (⟨"PassagePapers", "hungrier", "(LPassagePapers$State;)I"⟩, 19) := ⟨⟨by decide +kernel, by decide +kernel⟩, lw_t1 (List.mem_of_getElem? (i := 38) rfl), lw_t6 (List.mem_of_getElem? (i := 233) rfl), lw_t6 (List.mem_of_getElem? (i := 234) rfl)⟩
theorem lw_p29 : lw_okq (⟨"PassagePapersModel", "clears", "()V"⟩, 59) := ⟨⟨by decide +kernel, by decide +kernel⟩, lw_t7 (List.mem_of_getElem? (i := 8) rfl), lw_t7 (List.mem_of_getElem? (i := 14) rfl), lw_t7 (List.mem_of_getElem? (i := 15) rfl)⟩
theorem lw_p30 : lw_okq (⟨"PassagePapersModel", "sets", "()V"⟩, 59) := ⟨⟨by decide +kernel, by decide +kernel⟩, lw_t7 (List.mem_of_getElem? (i := 8) rfl), lw_t7 (List.mem_of_getElem? (i := 18) rfl), lw_t7 (List.mem_of_getElem? (i := 19) rfl)⟩
theorem lw_p31 : lw_okq (⟨"PassagePapersModel", "copies", "([I[II)V"⟩, 59) := ⟨⟨by decide +kernel, by decide +kernel⟩, lw_t7 (List.mem_of_getElem? (i := 8) rfl), lw_t7 (List.mem_of_getElem? (i := 22) rfl), lw_t7 (List.mem_of_getElem? (i := 23) rfl)⟩
def lw_privs_2 : List (MethodName × Nat) := [(⟨"PassagePapers", "takerOf", "(I)V"⟩, 19), (⟨"PassagePapers", "freeBy", "(II)I"⟩, 19), (⟨"PassagePapers", "tried", "()LPassagePapers$State;"⟩, 19), (⟨"PassagePapers$Places", "mostOf", "(I)I"⟩, 6), (⟨"PassagePapers$Places", "tries", "(II)V"⟩, 6), (⟨"PassagePapers$Places", "kinAt", "(I)I"⟩, 6), (⟨"PassagePapers", "isSaid", "(I)Z"⟩, 19), (⟨"PassagePapers", "counts", "(I)V"⟩, 19), (⟨"PassagePapers", "isTold", "(I)Z"⟩, 19), (⟨"PassagePapers", "odd", "(I)V"⟩, 19), (⟨"PassagePapers", "voyageOf", "(III)V"⟩, 19), (⟨"PassagePapers", "sails", "(IIII)LPassagePapers$State;"⟩, 19), (⟨"PassagePapers", "hungrier", "(LPassagePapers$State;)I"⟩, 19), (⟨"PassagePapersModel", "clears", "()V"⟩, 59), (⟨"PassagePapersModel", "sets", "()V"⟩, 59), (⟨"PassagePapersModel", "copies", "([I[II)V"⟩, 59)]
theorem lw_r2 : ∀ q ∈ lw_privs_2, lw_okq q := List.forall_mem_cons.mpr ⟨lw_p16, List.forall_mem_cons.mpr ⟨lw_p17, List.forall_mem_cons.mpr ⟨lw_p18, List.forall_mem_cons.mpr ⟨lw_p19, List.forall_mem_cons.mpr ⟨lw_p20, List.forall_mem_cons.mpr ⟨lw_p21, List.forall_mem_cons.mpr ⟨lw_p22, List.forall_mem_cons.mpr ⟨lw_p23, List.forall_mem_cons.mpr ⟨lw_p24, List.forall_mem_cons.mpr ⟨lw_p25, List.forall_mem_cons.mpr ⟨lw_p26, List.forall_mem_cons.mpr ⟨lw_p27, List.forall_mem_cons.mpr ⟨lw_p28, List.forall_mem_cons.mpr ⟨lw_p29, List.forall_mem_cons.mpr ⟨lw_p30, List.forall_mem_cons.mpr ⟨lw_p31, fun _ h => absurd h List.not_mem_nil⟩⟩⟩⟩⟩⟩⟩⟩⟩⟩⟩⟩⟩⟩⟩⟩
theorem lw_p32 : lw_okq (⟨"PassagePapersModel", "may", "(ZII)Z"⟩, 59) := ⟨⟨by decide +kernel, by decide +kernel⟩, lw_t7 (List.mem_of_getElem? (i := 8) rfl), lw_t7 (List.mem_of_getElem? (i := 216) rfl), lw_t7 (List.mem_of_getElem? (i := 217) rfl)⟩
theorem lw_p33 : lw_okq (⟨"PassagePapersModel", "begins", "(I)V"⟩, 59) := ⟨⟨by decide +kernel, by decide +kernel⟩, lw_t7 (List.mem_of_getElem? (i := 8) rfl), lw_t7 (List.mem_of_getElem? (i := 220) rfl), lw_t7 (List.mem_of_getElem? (i := 221) rfl)⟩
theorem lw_p34 : lw_okq (⟨"PassagePapersModel", "fine", "()Z"⟩, 59) := ⟨⟨by decide +kernel, by decide +kernel⟩, lw_t7 (List.mem_of_getElem? (i := 8) rfl), lw_t7 (List.mem_of_getElem? (i := 224) rfl), lw_t7 (List.mem_of_getElem? (i := 225) rfl)⟩
theorem lw_p35 : lw_okq (⟨"PassagePapersModel", "isMore", "()Z"⟩, 59) := ⟨⟨by decide +kernel, by decide +kernel⟩, lw_t7 (List.mem_of_getElem? (i := 8) rfl), lw_t7 (List.mem_of_getElem? (i := 228) rfl), lw_t7 (List.mem_of_getElem? (i := 229) rfl)⟩
theorem lw_p36 : lw_okq (⟨"PassagePapersModel", "here", "()I"⟩, 59) := ⟨⟨by decide +kernel, by decide +kernel⟩, lw_t7 (List.mem_of_getElem? (i := 8) rfl), lw_t7 (List.mem_of_getElem? (i := 232) rfl), lw_t7 (List.mem_of_getElem? (i := 233) rfl)⟩
theorem lw_p37 : lw_okq (⟨"PassagePapersModel", "standsHere", "(Ljava/lang/String;)Z"⟩, 59) := ⟨⟨by decide +kernel, by decide +kernel⟩, lw_t7 (List.mem_of_getElem? (i := 8) rfl), lw_t7 (List.mem_of_getElem? (i := 237) rfl), lw_t7 (List.mem_of_getElem? (i := 238) rfl)⟩
theorem lw_p38 : lw_okq (⟨"PassagePapersModel", "word", "()I"⟩, 59) := ⟨⟨by decide +kernel, by decide +kernel⟩, lw_t7 (List.mem_of_getElem? (i := 8) rfl), lw_t8 (List.mem_of_getElem? (i := 6) rfl), lw_t8 (List.mem_of_getElem? (i := 7) rfl)⟩
theorem lw_p39 : lw_okq (⟨"PassagePapersModel", "wrong", "(II)V"⟩, 59) := ⟨⟨by decide +kernel, by decide +kernel⟩, lw_t7 (List.mem_of_getElem? (i := 8) rfl), lw_t8 (List.mem_of_getElem? (i := 20) rfl), lw_t8 (List.mem_of_getElem? (i := 21) rfl)⟩
theorem lw_p40 : lw_okq (⟨"PassagePapersModel", "pass", "()V"⟩, 59) := ⟨⟨by decide +kernel, by decide +kernel⟩, lw_t7 (List.mem_of_getElem? (i := 8) rfl), lw_t8 (List.mem_of_getElem? (i := 24) rfl), lw_t8 (List.mem_of_getElem? (i := 25) rfl)⟩
theorem lw_p41 : lw_okq (⟨"PassagePapersModel", "readKinsman", "()V"⟩, 59) := ⟨⟨by decide +kernel, by decide +kernel⟩, lw_t7 (List.mem_of_getElem? (i := 8) rfl), lw_t8 (List.mem_of_getElem? (i := 28) rfl), lw_t8 (List.mem_of_getElem? (i := 29) rfl)⟩
theorem lw_p42 : lw_okq (⟨"PassagePapersModel", "readNumber", "(II)I"⟩, 59) := ⟨⟨by decide +kernel, by decide +kernel⟩, lw_t7 (List.mem_of_getElem? (i := 8) rfl), lw_t8 (List.mem_of_getElem? (i := 32) rfl), lw_t8 (List.mem_of_getElem? (i := 33) rfl)⟩
theorem lw_p43 : lw_okq (⟨"PassagePapersModel", "readRow", "(I)V"⟩, 59) := ⟨⟨by decide +kernel, by decide +kernel⟩, lw_t7 (List.mem_of_getElem? (i := 8) rfl), lw_t8 (List.mem_of_getElem? (i := 39) rfl), lw_t8 (List.mem_of_getElem? (i := 40) rfl)⟩
theorem lw_p44 : lw_okq (⟨"PassagePapersModel", "sign", "(I)V"⟩, 59) := ⟨⟨by decide +kernel, by decide +kernel⟩, lw_t7 (List.mem_of_getElem? (i := 8) rfl), lw_t8 (List.mem_of_getElem? (i := 43) rfl), lw_t8 (List.mem_of_getElem? (i := 44) rfl)⟩
theorem lw_p45 : lw_okq (⟨"PassagePapersModel", "result", "(I)I"⟩, 59) := ⟨⟨by decide +kernel, by decide +kernel⟩, lw_t7 (List.mem_of_getElem? (i := 8) rfl), lw_t8 (List.mem_of_getElem? (i := 47) rfl), lw_t8 (List.mem_of_getElem? (i := 48) rfl)⟩
theorem lw_p46 : lw_okq (⟨"PassagePapersModel", "readSum", "()V"⟩, 59) := ⟨⟨by decide +kernel, by decide +kernel⟩, lw_t7 (List.mem_of_getElem? (i := 8) rfl), lw_t8 (List.mem_of_getElem? (i := 58) rfl), lw_t8 (List.mem_of_getElem? (i := 59) rfl)⟩
theorem lw_p47 : lw_okq (⟨"PassagePapersModel", "readProduct", "()V"⟩, 59) := ⟨⟨by decide +kernel, by decide +kernel⟩, lw_t7 (List.mem_of_getElem? (i := 8) rfl), lw_t8 (List.mem_of_getElem? (i := 62) rfl), lw_t8 (List.mem_of_getElem? (i := 63) rfl)⟩
def lw_privs_3 : List (MethodName × Nat) := [(⟨"PassagePapersModel", "may", "(ZII)Z"⟩, 59), (⟨"PassagePapersModel", "begins", "(I)V"⟩, 59), (⟨"PassagePapersModel", "fine", "()Z"⟩, 59), (⟨"PassagePapersModel", "isMore", "()Z"⟩, 59), (⟨"PassagePapersModel", "here", "()I"⟩, 59), (⟨"PassagePapersModel", "standsHere", "(Ljava/lang/String;)Z"⟩, 59), (⟨"PassagePapersModel", "word", "()I"⟩, 59), (⟨"PassagePapersModel", "wrong", "(II)V"⟩, 59), (⟨"PassagePapersModel", "pass", "()V"⟩, 59), (⟨"PassagePapersModel", "readKinsman", "()V"⟩, 59), (⟨"PassagePapersModel", "readNumber", "(II)I"⟩, 59), (⟨"PassagePapersModel", "readRow", "(I)V"⟩, 59), (⟨"PassagePapersModel", "sign", "(I)V"⟩, 59), (⟨"PassagePapersModel", "result", "(I)I"⟩, 59), (⟨"PassagePapersModel", "readSum", "()V"⟩, 59), (⟨"PassagePapersModel", "readProduct", "()V"⟩, 59)]
theorem lw_r3 : ∀ q ∈ lw_privs_3, lw_okq q := List.forall_mem_cons.mpr ⟨lw_p32, List.forall_mem_cons.mpr ⟨lw_p33, List.forall_mem_cons.mpr ⟨lw_p34, List.forall_mem_cons.mpr ⟨lw_p35, List.forall_mem_cons.mpr ⟨lw_p36, List.forall_mem_cons.mpr ⟨lw_p37, List.forall_mem_cons.mpr ⟨lw_p38, List.forall_mem_cons.mpr ⟨lw_p39, List.forall_mem_cons.mpr ⟨lw_p40, List.forall_mem_cons.mpr ⟨lw_p41, List.forall_mem_cons.mpr ⟨lw_p42, List.forall_mem_cons.mpr ⟨lw_p43, List.forall_mem_cons.mpr ⟨lw_p44, List.forall_mem_cons.mpr ⟨lw_p45, List.forall_mem_cons.mpr ⟨lw_p46, List.forall_mem_cons.mpr ⟨lw_p47, fun _ h => absurd h List.not_mem_nil⟩⟩⟩⟩⟩⟩⟩⟩⟩⟩⟩⟩⟩⟩⟩⟩
theorem lw_p48 : lw_okq (⟨"PassagePapersModel", "readUnit", "()V"⟩, 59) := ⟨⟨by decide +kernel, by decide +kernel⟩, lw_t7 (List.mem_of_getElem? (i := 8) rfl), lw_t8 (List.mem_of_getElem? (i := 66) rfl), lw_t8 (List.mem_of_getElem? (i := 67) rfl)⟩
theorem lw_p49 : lw_okq (⟨"PassagePapersModel", "opensOne", "(I)V"⟩, 59) := ⟨⟨by decide +kernel, by decide +kernel⟩, lw_t7 (List.mem_of_getElem? (i := 8) rfl), lw_t8 (List.mem_of_getElem? (i := 70) rfl), lw_t8 (List.mem_of_getElem? (i := 71) rfl)⟩
theorem lw_p50 : lw_okq (⟨"PassagePapersModel", "emit", "(II)V"⟩, 59) := ⟨⟨by decide +kernel, by decide +kernel⟩, lw_t7 (List.mem_of_getElem? (i := 8) rfl), lw_t8 (List.mem_of_getElem? (i := 74) rfl), lw_t8 (List.mem_of_getElem? (i := 75) rfl)⟩
theorem lw_p51 : lw_okq (⟨"PassagePapersModel", "readTwo", "(II)V"⟩, 59) := ⟨⟨by decide +kernel, by decide +kernel⟩, lw_t7 (List.mem_of_getElem? (i := 8) rfl), lw_t8 (List.mem_of_getElem? (i := 79) rfl), lw_t8 (List.mem_of_getElem? (i := 80) rfl)⟩
theorem lw_p52 : lw_okq (⟨"PassagePapersModel", "factHere", "()I"⟩, 59) := ⟨⟨by decide +kernel, by decide +kernel⟩, lw_t7 (List.mem_of_getElem? (i := 8) rfl), lw_t8 (List.mem_of_getElem? (i := 84) rfl), lw_t8 (List.mem_of_getElem? (i := 85) rfl)⟩
theorem lw_p53 : lw_okq (⟨"PassagePapersModel", "readStep", "()V"⟩, 59) := ⟨⟨by decide +kernel, by decide +kernel⟩, lw_t7 (List.mem_of_getElem? (i := 8) rfl), lw_t8 (List.mem_of_getElem? (i := 100) rfl), lw_t8 (List.mem_of_getElem? (i := 101) rfl)⟩
theorem lw_p54 : lw_okq (⟨"PassagePapersModel", "tellsStep", "(III)V"⟩, 59) := ⟨⟨by decide +kernel, by decide +kernel⟩, lw_t7 (List.mem_of_getElem? (i := 8) rfl), lw_t8 (List.mem_of_getElem? (i := 105) rfl), lw_t8 (List.mem_of_getElem? (i := 106) rfl)⟩
theorem lw_p55 : lw_okq (⟨"PassagePapersModel", "readOne", "()I"⟩, 59) := ⟨⟨by decide +kernel, by decide +kernel⟩, lw_t7 (List.mem_of_getElem? (i := 8) rfl), lw_t8 (List.mem_of_getElem? (i := 110) rfl), lw_t8 (List.mem_of_getElem? (i := 111) rfl)⟩
theorem lw_p56 : lw_okq (⟨"PassagePapersModel", "take", "()V"⟩, 59) := ⟨⟨by decide +kernel, by decide +kernel⟩, lw_t7 (List.mem_of_getElem? (i := 8) rfl), lw_t8 (List.mem_of_getElem? (i := 120) rfl), lw_t8 (List.mem_of_getElem? (i := 121) rfl)⟩
theorem lw_p57 : lw_okq (⟨"PassagePapersModel", "goesSteps", "(II)V"⟩, 59) := ⟨⟨by decide +kernel, by decide +kernel⟩, lw_t7 (List.mem_of_getElem? (i := 8) rfl), lw_t8 (List.mem_of_getElem? (i := 124) rfl), lw_t8 (List.mem_of_getElem? (i := 125) rfl)⟩
theorem lw_p58 : lw_okq (⟨"PassagePapersModel", "goes", "(III)Z"⟩, 59) := ⟨⟨by decide +kernel, by decide +kernel⟩, lw_t7 (List.mem_of_getElem? (i := 8) rfl), lw_t8 (List.mem_of_getElem? (i := 128) rfl), lw_t8 (List.mem_of_getElem? (i := 129) rfl)⟩
theorem lw_p59 : lw_okq (⟨"PassagePapersModel", "lands", "()Z"⟩, 59) := ⟨⟨by decide +kernel, by decide +kernel⟩, lw_t7 (List.mem_of_getElem? (i := 8) rfl), lw_t8 (List.mem_of_getElem? (i := 132) rfl), lw_t8 (List.mem_of_getElem? (i := 133) rfl)⟩
theorem lw_p60 : lw_okq (⟨"PassagePapersModel", "many", "(I)I"⟩, 59) := ⟨⟨by decide +kernel, by decide +kernel⟩, lw_t7 (List.mem_of_getElem? (i := 8) rfl), lw_t8 (List.mem_of_getElem? (i := 136) rfl), lw_t8 (List.mem_of_getElem? (i := 137) rfl)⟩
theorem lw_p61 : lw_okq (⟨"PassagePapersModel", "places", "(II)Z"⟩, 59) := ⟨⟨by decide +kernel, by decide +kernel⟩, lw_t7 (List.mem_of_getElem? (i := 8) rfl), lw_t8 (List.mem_of_getElem? (i := 140) rfl), lw_t8 (List.mem_of_getElem? (i := 141) rfl)⟩
theorem lw_p62 : lw_okq (⟨"PassagePapersModel", "boundTo", "(I)I"⟩, 59) := ⟨⟨by decide +kernel, by decide +kernel⟩, lw_t7 (List.mem_of_getElem? (i := 8) rfl), lw_t8 (List.mem_of_getElem? (i := 144) rfl), lw_t8 (List.mem_of_getElem? (i := 145) rfl)⟩
theorem lw_p63 : lw_okq (⟨"PassagePapersModel", "loses", "(II)Z"⟩, 59) := ⟨⟨by decide +kernel, by decide +kernel⟩, lw_t7 (List.mem_of_getElem? (i := 8) rfl), lw_t8 (List.mem_of_getElem? (i := 148) rfl), lw_t8 (List.mem_of_getElem? (i := 149) rfl)⟩
def lw_privs_4 : List (MethodName × Nat) := [(⟨"PassagePapersModel", "readUnit", "()V"⟩, 59), (⟨"PassagePapersModel", "opensOne", "(I)V"⟩, 59), (⟨"PassagePapersModel", "emit", "(II)V"⟩, 59), (⟨"PassagePapersModel", "readTwo", "(II)V"⟩, 59), (⟨"PassagePapersModel", "factHere", "()I"⟩, 59), (⟨"PassagePapersModel", "readStep", "()V"⟩, 59), (⟨"PassagePapersModel", "tellsStep", "(III)V"⟩, 59), (⟨"PassagePapersModel", "readOne", "()I"⟩, 59), (⟨"PassagePapersModel", "take", "()V"⟩, 59), (⟨"PassagePapersModel", "goesSteps", "(II)V"⟩, 59), (⟨"PassagePapersModel", "goes", "(III)Z"⟩, 59), (⟨"PassagePapersModel", "lands", "()Z"⟩, 59), (⟨"PassagePapersModel", "many", "(I)I"⟩, 59), (⟨"PassagePapersModel", "places", "(II)Z"⟩, 59), (⟨"PassagePapersModel", "boundTo", "(I)I"⟩, 59), (⟨"PassagePapersModel", "loses", "(II)Z"⟩, 59)]
theorem lw_r4 : ∀ q ∈ lw_privs_4, lw_okq q := List.forall_mem_cons.mpr ⟨lw_p48, List.forall_mem_cons.mpr ⟨lw_p49, List.forall_mem_cons.mpr ⟨lw_p50, List.forall_mem_cons.mpr ⟨lw_p51, List.forall_mem_cons.mpr ⟨lw_p52, List.forall_mem_cons.mpr ⟨lw_p53, List.forall_mem_cons.mpr ⟨lw_p54, List.forall_mem_cons.mpr ⟨lw_p55, List.forall_mem_cons.mpr ⟨lw_p56, List.forall_mem_cons.mpr ⟨lw_p57, List.forall_mem_cons.mpr ⟨lw_p58, List.forall_mem_cons.mpr ⟨lw_p59, List.forall_mem_cons.mpr ⟨lw_p60, List.forall_mem_cons.mpr ⟨lw_p61, List.forall_mem_cons.mpr ⟨lw_p62, List.forall_mem_cons.mpr ⟨lw_p63, fun _ h => absurd h List.not_mem_nil⟩⟩⟩⟩⟩⟩⟩⟩⟩⟩⟩⟩⟩⟩⟩⟩
theorem lw_p64 : lw_okq (⟨"PassagePapersModel", "pays", "(I)Z"⟩, 59) := ⟨⟨by decide +kernel, by decide +kernel⟩, lw_t7 (List.mem_of_getElem? (i := 8) rfl), lw_t8 (List.mem_of_getElem? (i := 152) rfl), lw_t8 (List.mem_of_getElem? (i := 153) rfl)⟩
theorem lw_p65 : lw_okq (⟨"PassagePapersModel", "canPayNow", "(I)Z"⟩, 59) := ⟨⟨by decide +kernel, by decide +kernel⟩, lw_t7 (List.mem_of_getElem? (i := 8) rfl), lw_t8 (List.mem_of_getElem? (i := 156) rfl), lw_t8 (List.mem_of_getElem? (i := 157) rfl)⟩
theorem lw_p66 : lw_okq (⟨"PassagePapersModel", "owesOf", "(I)I"⟩, 59) := ⟨⟨by decide +kernel, by decide +kernel⟩, lw_t7 (List.mem_of_getElem? (i := 8) rfl), lw_t8 (List.mem_of_getElem? (i := 160) rfl), lw_t8 (List.mem_of_getElem? (i := 161) rfl)⟩
theorem lw_p67 : lw_okq (⟨"PassagePapersModel", "asksBy", "(II)I"⟩, 59) := ⟨⟨by decide +kernel, by decide +kernel⟩, lw_t7 (List.mem_of_getElem? (i := 8) rfl), lw_t8 (List.mem_of_getElem? (i := 164) rfl), lw_t8 (List.mem_of_getElem? (i := 165) rfl)⟩
theorem lw_p68 : lw_okq (⟨"PassagePapersModel", "asksOf", "(IIII)I"⟩, 59) := ⟨⟨by decide +kernel, by decide +kernel⟩, lw_t7 (List.mem_of_getElem? (i := 8) rfl), lw_t8 (List.mem_of_getElem? (i := 168) rfl), lw_t8 (List.mem_of_getElem? (i := 169) rfl)⟩
theorem lw_p69 : lw_okq (⟨"PassagePapersModel", "kinMany", "(I)I"⟩, 59) := ⟨⟨by decide +kernel, by decide +kernel⟩, lw_t7 (List.mem_of_getElem? (i := 8) rfl), lw_t8 (List.mem_of_getElem? (i := 172) rfl), lw_t8 (List.mem_of_getElem? (i := 173) rfl)⟩
theorem lw_p70 : lw_okq (⟨"PassagePapersModel", "areKin", "(II)Z"⟩, 59) := ⟨⟨by decide +kernel, by decide +kernel⟩, lw_t7 (List.mem_of_getElem? (i := 8) rfl), lw_t8 (List.mem_of_getElem? (i := 176) rfl), lw_t8 (List.mem_of_getElem? (i := 177) rfl)⟩
theorem lw_p71 : lw_okq (⟨"PassagePapersModel", "asksNow", "(I)I"⟩, 59) := ⟨⟨by decide +kernel, by decide +kernel⟩, lw_t7 (List.mem_of_getElem? (i := 8) rfl), lw_t8 (List.mem_of_getElem? (i := 180) rfl), lw_t8 (List.mem_of_getElem? (i := 181) rfl)⟩
theorem lw_p72 : lw_okq (⟨"PassagePapersModel", "valueOf", "(I)I"⟩, 59) := ⟨⟨by decide +kernel, by decide +kernel⟩, lw_t7 (List.mem_of_getElem? (i := 8) rfl), lw_t8 (List.mem_of_getElem? (i := 184) rfl), lw_t8 (List.mem_of_getElem? (i := 185) rfl)⟩
theorem lw_p73 : lw_okq (⟨"PassagePapersModel", "frees", "(I)V"⟩, 59) := ⟨⟨by decide +kernel, by decide +kernel⟩, lw_t7 (List.mem_of_getElem? (i := 8) rfl), lw_t8 (List.mem_of_getElem? (i := 191) rfl), lw_t8 (List.mem_of_getElem? (i := 192) rfl)⟩
theorem lw_p74 : lw_okq (⟨"PassagePapersModel", "passes", "()V"⟩, 59) := ⟨⟨by decide +kernel, by decide +kernel⟩, lw_t7 (List.mem_of_getElem? (i := 8) rfl), lw_t8 (List.mem_of_getElem? (i := 195) rfl), lw_t8 (List.mem_of_getElem? (i := 196) rfl)⟩
theorem lw_p75 : lw_okq (⟨"PassagePapersModel", "isSigner", "(II)Z"⟩, 59) := ⟨⟨by decide +kernel, by decide +kernel⟩, lw_t7 (List.mem_of_getElem? (i := 8) rfl), lw_t8 (List.mem_of_getElem? (i := 215) rfl), lw_t8 (List.mem_of_getElem? (i := 216) rfl)⟩
theorem lw_p76 : lw_okq (⟨"PassagePapersModel", "isTaker", "(II)Z"⟩, 59) := ⟨⟨by decide +kernel, by decide +kernel⟩, lw_t7 (List.mem_of_getElem? (i := 8) rfl), lw_t8 (List.mem_of_getElem? (i := 223) rfl), lw_t8 (List.mem_of_getElem? (i := 224) rfl)⟩
theorem lw_p77 : lw_okq (⟨"PassagePapersModel", "freeBy", "(II)I"⟩, 59) := ⟨⟨by decide +kernel, by decide +kernel⟩, lw_t7 (List.mem_of_getElem? (i := 8) rfl), lw_t9 (List.mem_of_getElem? (i := 7) rfl), lw_t9 (List.mem_of_getElem? (i := 8) rfl)⟩
theorem lw_p78 : lw_okq (⟨"PassagePapersModel", "givesFor", "(II)I"⟩, 59) := ⟨⟨by decide +kernel, by decide +kernel⟩, lw_t7 (List.mem_of_getElem? (i := 8) rfl), lw_t9 (List.mem_of_getElem? (i := 23) rfl), lw_t9 (List.mem_of_getElem? (i := 24) rfl)⟩
theorem lw_p79 : lw_okq (⟨"PassagePapersModel", "findBest", "()V"⟩, 59) := ⟨⟨by decide +kernel, by decide +kernel⟩, lw_t7 (List.mem_of_getElem? (i := 8) rfl), lw_t9 (List.mem_of_getElem? (i := 31) rfl), lw_t9 (List.mem_of_getElem? (i := 32) rfl)⟩
def lw_privs_5 : List (MethodName × Nat) := [(⟨"PassagePapersModel", "pays", "(I)Z"⟩, 59), (⟨"PassagePapersModel", "canPayNow", "(I)Z"⟩, 59), (⟨"PassagePapersModel", "owesOf", "(I)I"⟩, 59), (⟨"PassagePapersModel", "asksBy", "(II)I"⟩, 59), (⟨"PassagePapersModel", "asksOf", "(IIII)I"⟩, 59), (⟨"PassagePapersModel", "kinMany", "(I)I"⟩, 59), (⟨"PassagePapersModel", "areKin", "(II)Z"⟩, 59), (⟨"PassagePapersModel", "asksNow", "(I)I"⟩, 59), (⟨"PassagePapersModel", "valueOf", "(I)I"⟩, 59), (⟨"PassagePapersModel", "frees", "(I)V"⟩, 59), (⟨"PassagePapersModel", "passes", "()V"⟩, 59), (⟨"PassagePapersModel", "isSigner", "(II)Z"⟩, 59), (⟨"PassagePapersModel", "isTaker", "(II)Z"⟩, 59), (⟨"PassagePapersModel", "freeBy", "(II)I"⟩, 59), (⟨"PassagePapersModel", "givesFor", "(II)I"⟩, 59), (⟨"PassagePapersModel", "findBest", "()V"⟩, 59)]
theorem lw_r5 : ∀ q ∈ lw_privs_5, lw_okq q := List.forall_mem_cons.mpr ⟨lw_p64, List.forall_mem_cons.mpr ⟨lw_p65, List.forall_mem_cons.mpr ⟨lw_p66, List.forall_mem_cons.mpr ⟨lw_p67, List.forall_mem_cons.mpr ⟨lw_p68, List.forall_mem_cons.mpr ⟨lw_p69, List.forall_mem_cons.mpr ⟨lw_p70, List.forall_mem_cons.mpr ⟨lw_p71, List.forall_mem_cons.mpr ⟨lw_p72, List.forall_mem_cons.mpr ⟨lw_p73, List.forall_mem_cons.mpr ⟨lw_p74, List.forall_mem_cons.mpr ⟨lw_p75, List.forall_mem_cons.mpr ⟨lw_p76, List.forall_mem_cons.mpr ⟨lw_p77, List.forall_mem_cons.mpr ⟨lw_p78, List.forall_mem_cons.mpr ⟨lw_p79, fun _ h => absurd h List.not_mem_nil⟩⟩⟩⟩⟩⟩⟩⟩⟩⟩⟩⟩⟩⟩⟩⟩
theorem lw_p80 : lw_okq (⟨"PassagePapersModel", "waysOn", "(II)V"⟩, 59) := ⟨⟨by decide +kernel, by decide +kernel⟩, lw_t7 (List.mem_of_getElem? (i := 8) rfl), lw_t9 (List.mem_of_getElem? (i := 35) rfl), lw_t9 (List.mem_of_getElem? (i := 36) rfl)⟩
theorem lw_p81 : lw_okq (⟨"PassagePapersModel", "mayBeWith", "(II)Z"⟩, 59) := ⟨⟨by decide +kernel, by decide +kernel⟩, lw_t7 (List.mem_of_getElem? (i := 8) rfl), lw_t9 (List.mem_of_getElem? (i := 39) rfl), lw_t9 (List.mem_of_getElem? (i := 40) rfl)⟩
theorem lw_p82 : lw_okq (⟨"PassagePapersModel", "findTerms", "(I)V"⟩, 59) := ⟨⟨by decide +kernel, by decide +kernel⟩, lw_t7 (List.mem_of_getElem? (i := 8) rfl), lw_t9 (List.mem_of_getElem? (i := 79) rfl), lw_t9 (List.mem_of_getElem? (i := 80) rfl)⟩
theorem lw_p83 : lw_okq (⟨"PassagePapersModel", "isTold", "(I)Z"⟩, 59) := ⟨⟨by decide +kernel, by decide +kernel⟩, lw_t7 (List.mem_of_getElem? (i := 8) rfl), lw_t9 (List.mem_of_getElem? (i := 90) rfl), lw_t9 (List.mem_of_getElem? (i := 91) rfl)⟩
theorem lw_p84 : lw_okq (⟨"PassagePapersModel", "worstAt", "(I)I"⟩, 59) := ⟨⟨by decide +kernel, by decide +kernel⟩, lw_t7 (List.mem_of_getElem? (i := 8) rfl), lw_t9 (List.mem_of_getElem? (i := 94) rfl), lw_t9 (List.mem_of_getElem? (i := 95) rfl)⟩
theorem lw_p85 : lw_okq (⟨"PassagePapersModel", "sails", "(IIII)V"⟩, 59) := ⟨⟨by decide +kernel, by decide +kernel⟩, lw_t7 (List.mem_of_getElem? (i := 8) rfl), lw_t9 (List.mem_of_getElem? (i := 147) rfl), lw_t9 (List.mem_of_getElem? (i := 148) rfl)⟩
theorem lw_p86 : lw_okq (⟨"PassagePapersModel", "draws", "()I"⟩, 59) := ⟨⟨by decide +kernel, by decide +kernel⟩, lw_t7 (List.mem_of_getElem? (i := 8) rfl), lw_t9 (List.mem_of_getElem? (i := 151) rfl), lw_t9 (List.mem_of_getElem? (i := 152) rfl)⟩
theorem lw_p87 : lw_okq (⟨"PassagePapersModel", "keepsAll", "(IZ)V"⟩, 59) := ⟨⟨by decide +kernel, by decide +kernel⟩, lw_t7 (List.mem_of_getElem? (i := 8) rfl), lw_t9 (List.mem_of_getElem? (i := 164) rfl), lw_t9 (List.mem_of_getElem? (i := 165) rfl)⟩
theorem lw_p88 : lw_okq (⟨"PassagePapersModel", "keepsRow", "(I[IIZ)I"⟩, 59) := ⟨⟨by decide +kernel, by decide +kernel⟩, lw_t7 (List.mem_of_getElem? (i := 8) rfl), lw_t9 (List.mem_of_getElem? (i := 168) rfl), lw_t9 (List.mem_of_getElem? (i := 169) rfl)⟩
def lw_privs_6 : List (MethodName × Nat) := [(⟨"PassagePapersModel", "waysOn", "(II)V"⟩, 59), (⟨"PassagePapersModel", "mayBeWith", "(II)Z"⟩, 59), (⟨"PassagePapersModel", "findTerms", "(I)V"⟩, 59), (⟨"PassagePapersModel", "isTold", "(I)Z"⟩, 59), (⟨"PassagePapersModel", "worstAt", "(I)I"⟩, 59), (⟨"PassagePapersModel", "sails", "(IIII)V"⟩, 59), (⟨"PassagePapersModel", "draws", "()I"⟩, 59), (⟨"PassagePapersModel", "keepsAll", "(IZ)V"⟩, 59), (⟨"PassagePapersModel", "keepsRow", "(I[IIZ)I"⟩, 59)]
theorem lw_r6 : ∀ q ∈ lw_privs_6, lw_okq q := List.forall_mem_cons.mpr ⟨lw_p80, List.forall_mem_cons.mpr ⟨lw_p81, List.forall_mem_cons.mpr ⟨lw_p82, List.forall_mem_cons.mpr ⟨lw_p83, List.forall_mem_cons.mpr ⟨lw_p84, List.forall_mem_cons.mpr ⟨lw_p85, List.forall_mem_cons.mpr ⟨lw_p86, List.forall_mem_cons.mpr ⟨lw_p87, List.forall_mem_cons.mpr ⟨lw_p88, fun _ h => absurd h List.not_mem_nil⟩⟩⟩⟩⟩⟩⟩⟩⟩
def lw_privs : List (MethodName × Nat) := lw_privs_1 ++ (lw_privs_2 ++ (lw_privs_3 ++ (lw_privs_4 ++ (lw_privs_5 ++ (lw_privs_6)))))
def lw_tbl : List Cond := k2_sels lw_privs ++ tables_1
theorem lw_privs_ok : ∀ q ∈ lw_privs, lw_okq q := by
  show ∀ q ∈ lw_privs_1 ++ (lw_privs_2 ++ (lw_privs_3 ++ (lw_privs_4 ++ (lw_privs_5 ++ (lw_privs_6))))), lw_okq q
  exact List.forall_mem_append.mpr ⟨lw_r1, List.forall_mem_append.mpr ⟨lw_r2, List.forall_mem_append.mpr ⟨lw_r3, List.forall_mem_append.mpr ⟨lw_r4, List.forall_mem_append.mpr ⟨lw_r5, lw_r6⟩⟩⟩⟩⟩
-- ===== ONE list of words for every method: the tables' words that hold all through a run =====
def lw_all : List Cond := lw_tbl.filter goodWord
/-- a word of the tables by its place: claim/WORDS.tsv -/
theorem lw_w {w : Cond} (i : Nat) (h : lw_tbl[i]? = some w) (g : goodWord w = true) : w ∈ lw_all := List.mem_filter.mpr ⟨List.mem_of_getElem? h, g⟩
theorem lw_all_tbl {w : Cond} (h : w ∈ lw_all) : w ∈ lw_tbl := (List.mem_filter.mp h).1
theorem lw_self : GoodIn lw_all lw_all := fun w h => ⟨h, good_of_word (List.mem_filter.mp h).2⟩
/-- a class's field words, by their places -/
theorem lw_in (ws : List Cond) (ps : List Nat) (hp : ws = ps.filterMap (fun i => lw_tbl[i]?)) (hg : ws.all goodWord = true) : ∀ w ∈ ws, w ∈ lw_all := by
  intro w h
  have h1 := List.all_eq_true.mp hg w h
  rw [hp] at h
  obtain ⟨i, -, hi⟩ := List.mem_filterMap.mp h
  exact lw_w i hi h1
/-- the words of a contract for the method y with code b, L locals, answer r -/
abbrev ws_ (y : MethodName) (b : ByteArray) (L : Nat) (r : Option FieldType) : List Cond := Cond.code y b L r :: lw_all
theorem lw_meth {y : MethodName} {b : ByteArray} {L : Nat} {r : Option FieldType} (h : Cond.code y b L r ∈ lw_all) : GoodIn lw_all (ws_ y b L r) := by
  intro w hw
  rcases List.mem_cons.mp hw with e | e
  · rw [e]
    exact lw_self _ h
  · exact lw_self _ e
theorem lw_app {a c : List Cond} (ha : ∀ w ∈ a, w ∈ lw_all) (hc : GoodIn lw_all c) : GoodIn lw_all (a ++ c) := by
  intro w hw
  rcases List.mem_append.mp hw with e | e
  · exact lw_self w (ha w e)
  · exact hc w e
/-- what a call through an object asks: cwV n hts (lw_V ..) -/
theorem lw_V {own : String} {idx : Nat} {C : String} {y : MethodName} {b : ByteArray} {L : Nat} {r : Option FieldType} (h1 : Cond.methodLink own idx y ∈ lw_all) (h2 : Cond.instanceMethod y ∈ lw_all) (h3 : Cond.selects C y y ∈ lw_all) (h4 : Cond.initialized C ∈ lw_all) (h5 : Cond.code y b L r ∈ lw_all) : GoodIn lw_all (wsV own idx C y (ws_ y b L r)) := by
  refine lw_app ?_ (lw_meth h5)
  intro w hw
  simp only [List.mem_cons, List.not_mem_nil, or_false] at hw
  rcases hw with e | e | e | e
  · rw [e]; exact h1
  · rw [e]; exact h2
  · rw [e]; exact h3
  · rw [e]; exact h4
/-- what a static call asks: va_cwS n hts (lw_S ..) -/
theorem lw_S {own : String} {idx : Nat} {y : MethodName} {b : ByteArray} {L : Nat} {r : Option FieldType} (h1 : Cond.methodLink own idx y ∈ lw_all) (h2 : Cond.static y ∈ lw_all) (h3 : Cond.initialized y.cls ∈ lw_all) (h4 : Cond.code y b L r ∈ lw_all) : GoodIn lw_all (va_wsS own idx y (ws_ y b L r)) := by
  refine lw_app ?_ (lw_meth h4)
  intro w hw
  simp only [List.mem_cons, List.not_mem_nil, or_false] at hw
  rcases hw with e | e | e
  · rw [e]; exact h1
  · rw [e]; exact h2
  · rw [e]; exact h3
/-- the words of a contract for a method WITH HANDLERS (hh: its table) -/
abbrev wsW_ (y : MethodName) (b : ByteArray) (L : Nat) (r : Option FieldType) (hh : List (Nat × Nat × Nat × Nat)) : List Cond := Cond.codeWith y b L r hh :: lw_all
theorem lw_methW {y : MethodName} {b : ByteArray} {L : Nat} {r : Option FieldType} {hh : List (Nat × Nat × Nat × Nat)} (h : Cond.codeWith y b L r hh ∈ lw_all) : GoodIn lw_all (wsW_ y b L r hh) := by
  intro w hw
  rcases List.mem_cons.mp hw with e | e
  · rw [e]
    exact lw_self _ h
  · exact lw_self _ e
/-- any list of words by their places (lw_in), good -/
theorem lw_good {ws : List Cond} (h : ∀ w ∈ ws, w ∈ lw_all) : GoodIn lw_all ws := fun w hw => lw_self w (h w hw)
/-- what a call of a method with handlers asks: vx_cwVW n hts (lw_VW ..), vx_cwSW n hts (lw_SW ..) -/
theorem lw_VW {own : String} {idx : Nat} {C : String} {y : MethodName} {b : ByteArray} {L : Nat} {r : Option FieldType} {hh : List (Nat × Nat × Nat × Nat)} (h1 : Cond.methodLink own idx y ∈ lw_all) (h2 : Cond.instanceMethod y ∈ lw_all) (h3 : Cond.selects C y y ∈ lw_all) (h4 : Cond.initialized C ∈ lw_all) (h5 : Cond.codeWith y b L r hh ∈ lw_all) : GoodIn lw_all (wsV own idx C y (wsW_ y b L r hh)) := by
  refine lw_app ?_ (lw_methW h5)
  intro w hw
  simp only [List.mem_cons, List.not_mem_nil, or_false] at hw
  rcases hw with e | e | e | e
  · rw [e]; exact h1
  · rw [e]; exact h2
  · rw [e]; exact h3
  · rw [e]; exact h4
theorem lw_SW {own : String} {idx : Nat} {y : MethodName} {b : ByteArray} {L : Nat} {r : Option FieldType} {hh : List (Nat × Nat × Nat × Nat)} (h1 : Cond.methodLink own idx y ∈ lw_all) (h2 : Cond.static y ∈ lw_all) (h3 : Cond.initialized y.cls ∈ lw_all) (h4 : Cond.codeWith y b L r hh ∈ lw_all) : GoodIn lw_all (va_wsS own idx y (wsW_ y b L r hh)) := by
  refine lw_app ?_ (lw_methW h4)
  intro w hw
  simp only [List.mem_cons, List.not_mem_nil, or_false] at hw
  rcases hw with e | e | e
  · rw [e]; exact h1
  · rw [e]; exact h2
  · rw [e]; exact h3
/-- a word by its place in its run of the tables -/
theorem lw_at {r : List Cond} (hr : ∀ w ∈ r, w ∈ lw_tbl) {w : Cond} (i : Nat) (h : r[i]? = some w) : w ∈ lw_tbl := hr w (List.mem_of_getElem? h)
theorem lw_g {w : Cond} (h : w ∈ lw_tbl) (g : goodWord w = true) : w ∈ lw_all := List.mem_filter.mpr ⟨h, g⟩
theorem lw_ms : ∀ w ∈ k2_sels lw_privs, w ∈ lw_tbl := fun w h => show w ∈ k2_sels lw_privs ++ tables_1 from List.mem_append_left _ h
theorem lw_m1 : ∀ w ∈ tables_1_1, w ∈ lw_tbl := fun w h => show w ∈ k2_sels lw_privs ++ tables_1 from List.mem_append_right (k2_sels lw_privs) (show w ∈ tables_1 from List.mem_append_left _ h)
theorem lw_m2 : ∀ w ∈ tables_1_2, w ∈ lw_tbl := fun w h => show w ∈ k2_sels lw_privs ++ tables_1 from List.mem_append_right (k2_sels lw_privs) (show w ∈ tables_1 from List.mem_append_right _ (List.mem_append_left _ h))
theorem lw_m3 : ∀ w ∈ tables_1_3, w ∈ lw_tbl := fun w h => show w ∈ k2_sels lw_privs ++ tables_1 from List.mem_append_right (k2_sels lw_privs) (show w ∈ tables_1 from List.mem_append_right _ (List.mem_append_right _ (List.mem_append_left _ h)))
theorem lw_m4 : ∀ w ∈ tables_1_4, w ∈ lw_tbl := fun w h => show w ∈ k2_sels lw_privs ++ tables_1 from List.mem_append_right (k2_sels lw_privs) (show w ∈ tables_1 from List.mem_append_right _ (List.mem_append_right _ (List.mem_append_right _ (List.mem_append_left _ h))))
theorem lw_m5 : ∀ w ∈ tables_1_5, w ∈ lw_tbl := fun w h => show w ∈ k2_sels lw_privs ++ tables_1 from List.mem_append_right (k2_sels lw_privs) (show w ∈ tables_1 from List.mem_append_right _ (List.mem_append_right _ (List.mem_append_right _ (List.mem_append_right _ (List.mem_append_left _ h)))))
theorem lw_m6 : ∀ w ∈ tables_1_6, w ∈ lw_tbl := fun w h => show w ∈ k2_sels lw_privs ++ tables_1 from List.mem_append_right (k2_sels lw_privs) (show w ∈ tables_1 from List.mem_append_right _ (List.mem_append_right _ (List.mem_append_right _ (List.mem_append_right _ (List.mem_append_right _ (List.mem_append_left _ h))))))
theorem lw_m7 : ∀ w ∈ tables_1_7, w ∈ lw_tbl := fun w h => show w ∈ k2_sels lw_privs ++ tables_1 from List.mem_append_right (k2_sels lw_privs) (show w ∈ tables_1 from List.mem_append_right _ (List.mem_append_right _ (List.mem_append_right _ (List.mem_append_right _ (List.mem_append_right _ (List.mem_append_right _ (List.mem_append_left _ h)))))))
theorem lw_m8 : ∀ w ∈ tables_1_8, w ∈ lw_tbl := fun w h => show w ∈ k2_sels lw_privs ++ tables_1 from List.mem_append_right (k2_sels lw_privs) (show w ∈ tables_1 from List.mem_append_right _ (List.mem_append_right _ (List.mem_append_right _ (List.mem_append_right _ (List.mem_append_right _ (List.mem_append_right _ (List.mem_append_right _ (List.mem_append_left _ h))))))))
theorem lw_m9 : ∀ w ∈ tables_1_9, w ∈ lw_tbl := fun w h => show w ∈ k2_sels lw_privs ++ tables_1 from List.mem_append_right (k2_sels lw_privs) (show w ∈ tables_1 from List.mem_append_right _ (List.mem_append_right _ (List.mem_append_right _ (List.mem_append_right _ (List.mem_append_right _ (List.mem_append_right _ (List.mem_append_right _ (List.mem_append_right _ h))))))))
theorem qs0 : (Cond.selects "PassagePapers" ⟨"PassagePapers", "within", "(III)V"⟩ ⟨"PassagePapers", "within", "(III)V"⟩) ∈ lw_all := lw_g (lw_at lw_ms 0 rfl) rfl
theorem qs1 : (Cond.selects "java/lang/Throwable" ⟨"java/lang/Throwable", "fillInStackTrace", "(I)Ljava/lang/Throwable;"⟩ ⟨"java/lang/Throwable", "fillInStackTrace", "(I)Ljava/lang/Throwable;"⟩) ∈ lw_all := lw_g (lw_at lw_ms 1 rfl) rfl
theorem qs2 : (Cond.selects "PassagePapers" ⟨"PassagePapers", "reader", "(I)LPassagePapers$Reader;"⟩ ⟨"PassagePapers", "reader", "(I)LPassagePapers$Reader;"⟩) ∈ lw_all := lw_g (lw_at lw_ms 2 rfl) rfl
theorem qs3 : (Cond.selects "PassagePapers$Reader" ⟨"PassagePapers$Reader", "byteAt", "(I)I"⟩ ⟨"PassagePapers$Reader", "byteAt", "(I)I"⟩) ∈ lw_all := lw_g (lw_at lw_ms 3 rfl) rfl
theorem qs4 : (Cond.selects "PassagePapers$RegisterReader" ⟨"PassagePapers$RegisterReader", "clause", "()V"⟩ ⟨"PassagePapers$RegisterReader", "clause", "()V"⟩) ∈ lw_all := lw_g (lw_at lw_ms 4 rfl) rfl
theorem qs5 : (Cond.selects "PassagePapers$RegisterReader" ⟨"PassagePapers$RegisterReader", "signer", "(I)V"⟩ ⟨"PassagePapers$RegisterReader", "signer", "(I)V"⟩) ∈ lw_all := lw_g (lw_at lw_ms 5 rfl) rfl
theorem qs6 : (Cond.selects "PassagePapers$RegisterReader" ⟨"PassagePapers$RegisterReader", "taker", "(I)V"⟩ ⟨"PassagePapers$RegisterReader", "taker", "(I)V"⟩) ∈ lw_all := lw_g (lw_at lw_ms 6 rfl) rfl
theorem qs7 : (Cond.selects "PassagePapers" ⟨"PassagePapers", "faulty", "(LPassagePapers$Wrong;)I"⟩ ⟨"PassagePapers", "faulty", "(LPassagePapers$Wrong;)I"⟩) ∈ lw_all := lw_g (lw_at lw_ms 7 rfl) rfl
theorem qs8 : (Cond.selects "PassagePapers$LawReader" ⟨"PassagePapers$LawReader", "sum", "()LPassagePapers$Term;"⟩ ⟨"PassagePapers$LawReader", "sum", "()LPassagePapers$Term;"⟩) ∈ lw_all := lw_g (lw_at lw_ms 8 rfl) rfl
theorem qs9 : (Cond.selects "PassagePapers$LawReader" ⟨"PassagePapers$LawReader", "product", "()LPassagePapers$Term;"⟩ ⟨"PassagePapers$LawReader", "product", "()LPassagePapers$Term;"⟩) ∈ lw_all := lw_g (lw_at lw_ms 9 rfl) rfl
theorem qs10 : (Cond.selects "PassagePapers$LawReader" ⟨"PassagePapers$LawReader", "value", "()LPassagePapers$Term;"⟩ ⟨"PassagePapers$LawReader", "value", "()LPassagePapers$Term;"⟩) ∈ lw_all := lw_g (lw_at lw_ms 10 rfl) rfl
theorem qs11 : (Cond.selects "PassagePapers$WorkReader" ⟨"PassagePapers$WorkReader", "step", "()LPassagePapers$Step;"⟩ ⟨"PassagePapers$WorkReader", "step", "()LPassagePapers$Step;"⟩) ∈ lw_all := lw_g (lw_at lw_ms 11 rfl) rfl
theorem qs12 : (Cond.selects "PassagePapers$WorkReader" ⟨"PassagePapers$WorkReader", "signer", "()I"⟩ ⟨"PassagePapers$WorkReader", "signer", "()I"⟩) ∈ lw_all := lw_g (lw_at lw_ms 12 rfl) rfl
theorem qs13 : (Cond.selects "PassagePapers$WorkReader" ⟨"PassagePapers$WorkReader", "again", "()LPassagePapers$Row;"⟩ ⟨"PassagePapers$WorkReader", "again", "()LPassagePapers$Row;"⟩) ∈ lw_all := lw_g (lw_at lw_ms 13 rfl) rfl
theorem qs14 : (Cond.selects "PassagePapers$State" ⟨"PassagePapers$State", "frees", "(I)V"⟩ ⟨"PassagePapers$State", "frees", "(I)V"⟩) ∈ lw_all := lw_g (lw_at lw_ms 14 rfl) rfl
theorem qs15 : (Cond.selects "PassagePapers" ⟨"PassagePapers", "signerOf", "(I)V"⟩ ⟨"PassagePapers", "signerOf", "(I)V"⟩) ∈ lw_all := lw_g (lw_at lw_ms 15 rfl) rfl
theorem qs16 : (Cond.selects "PassagePapers" ⟨"PassagePapers", "takerOf", "(I)V"⟩ ⟨"PassagePapers", "takerOf", "(I)V"⟩) ∈ lw_all := lw_g (lw_at lw_ms 16 rfl) rfl
theorem qs17 : (Cond.selects "PassagePapers" ⟨"PassagePapers", "freeBy", "(II)I"⟩ ⟨"PassagePapers", "freeBy", "(II)I"⟩) ∈ lw_all := lw_g (lw_at lw_ms 17 rfl) rfl
theorem qs18 : (Cond.selects "PassagePapers" ⟨"PassagePapers", "tried", "()LPassagePapers$State;"⟩ ⟨"PassagePapers", "tried", "()LPassagePapers$State;"⟩) ∈ lw_all := lw_g (lw_at lw_ms 18 rfl) rfl
theorem qs19 : (Cond.selects "PassagePapers$Places" ⟨"PassagePapers$Places", "mostOf", "(I)I"⟩ ⟨"PassagePapers$Places", "mostOf", "(I)I"⟩) ∈ lw_all := lw_g (lw_at lw_ms 19 rfl) rfl
theorem qs20 : (Cond.selects "PassagePapers$Places" ⟨"PassagePapers$Places", "tries", "(II)V"⟩ ⟨"PassagePapers$Places", "tries", "(II)V"⟩) ∈ lw_all := lw_g (lw_at lw_ms 20 rfl) rfl
theorem qs21 : (Cond.selects "PassagePapers$Places" ⟨"PassagePapers$Places", "kinAt", "(I)I"⟩ ⟨"PassagePapers$Places", "kinAt", "(I)I"⟩) ∈ lw_all := lw_g (lw_at lw_ms 21 rfl) rfl
theorem qs22 : (Cond.selects "PassagePapers" ⟨"PassagePapers", "isSaid", "(I)Z"⟩ ⟨"PassagePapers", "isSaid", "(I)Z"⟩) ∈ lw_all := lw_g (lw_at lw_ms 22 rfl) rfl
theorem qs23 : (Cond.selects "PassagePapers" ⟨"PassagePapers", "counts", "(I)V"⟩ ⟨"PassagePapers", "counts", "(I)V"⟩) ∈ lw_all := lw_g (lw_at lw_ms 23 rfl) rfl
theorem qs24 : (Cond.selects "PassagePapers" ⟨"PassagePapers", "isTold", "(I)Z"⟩ ⟨"PassagePapers", "isTold", "(I)Z"⟩) ∈ lw_all := lw_g (lw_at lw_ms 24 rfl) rfl
theorem qs25 : (Cond.selects "PassagePapers" ⟨"PassagePapers", "odd", "(I)V"⟩ ⟨"PassagePapers", "odd", "(I)V"⟩) ∈ lw_all := lw_g (lw_at lw_ms 25 rfl) rfl
theorem qs26 : (Cond.selects "PassagePapers" ⟨"PassagePapers", "voyageOf", "(III)V"⟩ ⟨"PassagePapers", "voyageOf", "(III)V"⟩) ∈ lw_all := lw_g (lw_at lw_ms 26 rfl) rfl
theorem qs27 : (Cond.selects "PassagePapers" ⟨"PassagePapers", "sails", "(IIII)LPassagePapers$State;"⟩ ⟨"PassagePapers", "sails", "(IIII)LPassagePapers$State;"⟩) ∈ lw_all := lw_g (lw_at lw_ms 27 rfl) rfl
theorem qs28 : (Cond.selects "PassagePapers" ⟨"PassagePapers", "hungrier", "(LPassagePapers$State;)I"⟩ ⟨"PassagePapers", "hungrier", "(LPassagePapers$State;)I"⟩) ∈ lw_all := lw_g (lw_at lw_ms 28 rfl) rfl
theorem qs29 : (Cond.selects "PassagePapersModel" ⟨"PassagePapersModel", "clears", "()V"⟩ ⟨"PassagePapersModel", "clears", "()V"⟩) ∈ lw_all := lw_g (lw_at lw_ms 29 rfl) rfl
theorem qs30 : (Cond.selects "PassagePapersModel" ⟨"PassagePapersModel", "sets", "()V"⟩ ⟨"PassagePapersModel", "sets", "()V"⟩) ∈ lw_all := lw_g (lw_at lw_ms 30 rfl) rfl
theorem qs31 : (Cond.selects "PassagePapersModel" ⟨"PassagePapersModel", "copies", "([I[II)V"⟩ ⟨"PassagePapersModel", "copies", "([I[II)V"⟩) ∈ lw_all := lw_g (lw_at lw_ms 31 rfl) rfl
theorem qs32 : (Cond.selects "PassagePapersModel" ⟨"PassagePapersModel", "may", "(ZII)Z"⟩ ⟨"PassagePapersModel", "may", "(ZII)Z"⟩) ∈ lw_all := lw_g (lw_at lw_ms 32 rfl) rfl
theorem qs33 : (Cond.selects "PassagePapersModel" ⟨"PassagePapersModel", "begins", "(I)V"⟩ ⟨"PassagePapersModel", "begins", "(I)V"⟩) ∈ lw_all := lw_g (lw_at lw_ms 33 rfl) rfl
theorem qs34 : (Cond.selects "PassagePapersModel" ⟨"PassagePapersModel", "fine", "()Z"⟩ ⟨"PassagePapersModel", "fine", "()Z"⟩) ∈ lw_all := lw_g (lw_at lw_ms 34 rfl) rfl
theorem qs35 : (Cond.selects "PassagePapersModel" ⟨"PassagePapersModel", "isMore", "()Z"⟩ ⟨"PassagePapersModel", "isMore", "()Z"⟩) ∈ lw_all := lw_g (lw_at lw_ms 35 rfl) rfl
theorem qs36 : (Cond.selects "PassagePapersModel" ⟨"PassagePapersModel", "here", "()I"⟩ ⟨"PassagePapersModel", "here", "()I"⟩) ∈ lw_all := lw_g (lw_at lw_ms 36 rfl) rfl
theorem qs37 : (Cond.selects "PassagePapersModel" ⟨"PassagePapersModel", "standsHere", "(Ljava/lang/String;)Z"⟩ ⟨"PassagePapersModel", "standsHere", "(Ljava/lang/String;)Z"⟩) ∈ lw_all := lw_g (lw_at lw_ms 37 rfl) rfl
theorem qs38 : (Cond.selects "PassagePapersModel" ⟨"PassagePapersModel", "word", "()I"⟩ ⟨"PassagePapersModel", "word", "()I"⟩) ∈ lw_all := lw_g (lw_at lw_ms 38 rfl) rfl
theorem qs39 : (Cond.selects "PassagePapersModel" ⟨"PassagePapersModel", "wrong", "(II)V"⟩ ⟨"PassagePapersModel", "wrong", "(II)V"⟩) ∈ lw_all := lw_g (lw_at lw_ms 39 rfl) rfl
theorem qs40 : (Cond.selects "PassagePapersModel" ⟨"PassagePapersModel", "pass", "()V"⟩ ⟨"PassagePapersModel", "pass", "()V"⟩) ∈ lw_all := lw_g (lw_at lw_ms 40 rfl) rfl
theorem qs41 : (Cond.selects "PassagePapersModel" ⟨"PassagePapersModel", "readKinsman", "()V"⟩ ⟨"PassagePapersModel", "readKinsman", "()V"⟩) ∈ lw_all := lw_g (lw_at lw_ms 41 rfl) rfl
theorem qs42 : (Cond.selects "PassagePapersModel" ⟨"PassagePapersModel", "readNumber", "(II)I"⟩ ⟨"PassagePapersModel", "readNumber", "(II)I"⟩) ∈ lw_all := lw_g (lw_at lw_ms 42 rfl) rfl
theorem qs43 : (Cond.selects "PassagePapersModel" ⟨"PassagePapersModel", "readRow", "(I)V"⟩ ⟨"PassagePapersModel", "readRow", "(I)V"⟩) ∈ lw_all := lw_g (lw_at lw_ms 43 rfl) rfl
theorem qs44 : (Cond.selects "PassagePapersModel" ⟨"PassagePapersModel", "sign", "(I)V"⟩ ⟨"PassagePapersModel", "sign", "(I)V"⟩) ∈ lw_all := lw_g (lw_at lw_ms 44 rfl) rfl
theorem qs45 : (Cond.selects "PassagePapersModel" ⟨"PassagePapersModel", "result", "(I)I"⟩ ⟨"PassagePapersModel", "result", "(I)I"⟩) ∈ lw_all := lw_g (lw_at lw_ms 45 rfl) rfl
theorem qs46 : (Cond.selects "PassagePapersModel" ⟨"PassagePapersModel", "readSum", "()V"⟩ ⟨"PassagePapersModel", "readSum", "()V"⟩) ∈ lw_all := lw_g (lw_at lw_ms 46 rfl) rfl
theorem qs47 : (Cond.selects "PassagePapersModel" ⟨"PassagePapersModel", "readProduct", "()V"⟩ ⟨"PassagePapersModel", "readProduct", "()V"⟩) ∈ lw_all := lw_g (lw_at lw_ms 47 rfl) rfl
theorem qs48 : (Cond.selects "PassagePapersModel" ⟨"PassagePapersModel", "readUnit", "()V"⟩ ⟨"PassagePapersModel", "readUnit", "()V"⟩) ∈ lw_all := lw_g (lw_at lw_ms 48 rfl) rfl
theorem qs49 : (Cond.selects "PassagePapersModel" ⟨"PassagePapersModel", "opensOne", "(I)V"⟩ ⟨"PassagePapersModel", "opensOne", "(I)V"⟩) ∈ lw_all := lw_g (lw_at lw_ms 49 rfl) rfl
theorem qs50 : (Cond.selects "PassagePapersModel" ⟨"PassagePapersModel", "emit", "(II)V"⟩ ⟨"PassagePapersModel", "emit", "(II)V"⟩) ∈ lw_all := lw_g (lw_at lw_ms 50 rfl) rfl
theorem qs51 : (Cond.selects "PassagePapersModel" ⟨"PassagePapersModel", "readTwo", "(II)V"⟩ ⟨"PassagePapersModel", "readTwo", "(II)V"⟩) ∈ lw_all := lw_g (lw_at lw_ms 51 rfl) rfl
theorem qs52 : (Cond.selects "PassagePapersModel" ⟨"PassagePapersModel", "factHere", "()I"⟩ ⟨"PassagePapersModel", "factHere", "()I"⟩) ∈ lw_all := lw_g (lw_at lw_ms 52 rfl) rfl
theorem qs53 : (Cond.selects "PassagePapersModel" ⟨"PassagePapersModel", "readStep", "()V"⟩ ⟨"PassagePapersModel", "readStep", "()V"⟩) ∈ lw_all := lw_g (lw_at lw_ms 53 rfl) rfl
theorem qs54 : (Cond.selects "PassagePapersModel" ⟨"PassagePapersModel", "tellsStep", "(III)V"⟩ ⟨"PassagePapersModel", "tellsStep", "(III)V"⟩) ∈ lw_all := lw_g (lw_at lw_ms 54 rfl) rfl
theorem qs55 : (Cond.selects "PassagePapersModel" ⟨"PassagePapersModel", "readOne", "()I"⟩ ⟨"PassagePapersModel", "readOne", "()I"⟩) ∈ lw_all := lw_g (lw_at lw_ms 55 rfl) rfl
theorem qs56 : (Cond.selects "PassagePapersModel" ⟨"PassagePapersModel", "take", "()V"⟩ ⟨"PassagePapersModel", "take", "()V"⟩) ∈ lw_all := lw_g (lw_at lw_ms 56 rfl) rfl
theorem qs57 : (Cond.selects "PassagePapersModel" ⟨"PassagePapersModel", "goesSteps", "(II)V"⟩ ⟨"PassagePapersModel", "goesSteps", "(II)V"⟩) ∈ lw_all := lw_g (lw_at lw_ms 57 rfl) rfl
theorem qs58 : (Cond.selects "PassagePapersModel" ⟨"PassagePapersModel", "goes", "(III)Z"⟩ ⟨"PassagePapersModel", "goes", "(III)Z"⟩) ∈ lw_all := lw_g (lw_at lw_ms 58 rfl) rfl
theorem qs59 : (Cond.selects "PassagePapersModel" ⟨"PassagePapersModel", "lands", "()Z"⟩ ⟨"PassagePapersModel", "lands", "()Z"⟩) ∈ lw_all := lw_g (lw_at lw_ms 59 rfl) rfl
theorem qs60 : (Cond.selects "PassagePapersModel" ⟨"PassagePapersModel", "many", "(I)I"⟩ ⟨"PassagePapersModel", "many", "(I)I"⟩) ∈ lw_all := lw_g (lw_at lw_ms 60 rfl) rfl
theorem qs61 : (Cond.selects "PassagePapersModel" ⟨"PassagePapersModel", "places", "(II)Z"⟩ ⟨"PassagePapersModel", "places", "(II)Z"⟩) ∈ lw_all := lw_g (lw_at lw_ms 61 rfl) rfl
theorem qs62 : (Cond.selects "PassagePapersModel" ⟨"PassagePapersModel", "boundTo", "(I)I"⟩ ⟨"PassagePapersModel", "boundTo", "(I)I"⟩) ∈ lw_all := lw_g (lw_at lw_ms 62 rfl) rfl
theorem qs63 : (Cond.selects "PassagePapersModel" ⟨"PassagePapersModel", "loses", "(II)Z"⟩ ⟨"PassagePapersModel", "loses", "(II)Z"⟩) ∈ lw_all := lw_g (lw_at lw_ms 63 rfl) rfl
theorem qs64 : (Cond.selects "PassagePapersModel" ⟨"PassagePapersModel", "pays", "(I)Z"⟩ ⟨"PassagePapersModel", "pays", "(I)Z"⟩) ∈ lw_all := lw_g (lw_at lw_ms 64 rfl) rfl
theorem qs65 : (Cond.selects "PassagePapersModel" ⟨"PassagePapersModel", "canPayNow", "(I)Z"⟩ ⟨"PassagePapersModel", "canPayNow", "(I)Z"⟩) ∈ lw_all := lw_g (lw_at lw_ms 65 rfl) rfl
theorem qs66 : (Cond.selects "PassagePapersModel" ⟨"PassagePapersModel", "owesOf", "(I)I"⟩ ⟨"PassagePapersModel", "owesOf", "(I)I"⟩) ∈ lw_all := lw_g (lw_at lw_ms 66 rfl) rfl
theorem qs67 : (Cond.selects "PassagePapersModel" ⟨"PassagePapersModel", "asksBy", "(II)I"⟩ ⟨"PassagePapersModel", "asksBy", "(II)I"⟩) ∈ lw_all := lw_g (lw_at lw_ms 67 rfl) rfl
theorem qs68 : (Cond.selects "PassagePapersModel" ⟨"PassagePapersModel", "asksOf", "(IIII)I"⟩ ⟨"PassagePapersModel", "asksOf", "(IIII)I"⟩) ∈ lw_all := lw_g (lw_at lw_ms 68 rfl) rfl
theorem qs69 : (Cond.selects "PassagePapersModel" ⟨"PassagePapersModel", "kinMany", "(I)I"⟩ ⟨"PassagePapersModel", "kinMany", "(I)I"⟩) ∈ lw_all := lw_g (lw_at lw_ms 69 rfl) rfl
theorem qs70 : (Cond.selects "PassagePapersModel" ⟨"PassagePapersModel", "areKin", "(II)Z"⟩ ⟨"PassagePapersModel", "areKin", "(II)Z"⟩) ∈ lw_all := lw_g (lw_at lw_ms 70 rfl) rfl
theorem qs71 : (Cond.selects "PassagePapersModel" ⟨"PassagePapersModel", "asksNow", "(I)I"⟩ ⟨"PassagePapersModel", "asksNow", "(I)I"⟩) ∈ lw_all := lw_g (lw_at lw_ms 71 rfl) rfl
theorem qs72 : (Cond.selects "PassagePapersModel" ⟨"PassagePapersModel", "valueOf", "(I)I"⟩ ⟨"PassagePapersModel", "valueOf", "(I)I"⟩) ∈ lw_all := lw_g (lw_at lw_ms 72 rfl) rfl
theorem qs73 : (Cond.selects "PassagePapersModel" ⟨"PassagePapersModel", "frees", "(I)V"⟩ ⟨"PassagePapersModel", "frees", "(I)V"⟩) ∈ lw_all := lw_g (lw_at lw_ms 73 rfl) rfl
theorem qs74 : (Cond.selects "PassagePapersModel" ⟨"PassagePapersModel", "passes", "()V"⟩ ⟨"PassagePapersModel", "passes", "()V"⟩) ∈ lw_all := lw_g (lw_at lw_ms 74 rfl) rfl
theorem qs75 : (Cond.selects "PassagePapersModel" ⟨"PassagePapersModel", "isSigner", "(II)Z"⟩ ⟨"PassagePapersModel", "isSigner", "(II)Z"⟩) ∈ lw_all := lw_g (lw_at lw_ms 75 rfl) rfl
theorem qs76 : (Cond.selects "PassagePapersModel" ⟨"PassagePapersModel", "isTaker", "(II)Z"⟩ ⟨"PassagePapersModel", "isTaker", "(II)Z"⟩) ∈ lw_all := lw_g (lw_at lw_ms 76 rfl) rfl
theorem qs77 : (Cond.selects "PassagePapersModel" ⟨"PassagePapersModel", "freeBy", "(II)I"⟩ ⟨"PassagePapersModel", "freeBy", "(II)I"⟩) ∈ lw_all := lw_g (lw_at lw_ms 77 rfl) rfl
theorem qs78 : (Cond.selects "PassagePapersModel" ⟨"PassagePapersModel", "givesFor", "(II)I"⟩ ⟨"PassagePapersModel", "givesFor", "(II)I"⟩) ∈ lw_all := lw_g (lw_at lw_ms 78 rfl) rfl
theorem qs79 : (Cond.selects "PassagePapersModel" ⟨"PassagePapersModel", "findBest", "()V"⟩ ⟨"PassagePapersModel", "findBest", "()V"⟩) ∈ lw_all := lw_g (lw_at lw_ms 79 rfl) rfl
theorem qs80 : (Cond.selects "PassagePapersModel" ⟨"PassagePapersModel", "waysOn", "(II)V"⟩ ⟨"PassagePapersModel", "waysOn", "(II)V"⟩) ∈ lw_all := lw_g (lw_at lw_ms 80 rfl) rfl
theorem qs81 : (Cond.selects "PassagePapersModel" ⟨"PassagePapersModel", "mayBeWith", "(II)Z"⟩ ⟨"PassagePapersModel", "mayBeWith", "(II)Z"⟩) ∈ lw_all := lw_g (lw_at lw_ms 81 rfl) rfl
theorem qs82 : (Cond.selects "PassagePapersModel" ⟨"PassagePapersModel", "findTerms", "(I)V"⟩ ⟨"PassagePapersModel", "findTerms", "(I)V"⟩) ∈ lw_all := lw_g (lw_at lw_ms 82 rfl) rfl
theorem qs83 : (Cond.selects "PassagePapersModel" ⟨"PassagePapersModel", "isTold", "(I)Z"⟩ ⟨"PassagePapersModel", "isTold", "(I)Z"⟩) ∈ lw_all := lw_g (lw_at lw_ms 83 rfl) rfl
theorem qs84 : (Cond.selects "PassagePapersModel" ⟨"PassagePapersModel", "worstAt", "(I)I"⟩ ⟨"PassagePapersModel", "worstAt", "(I)I"⟩) ∈ lw_all := lw_g (lw_at lw_ms 84 rfl) rfl
theorem qs85 : (Cond.selects "PassagePapersModel" ⟨"PassagePapersModel", "sails", "(IIII)V"⟩ ⟨"PassagePapersModel", "sails", "(IIII)V"⟩) ∈ lw_all := lw_g (lw_at lw_ms 85 rfl) rfl
theorem qs86 : (Cond.selects "PassagePapersModel" ⟨"PassagePapersModel", "draws", "()I"⟩ ⟨"PassagePapersModel", "draws", "()I"⟩) ∈ lw_all := lw_g (lw_at lw_ms 86 rfl) rfl
theorem qs87 : (Cond.selects "PassagePapersModel" ⟨"PassagePapersModel", "keepsAll", "(IZ)V"⟩ ⟨"PassagePapersModel", "keepsAll", "(IZ)V"⟩) ∈ lw_all := lw_g (lw_at lw_ms 87 rfl) rfl
theorem qs88 : (Cond.selects "PassagePapersModel" ⟨"PassagePapersModel", "keepsRow", "(I[IIZ)I"⟩ ⟨"PassagePapersModel", "keepsRow", "(I[IIZ)I"⟩) ∈ lw_all := lw_g (lw_at lw_ms 88 rfl) rfl
