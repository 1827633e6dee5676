/-! PassagePapersLaw -/
set_option maxRecDepth 100000
def RX0 : String := "PassagePapersLaw"
abbrev cX0_register : ByteArray := method_3_code
def yX0_register : MethodName := ⟨RX0, "register", "(LPassagePapers;I[J)I"⟩
def dkwX0_register_0 : List UInt8 := [44, 3, 42, 27, 182, 0, 7, 133, 80, 167, 0, 6, 78, 4, 172, 3, 172]
abbrev dktX0_register_0 : List UInt8 := dkwX0_register_0 ++ []
theorem dksX0_register_0 : cX0_register.data.toList.drop 0 = dktX0_register_0 := by decide +kernel
theorem dX0_register_0 : decode cX0_register 0 = .ok (.aload_n 2, 1) := dk_44 (dk_at dksX0_register_0 0 rfl rfl)
theorem dX0_register_1 : decode cX0_register 1 = .ok (.iconst 0, 1) := dk_3 (dk_at dksX0_register_0 1 rfl rfl)
theorem dX0_register_2 : decode cX0_register 2 = .ok (.aload_n 0, 1) := dk_42 (dk_at dksX0_register_0 2 rfl rfl)
theorem dX0_register_3 : decode cX0_register 3 = .ok (.iload_n 1, 1) := dk_27 (dk_at dksX0_register_0 3 rfl rfl)
theorem dX0_register_4 : decode cX0_register 4 = .ok (.invokevirtual 7, 3) := dk_182 0 7 (dk_at dksX0_register_0 4 rfl rfl)
theorem dX0_register_7 : decode cX0_register 7 = .ok (.i2l, 1) := dk_133 (dk_at dksX0_register_0 7 rfl rfl)
theorem dX0_register_8 : decode cX0_register 8 = .ok (.lastore, 1) := dk_80 (dk_at dksX0_register_0 8 rfl rfl)
theorem dX0_register_9 : decode cX0_register 9 = .ok (.goto 6, 3) := dk_167 0 6 (dk_at dksX0_register_0 9 rfl rfl)
theorem dX0_register_12 : decode cX0_register 12 = .ok (.astore_n 3, 1) := dk_78 (dk_at dksX0_register_0 12 rfl rfl)
theorem dX0_register_13 : decode cX0_register 13 = .ok (.iconst 1, 1) := dk_4 (dk_at dksX0_register_0 13 rfl rfl)
theorem dX0_register_14 : decode cX0_register 14 = .ok (.ireturn, 1) := dk_172 (dk_at dksX0_register_0 14 rfl rfl)
theorem dX0_register_15 : decode cX0_register 15 = .ok (.iconst 0, 1) := dk_3 (dk_at dksX0_register_0 15 rfl rfl)
theorem dX0_register_16 : decode cX0_register 16 = .ok (.ireturn, 1) := dk_172 (dk_at dksX0_register_0 16 rfl rfl)
abbrev cX0_law : ByteArray := method_4_code
def yX0_law : MethodName := ⟨RX0, "law", "(LPassagePapers;II[J)I"⟩
def dkwX0_law_0 : List UInt8 := [45, 3, 42, 27, 28, 182, 0, 15, 133, 80, 167, 0, 7, 58, 4, 4, 172, 3, 172]
abbrev dktX0_law_0 : List UInt8 := dkwX0_law_0 ++ []
theorem dksX0_law_0 : cX0_law.data.toList.drop 0 = dktX0_law_0 := by decide +kernel
theorem dX0_law_0 : decode cX0_law 0 = .ok (.aload_n 3, 1) := dk_45 (dk_at dksX0_law_0 0 rfl rfl)
theorem dX0_law_1 : decode cX0_law 1 = .ok (.iconst 0, 1) := dk_3 (dk_at dksX0_law_0 1 rfl rfl)
theorem dX0_law_2 : decode cX0_law 2 = .ok (.aload_n 0, 1) := dk_42 (dk_at dksX0_law_0 2 rfl rfl)
theorem dX0_law_3 : decode cX0_law 3 = .ok (.iload_n 1, 1) := dk_27 (dk_at dksX0_law_0 3 rfl rfl)
theorem dX0_law_4 : decode cX0_law 4 = .ok (.iload_n 2, 1) := dk_28 (dk_at dksX0_law_0 4 rfl rfl)
theorem dX0_law_5 : decode cX0_law 5 = .ok (.invokevirtual 15, 3) := dk_182 0 15 (dk_at dksX0_law_0 5 rfl rfl)
theorem dX0_law_8 : decode cX0_law 8 = .ok (.i2l, 1) := dk_133 (dk_at dksX0_law_0 8 rfl rfl)
theorem dX0_law_9 : decode cX0_law 9 = .ok (.lastore, 1) := dk_80 (dk_at dksX0_law_0 9 rfl rfl)
theorem dX0_law_10 : decode cX0_law 10 = .ok (.goto 7, 3) := dk_167 0 7 (dk_at dksX0_law_0 10 rfl rfl)
theorem dX0_law_13 : decode cX0_law 13 = .ok (.astore 4, 2) := dk_58 4 (dk_at dksX0_law_0 13 rfl rfl)
theorem dX0_law_15 : decode cX0_law 15 = .ok (.iconst 1, 1) := dk_4 (dk_at dksX0_law_0 15 rfl rfl)
theorem dX0_law_16 : decode cX0_law 16 = .ok (.ireturn, 1) := dk_172 (dk_at dksX0_law_0 16 rfl rfl)
theorem dX0_law_17 : decode cX0_law 17 = .ok (.iconst 0, 1) := dk_3 (dk_at dksX0_law_0 17 rfl rfl)
theorem dX0_law_18 : decode cX0_law 18 = .ok (.ireturn, 1) := dk_172 (dk_at dksX0_law_0 18 rfl rfl)
abbrev cX0_work : ByteArray := method_5_code
def yX0_work : MethodName := ⟨RX0, "work", "(LPassagePapers;I[J)I"⟩
def dkwX0_work_0 : List UInt8 := [44, 3, 42, 27, 182, 0, 19, 133, 80, 167, 0, 6, 78, 4, 172, 3, 172]
abbrev dktX0_work_0 : List UInt8 := dkwX0_work_0 ++ []
theorem dksX0_work_0 : cX0_work.data.toList.drop 0 = dktX0_work_0 := by decide +kernel
theorem dX0_work_0 : decode cX0_work 0 = .ok (.aload_n 2, 1) := dk_44 (dk_at dksX0_work_0 0 rfl rfl)
theorem dX0_work_1 : decode cX0_work 1 = .ok (.iconst 0, 1) := dk_3 (dk_at dksX0_work_0 1 rfl rfl)
theorem dX0_work_2 : decode cX0_work 2 = .ok (.aload_n 0, 1) := dk_42 (dk_at dksX0_work_0 2 rfl rfl)
theorem dX0_work_3 : decode cX0_work 3 = .ok (.iload_n 1, 1) := dk_27 (dk_at dksX0_work_0 3 rfl rfl)
theorem dX0_work_4 : decode cX0_work 4 = .ok (.invokevirtual 19, 3) := dk_182 0 19 (dk_at dksX0_work_0 4 rfl rfl)
theorem dX0_work_7 : decode cX0_work 7 = .ok (.i2l, 1) := dk_133 (dk_at dksX0_work_0 7 rfl rfl)
theorem dX0_work_8 : decode cX0_work 8 = .ok (.lastore, 1) := dk_80 (dk_at dksX0_work_0 8 rfl rfl)
theorem dX0_work_9 : decode cX0_work 9 = .ok (.goto 6, 3) := dk_167 0 6 (dk_at dksX0_work_0 9 rfl rfl)
theorem dX0_work_12 : decode cX0_work 12 = .ok (.astore_n 3, 1) := dk_78 (dk_at dksX0_work_0 12 rfl rfl)
theorem dX0_work_13 : decode cX0_work 13 = .ok (.iconst 1, 1) := dk_4 (dk_at dksX0_work_0 13 rfl rfl)
theorem dX0_work_14 : decode cX0_work 14 = .ok (.ireturn, 1) := dk_172 (dk_at dksX0_work_0 14 rfl rfl)
theorem dX0_work_15 : decode cX0_work 15 = .ok (.iconst 0, 1) := dk_3 (dk_at dksX0_work_0 15 rfl rfl)
theorem dX0_work_16 : decode cX0_work 16 = .ok (.ireturn, 1) := dk_172 (dk_at dksX0_work_0 16 rfl rfl)
abbrev cX0_book : ByteArray := method_6_code
def yX0_book : MethodName := ⟨RX0, "book", "(LPassagePapers;I[J)I"⟩
def dkwX0_book_0 : List UInt8 := [44, 3, 42, 27, 182, 0, 22, 133, 80, 167, 0, 6, 78, 4, 172, 3, 172]
abbrev dktX0_book_0 : List UInt8 := dkwX0_book_0 ++ []
theorem dksX0_book_0 : cX0_book.data.toList.drop 0 = dktX0_book_0 := by decide +kernel
theorem dX0_book_0 : decode cX0_book 0 = .ok (.aload_n 2, 1) := dk_44 (dk_at dksX0_book_0 0 rfl rfl)
theorem dX0_book_1 : decode cX0_book 1 = .ok (.iconst 0, 1) := dk_3 (dk_at dksX0_book_0 1 rfl rfl)
theorem dX0_book_2 : decode cX0_book 2 = .ok (.aload_n 0, 1) := dk_42 (dk_at dksX0_book_0 2 rfl rfl)
theorem dX0_book_3 : decode cX0_book 3 = .ok (.iload_n 1, 1) := dk_27 (dk_at dksX0_book_0 3 rfl rfl)
theorem dX0_book_4 : decode cX0_book 4 = .ok (.invokevirtual 22, 3) := dk_182 0 22 (dk_at dksX0_book_0 4 rfl rfl)
theorem dX0_book_7 : decode cX0_book 7 = .ok (.i2l, 1) := dk_133 (dk_at dksX0_book_0 7 rfl rfl)
theorem dX0_book_8 : decode cX0_book 8 = .ok (.lastore, 1) := dk_80 (dk_at dksX0_book_0 8 rfl rfl)
theorem dX0_book_9 : decode cX0_book 9 = .ok (.goto 6, 3) := dk_167 0 6 (dk_at dksX0_book_0 9 rfl rfl)
theorem dX0_book_12 : decode cX0_book 12 = .ok (.astore_n 3, 1) := dk_78 (dk_at dksX0_book_0 12 rfl rfl)
theorem dX0_book_13 : decode cX0_book 13 = .ok (.iconst 1, 1) := dk_4 (dk_at dksX0_book_0 13 rfl rfl)
theorem dX0_book_14 : decode cX0_book 14 = .ok (.ireturn, 1) := dk_172 (dk_at dksX0_book_0 14 rfl rfl)
theorem dX0_book_15 : decode cX0_book 15 = .ok (.iconst 0, 1) := dk_3 (dk_at dksX0_book_0 15 rfl rfl)
theorem dX0_book_16 : decode cX0_book 16 = .ok (.ireturn, 1) := dk_172 (dk_at dksX0_book_0 16 rfl rfl)
abbrev cX0_told : ByteArray := method_7_code
def yX0_told : MethodName := ⟨RX0, "told", "(LPassagePapers;I[J)I"⟩
def dkwX0_told_0 : List UInt8 := [44, 3, 42, 27, 182, 0, 25, 133, 80, 167, 0, 6, 78, 4, 172, 3, 172]
abbrev dktX0_told_0 : List UInt8 := dkwX0_told_0 ++ []
theorem dksX0_told_0 : cX0_told.data.toList.drop 0 = dktX0_told_0 := by decide +kernel
theorem dX0_told_0 : decode cX0_told 0 = .ok (.aload_n 2, 1) := dk_44 (dk_at dksX0_told_0 0 rfl rfl)
theorem dX0_told_1 : decode cX0_told 1 = .ok (.iconst 0, 1) := dk_3 (dk_at dksX0_told_0 1 rfl rfl)
theorem dX0_told_2 : decode cX0_told 2 = .ok (.aload_n 0, 1) := dk_42 (dk_at dksX0_told_0 2 rfl rfl)
theorem dX0_told_3 : decode cX0_told 3 = .ok (.iload_n 1, 1) := dk_27 (dk_at dksX0_told_0 3 rfl rfl)
theorem dX0_told_4 : decode cX0_told 4 = .ok (.invokevirtual 25, 3) := dk_182 0 25 (dk_at dksX0_told_0 4 rfl rfl)
theorem dX0_told_7 : decode cX0_told 7 = .ok (.i2l, 1) := dk_133 (dk_at dksX0_told_0 7 rfl rfl)
theorem dX0_told_8 : decode cX0_told 8 = .ok (.lastore, 1) := dk_80 (dk_at dksX0_told_0 8 rfl rfl)
theorem dX0_told_9 : decode cX0_told 9 = .ok (.goto 6, 3) := dk_167 0 6 (dk_at dksX0_told_0 9 rfl rfl)
theorem dX0_told_12 : decode cX0_told 12 = .ok (.astore_n 3, 1) := dk_78 (dk_at dksX0_told_0 12 rfl rfl)
theorem dX0_told_13 : decode cX0_told 13 = .ok (.iconst 1, 1) := dk_4 (dk_at dksX0_told_0 13 rfl rfl)
theorem dX0_told_14 : decode cX0_told 14 = .ok (.ireturn, 1) := dk_172 (dk_at dksX0_told_0 14 rfl rfl)
theorem dX0_told_15 : decode cX0_told 15 = .ok (.iconst 0, 1) := dk_3 (dk_at dksX0_told_0 15 rfl rfl)
theorem dX0_told_16 : decode cX0_told 16 = .ok (.ireturn, 1) := dk_172 (dk_at dksX0_told_0 16 rfl rfl)
abbrev cX0_signer : ByteArray := method_8_code
def yX0_signer : MethodName := ⟨RX0, "signer", "(LPassagePapers;II[J)I"⟩
def dkwX0_signer_0 : List UInt8 := [45, 3, 42, 27, 28, 182, 0, 28, 133, 80, 167, 0, 11, 58, 4, 4, 172, 58, 4, 5, 172, 3, 172]
abbrev dktX0_signer_0 : List UInt8 := dkwX0_signer_0 ++ []
theorem dksX0_signer_0 : cX0_signer.data.toList.drop 0 = dktX0_signer_0 := by decide +kernel
theorem dX0_signer_0 : decode cX0_signer 0 = .ok (.aload_n 3, 1) := dk_45 (dk_at dksX0_signer_0 0 rfl rfl)
theorem dX0_signer_1 : decode cX0_signer 1 = .ok (.iconst 0, 1) := dk_3 (dk_at dksX0_signer_0 1 rfl rfl)
theorem dX0_signer_2 : decode cX0_signer 2 = .ok (.aload_n 0, 1) := dk_42 (dk_at dksX0_signer_0 2 rfl rfl)
theorem dX0_signer_3 : decode cX0_signer 3 = .ok (.iload_n 1, 1) := dk_27 (dk_at dksX0_signer_0 3 rfl rfl)
theorem dX0_signer_4 : decode cX0_signer 4 = .ok (.iload_n 2, 1) := dk_28 (dk_at dksX0_signer_0 4 rfl rfl)
theorem dX0_signer_5 : decode cX0_signer 5 = .ok (.invokevirtual 28, 3) := dk_182 0 28 (dk_at dksX0_signer_0 5 rfl rfl)
theorem dX0_signer_8 : decode cX0_signer 8 = .ok (.i2l, 1) := dk_133 (dk_at dksX0_signer_0 8 rfl rfl)
theorem dX0_signer_9 : decode cX0_signer 9 = .ok (.lastore, 1) := dk_80 (dk_at dksX0_signer_0 9 rfl rfl)
theorem dX0_signer_10 : decode cX0_signer 10 = .ok (.goto 11, 3) := dk_167 0 11 (dk_at dksX0_signer_0 10 rfl rfl)
theorem dX0_signer_13 : decode cX0_signer 13 = .ok (.astore 4, 2) := dk_58 4 (dk_at dksX0_signer_0 13 rfl rfl)
theorem dX0_signer_15 : decode cX0_signer 15 = .ok (.iconst 1, 1) := dk_4 (dk_at dksX0_signer_0 15 rfl rfl)
theorem dX0_signer_16 : decode cX0_signer 16 = .ok (.ireturn, 1) := dk_172 (dk_at dksX0_signer_0 16 rfl rfl)
theorem dX0_signer_17 : decode cX0_signer 17 = .ok (.astore 4, 2) := dk_58 4 (dk_at dksX0_signer_0 17 rfl rfl)
theorem dX0_signer_19 : decode cX0_signer 19 = .ok (.iconst 2, 1) := dk_5 (dk_at dksX0_signer_0 19 rfl rfl)
theorem dX0_signer_20 : decode cX0_signer 20 = .ok (.ireturn, 1) := dk_172 (dk_at dksX0_signer_0 20 rfl rfl)
theorem dX0_signer_21 : decode cX0_signer 21 = .ok (.iconst 0, 1) := dk_3 (dk_at dksX0_signer_0 21 rfl rfl)
theorem dX0_signer_22 : decode cX0_signer 22 = .ok (.ireturn, 1) := dk_172 (dk_at dksX0_signer_0 22 rfl rfl)
abbrev cX0_taker : ByteArray := method_9_code
def yX0_taker : MethodName := ⟨RX0, "taker", "(LPassagePapers;II[J)I"⟩
def dkwX0_taker_0 : List UInt8 := [45, 3, 42, 27, 28, 182, 0, 33, 133, 80, 167, 0, 11, 58, 4, 4, 172, 58, 4, 5, 172, 3, 172]
abbrev dktX0_taker_0 : List UInt8 := dkwX0_taker_0 ++ []
theorem dksX0_taker_0 : cX0_taker.data.toList.drop 0 = dktX0_taker_0 := by decide +kernel
theorem dX0_taker_0 : decode cX0_taker 0 = .ok (.aload_n 3, 1) := dk_45 (dk_at dksX0_taker_0 0 rfl rfl)
theorem dX0_taker_1 : decode cX0_taker 1 = .ok (.iconst 0, 1) := dk_3 (dk_at dksX0_taker_0 1 rfl rfl)
theorem dX0_taker_2 : decode cX0_taker 2 = .ok (.aload_n 0, 1) := dk_42 (dk_at dksX0_taker_0 2 rfl rfl)
theorem dX0_taker_3 : decode cX0_taker 3 = .ok (.iload_n 1, 1) := dk_27 (dk_at dksX0_taker_0 3 rfl rfl)
theorem dX0_taker_4 : decode cX0_taker 4 = .ok (.iload_n 2, 1) := dk_28 (dk_at dksX0_taker_0 4 rfl rfl)
theorem dX0_taker_5 : decode cX0_taker 5 = .ok (.invokevirtual 33, 3) := dk_182 0 33 (dk_at dksX0_taker_0 5 rfl rfl)
theorem dX0_taker_8 : decode cX0_taker 8 = .ok (.i2l, 1) := dk_133 (dk_at dksX0_taker_0 8 rfl rfl)
theorem dX0_taker_9 : decode cX0_taker 9 = .ok (.lastore, 1) := dk_80 (dk_at dksX0_taker_0 9 rfl rfl)
theorem dX0_taker_10 : decode cX0_taker 10 = .ok (.goto 11, 3) := dk_167 0 11 (dk_at dksX0_taker_0 10 rfl rfl)
theorem dX0_taker_13 : decode cX0_taker 13 = .ok (.astore 4, 2) := dk_58 4 (dk_at dksX0_taker_0 13 rfl rfl)
theorem dX0_taker_15 : decode cX0_taker 15 = .ok (.iconst 1, 1) := dk_4 (dk_at dksX0_taker_0 15 rfl rfl)
theorem dX0_taker_16 : decode cX0_taker 16 = .ok (.ireturn, 1) := dk_172 (dk_at dksX0_taker_0 16 rfl rfl)
theorem dX0_taker_17 : decode cX0_taker 17 = .ok (.astore 4, 2) := dk_58 4 (dk_at dksX0_taker_0 17 rfl rfl)
theorem dX0_taker_19 : decode cX0_taker 19 = .ok (.iconst 2, 1) := dk_5 (dk_at dksX0_taker_0 19 rfl rfl)
theorem dX0_taker_20 : decode cX0_taker 20 = .ok (.ireturn, 1) := dk_172 (dk_at dksX0_taker_0 20 rfl rfl)
theorem dX0_taker_21 : decode cX0_taker 21 = .ok (.iconst 0, 1) := dk_3 (dk_at dksX0_taker_0 21 rfl rfl)
theorem dX0_taker_22 : decode cX0_taker 22 = .ok (.ireturn, 1) := dk_172 (dk_at dksX0_taker_0 22 rfl rfl)
abbrev cX0_asks : ByteArray := method_10_code
def yX0_asks : MethodName := ⟨RX0, "asks", "(LPassagePapers;II[J)I"⟩
def dkwX0_asks_0 : List UInt8 := [45, 3, 42, 27, 28, 182, 0, 36, 133, 80, 167, 0, 11, 58, 4, 4, 172, 58, 4, 5, 172, 3, 172]
abbrev dktX0_asks_0 : List UInt8 := dkwX0_asks_0 ++ []
theorem dksX0_asks_0 : cX0_asks.data.toList.drop 0 = dktX0_asks_0 := by decide +kernel
theorem dX0_asks_0 : decode cX0_asks 0 = .ok (.aload_n 3, 1) := dk_45 (dk_at dksX0_asks_0 0 rfl rfl)
theorem dX0_asks_1 : decode cX0_asks 1 = .ok (.iconst 0, 1) := dk_3 (dk_at dksX0_asks_0 1 rfl rfl)
theorem dX0_asks_2 : decode cX0_asks 2 = .ok (.aload_n 0, 1) := dk_42 (dk_at dksX0_asks_0 2 rfl rfl)
theorem dX0_asks_3 : decode cX0_asks 3 = .ok (.iload_n 1, 1) := dk_27 (dk_at dksX0_asks_0 3 rfl rfl)
theorem dX0_asks_4 : decode cX0_asks 4 = .ok (.iload_n 2, 1) := dk_28 (dk_at dksX0_asks_0 4 rfl rfl)
theorem dX0_asks_5 : decode cX0_asks 5 = .ok (.invokevirtual 36, 3) := dk_182 0 36 (dk_at dksX0_asks_0 5 rfl rfl)
theorem dX0_asks_8 : decode cX0_asks 8 = .ok (.i2l, 1) := dk_133 (dk_at dksX0_asks_0 8 rfl rfl)
theorem dX0_asks_9 : decode cX0_asks 9 = .ok (.lastore, 1) := dk_80 (dk_at dksX0_asks_0 9 rfl rfl)
theorem dX0_asks_10 : decode cX0_asks 10 = .ok (.goto 11, 3) := dk_167 0 11 (dk_at dksX0_asks_0 10 rfl rfl)
theorem dX0_asks_13 : decode cX0_asks 13 = .ok (.astore 4, 2) := dk_58 4 (dk_at dksX0_asks_0 13 rfl rfl)
theorem dX0_asks_15 : decode cX0_asks 15 = .ok (.iconst 1, 1) := dk_4 (dk_at dksX0_asks_0 15 rfl rfl)
theorem dX0_asks_16 : decode cX0_asks 16 = .ok (.ireturn, 1) := dk_172 (dk_at dksX0_asks_0 16 rfl rfl)
theorem dX0_asks_17 : decode cX0_asks 17 = .ok (.astore 4, 2) := dk_58 4 (dk_at dksX0_asks_0 17 rfl rfl)
theorem dX0_asks_19 : decode cX0_asks 19 = .ok (.iconst 2, 1) := dk_5 (dk_at dksX0_asks_0 19 rfl rfl)
theorem dX0_asks_20 : decode cX0_asks 20 = .ok (.ireturn, 1) := dk_172 (dk_at dksX0_asks_0 20 rfl rfl)
theorem dX0_asks_21 : decode cX0_asks 21 = .ok (.iconst 0, 1) := dk_3 (dk_at dksX0_asks_0 21 rfl rfl)
theorem dX0_asks_22 : decode cX0_asks 22 = .ok (.ireturn, 1) := dk_172 (dk_at dksX0_asks_0 22 rfl rfl)
abbrev cX0_owes : ByteArray := method_11_code
def yX0_owes : MethodName := ⟨RX0, "owes", "(LPassagePapers;I[J)I"⟩
def dkwX0_owes_0 : List UInt8 := [44, 3, 42, 27, 182, 0, 39, 133, 80, 167, 0, 6, 78, 4, 172, 3, 172]
abbrev dktX0_owes_0 : List UInt8 := dkwX0_owes_0 ++ []
theorem dksX0_owes_0 : cX0_owes.data.toList.drop 0 = dktX0_owes_0 := by decide +kernel
theorem dX0_owes_0 : decode cX0_owes 0 = .ok (.aload_n 2, 1) := dk_44 (dk_at dksX0_owes_0 0 rfl rfl)
theorem dX0_owes_1 : decode cX0_owes 1 = .ok (.iconst 0, 1) := dk_3 (dk_at dksX0_owes_0 1 rfl rfl)
theorem dX0_owes_2 : decode cX0_owes 2 = .ok (.aload_n 0, 1) := dk_42 (dk_at dksX0_owes_0 2 rfl rfl)
theorem dX0_owes_3 : decode cX0_owes 3 = .ok (.iload_n 1, 1) := dk_27 (dk_at dksX0_owes_0 3 rfl rfl)
theorem dX0_owes_4 : decode cX0_owes 4 = .ok (.invokevirtual 39, 3) := dk_182 0 39 (dk_at dksX0_owes_0 4 rfl rfl)
theorem dX0_owes_7 : decode cX0_owes 7 = .ok (.i2l, 1) := dk_133 (dk_at dksX0_owes_0 7 rfl rfl)
theorem dX0_owes_8 : decode cX0_owes 8 = .ok (.lastore, 1) := dk_80 (dk_at dksX0_owes_0 8 rfl rfl)
theorem dX0_owes_9 : decode cX0_owes 9 = .ok (.goto 6, 3) := dk_167 0 6 (dk_at dksX0_owes_0 9 rfl rfl)
theorem dX0_owes_12 : decode cX0_owes 12 = .ok (.astore_n 3, 1) := dk_78 (dk_at dksX0_owes_0 12 rfl rfl)
theorem dX0_owes_13 : decode cX0_owes 13 = .ok (.iconst 1, 1) := dk_4 (dk_at dksX0_owes_0 13 rfl rfl)
theorem dX0_owes_14 : decode cX0_owes 14 = .ok (.ireturn, 1) := dk_172 (dk_at dksX0_owes_0 14 rfl rfl)
theorem dX0_owes_15 : decode cX0_owes 15 = .ok (.iconst 0, 1) := dk_3 (dk_at dksX0_owes_0 15 rfl rfl)
theorem dX0_owes_16 : decode cX0_owes 16 = .ok (.ireturn, 1) := dk_172 (dk_at dksX0_owes_0 16 rfl rfl)
abbrev cX0_would : ByteArray := method_12_code
def yX0_would : MethodName := ⟨RX0, "would", "(LPassagePapers;IIIIII[J)I"⟩
def dkwX0_would_1 : List UInt8 := [172, 3, 172]
abbrev dktX0_would_1 : List UInt8 := dkwX0_would_1 ++ []
def dkwX0_would_0 : List UInt8 := [25, 7, 3, 42, 27, 28, 29, 21, 4, 21, 5, 21, 6, 182, 0, 42, 133, 80, 167, 0, 7, 58, 8, 4]
abbrev dktX0_would_0 : List UInt8 := dkwX0_would_0 ++ dktX0_would_1
theorem dksX0_would_0 : cX0_would.data.toList.drop 0 = dktX0_would_0 := by decide +kernel
theorem dksX0_would_1 : cX0_would.data.toList.drop 24 = dktX0_would_1 := dk_seg dksX0_would_0 24 rfl rfl
theorem dX0_would_0 : decode cX0_would 0 = .ok (.aload 7, 2) := dk_25 7 (dk_at dksX0_would_0 0 rfl rfl)
theorem dX0_would_2 : decode cX0_would 2 = .ok (.iconst 0, 1) := dk_3 (dk_at dksX0_would_0 2 rfl rfl)
theorem dX0_would_3 : decode cX0_would 3 = .ok (.aload_n 0, 1) := dk_42 (dk_at dksX0_would_0 3 rfl rfl)
theorem dX0_would_4 : decode cX0_would 4 = .ok (.iload_n 1, 1) := dk_27 (dk_at dksX0_would_0 4 rfl rfl)
theorem dX0_would_5 : decode cX0_would 5 = .ok (.iload_n 2, 1) := dk_28 (dk_at dksX0_would_0 5 rfl rfl)
theorem dX0_would_6 : decode cX0_would 6 = .ok (.iload_n 3, 1) := dk_29 (dk_at dksX0_would_0 6 rfl rfl)
theorem dX0_would_7 : decode cX0_would 7 = .ok (.iload 4, 2) := dk_21 4 (dk_at dksX0_would_0 7 rfl rfl)
theorem dX0_would_9 : decode cX0_would 9 = .ok (.iload 5, 2) := dk_21 5 (dk_at dksX0_would_0 9 rfl rfl)
theorem dX0_would_11 : decode cX0_would 11 = .ok (.iload 6, 2) := dk_21 6 (dk_at dksX0_would_0 11 rfl rfl)
theorem dX0_would_13 : decode cX0_would 13 = .ok (.invokevirtual 42, 3) := dk_182 0 42 (dk_at dksX0_would_0 13 rfl rfl)
theorem dX0_would_16 : decode cX0_would 16 = .ok (.i2l, 1) := dk_133 (dk_at dksX0_would_0 16 rfl rfl)
theorem dX0_would_17 : decode cX0_would 17 = .ok (.lastore, 1) := dk_80 (dk_at dksX0_would_0 17 rfl rfl)
theorem dX0_would_18 : decode cX0_would 18 = .ok (.goto 7, 3) := dk_167 0 7 (dk_at dksX0_would_0 18 rfl rfl)
theorem dX0_would_21 : decode cX0_would 21 = .ok (.astore 8, 2) := dk_58 8 (dk_at dksX0_would_0 21 rfl rfl)
theorem dX0_would_23 : decode cX0_would 23 = .ok (.iconst 1, 1) := dk_4 (dk_at dksX0_would_0 23 rfl rfl)
theorem dX0_would_24 : decode cX0_would 24 = .ok (.ireturn, 1) := dk_172 (dk_at dksX0_would_1 0 rfl rfl)
theorem dX0_would_25 : decode cX0_would 25 = .ok (.iconst 0, 1) := dk_3 (dk_at dksX0_would_1 1 rfl rfl)
theorem dX0_would_26 : decode cX0_would 26 = .ok (.ireturn, 1) := dk_172 (dk_at dksX0_would_1 2 rfl rfl)
abbrev cX0_freeIn : ByteArray := method_13_code
def yX0_freeIn : MethodName := ⟨RX0, "freeIn", "(LPassagePapers;I[J)I"⟩
def dkwX0_freeIn_0 : List UInt8 := [44, 3, 42, 27, 182, 0, 46, 133, 80, 167, 0, 6, 78, 4, 172, 3, 172]
abbrev dktX0_freeIn_0 : List UInt8 := dkwX0_freeIn_0 ++ []
theorem dksX0_freeIn_0 : cX0_freeIn.data.toList.drop 0 = dktX0_freeIn_0 := by decide +kernel
theorem dX0_freeIn_0 : decode cX0_freeIn 0 = .ok (.aload_n 2, 1) := dk_44 (dk_at dksX0_freeIn_0 0 rfl rfl)
theorem dX0_freeIn_1 : decode cX0_freeIn 1 = .ok (.iconst 0, 1) := dk_3 (dk_at dksX0_freeIn_0 1 rfl rfl)
theorem dX0_freeIn_2 : decode cX0_freeIn 2 = .ok (.aload_n 0, 1) := dk_42 (dk_at dksX0_freeIn_0 2 rfl rfl)
theorem dX0_freeIn_3 : decode cX0_freeIn 3 = .ok (.iload_n 1, 1) := dk_27 (dk_at dksX0_freeIn_0 3 rfl rfl)
theorem dX0_freeIn_4 : decode cX0_freeIn 4 = .ok (.invokevirtual 46, 3) := dk_182 0 46 (dk_at dksX0_freeIn_0 4 rfl rfl)
theorem dX0_freeIn_7 : decode cX0_freeIn 7 = .ok (.i2l, 1) := dk_133 (dk_at dksX0_freeIn_0 7 rfl rfl)
theorem dX0_freeIn_8 : decode cX0_freeIn 8 = .ok (.lastore, 1) := dk_80 (dk_at dksX0_freeIn_0 8 rfl rfl)
theorem dX0_freeIn_9 : decode cX0_freeIn 9 = .ok (.goto 6, 3) := dk_167 0 6 (dk_at dksX0_freeIn_0 9 rfl rfl)
theorem dX0_freeIn_12 : decode cX0_freeIn 12 = .ok (.astore_n 3, 1) := dk_78 (dk_at dksX0_freeIn_0 12 rfl rfl)
theorem dX0_freeIn_13 : decode cX0_freeIn 13 = .ok (.iconst 1, 1) := dk_4 (dk_at dksX0_freeIn_0 13 rfl rfl)
theorem dX0_freeIn_14 : decode cX0_freeIn 14 = .ok (.ireturn, 1) := dk_172 (dk_at dksX0_freeIn_0 14 rfl rfl)
theorem dX0_freeIn_15 : decode cX0_freeIn 15 = .ok (.iconst 0, 1) := dk_3 (dk_at dksX0_freeIn_0 15 rfl rfl)
theorem dX0_freeIn_16 : decode cX0_freeIn 16 = .ok (.ireturn, 1) := dk_172 (dk_at dksX0_freeIn_0 16 rfl rfl)
abbrev cX0_otherwise : ByteArray := method_14_code
def yX0_otherwise : MethodName := ⟨RX0, "otherwise", "(LPassagePapers;I[J)I"⟩
def dkwX0_otherwise_0 : List UInt8 := [44, 3, 42, 27, 182, 0, 49, 133, 80, 167, 0, 6, 78, 4, 172, 3, 172]
abbrev dktX0_otherwise_0 : List UInt8 := dkwX0_otherwise_0 ++ []
theorem dksX0_otherwise_0 : cX0_otherwise.data.toList.drop 0 = dktX0_otherwise_0 := by decide +kernel
theorem dX0_otherwise_0 : decode cX0_otherwise 0 = .ok (.aload_n 2, 1) := dk_44 (dk_at dksX0_otherwise_0 0 rfl rfl)
theorem dX0_otherwise_1 : decode cX0_otherwise 1 = .ok (.iconst 0, 1) := dk_3 (dk_at dksX0_otherwise_0 1 rfl rfl)
theorem dX0_otherwise_2 : decode cX0_otherwise 2 = .ok (.aload_n 0, 1) := dk_42 (dk_at dksX0_otherwise_0 2 rfl rfl)
theorem dX0_otherwise_3 : decode cX0_otherwise 3 = .ok (.iload_n 1, 1) := dk_27 (dk_at dksX0_otherwise_0 3 rfl rfl)
theorem dX0_otherwise_4 : decode cX0_otherwise 4 = .ok (.invokevirtual 49, 3) := dk_182 0 49 (dk_at dksX0_otherwise_0 4 rfl rfl)
theorem dX0_otherwise_7 : decode cX0_otherwise 7 = .ok (.i2l, 1) := dk_133 (dk_at dksX0_otherwise_0 7 rfl rfl)
theorem dX0_otherwise_8 : decode cX0_otherwise 8 = .ok (.lastore, 1) := dk_80 (dk_at dksX0_otherwise_0 8 rfl rfl)
theorem dX0_otherwise_9 : decode cX0_otherwise 9 = .ok (.goto 6, 3) := dk_167 0 6 (dk_at dksX0_otherwise_0 9 rfl rfl)
theorem dX0_otherwise_12 : decode cX0_otherwise 12 = .ok (.astore_n 3, 1) := dk_78 (dk_at dksX0_otherwise_0 12 rfl rfl)
theorem dX0_otherwise_13 : decode cX0_otherwise 13 = .ok (.iconst 1, 1) := dk_4 (dk_at dksX0_otherwise_0 13 rfl rfl)
theorem dX0_otherwise_14 : decode cX0_otherwise 14 = .ok (.ireturn, 1) := dk_172 (dk_at dksX0_otherwise_0 14 rfl rfl)
theorem dX0_otherwise_15 : decode cX0_otherwise 15 = .ok (.iconst 0, 1) := dk_3 (dk_at dksX0_otherwise_0 15 rfl rfl)
theorem dX0_otherwise_16 : decode cX0_otherwise 16 = .ok (.ireturn, 1) := dk_172 (dk_at dksX0_otherwise_0 16 rfl rfl)
abbrev cX0_ahead : ByteArray := method_15_code
def yX0_ahead : MethodName := ⟨RX0, "ahead", "(LPassagePapers;II[J)I"⟩
def dkwX0_ahead_0 : List UInt8 := [45, 3, 42, 27, 28, 182, 0, 52, 133, 80, 167, 0, 7, 58, 4, 4, 172, 3, 172]
abbrev dktX0_ahead_0 : List UInt8 := dkwX0_ahead_0 ++ []
theorem dksX0_ahead_0 : cX0_ahead.data.toList.drop 0 = dktX0_ahead_0 := by decide +kernel
theorem dX0_ahead_0 : decode cX0_ahead 0 = .ok (.aload_n 3, 1) := dk_45 (dk_at dksX0_ahead_0 0 rfl rfl)
theorem dX0_ahead_1 : decode cX0_ahead 1 = .ok (.iconst 0, 1) := dk_3 (dk_at dksX0_ahead_0 1 rfl rfl)
theorem dX0_ahead_2 : decode cX0_ahead 2 = .ok (.aload_n 0, 1) := dk_42 (dk_at dksX0_ahead_0 2 rfl rfl)
theorem dX0_ahead_3 : decode cX0_ahead 3 = .ok (.iload_n 1, 1) := dk_27 (dk_at dksX0_ahead_0 3 rfl rfl)
theorem dX0_ahead_4 : decode cX0_ahead 4 = .ok (.iload_n 2, 1) := dk_28 (dk_at dksX0_ahead_0 4 rfl rfl)
theorem dX0_ahead_5 : decode cX0_ahead 5 = .ok (.invokevirtual 52, 3) := dk_182 0 52 (dk_at dksX0_ahead_0 5 rfl rfl)
theorem dX0_ahead_8 : decode cX0_ahead 8 = .ok (.i2l, 1) := dk_133 (dk_at dksX0_ahead_0 8 rfl rfl)
theorem dX0_ahead_9 : decode cX0_ahead 9 = .ok (.lastore, 1) := dk_80 (dk_at dksX0_ahead_0 9 rfl rfl)
theorem dX0_ahead_10 : decode cX0_ahead 10 = .ok (.goto 7, 3) := dk_167 0 7 (dk_at dksX0_ahead_0 10 rfl rfl)
theorem dX0_ahead_13 : decode cX0_ahead 13 = .ok (.astore 4, 2) := dk_58 4 (dk_at dksX0_ahead_0 13 rfl rfl)
theorem dX0_ahead_15 : decode cX0_ahead 15 = .ok (.iconst 1, 1) := dk_4 (dk_at dksX0_ahead_0 15 rfl rfl)
theorem dX0_ahead_16 : decode cX0_ahead 16 = .ok (.ireturn, 1) := dk_172 (dk_at dksX0_ahead_0 16 rfl rfl)
theorem dX0_ahead_17 : decode cX0_ahead 17 = .ok (.iconst 0, 1) := dk_3 (dk_at dksX0_ahead_0 17 rfl rfl)
theorem dX0_ahead_18 : decode cX0_ahead 18 = .ok (.ireturn, 1) := dk_172 (dk_at dksX0_ahead_0 18 rfl rfl)
abbrev cX0_gives : ByteArray := method_16_code
def yX0_gives : MethodName := ⟨RX0, "gives", "(LPassagePapers;II[J)I"⟩
def dkwX0_gives_0 : List UInt8 := [45, 3, 42, 27, 28, 182, 0, 55, 133, 80, 167, 0, 7, 58, 4, 4, 172, 3, 172]
abbrev dktX0_gives_0 : List UInt8 := dkwX0_gives_0 ++ []
theorem dksX0_gives_0 : cX0_gives.data.toList.drop 0 = dktX0_gives_0 := by decide +kernel
theorem dX0_gives_0 : decode cX0_gives 0 = .ok (.aload_n 3, 1) := dk_45 (dk_at dksX0_gives_0 0 rfl rfl)
theorem dX0_gives_1 : decode cX0_gives 1 = .ok (.iconst 0, 1) := dk_3 (dk_at dksX0_gives_0 1 rfl rfl)
theorem dX0_gives_2 : decode cX0_gives 2 = .ok (.aload_n 0, 1) := dk_42 (dk_at dksX0_gives_0 2 rfl rfl)
theorem dX0_gives_3 : decode cX0_gives 3 = .ok (.iload_n 1, 1) := dk_27 (dk_at dksX0_gives_0 3 rfl rfl)
theorem dX0_gives_4 : decode cX0_gives 4 = .ok (.iload_n 2, 1) := dk_28 (dk_at dksX0_gives_0 4 rfl rfl)
theorem dX0_gives_5 : decode cX0_gives 5 = .ok (.invokevirtual 55, 3) := dk_182 0 55 (dk_at dksX0_gives_0 5 rfl rfl)
theorem dX0_gives_8 : decode cX0_gives 8 = .ok (.i2l, 1) := dk_133 (dk_at dksX0_gives_0 8 rfl rfl)
theorem dX0_gives_9 : decode cX0_gives 9 = .ok (.lastore, 1) := dk_80 (dk_at dksX0_gives_0 9 rfl rfl)
theorem dX0_gives_10 : decode cX0_gives 10 = .ok (.goto 7, 3) := dk_167 0 7 (dk_at dksX0_gives_0 10 rfl rfl)
theorem dX0_gives_13 : decode cX0_gives 13 = .ok (.astore 4, 2) := dk_58 4 (dk_at dksX0_gives_0 13 rfl rfl)
theorem dX0_gives_15 : decode cX0_gives 15 = .ok (.iconst 1, 1) := dk_4 (dk_at dksX0_gives_0 15 rfl rfl)
theorem dX0_gives_16 : decode cX0_gives 16 = .ok (.ireturn, 1) := dk_172 (dk_at dksX0_gives_0 16 rfl rfl)
theorem dX0_gives_17 : decode cX0_gives 17 = .ok (.iconst 0, 1) := dk_3 (dk_at dksX0_gives_0 17 rfl rfl)
theorem dX0_gives_18 : decode cX0_gives 18 = .ok (.ireturn, 1) := dk_172 (dk_at dksX0_gives_0 18 rfl rfl)
abbrev cX0_best : ByteArray := method_17_code
def yX0_best : MethodName := ⟨RX0, "best", "(LPassagePapers;I[J)I"⟩
def dkwX0_best_0 : List UInt8 := [44, 3, 42, 27, 182, 0, 58, 133, 80, 167, 0, 6, 78, 4, 172, 3, 172]
abbrev dktX0_best_0 : List UInt8 := dkwX0_best_0 ++ []
theorem dksX0_best_0 : cX0_best.data.toList.drop 0 = dktX0_best_0 := by decide +kernel
theorem dX0_best_0 : decode cX0_best 0 = .ok (.aload_n 2, 1) := dk_44 (dk_at dksX0_best_0 0 rfl rfl)
theorem dX0_best_1 : decode cX0_best 1 = .ok (.iconst 0, 1) := dk_3 (dk_at dksX0_best_0 1 rfl rfl)
theorem dX0_best_2 : decode cX0_best 2 = .ok (.aload_n 0, 1) := dk_42 (dk_at dksX0_best_0 2 rfl rfl)
theorem dX0_best_3 : decode cX0_best 3 = .ok (.iload_n 1, 1) := dk_27 (dk_at dksX0_best_0 3 rfl rfl)
theorem dX0_best_4 : decode cX0_best 4 = .ok (.invokevirtual 58, 3) := dk_182 0 58 (dk_at dksX0_best_0 4 rfl rfl)
theorem dX0_best_7 : decode cX0_best 7 = .ok (.i2l, 1) := dk_133 (dk_at dksX0_best_0 7 rfl rfl)
theorem dX0_best_8 : decode cX0_best 8 = .ok (.lastore, 1) := dk_80 (dk_at dksX0_best_0 8 rfl rfl)
theorem dX0_best_9 : decode cX0_best 9 = .ok (.goto 6, 3) := dk_167 0 6 (dk_at dksX0_best_0 9 rfl rfl)
theorem dX0_best_12 : decode cX0_best 12 = .ok (.astore_n 3, 1) := dk_78 (dk_at dksX0_best_0 12 rfl rfl)
theorem dX0_best_13 : decode cX0_best 13 = .ok (.iconst 1, 1) := dk_4 (dk_at dksX0_best_0 13 rfl rfl)
theorem dX0_best_14 : decode cX0_best 14 = .ok (.ireturn, 1) := dk_172 (dk_at dksX0_best_0 14 rfl rfl)
theorem dX0_best_15 : decode cX0_best 15 = .ok (.iconst 0, 1) := dk_3 (dk_at dksX0_best_0 15 rfl rfl)
theorem dX0_best_16 : decode cX0_best 16 = .ok (.ireturn, 1) := dk_172 (dk_at dksX0_best_0 16 rfl rfl)
abbrev cX0_bestFor : ByteArray := method_18_code
def yX0_bestFor : MethodName := ⟨RX0, "bestFor", "(LPassagePapers;I[J)I"⟩
def dkwX0_bestFor_0 : List UInt8 := [44, 3, 42, 27, 182, 0, 61, 133, 80, 167, 0, 6, 78, 4, 172, 3, 172]
abbrev dktX0_bestFor_0 : List UInt8 := dkwX0_bestFor_0 ++ []
theorem dksX0_bestFor_0 : cX0_bestFor.data.toList.drop 0 = dktX0_bestFor_0 := by decide +kernel
theorem dX0_bestFor_0 : decode cX0_bestFor 0 = .ok (.aload_n 2, 1) := dk_44 (dk_at dksX0_bestFor_0 0 rfl rfl)
theorem dX0_bestFor_1 : decode cX0_bestFor 1 = .ok (.iconst 0, 1) := dk_3 (dk_at dksX0_bestFor_0 1 rfl rfl)
theorem dX0_bestFor_2 : decode cX0_bestFor 2 = .ok (.aload_n 0, 1) := dk_42 (dk_at dksX0_bestFor_0 2 rfl rfl)
theorem dX0_bestFor_3 : decode cX0_bestFor 3 = .ok (.iload_n 1, 1) := dk_27 (dk_at dksX0_bestFor_0 3 rfl rfl)
theorem dX0_bestFor_4 : decode cX0_bestFor 4 = .ok (.invokevirtual 61, 3) := dk_182 0 61 (dk_at dksX0_bestFor_0 4 rfl rfl)
theorem dX0_bestFor_7 : decode cX0_bestFor 7 = .ok (.i2l, 1) := dk_133 (dk_at dksX0_bestFor_0 7 rfl rfl)
theorem dX0_bestFor_8 : decode cX0_bestFor 8 = .ok (.lastore, 1) := dk_80 (dk_at dksX0_bestFor_0 8 rfl rfl)
theorem dX0_bestFor_9 : decode cX0_bestFor 9 = .ok (.goto 6, 3) := dk_167 0 6 (dk_at dksX0_bestFor_0 9 rfl rfl)
theorem dX0_bestFor_12 : decode cX0_bestFor 12 = .ok (.astore_n 3, 1) := dk_78 (dk_at dksX0_bestFor_0 12 rfl rfl)
theorem dX0_bestFor_13 : decode cX0_bestFor 13 = .ok (.iconst 1, 1) := dk_4 (dk_at dksX0_bestFor_0 13 rfl rfl)
theorem dX0_bestFor_14 : decode cX0_bestFor 14 = .ok (.ireturn, 1) := dk_172 (dk_at dksX0_bestFor_0 14 rfl rfl)
theorem dX0_bestFor_15 : decode cX0_bestFor 15 = .ok (.iconst 0, 1) := dk_3 (dk_at dksX0_bestFor_0 15 rfl rfl)
theorem dX0_bestFor_16 : decode cX0_bestFor 16 = .ok (.ireturn, 1) := dk_172 (dk_at dksX0_bestFor_0 16 rfl rfl)
abbrev cX0_kin : ByteArray := method_19_code
def yX0_kin : MethodName := ⟨RX0, "kin", "(LPassagePapers;I[J)I"⟩
def dkwX0_kin_0 : List UInt8 := [44, 3, 42, 27, 182, 0, 64, 133, 80, 167, 0, 6, 78, 4, 172, 3, 172]
abbrev dktX0_kin_0 : List UInt8 := dkwX0_kin_0 ++ []
theorem dksX0_kin_0 : cX0_kin.data.toList.drop 0 = dktX0_kin_0 := by decide +kernel
theorem dX0_kin_0 : decode cX0_kin 0 = .ok (.aload_n 2, 1) := dk_44 (dk_at dksX0_kin_0 0 rfl rfl)
theorem dX0_kin_1 : decode cX0_kin 1 = .ok (.iconst 0, 1) := dk_3 (dk_at dksX0_kin_0 1 rfl rfl)
theorem dX0_kin_2 : decode cX0_kin 2 = .ok (.aload_n 0, 1) := dk_42 (dk_at dksX0_kin_0 2 rfl rfl)
theorem dX0_kin_3 : decode cX0_kin 3 = .ok (.iload_n 1, 1) := dk_27 (dk_at dksX0_kin_0 3 rfl rfl)
theorem dX0_kin_4 : decode cX0_kin 4 = .ok (.invokevirtual 64, 3) := dk_182 0 64 (dk_at dksX0_kin_0 4 rfl rfl)
theorem dX0_kin_7 : decode cX0_kin 7 = .ok (.i2l, 1) := dk_133 (dk_at dksX0_kin_0 7 rfl rfl)
theorem dX0_kin_8 : decode cX0_kin 8 = .ok (.lastore, 1) := dk_80 (dk_at dksX0_kin_0 8 rfl rfl)
theorem dX0_kin_9 : decode cX0_kin 9 = .ok (.goto 6, 3) := dk_167 0 6 (dk_at dksX0_kin_0 9 rfl rfl)
theorem dX0_kin_12 : decode cX0_kin 12 = .ok (.astore_n 3, 1) := dk_78 (dk_at dksX0_kin_0 12 rfl rfl)
theorem dX0_kin_13 : decode cX0_kin 13 = .ok (.iconst 1, 1) := dk_4 (dk_at dksX0_kin_0 13 rfl rfl)
theorem dX0_kin_14 : decode cX0_kin 14 = .ok (.ireturn, 1) := dk_172 (dk_at dksX0_kin_0 14 rfl rfl)
theorem dX0_kin_15 : decode cX0_kin 15 = .ok (.iconst 0, 1) := dk_3 (dk_at dksX0_kin_0 15 rfl rfl)
theorem dX0_kin_16 : decode cX0_kin 16 = .ok (.ireturn, 1) := dk_172 (dk_at dksX0_kin_0 16 rfl rfl)
abbrev cX0_fare : ByteArray := method_20_code
def yX0_fare : MethodName := ⟨RX0, "fare", "(LPassagePapers;I[J)I"⟩
def dkwX0_fare_0 : List UInt8 := [44, 3, 42, 27, 182, 0, 67, 133, 80, 167, 0, 6, 78, 4, 172, 3, 172]
abbrev dktX0_fare_0 : List UInt8 := dkwX0_fare_0 ++ []
theorem dksX0_fare_0 : cX0_fare.data.toList.drop 0 = dktX0_fare_0 := by decide +kernel
theorem dX0_fare_0 : decode cX0_fare 0 = .ok (.aload_n 2, 1) := dk_44 (dk_at dksX0_fare_0 0 rfl rfl)
theorem dX0_fare_1 : decode cX0_fare 1 = .ok (.iconst 0, 1) := dk_3 (dk_at dksX0_fare_0 1 rfl rfl)
theorem dX0_fare_2 : decode cX0_fare 2 = .ok (.aload_n 0, 1) := dk_42 (dk_at dksX0_fare_0 2 rfl rfl)
theorem dX0_fare_3 : decode cX0_fare 3 = .ok (.iload_n 1, 1) := dk_27 (dk_at dksX0_fare_0 3 rfl rfl)
theorem dX0_fare_4 : decode cX0_fare 4 = .ok (.invokevirtual 67, 3) := dk_182 0 67 (dk_at dksX0_fare_0 4 rfl rfl)
theorem dX0_fare_7 : decode cX0_fare 7 = .ok (.i2l, 1) := dk_133 (dk_at dksX0_fare_0 7 rfl rfl)
theorem dX0_fare_8 : decode cX0_fare 8 = .ok (.lastore, 1) := dk_80 (dk_at dksX0_fare_0 8 rfl rfl)
theorem dX0_fare_9 : decode cX0_fare 9 = .ok (.goto 6, 3) := dk_167 0 6 (dk_at dksX0_fare_0 9 rfl rfl)
theorem dX0_fare_12 : decode cX0_fare 12 = .ok (.astore_n 3, 1) := dk_78 (dk_at dksX0_fare_0 12 rfl rfl)
theorem dX0_fare_13 : decode cX0_fare 13 = .ok (.iconst 1, 1) := dk_4 (dk_at dksX0_fare_0 13 rfl rfl)
theorem dX0_fare_14 : decode cX0_fare 14 = .ok (.ireturn, 1) := dk_172 (dk_at dksX0_fare_0 14 rfl rfl)
theorem dX0_fare_15 : decode cX0_fare 15 = .ok (.iconst 0, 1) := dk_3 (dk_at dksX0_fare_0 15 rfl rfl)
theorem dX0_fare_16 : decode cX0_fare 16 = .ok (.ireturn, 1) := dk_172 (dk_at dksX0_fare_0 16 rfl rfl)
abbrev cX0_canPay : ByteArray := method_21_code
def yX0_canPay : MethodName := ⟨RX0, "canPay", "(LPassagePapers;I[J)I"⟩
def dkwX0_canPay_0 : List UInt8 := [44, 3, 42, 27, 182, 0, 70, 153, 0, 7, 10, 167, 0, 4, 9, 80, 167, 0, 6, 78, 4, 172, 3, 172]
abbrev dktX0_canPay_0 : List UInt8 := dkwX0_canPay_0 ++ []
theorem dksX0_canPay_0 : cX0_canPay.data.toList.drop 0 = dktX0_canPay_0 := by decide +kernel
theorem dX0_canPay_0 : decode cX0_canPay 0 = .ok (.aload_n 2, 1) := dk_44 (dk_at dksX0_canPay_0 0 rfl rfl)
theorem dX0_canPay_1 : decode cX0_canPay 1 = .ok (.iconst 0, 1) := dk_3 (dk_at dksX0_canPay_0 1 rfl rfl)
theorem dX0_canPay_2 : decode cX0_canPay 2 = .ok (.aload_n 0, 1) := dk_42 (dk_at dksX0_canPay_0 2 rfl rfl)
theorem dX0_canPay_3 : decode cX0_canPay 3 = .ok (.iload_n 1, 1) := dk_27 (dk_at dksX0_canPay_0 3 rfl rfl)
theorem dX0_canPay_4 : decode cX0_canPay 4 = .ok (.invokevirtual 70, 3) := dk_182 0 70 (dk_at dksX0_canPay_0 4 rfl rfl)
theorem dX0_canPay_7 : decode cX0_canPay 7 = .ok (.ifCond .eq 7, 3) := dk_153 0 7 (dk_at dksX0_canPay_0 7 rfl rfl)
theorem dX0_canPay_10 : decode cX0_canPay 10 = .ok (.lconst 1, 1) := dk_10 (dk_at dksX0_canPay_0 10 rfl rfl)
theorem dX0_canPay_11 : decode cX0_canPay 11 = .ok (.goto 4, 3) := dk_167 0 4 (dk_at dksX0_canPay_0 11 rfl rfl)
theorem dX0_canPay_14 : decode cX0_canPay 14 = .ok (.lconst 0, 1) := dk_9 (dk_at dksX0_canPay_0 14 rfl rfl)
theorem dX0_canPay_15 : decode cX0_canPay 15 = .ok (.lastore, 1) := dk_80 (dk_at dksX0_canPay_0 15 rfl rfl)
theorem dX0_canPay_16 : decode cX0_canPay 16 = .ok (.goto 6, 3) := dk_167 0 6 (dk_at dksX0_canPay_0 16 rfl rfl)
theorem dX0_canPay_19 : decode cX0_canPay 19 = .ok (.astore_n 3, 1) := dk_78 (dk_at dksX0_canPay_0 19 rfl rfl)
theorem dX0_canPay_20 : decode cX0_canPay 20 = .ok (.iconst 1, 1) := dk_4 (dk_at dksX0_canPay_0 20 rfl rfl)
theorem dX0_canPay_21 : decode cX0_canPay 21 = .ok (.ireturn, 1) := dk_172 (dk_at dksX0_canPay_0 21 rfl rfl)
theorem dX0_canPay_22 : decode cX0_canPay 22 = .ok (.iconst 0, 1) := dk_3 (dk_at dksX0_canPay_0 22 rfl rfl)
theorem dX0_canPay_23 : decode cX0_canPay 23 = .ok (.ireturn, 1) := dk_172 (dk_at dksX0_canPay_0 23 rfl rfl)
abbrev cX0_enough : ByteArray := method_22_code
def yX0_enough : MethodName := ⟨RX0, "enough", "(LPassagePapers;I[J)I"⟩
def dkwX0_enough_0 : List UInt8 := [44, 3, 42, 27, 182, 0, 74, 133, 80, 167, 0, 6, 78, 4, 172, 3, 172]
abbrev dktX0_enough_0 : List UInt8 := dkwX0_enough_0 ++ []
theorem dksX0_enough_0 : cX0_enough.data.toList.drop 0 = dktX0_enough_0 := by decide +kernel
theorem dX0_enough_0 : decode cX0_enough 0 = .ok (.aload_n 2, 1) := dk_44 (dk_at dksX0_enough_0 0 rfl rfl)
theorem dX0_enough_1 : decode cX0_enough 1 = .ok (.iconst 0, 1) := dk_3 (dk_at dksX0_enough_0 1 rfl rfl)
theorem dX0_enough_2 : decode cX0_enough 2 = .ok (.aload_n 0, 1) := dk_42 (dk_at dksX0_enough_0 2 rfl rfl)
theorem dX0_enough_3 : decode cX0_enough 3 = .ok (.iload_n 1, 1) := dk_27 (dk_at dksX0_enough_0 3 rfl rfl)
theorem dX0_enough_4 : decode cX0_enough 4 = .ok (.invokevirtual 74, 3) := dk_182 0 74 (dk_at dksX0_enough_0 4 rfl rfl)
theorem dX0_enough_7 : decode cX0_enough 7 = .ok (.i2l, 1) := dk_133 (dk_at dksX0_enough_0 7 rfl rfl)
theorem dX0_enough_8 : decode cX0_enough 8 = .ok (.lastore, 1) := dk_80 (dk_at dksX0_enough_0 8 rfl rfl)
theorem dX0_enough_9 : decode cX0_enough 9 = .ok (.goto 6, 3) := dk_167 0 6 (dk_at dksX0_enough_0 9 rfl rfl)
theorem dX0_enough_12 : decode cX0_enough 12 = .ok (.astore_n 3, 1) := dk_78 (dk_at dksX0_enough_0 12 rfl rfl)
theorem dX0_enough_13 : decode cX0_enough 13 = .ok (.iconst 1, 1) := dk_4 (dk_at dksX0_enough_0 13 rfl rfl)
theorem dX0_enough_14 : decode cX0_enough 14 = .ok (.ireturn, 1) := dk_172 (dk_at dksX0_enough_0 14 rfl rfl)
theorem dX0_enough_15 : decode cX0_enough 15 = .ok (.iconst 0, 1) := dk_3 (dk_at dksX0_enough_0 15 rfl rfl)
theorem dX0_enough_16 : decode cX0_enough 16 = .ok (.ireturn, 1) := dk_172 (dk_at dksX0_enough_0 16 rfl rfl)
abbrev cX0_level : ByteArray := method_23_code
def yX0_level : MethodName := ⟨RX0, "level", "(LPassagePapers;I[J)I"⟩
def dkwX0_level_0 : List UInt8 := [44, 3, 42, 27, 182, 0, 77, 133, 80, 167, 0, 6, 78, 4, 172, 3, 172]
abbrev dktX0_level_0 : List UInt8 := dkwX0_level_0 ++ []
theorem dksX0_level_0 : cX0_level.data.toList.drop 0 = dktX0_level_0 := by decide +kernel
theorem dX0_level_0 : decode cX0_level 0 = .ok (.aload_n 2, 1) := dk_44 (dk_at dksX0_level_0 0 rfl rfl)
theorem dX0_level_1 : decode cX0_level 1 = .ok (.iconst 0, 1) := dk_3 (dk_at dksX0_level_0 1 rfl rfl)
theorem dX0_level_2 : decode cX0_level 2 = .ok (.aload_n 0, 1) := dk_42 (dk_at dksX0_level_0 2 rfl rfl)
theorem dX0_level_3 : decode cX0_level 3 = .ok (.iload_n 1, 1) := dk_27 (dk_at dksX0_level_0 3 rfl rfl)
theorem dX0_level_4 : decode cX0_level 4 = .ok (.invokevirtual 77, 3) := dk_182 0 77 (dk_at dksX0_level_0 4 rfl rfl)
theorem dX0_level_7 : decode cX0_level 7 = .ok (.i2l, 1) := dk_133 (dk_at dksX0_level_0 7 rfl rfl)
theorem dX0_level_8 : decode cX0_level 8 = .ok (.lastore, 1) := dk_80 (dk_at dksX0_level_0 8 rfl rfl)
theorem dX0_level_9 : decode cX0_level 9 = .ok (.goto 6, 3) := dk_167 0 6 (dk_at dksX0_level_0 9 rfl rfl)
theorem dX0_level_12 : decode cX0_level 12 = .ok (.astore_n 3, 1) := dk_78 (dk_at dksX0_level_0 12 rfl rfl)
theorem dX0_level_13 : decode cX0_level 13 = .ok (.iconst 1, 1) := dk_4 (dk_at dksX0_level_0 13 rfl rfl)
theorem dX0_level_14 : decode cX0_level 14 = .ok (.ireturn, 1) := dk_172 (dk_at dksX0_level_0 14 rfl rfl)
theorem dX0_level_15 : decode cX0_level 15 = .ok (.iconst 0, 1) := dk_3 (dk_at dksX0_level_0 15 rfl rfl)
theorem dX0_level_16 : decode cX0_level 16 = .ok (.ireturn, 1) := dk_172 (dk_at dksX0_level_0 16 rfl rfl)
abbrev cX0_terms : ByteArray := method_24_code
def yX0_terms : MethodName := ⟨RX0, "terms", "(LPassagePapers;II[J)I"⟩
def dkwX0_terms_0 : List UInt8 := [45, 3, 42, 27, 28, 182, 0, 80, 133, 80, 167, 0, 11, 58, 4, 4, 172, 58, 4, 5, 172, 3, 172]
abbrev dktX0_terms_0 : List UInt8 := dkwX0_terms_0 ++ []
theorem dksX0_terms_0 : cX0_terms.data.toList.drop 0 = dktX0_terms_0 := by decide +kernel
theorem dX0_terms_0 : decode cX0_terms 0 = .ok (.aload_n 3, 1) := dk_45 (dk_at dksX0_terms_0 0 rfl rfl)
theorem dX0_terms_1 : decode cX0_terms 1 = .ok (.iconst 0, 1) := dk_3 (dk_at dksX0_terms_0 1 rfl rfl)
theorem dX0_terms_2 : decode cX0_terms 2 = .ok (.aload_n 0, 1) := dk_42 (dk_at dksX0_terms_0 2 rfl rfl)
theorem dX0_terms_3 : decode cX0_terms 3 = .ok (.iload_n 1, 1) := dk_27 (dk_at dksX0_terms_0 3 rfl rfl)
theorem dX0_terms_4 : decode cX0_terms 4 = .ok (.iload_n 2, 1) := dk_28 (dk_at dksX0_terms_0 4 rfl rfl)
theorem dX0_terms_5 : decode cX0_terms 5 = .ok (.invokevirtual 80, 3) := dk_182 0 80 (dk_at dksX0_terms_0 5 rfl rfl)
theorem dX0_terms_8 : decode cX0_terms 8 = .ok (.i2l, 1) := dk_133 (dk_at dksX0_terms_0 8 rfl rfl)
theorem dX0_terms_9 : decode cX0_terms 9 = .ok (.lastore, 1) := dk_80 (dk_at dksX0_terms_0 9 rfl rfl)
theorem dX0_terms_10 : decode cX0_terms 10 = .ok (.goto 11, 3) := dk_167 0 11 (dk_at dksX0_terms_0 10 rfl rfl)
theorem dX0_terms_13 : decode cX0_terms 13 = .ok (.astore 4, 2) := dk_58 4 (dk_at dksX0_terms_0 13 rfl rfl)
theorem dX0_terms_15 : decode cX0_terms 15 = .ok (.iconst 1, 1) := dk_4 (dk_at dksX0_terms_0 15 rfl rfl)
theorem dX0_terms_16 : decode cX0_terms 16 = .ok (.ireturn, 1) := dk_172 (dk_at dksX0_terms_0 16 rfl rfl)
theorem dX0_terms_17 : decode cX0_terms 17 = .ok (.astore 4, 2) := dk_58 4 (dk_at dksX0_terms_0 17 rfl rfl)
theorem dX0_terms_19 : decode cX0_terms 19 = .ok (.iconst 2, 1) := dk_5 (dk_at dksX0_terms_0 19 rfl rfl)
theorem dX0_terms_20 : decode cX0_terms 20 = .ok (.ireturn, 1) := dk_172 (dk_at dksX0_terms_0 20 rfl rfl)
theorem dX0_terms_21 : decode cX0_terms 21 = .ok (.iconst 0, 1) := dk_3 (dk_at dksX0_terms_0 21 rfl rfl)
theorem dX0_terms_22 : decode cX0_terms 22 = .ok (.ireturn, 1) := dk_172 (dk_at dksX0_terms_0 22 rfl rfl)
abbrev cX0_ask : ByteArray := method_25_code
def yX0_ask : MethodName := ⟨RX0, "ask", "(LPassagePapers;II[J)I"⟩
def dkwX0_ask_0 : List UInt8 := [45, 3, 42, 27, 28, 182, 0, 83, 133, 80, 167, 0, 11, 58, 4, 4, 172, 58, 4, 5, 172, 3, 172]
abbrev dktX0_ask_0 : List UInt8 := dkwX0_ask_0 ++ []
theorem dksX0_ask_0 : cX0_ask.data.toList.drop 0 = dktX0_ask_0 := by decide +kernel
theorem dX0_ask_0 : decode cX0_ask 0 = .ok (.aload_n 3, 1) := dk_45 (dk_at dksX0_ask_0 0 rfl rfl)
theorem dX0_ask_1 : decode cX0_ask 1 = .ok (.iconst 0, 1) := dk_3 (dk_at dksX0_ask_0 1 rfl rfl)
theorem dX0_ask_2 : decode cX0_ask 2 = .ok (.aload_n 0, 1) := dk_42 (dk_at dksX0_ask_0 2 rfl rfl)
theorem dX0_ask_3 : decode cX0_ask 3 = .ok (.iload_n 1, 1) := dk_27 (dk_at dksX0_ask_0 3 rfl rfl)
theorem dX0_ask_4 : decode cX0_ask 4 = .ok (.iload_n 2, 1) := dk_28 (dk_at dksX0_ask_0 4 rfl rfl)
theorem dX0_ask_5 : decode cX0_ask 5 = .ok (.invokevirtual 83, 3) := dk_182 0 83 (dk_at dksX0_ask_0 5 rfl rfl)
theorem dX0_ask_8 : decode cX0_ask 8 = .ok (.i2l, 1) := dk_133 (dk_at dksX0_ask_0 8 rfl rfl)
theorem dX0_ask_9 : decode cX0_ask 9 = .ok (.lastore, 1) := dk_80 (dk_at dksX0_ask_0 9 rfl rfl)
theorem dX0_ask_10 : decode cX0_ask 10 = .ok (.goto 11, 3) := dk_167 0 11 (dk_at dksX0_ask_0 10 rfl rfl)
theorem dX0_ask_13 : decode cX0_ask 13 = .ok (.astore 4, 2) := dk_58 4 (dk_at dksX0_ask_0 13 rfl rfl)
theorem dX0_ask_15 : decode cX0_ask 15 = .ok (.iconst 1, 1) := dk_4 (dk_at dksX0_ask_0 15 rfl rfl)
theorem dX0_ask_16 : decode cX0_ask 16 = .ok (.ireturn, 1) := dk_172 (dk_at dksX0_ask_0 16 rfl rfl)
theorem dX0_ask_17 : decode cX0_ask 17 = .ok (.astore 4, 2) := dk_58 4 (dk_at dksX0_ask_0 17 rfl rfl)
theorem dX0_ask_19 : decode cX0_ask 19 = .ok (.iconst 2, 1) := dk_5 (dk_at dksX0_ask_0 19 rfl rfl)
theorem dX0_ask_20 : decode cX0_ask 20 = .ok (.ireturn, 1) := dk_172 (dk_at dksX0_ask_0 20 rfl rfl)
theorem dX0_ask_21 : decode cX0_ask 21 = .ok (.iconst 0, 1) := dk_3 (dk_at dksX0_ask_0 21 rfl rfl)
theorem dX0_ask_22 : decode cX0_ask 22 = .ok (.ireturn, 1) := dk_172 (dk_at dksX0_ask_0 22 rfl rfl)
abbrev cX0_court : ByteArray := method_26_code
def yX0_court : MethodName := ⟨RX0, "court", "(LPassagePapers;III[J)I"⟩
def dkwX0_court_0 : List UInt8 := [25, 4, 3, 42, 27, 28, 29, 182, 0, 86, 80, 167, 0, 7, 58, 5, 4, 172, 3, 172]
abbrev dktX0_court_0 : List UInt8 := dkwX0_court_0 ++ []
theorem dksX0_court_0 : cX0_court.data.toList.drop 0 = dktX0_court_0 := by decide +kernel
theorem dX0_court_0 : decode cX0_court 0 = .ok (.aload 4, 2) := dk_25 4 (dk_at dksX0_court_0 0 rfl rfl)
theorem dX0_court_2 : decode cX0_court 2 = .ok (.iconst 0, 1) := dk_3 (dk_at dksX0_court_0 2 rfl rfl)
theorem dX0_court_3 : decode cX0_court 3 = .ok (.aload_n 0, 1) := dk_42 (dk_at dksX0_court_0 3 rfl rfl)
theorem dX0_court_4 : decode cX0_court 4 = .ok (.iload_n 1, 1) := dk_27 (dk_at dksX0_court_0 4 rfl rfl)
theorem dX0_court_5 : decode cX0_court 5 = .ok (.iload_n 2, 1) := dk_28 (dk_at dksX0_court_0 5 rfl rfl)
theorem dX0_court_6 : decode cX0_court 6 = .ok (.iload_n 3, 1) := dk_29 (dk_at dksX0_court_0 6 rfl rfl)
theorem dX0_court_7 : decode cX0_court 7 = .ok (.invokevirtual 86, 3) := dk_182 0 86 (dk_at dksX0_court_0 7 rfl rfl)
theorem dX0_court_10 : decode cX0_court 10 = .ok (.lastore, 1) := dk_80 (dk_at dksX0_court_0 10 rfl rfl)
theorem dX0_court_11 : decode cX0_court 11 = .ok (.goto 7, 3) := dk_167 0 7 (dk_at dksX0_court_0 11 rfl rfl)
theorem dX0_court_14 : decode cX0_court 14 = .ok (.astore 5, 2) := dk_58 5 (dk_at dksX0_court_0 14 rfl rfl)
theorem dX0_court_16 : decode cX0_court 16 = .ok (.iconst 1, 1) := dk_4 (dk_at dksX0_court_0 16 rfl rfl)
theorem dX0_court_17 : decode cX0_court 17 = .ok (.ireturn, 1) := dk_172 (dk_at dksX0_court_0 17 rfl rfl)
theorem dX0_court_18 : decode cX0_court 18 = .ok (.iconst 0, 1) := dk_3 (dk_at dksX0_court_0 18 rfl rfl)
theorem dX0_court_19 : decode cX0_court 19 = .ok (.ireturn, 1) := dk_172 (dk_at dksX0_court_0 19 rfl rfl)
abbrev cX0_witnesses : ByteArray := method_27_code
def yX0_witnesses : MethodName := ⟨RX0, "witnesses", "(LPassagePapers;II[J)I"⟩
def dkwX0_witnesses_0 : List UInt8 := [45, 3, 42, 27, 28, 182, 0, 90, 133, 80, 167, 0, 7, 58, 4, 4, 172, 3, 172]
abbrev dktX0_witnesses_0 : List UInt8 := dkwX0_witnesses_0 ++ []
theorem dksX0_witnesses_0 : cX0_witnesses.data.toList.drop 0 = dktX0_witnesses_0 := by decide +kernel
theorem dX0_witnesses_0 : decode cX0_witnesses 0 = .ok (.aload_n 3, 1) := dk_45 (dk_at dksX0_witnesses_0 0 rfl rfl)
theorem dX0_witnesses_1 : decode cX0_witnesses 1 = .ok (.iconst 0, 1) := dk_3 (dk_at dksX0_witnesses_0 1 rfl rfl)
theorem dX0_witnesses_2 : decode cX0_witnesses 2 = .ok (.aload_n 0, 1) := dk_42 (dk_at dksX0_witnesses_0 2 rfl rfl)
theorem dX0_witnesses_3 : decode cX0_witnesses 3 = .ok (.iload_n 1, 1) := dk_27 (dk_at dksX0_witnesses_0 3 rfl rfl)
theorem dX0_witnesses_4 : decode cX0_witnesses 4 = .ok (.iload_n 2, 1) := dk_28 (dk_at dksX0_witnesses_0 4 rfl rfl)
theorem dX0_witnesses_5 : decode cX0_witnesses 5 = .ok (.invokevirtual 90, 3) := dk_182 0 90 (dk_at dksX0_witnesses_0 5 rfl rfl)
theorem dX0_witnesses_8 : decode cX0_witnesses 8 = .ok (.i2l, 1) := dk_133 (dk_at dksX0_witnesses_0 8 rfl rfl)
theorem dX0_witnesses_9 : decode cX0_witnesses 9 = .ok (.lastore, 1) := dk_80 (dk_at dksX0_witnesses_0 9 rfl rfl)
theorem dX0_witnesses_10 : decode cX0_witnesses 10 = .ok (.goto 7, 3) := dk_167 0 7 (dk_at dksX0_witnesses_0 10 rfl rfl)
theorem dX0_witnesses_13 : decode cX0_witnesses 13 = .ok (.astore 4, 2) := dk_58 4 (dk_at dksX0_witnesses_0 13 rfl rfl)
theorem dX0_witnesses_15 : decode cX0_witnesses 15 = .ok (.iconst 1, 1) := dk_4 (dk_at dksX0_witnesses_0 15 rfl rfl)
theorem dX0_witnesses_16 : decode cX0_witnesses 16 = .ok (.ireturn, 1) := dk_172 (dk_at dksX0_witnesses_0 16 rfl rfl)
theorem dX0_witnesses_17 : decode cX0_witnesses 17 = .ok (.iconst 0, 1) := dk_3 (dk_at dksX0_witnesses_0 17 rfl rfl)
theorem dX0_witnesses_18 : decode cX0_witnesses 18 = .ok (.ireturn, 1) := dk_172 (dk_at dksX0_witnesses_0 18 rfl rfl)
abbrev cX0_loan : ByteArray := method_28_code
def yX0_loan : MethodName := ⟨RX0, "loan", "(LPassagePapers;III[J)I"⟩
def dkwX0_loan_0 : List UInt8 := [25, 4, 3, 42, 27, 28, 29, 182, 0, 93, 133, 80, 167, 0, 7, 58, 5, 4, 172, 3, 172]
abbrev dktX0_loan_0 : List UInt8 := dkwX0_loan_0 ++ []
theorem dksX0_loan_0 : cX0_loan.data.toList.drop 0 = dktX0_loan_0 := by decide +kernel
theorem dX0_loan_0 : decode cX0_loan 0 = .ok (.aload 4, 2) := dk_25 4 (dk_at dksX0_loan_0 0 rfl rfl)
theorem dX0_loan_2 : decode cX0_loan 2 = .ok (.iconst 0, 1) := dk_3 (dk_at dksX0_loan_0 2 rfl rfl)
theorem dX0_loan_3 : decode cX0_loan 3 = .ok (.aload_n 0, 1) := dk_42 (dk_at dksX0_loan_0 3 rfl rfl)
theorem dX0_loan_4 : decode cX0_loan 4 = .ok (.iload_n 1, 1) := dk_27 (dk_at dksX0_loan_0 4 rfl rfl)
theorem dX0_loan_5 : decode cX0_loan 5 = .ok (.iload_n 2, 1) := dk_28 (dk_at dksX0_loan_0 5 rfl rfl)
theorem dX0_loan_6 : decode cX0_loan 6 = .ok (.iload_n 3, 1) := dk_29 (dk_at dksX0_loan_0 6 rfl rfl)
theorem dX0_loan_7 : decode cX0_loan 7 = .ok (.invokevirtual 93, 3) := dk_182 0 93 (dk_at dksX0_loan_0 7 rfl rfl)
theorem dX0_loan_10 : decode cX0_loan 10 = .ok (.i2l, 1) := dk_133 (dk_at dksX0_loan_0 10 rfl rfl)
theorem dX0_loan_11 : decode cX0_loan 11 = .ok (.lastore, 1) := dk_80 (dk_at dksX0_loan_0 11 rfl rfl)
theorem dX0_loan_12 : decode cX0_loan 12 = .ok (.goto 7, 3) := dk_167 0 7 (dk_at dksX0_loan_0 12 rfl rfl)
theorem dX0_loan_15 : decode cX0_loan 15 = .ok (.astore 5, 2) := dk_58 5 (dk_at dksX0_loan_0 15 rfl rfl)
theorem dX0_loan_17 : decode cX0_loan 17 = .ok (.iconst 1, 1) := dk_4 (dk_at dksX0_loan_0 17 rfl rfl)
theorem dX0_loan_18 : decode cX0_loan 18 = .ok (.ireturn, 1) := dk_172 (dk_at dksX0_loan_0 18 rfl rfl)
theorem dX0_loan_19 : decode cX0_loan 19 = .ok (.iconst 0, 1) := dk_3 (dk_at dksX0_loan_0 19 rfl rfl)
theorem dX0_loan_20 : decode cX0_loan 20 = .ok (.ireturn, 1) := dk_172 (dk_at dksX0_loan_0 20 rfl rfl)
abbrev cX0_land : ByteArray := method_29_code
def yX0_land : MethodName := ⟨RX0, "land", "(LPassagePapers;II[J)I"⟩
def dkwX0_land_0 : List UInt8 := [45, 3, 42, 27, 28, 182, 0, 97, 133, 80, 167, 0, 11, 58, 4, 4, 172, 58, 4, 5, 172, 3, 172]
abbrev dktX0_land_0 : List UInt8 := dkwX0_land_0 ++ []
theorem dksX0_land_0 : cX0_land.data.toList.drop 0 = dktX0_land_0 := by decide +kernel
theorem dX0_land_0 : decode cX0_land 0 = .ok (.aload_n 3, 1) := dk_45 (dk_at dksX0_land_0 0 rfl rfl)
theorem dX0_land_1 : decode cX0_land 1 = .ok (.iconst 0, 1) := dk_3 (dk_at dksX0_land_0 1 rfl rfl)
theorem dX0_land_2 : decode cX0_land 2 = .ok (.aload_n 0, 1) := dk_42 (dk_at dksX0_land_0 2 rfl rfl)
theorem dX0_land_3 : decode cX0_land 3 = .ok (.iload_n 1, 1) := dk_27 (dk_at dksX0_land_0 3 rfl rfl)
theorem dX0_land_4 : decode cX0_land 4 = .ok (.iload_n 2, 1) := dk_28 (dk_at dksX0_land_0 4 rfl rfl)
theorem dX0_land_5 : decode cX0_land 5 = .ok (.invokevirtual 97, 3) := dk_182 0 97 (dk_at dksX0_land_0 5 rfl rfl)
theorem dX0_land_8 : decode cX0_land 8 = .ok (.i2l, 1) := dk_133 (dk_at dksX0_land_0 8 rfl rfl)
theorem dX0_land_9 : decode cX0_land 9 = .ok (.lastore, 1) := dk_80 (dk_at dksX0_land_0 9 rfl rfl)
theorem dX0_land_10 : decode cX0_land 10 = .ok (.goto 11, 3) := dk_167 0 11 (dk_at dksX0_land_0 10 rfl rfl)
theorem dX0_land_13 : decode cX0_land 13 = .ok (.astore 4, 2) := dk_58 4 (dk_at dksX0_land_0 13 rfl rfl)
theorem dX0_land_15 : decode cX0_land 15 = .ok (.iconst 1, 1) := dk_4 (dk_at dksX0_land_0 15 rfl rfl)
theorem dX0_land_16 : decode cX0_land 16 = .ok (.ireturn, 1) := dk_172 (dk_at dksX0_land_0 16 rfl rfl)
theorem dX0_land_17 : decode cX0_land 17 = .ok (.astore 4, 2) := dk_58 4 (dk_at dksX0_land_0 17 rfl rfl)
theorem dX0_land_19 : decode cX0_land 19 = .ok (.iconst 2, 1) := dk_5 (dk_at dksX0_land_0 19 rfl rfl)
theorem dX0_land_20 : decode cX0_land 20 = .ok (.ireturn, 1) := dk_172 (dk_at dksX0_land_0 20 rfl rfl)
theorem dX0_land_21 : decode cX0_land 21 = .ok (.iconst 0, 1) := dk_3 (dk_at dksX0_land_0 21 rfl rfl)
theorem dX0_land_22 : decode cX0_land 22 = .ok (.ireturn, 1) := dk_172 (dk_at dksX0_land_0 22 rfl rfl)
abbrev cX0_bids : ByteArray := method_30_code
def yX0_bids : MethodName := ⟨RX0, "bids", "(LPassagePapers;IIII[J)I"⟩
def dkwX0_bids_0 : List UInt8 := [25, 5, 3, 42, 27, 28, 29, 21, 4, 182, 0, 100, 133, 80, 167, 0, 7, 58, 6, 4, 172, 3, 172]
abbrev dktX0_bids_0 : List UInt8 := dkwX0_bids_0 ++ []
theorem dksX0_bids_0 : cX0_bids.data.toList.drop 0 = dktX0_bids_0 := by decide +kernel
theorem dX0_bids_0 : decode cX0_bids 0 = .ok (.aload 5, 2) := dk_25 5 (dk_at dksX0_bids_0 0 rfl rfl)
theorem dX0_bids_2 : decode cX0_bids 2 = .ok (.iconst 0, 1) := dk_3 (dk_at dksX0_bids_0 2 rfl rfl)
theorem dX0_bids_3 : decode cX0_bids 3 = .ok (.aload_n 0, 1) := dk_42 (dk_at dksX0_bids_0 3 rfl rfl)
theorem dX0_bids_4 : decode cX0_bids 4 = .ok (.iload_n 1, 1) := dk_27 (dk_at dksX0_bids_0 4 rfl rfl)
theorem dX0_bids_5 : decode cX0_bids 5 = .ok (.iload_n 2, 1) := dk_28 (dk_at dksX0_bids_0 5 rfl rfl)
theorem dX0_bids_6 : decode cX0_bids 6 = .ok (.iload_n 3, 1) := dk_29 (dk_at dksX0_bids_0 6 rfl rfl)
theorem dX0_bids_7 : decode cX0_bids 7 = .ok (.iload 4, 2) := dk_21 4 (dk_at dksX0_bids_0 7 rfl rfl)
theorem dX0_bids_9 : decode cX0_bids 9 = .ok (.invokevirtual 100, 3) := dk_182 0 100 (dk_at dksX0_bids_0 9 rfl rfl)
theorem dX0_bids_12 : decode cX0_bids 12 = .ok (.i2l, 1) := dk_133 (dk_at dksX0_bids_0 12 rfl rfl)
theorem dX0_bids_13 : decode cX0_bids 13 = .ok (.lastore, 1) := dk_80 (dk_at dksX0_bids_0 13 rfl rfl)
theorem dX0_bids_14 : decode cX0_bids 14 = .ok (.goto 7, 3) := dk_167 0 7 (dk_at dksX0_bids_0 14 rfl rfl)
theorem dX0_bids_17 : decode cX0_bids 17 = .ok (.astore 6, 2) := dk_58 6 (dk_at dksX0_bids_0 17 rfl rfl)
theorem dX0_bids_19 : decode cX0_bids 19 = .ok (.iconst 1, 1) := dk_4 (dk_at dksX0_bids_0 19 rfl rfl)
theorem dX0_bids_20 : decode cX0_bids 20 = .ok (.ireturn, 1) := dk_172 (dk_at dksX0_bids_0 20 rfl rfl)
theorem dX0_bids_21 : decode cX0_bids 21 = .ok (.iconst 0, 1) := dk_3 (dk_at dksX0_bids_0 21 rfl rfl)
theorem dX0_bids_22 : decode cX0_bids 22 = .ok (.ireturn, 1) := dk_172 (dk_at dksX0_bids_0 22 rfl rfl)
abbrev cX0_has : ByteArray := method_31_code
def yX0_has : MethodName := ⟨RX0, "has", "(LPassagePapers;III[J)I"⟩
def dkwX0_has_0 : List UInt8 := [25, 4, 3, 42, 27, 28, 29, 182, 0, 104, 133, 80, 167, 0, 7, 58, 5, 4, 172, 3, 172]
abbrev dktX0_has_0 : List UInt8 := dkwX0_has_0 ++ []
theorem dksX0_has_0 : cX0_has.data.toList.drop 0 = dktX0_has_0 := by decide +kernel
theorem dX0_has_0 : decode cX0_has 0 = .ok (.aload 4, 2) := dk_25 4 (dk_at dksX0_has_0 0 rfl rfl)
theorem dX0_has_2 : decode cX0_has 2 = .ok (.iconst 0, 1) := dk_3 (dk_at dksX0_has_0 2 rfl rfl)
theorem dX0_has_3 : decode cX0_has 3 = .ok (.aload_n 0, 1) := dk_42 (dk_at dksX0_has_0 3 rfl rfl)
theorem dX0_has_4 : decode cX0_has 4 = .ok (.iload_n 1, 1) := dk_27 (dk_at dksX0_has_0 4 rfl rfl)
theorem dX0_has_5 : decode cX0_has 5 = .ok (.iload_n 2, 1) := dk_28 (dk_at dksX0_has_0 5 rfl rfl)
theorem dX0_has_6 : decode cX0_has 6 = .ok (.iload_n 3, 1) := dk_29 (dk_at dksX0_has_0 6 rfl rfl)
theorem dX0_has_7 : decode cX0_has 7 = .ok (.invokevirtual 104, 3) := dk_182 0 104 (dk_at dksX0_has_0 7 rfl rfl)
theorem dX0_has_10 : decode cX0_has 10 = .ok (.i2l, 1) := dk_133 (dk_at dksX0_has_0 10 rfl rfl)
theorem dX0_has_11 : decode cX0_has 11 = .ok (.lastore, 1) := dk_80 (dk_at dksX0_has_0 11 rfl rfl)
theorem dX0_has_12 : decode cX0_has 12 = .ok (.goto 7, 3) := dk_167 0 7 (dk_at dksX0_has_0 12 rfl rfl)
theorem dX0_has_15 : decode cX0_has 15 = .ok (.astore 5, 2) := dk_58 5 (dk_at dksX0_has_0 15 rfl rfl)
theorem dX0_has_17 : decode cX0_has 17 = .ok (.iconst 1, 1) := dk_4 (dk_at dksX0_has_0 17 rfl rfl)
theorem dX0_has_18 : decode cX0_has 18 = .ok (.ireturn, 1) := dk_172 (dk_at dksX0_has_0 18 rfl rfl)
theorem dX0_has_19 : decode cX0_has 19 = .ok (.iconst 0, 1) := dk_3 (dk_at dksX0_has_0 19 rfl rfl)
theorem dX0_has_20 : decode cX0_has 20 = .ok (.ireturn, 1) := dk_172 (dk_at dksX0_has_0 20 rfl rfl)
abbrev cX0_voyage : ByteArray := method_32_code
def yX0_voyage : MethodName := ⟨RX0, "voyage", "(LPassagePapers;IIIII[J)I"⟩
def dkwX0_voyage_1 : List UInt8 := [172]
abbrev dktX0_voyage_1 : List UInt8 := dkwX0_voyage_1 ++ []
def dkwX0_voyage_0 : List UInt8 := [25, 6, 3, 42, 27, 28, 29, 21, 4, 21, 5, 182, 0, 107, 133, 80, 167, 0, 7, 58, 7, 4, 172, 3]
abbrev dktX0_voyage_0 : List UInt8 := dkwX0_voyage_0 ++ dktX0_voyage_1
theorem dksX0_voyage_0 : cX0_voyage.data.toList.drop 0 = dktX0_voyage_0 := by decide +kernel
theorem dksX0_voyage_1 : cX0_voyage.data.toList.drop 24 = dktX0_voyage_1 := dk_seg dksX0_voyage_0 24 rfl rfl
theorem dX0_voyage_0 : decode cX0_voyage 0 = .ok (.aload 6, 2) := dk_25 6 (dk_at dksX0_voyage_0 0 rfl rfl)
theorem dX0_voyage_2 : decode cX0_voyage 2 = .ok (.iconst 0, 1) := dk_3 (dk_at dksX0_voyage_0 2 rfl rfl)
theorem dX0_voyage_3 : decode cX0_voyage 3 = .ok (.aload_n 0, 1) := dk_42 (dk_at dksX0_voyage_0 3 rfl rfl)
theorem dX0_voyage_4 : decode cX0_voyage 4 = .ok (.iload_n 1, 1) := dk_27 (dk_at dksX0_voyage_0 4 rfl rfl)
theorem dX0_voyage_5 : decode cX0_voyage 5 = .ok (.iload_n 2, 1) := dk_28 (dk_at dksX0_voyage_0 5 rfl rfl)
theorem dX0_voyage_6 : decode cX0_voyage 6 = .ok (.iload_n 3, 1) := dk_29 (dk_at dksX0_voyage_0 6 rfl rfl)
theorem dX0_voyage_7 : decode cX0_voyage 7 = .ok (.iload 4, 2) := dk_21 4 (dk_at dksX0_voyage_0 7 rfl rfl)
theorem dX0_voyage_9 : decode cX0_voyage 9 = .ok (.iload 5, 2) := dk_21 5 (dk_at dksX0_voyage_0 9 rfl rfl)
theorem dX0_voyage_11 : decode cX0_voyage 11 = .ok (.invokevirtual 107, 3) := dk_182 0 107 (dk_at dksX0_voyage_0 11 rfl rfl)
theorem dX0_voyage_14 : decode cX0_voyage 14 = .ok (.i2l, 1) := dk_133 (dk_at dksX0_voyage_0 14 rfl rfl)
theorem dX0_voyage_15 : decode cX0_voyage 15 = .ok (.lastore, 1) := dk_80 (dk_at dksX0_voyage_0 15 rfl rfl)
theorem dX0_voyage_16 : decode cX0_voyage 16 = .ok (.goto 7, 3) := dk_167 0 7 (dk_at dksX0_voyage_0 16 rfl rfl)
theorem dX0_voyage_19 : decode cX0_voyage 19 = .ok (.astore 7, 2) := dk_58 7 (dk_at dksX0_voyage_0 19 rfl rfl)
theorem dX0_voyage_21 : decode cX0_voyage 21 = .ok (.iconst 1, 1) := dk_4 (dk_at dksX0_voyage_0 21 rfl rfl)
theorem dX0_voyage_22 : decode cX0_voyage 22 = .ok (.ireturn, 1) := dk_172 (dk_at dksX0_voyage_0 22 rfl rfl)
theorem dX0_voyage_23 : decode cX0_voyage 23 = .ok (.iconst 0, 1) := dk_3 (dk_at dksX0_voyage_0 23 rfl rfl)
theorem dX0_voyage_24 : decode cX0_voyage 24 = .ok (.ireturn, 1) := dk_172 (dk_at dksX0_voyage_1 0 rfl rfl)
abbrev cX0_span : ByteArray := method_33_code
def yX0_span : MethodName := ⟨RX0, "span", "(LPassagePapers;IIIIII[J)I"⟩
def dkwX0_span_1 : List UInt8 := [172, 3, 172]
abbrev dktX0_span_1 : List UInt8 := dkwX0_span_1 ++ []
def dkwX0_span_0 : List UInt8 := [25, 7, 3, 42, 27, 28, 29, 21, 4, 21, 5, 21, 6, 182, 0, 111, 133, 80, 167, 0, 7, 58, 8, 4]
abbrev dktX0_span_0 : List UInt8 := dkwX0_span_0 ++ dktX0_span_1
theorem dksX0_span_0 : cX0_span.data.toList.drop 0 = dktX0_span_0 := by decide +kernel
theorem dksX0_span_1 : cX0_span.data.toList.drop 24 = dktX0_span_1 := dk_seg dksX0_span_0 24 rfl rfl
theorem dX0_span_0 : decode cX0_span 0 = .ok (.aload 7, 2) := dk_25 7 (dk_at dksX0_span_0 0 rfl rfl)
theorem dX0_span_2 : decode cX0_span 2 = .ok (.iconst 0, 1) := dk_3 (dk_at dksX0_span_0 2 rfl rfl)
theorem dX0_span_3 : decode cX0_span 3 = .ok (.aload_n 0, 1) := dk_42 (dk_at dksX0_span_0 3 rfl rfl)
theorem dX0_span_4 : decode cX0_span 4 = .ok (.iload_n 1, 1) := dk_27 (dk_at dksX0_span_0 4 rfl rfl)
theorem dX0_span_5 : decode cX0_span 5 = .ok (.iload_n 2, 1) := dk_28 (dk_at dksX0_span_0 5 rfl rfl)
theorem dX0_span_6 : decode cX0_span 6 = .ok (.iload_n 3, 1) := dk_29 (dk_at dksX0_span_0 6 rfl rfl)
theorem dX0_span_7 : decode cX0_span 7 = .ok (.iload 4, 2) := dk_21 4 (dk_at dksX0_span_0 7 rfl rfl)
theorem dX0_span_9 : decode cX0_span 9 = .ok (.iload 5, 2) := dk_21 5 (dk_at dksX0_span_0 9 rfl rfl)
theorem dX0_span_11 : decode cX0_span 11 = .ok (.iload 6, 2) := dk_21 6 (dk_at dksX0_span_0 11 rfl rfl)
theorem dX0_span_13 : decode cX0_span 13 = .ok (.invokevirtual 111, 3) := dk_182 0 111 (dk_at dksX0_span_0 13 rfl rfl)
theorem dX0_span_16 : decode cX0_span 16 = .ok (.i2l, 1) := dk_133 (dk_at dksX0_span_0 16 rfl rfl)
theorem dX0_span_17 : decode cX0_span 17 = .ok (.lastore, 1) := dk_80 (dk_at dksX0_span_0 17 rfl rfl)
theorem dX0_span_18 : decode cX0_span 18 = .ok (.goto 7, 3) := dk_167 0 7 (dk_at dksX0_span_0 18 rfl rfl)
theorem dX0_span_21 : decode cX0_span 21 = .ok (.astore 8, 2) := dk_58 8 (dk_at dksX0_span_0 21 rfl rfl)
theorem dX0_span_23 : decode cX0_span 23 = .ok (.iconst 1, 1) := dk_4 (dk_at dksX0_span_0 23 rfl rfl)
theorem dX0_span_24 : decode cX0_span 24 = .ok (.ireturn, 1) := dk_172 (dk_at dksX0_span_1 0 rfl rfl)
theorem dX0_span_25 : decode cX0_span 25 = .ok (.iconst 0, 1) := dk_3 (dk_at dksX0_span_1 1 rfl rfl)
theorem dX0_span_26 : decode cX0_span 26 = .ok (.ireturn, 1) := dk_172 (dk_at dksX0_span_1 2 rfl rfl)
theorem q89 : (Jvm.Cond.initialized "PassagePapersLaw") ∈ lw_all := lw_g (lw_at lw_m1 0 rfl) rfl
theorem q126 : (Jvm.Cond.classLink "PassagePapersLaw" (8 : Nat) "PassagePapers") ∈ lw_all := lw_g (lw_at lw_m1 37 rfl) rfl
theorem q128 : (Jvm.Cond.methodLink "PassagePapersLaw" (114 : Nat) ({ cls := "PassagePapers", name := "<init>", desc := "()V" } : Jvm.MethodName)) ∈ lw_all := lw_g (lw_at lw_m1 39 rfl) rfl
theorem q446 : (Jvm.Cond.methodLink "PassagePapersLaw" (118 : Nat) ({ cls := "PassagePapers", name := "feed", desc := "(IIIII)I" } : Jvm.MethodName)) ∈ lw_all := lw_g (lw_at lw_m2 117 rfl) rfl
theorem q450 : (Jvm.Cond.methodLink "PassagePapersLaw" (142 : Nat) ({ cls := "PassagePapers", name := "fault", desc := "()I" } : Jvm.MethodName)) ∈ lw_all := lw_g (lw_at lw_m2 121 rfl) rfl
theorem q454 : (Jvm.Cond.methodLink "PassagePapersLaw" (146 : Nat) ({ cls := "PassagePapers", name := "undo", desc := "()I" } : Jvm.MethodName)) ∈ lw_all := lw_g (lw_at lw_m2 125 rfl) rfl
theorem q458 : (Jvm.Cond.methodLink "PassagePapersLaw" (169 : Nat) ({ cls := "PassagePapers", name := "held", desc := "()I" } : Jvm.MethodName)) ∈ lw_all := lw_g (lw_at lw_m2 129 rfl) rfl
theorem q529 : (Jvm.Cond.methodLink "PassagePapersLaw" (191 : Nat) ({ cls := "PassagePapers", name := "parted", desc := "()I" } : Jvm.MethodName)) ∈ lw_all := lw_g (lw_at lw_m2 200 rfl) rfl
theorem q534 : (Jvm.Cond.methodLink "PassagePapersLaw" (210 : Nat) ({ cls := "PassagePapers", name := "hunger", desc := "()I" } : Jvm.MethodName)) ∈ lw_all := lw_g (lw_at lw_m2 205 rfl) rfl
theorem q542 : (Jvm.Cond.methodLink "PassagePapersLaw" (247 : Nat) ({ cls := "PassagePapers", name := "image", desc := "()I" } : Jvm.MethodName)) ∈ lw_all := lw_g (lw_at lw_m2 213 rfl) rfl
theorem q560 : (Jvm.Cond.methodLink "PassagePapersLaw" (251 : Nat) ({ cls := "PassagePapers", name := "restore", desc := "()I" } : Jvm.MethodName)) ∈ lw_all := lw_g (lw_at lw_m2 231 rfl) rfl
theorem q564 : (Jvm.Cond.methodLink "PassagePapersLaw" (255 : Nat) ({ cls := "PassagePapers", name := "status", desc := "(I)I" } : Jvm.MethodName)) ∈ lw_all := lw_g (lw_at lw_m2 235 rfl) rfl
theorem q568 : (Jvm.Cond.methodLink "PassagePapersLaw" (259 : Nat) ({ cls := "PassagePapers", name := "count", desc := "(I)I" } : Jvm.MethodName)) ∈ lw_all := lw_g (lw_at lw_m2 239 rfl) rfl
theorem q572 : (Jvm.Cond.methodLink "PassagePapersLaw" (122 : Nat) ({ cls := "PassagePapersLaw", name := "register", desc := "(LPassagePapers;I[J)I" } : Jvm.MethodName)) ∈ lw_all := lw_g (lw_at lw_m3 3 rfl) rfl
theorem q573 : (Jvm.Cond.static ({ cls := "PassagePapersLaw", name := "register", desc := "(LPassagePapers;I[J)I" } : Jvm.MethodName)) ∈ lw_all := lw_g (lw_at lw_m3 4 rfl) rfl
theorem q574 : (Jvm.Cond.codeWith ({ cls := "PassagePapersLaw", name := "register", desc := "(LPassagePapers;I[J)I" } : Jvm.MethodName) method_3_code (4 : Nat) (Option.some Jvm.ClassFile.FieldType.int) [((0 : Nat), (9 : Nat), (12 : Nat), (13 : Nat))]) ∈ lw_all := lw_g (lw_at lw_m3 5 rfl) rfl
theorem q575 : (Jvm.Cond.classLink "PassagePapersLaw" (13 : Nat) "java/lang/IllegalArgumentException") ∈ lw_all := lw_g (lw_at lw_m3 6 rfl) rfl
theorem q576 : (Jvm.Cond.methodLink "PassagePapersLaw" (7 : Nat) ({ cls := "PassagePapers", name := "register", desc := "(I)I" } : Jvm.MethodName)) ∈ lw_all := lw_g (lw_at lw_m3 7 rfl) rfl
theorem q840 : (Jvm.Cond.methodLink "PassagePapersLaw" (132 : Nat) ({ cls := "PassagePapersLaw", name := "law", desc := "(LPassagePapers;II[J)I" } : Jvm.MethodName)) ∈ lw_all := lw_g (lw_at lw_m4 31 rfl) rfl
theorem q841 : (Jvm.Cond.static ({ cls := "PassagePapersLaw", name := "law", desc := "(LPassagePapers;II[J)I" } : Jvm.MethodName)) ∈ lw_all := lw_g (lw_at lw_m4 32 rfl) rfl
theorem q842 : (Jvm.Cond.codeWith ({ cls := "PassagePapersLaw", name := "law", desc := "(LPassagePapers;II[J)I" } : Jvm.MethodName) method_4_code (5 : Nat) (Option.some Jvm.ClassFile.FieldType.int) [((0 : Nat), (10 : Nat), (13 : Nat), (13 : Nat))]) ∈ lw_all := lw_g (lw_at lw_m4 33 rfl) rfl
theorem q843 : (Jvm.Cond.methodLink "PassagePapersLaw" (15 : Nat) ({ cls := "PassagePapers", name := "law", desc := "(II)I" } : Jvm.MethodName)) ∈ lw_all := lw_g (lw_at lw_m4 34 rfl) rfl
theorem q946 : (Jvm.Cond.methodLink "PassagePapersLaw" (136 : Nat) ({ cls := "PassagePapersLaw", name := "work", desc := "(LPassagePapers;I[J)I" } : Jvm.MethodName)) ∈ lw_all := lw_g (lw_at lw_m4 137 rfl) rfl
theorem q947 : (Jvm.Cond.static ({ cls := "PassagePapersLaw", name := "work", desc := "(LPassagePapers;I[J)I" } : Jvm.MethodName)) ∈ lw_all := lw_g (lw_at lw_m4 138 rfl) rfl
theorem q948 : (Jvm.Cond.codeWith ({ cls := "PassagePapersLaw", name := "work", desc := "(LPassagePapers;I[J)I" } : Jvm.MethodName) method_5_code (4 : Nat) (Option.some Jvm.ClassFile.FieldType.int) [((0 : Nat), (9 : Nat), (12 : Nat), (13 : Nat))]) ∈ lw_all := lw_g (lw_at lw_m4 139 rfl) rfl
theorem q949 : (Jvm.Cond.methodLink "PassagePapersLaw" (19 : Nat) ({ cls := "PassagePapers", name := "work", desc := "(I)I" } : Jvm.MethodName)) ∈ lw_all := lw_g (lw_at lw_m4 140 rfl) rfl
theorem q1206 : (Jvm.Cond.methodLink "PassagePapersLaw" (139 : Nat) ({ cls := "PassagePapersLaw", name := "book", desc := "(LPassagePapers;I[J)I" } : Jvm.MethodName)) ∈ lw_all := lw_g (lw_at lw_m5 157 rfl) rfl
theorem q1207 : (Jvm.Cond.static ({ cls := "PassagePapersLaw", name := "book", desc := "(LPassagePapers;I[J)I" } : Jvm.MethodName)) ∈ lw_all := lw_g (lw_at lw_m5 158 rfl) rfl
theorem q1208 : (Jvm.Cond.codeWith ({ cls := "PassagePapersLaw", name := "book", desc := "(LPassagePapers;I[J)I" } : Jvm.MethodName) method_6_code (4 : Nat) (Option.some Jvm.ClassFile.FieldType.int) [((0 : Nat), (9 : Nat), (12 : Nat), (13 : Nat))]) ∈ lw_all := lw_g (lw_at lw_m5 159 rfl) rfl
theorem q1209 : (Jvm.Cond.methodLink "PassagePapersLaw" (22 : Nat) ({ cls := "PassagePapers", name := "book", desc := "(I)I" } : Jvm.MethodName)) ∈ lw_all := lw_g (lw_at lw_m5 160 rfl) rfl
theorem q1219 : (Jvm.Cond.methodLink "PassagePapersLaw" (150 : Nat) ({ cls := "PassagePapersLaw", name := "told", desc := "(LPassagePapers;I[J)I" } : Jvm.MethodName)) ∈ lw_all := lw_g (lw_at lw_m5 170 rfl) rfl
theorem q1220 : (Jvm.Cond.static ({ cls := "PassagePapersLaw", name := "told", desc := "(LPassagePapers;I[J)I" } : Jvm.MethodName)) ∈ lw_all := lw_g (lw_at lw_m5 171 rfl) rfl
theorem q1221 : (Jvm.Cond.codeWith ({ cls := "PassagePapersLaw", name := "told", desc := "(LPassagePapers;I[J)I" } : Jvm.MethodName) method_7_code (4 : Nat) (Option.some Jvm.ClassFile.FieldType.int) [((0 : Nat), (9 : Nat), (12 : Nat), (13 : Nat))]) ∈ lw_all := lw_g (lw_at lw_m5 172 rfl) rfl
theorem q1222 : (Jvm.Cond.methodLink "PassagePapersLaw" (25 : Nat) ({ cls := "PassagePapers", name := "told", desc := "(I)I" } : Jvm.MethodName)) ∈ lw_all := lw_g (lw_at lw_m5 173 rfl) rfl
theorem q1226 : (Jvm.Cond.methodLink "PassagePapersLaw" (153 : Nat) ({ cls := "PassagePapersLaw", name := "signer", desc := "(LPassagePapers;II[J)I" } : Jvm.MethodName)) ∈ lw_all := lw_g (lw_at lw_m5 177 rfl) rfl
theorem q1227 : (Jvm.Cond.static ({ cls := "PassagePapersLaw", name := "signer", desc := "(LPassagePapers;II[J)I" } : Jvm.MethodName)) ∈ lw_all := lw_g (lw_at lw_m5 178 rfl) rfl
theorem q1228 : (Jvm.Cond.codeWith ({ cls := "PassagePapersLaw", name := "signer", desc := "(LPassagePapers;II[J)I" } : Jvm.MethodName) method_8_code (5 : Nat) (Option.some Jvm.ClassFile.FieldType.int) [((0 : Nat), (10 : Nat), (13 : Nat), (31 : Nat)), ((0 : Nat), (10 : Nat), (17 : Nat), (13 : Nat))]) ∈ lw_all := lw_g (lw_at lw_m5 179 rfl) rfl
theorem q1229 : (Jvm.Cond.classLink "PassagePapersLaw" (31 : Nat) "java/util/NoSuchElementException") ∈ lw_all := lw_g (lw_at lw_m5 180 rfl) rfl
theorem q1230 : (Jvm.Cond.methodLink "PassagePapersLaw" (28 : Nat) ({ cls := "PassagePapers", name := "signer", desc := "(II)I" } : Jvm.MethodName)) ∈ lw_all := lw_g (lw_at lw_m5 181 rfl) rfl
theorem q1253 : (Jvm.Cond.methodLink "PassagePapersLaw" (156 : Nat) ({ cls := "PassagePapersLaw", name := "taker", desc := "(LPassagePapers;II[J)I" } : Jvm.MethodName)) ∈ lw_all := lw_g (lw_at lw_m5 204 rfl) rfl
theorem q1254 : (Jvm.Cond.static ({ cls := "PassagePapersLaw", name := "taker", desc := "(LPassagePapers;II[J)I" } : Jvm.MethodName)) ∈ lw_all := lw_g (lw_at lw_m5 205 rfl) rfl
theorem q1255 : (Jvm.Cond.codeWith ({ cls := "PassagePapersLaw", name := "taker", desc := "(LPassagePapers;II[J)I" } : Jvm.MethodName) method_9_code (5 : Nat) (Option.some Jvm.ClassFile.FieldType.int) [((0 : Nat), (10 : Nat), (13 : Nat), (31 : Nat)), ((0 : Nat), (10 : Nat), (17 : Nat), (13 : Nat))]) ∈ lw_all := lw_g (lw_at lw_m5 206 rfl) rfl
theorem q1256 : (Jvm.Cond.methodLink "PassagePapersLaw" (33 : Nat) ({ cls := "PassagePapers", name := "taker", desc := "(II)I" } : Jvm.MethodName)) ∈ lw_all := lw_g (lw_at lw_m5 207 rfl) rfl
theorem q1265 : (Jvm.Cond.methodLink "PassagePapersLaw" (159 : Nat) ({ cls := "PassagePapersLaw", name := "asks", desc := "(LPassagePapers;II[J)I" } : Jvm.MethodName)) ∈ lw_all := lw_g (lw_at lw_m5 216 rfl) rfl
theorem q1266 : (Jvm.Cond.static ({ cls := "PassagePapersLaw", name := "asks", desc := "(LPassagePapers;II[J)I" } : Jvm.MethodName)) ∈ lw_all := lw_g (lw_at lw_m5 217 rfl) rfl
theorem q1267 : (Jvm.Cond.codeWith ({ cls := "PassagePapersLaw", name := "asks", desc := "(LPassagePapers;II[J)I" } : Jvm.MethodName) method_10_code (5 : Nat) (Option.some Jvm.ClassFile.FieldType.int) [((0 : Nat), (10 : Nat), (13 : Nat), (31 : Nat)), ((0 : Nat), (10 : Nat), (17 : Nat), (13 : Nat))]) ∈ lw_all := lw_g (lw_at lw_m5 218 rfl) rfl
theorem q1268 : (Jvm.Cond.methodLink "PassagePapersLaw" (36 : Nat) ({ cls := "PassagePapers", name := "asks", desc := "(II)I" } : Jvm.MethodName)) ∈ lw_all := lw_g (lw_at lw_m5 219 rfl) rfl
theorem q1273 : (Jvm.Cond.methodLink "PassagePapersLaw" (162 : Nat) ({ cls := "PassagePapersLaw", name := "owes", desc := "(LPassagePapers;I[J)I" } : Jvm.MethodName)) ∈ lw_all := lw_g (lw_at lw_m5 224 rfl) rfl
theorem q1274 : (Jvm.Cond.static ({ cls := "PassagePapersLaw", name := "owes", desc := "(LPassagePapers;I[J)I" } : Jvm.MethodName)) ∈ lw_all := lw_g (lw_at lw_m5 225 rfl) rfl
theorem q1275 : (Jvm.Cond.codeWith ({ cls := "PassagePapersLaw", name := "owes", desc := "(LPassagePapers;I[J)I" } : Jvm.MethodName) method_11_code (4 : Nat) (Option.some Jvm.ClassFile.FieldType.int) [((0 : Nat), (9 : Nat), (12 : Nat), (31 : Nat))]) ∈ lw_all := lw_g (lw_at lw_m5 226 rfl) rfl
theorem q1276 : (Jvm.Cond.methodLink "PassagePapersLaw" (39 : Nat) ({ cls := "PassagePapers", name := "owes", desc := "(I)I" } : Jvm.MethodName)) ∈ lw_all := lw_g (lw_at lw_m5 227 rfl) rfl
theorem q1281 : (Jvm.Cond.methodLink "PassagePapersLaw" (165 : Nat) ({ cls := "PassagePapersLaw", name := "would", desc := "(LPassagePapers;IIIIII[J)I" } : Jvm.MethodName)) ∈ lw_all := lw_g (lw_at lw_m5 232 rfl) rfl
theorem q1282 : (Jvm.Cond.static ({ cls := "PassagePapersLaw", name := "would", desc := "(LPassagePapers;IIIIII[J)I" } : Jvm.MethodName)) ∈ lw_all := lw_g (lw_at lw_m5 233 rfl) rfl
theorem q1283 : (Jvm.Cond.codeWith ({ cls := "PassagePapersLaw", name := "would", desc := "(LPassagePapers;IIIIII[J)I" } : Jvm.MethodName) method_12_code (9 : Nat) (Option.some Jvm.ClassFile.FieldType.int) [((0 : Nat), (18 : Nat), (21 : Nat), (13 : Nat))]) ∈ lw_all := lw_g (lw_at lw_m5 234 rfl) rfl
theorem q1284 : (Jvm.Cond.methodLink "PassagePapersLaw" (42 : Nat) ({ cls := "PassagePapers", name := "would", desc := "(IIIIII)I" } : Jvm.MethodName)) ∈ lw_all := lw_g (lw_at lw_m5 235 rfl) rfl
theorem q1289 : (Jvm.Cond.methodLink "PassagePapersLaw" (173 : Nat) ({ cls := "PassagePapersLaw", name := "freeIn", desc := "(LPassagePapers;I[J)I" } : Jvm.MethodName)) ∈ lw_all := lw_g (lw_at lw_m6 0 rfl) rfl
theorem q1290 : (Jvm.Cond.static ({ cls := "PassagePapersLaw", name := "freeIn", desc := "(LPassagePapers;I[J)I" } : Jvm.MethodName)) ∈ lw_all := lw_g (lw_at lw_m6 1 rfl) rfl
theorem q1291 : (Jvm.Cond.codeWith ({ cls := "PassagePapersLaw", name := "freeIn", desc := "(LPassagePapers;I[J)I" } : Jvm.MethodName) method_13_code (4 : Nat) (Option.some Jvm.ClassFile.FieldType.int) [((0 : Nat), (9 : Nat), (12 : Nat), (31 : Nat))]) ∈ lw_all := lw_g (lw_at lw_m6 2 rfl) rfl
theorem q1292 : (Jvm.Cond.methodLink "PassagePapersLaw" (46 : Nat) ({ cls := "PassagePapers", name := "freeIn", desc := "(I)I" } : Jvm.MethodName)) ∈ lw_all := lw_g (lw_at lw_m6 3 rfl) rfl
theorem q1305 : (Jvm.Cond.methodLink "PassagePapersLaw" (176 : Nat) ({ cls := "PassagePapersLaw", name := "otherwise", desc := "(LPassagePapers;I[J)I" } : Jvm.MethodName)) ∈ lw_all := lw_g (lw_at lw_m6 16 rfl) rfl
theorem q1306 : (Jvm.Cond.static ({ cls := "PassagePapersLaw", name := "otherwise", desc := "(LPassagePapers;I[J)I" } : Jvm.MethodName)) ∈ lw_all := lw_g (lw_at lw_m6 17 rfl) rfl
theorem q1307 : (Jvm.Cond.codeWith ({ cls := "PassagePapersLaw", name := "otherwise", desc := "(LPassagePapers;I[J)I" } : Jvm.MethodName) method_14_code (4 : Nat) (Option.some Jvm.ClassFile.FieldType.int) [((0 : Nat), (9 : Nat), (12 : Nat), (31 : Nat))]) ∈ lw_all := lw_g (lw_at lw_m6 18 rfl) rfl
theorem q1308 : (Jvm.Cond.methodLink "PassagePapersLaw" (49 : Nat) ({ cls := "PassagePapers", name := "otherwise", desc := "(I)I" } : Jvm.MethodName)) ∈ lw_all := lw_g (lw_at lw_m6 19 rfl) rfl
theorem q1312 : (Jvm.Cond.methodLink "PassagePapersLaw" (179 : Nat) ({ cls := "PassagePapersLaw", name := "ahead", desc := "(LPassagePapers;II[J)I" } : Jvm.MethodName)) ∈ lw_all := lw_g (lw_at lw_m6 23 rfl) rfl
theorem q1313 : (Jvm.Cond.static ({ cls := "PassagePapersLaw", name := "ahead", desc := "(LPassagePapers;II[J)I" } : Jvm.MethodName)) ∈ lw_all := lw_g (lw_at lw_m6 24 rfl) rfl
theorem q1314 : (Jvm.Cond.codeWith ({ cls := "PassagePapersLaw", name := "ahead", desc := "(LPassagePapers;II[J)I" } : Jvm.MethodName) method_15_code (5 : Nat) (Option.some Jvm.ClassFile.FieldType.int) [((0 : Nat), (10 : Nat), (13 : Nat), (13 : Nat))]) ∈ lw_all := lw_g (lw_at lw_m6 25 rfl) rfl
theorem q1315 : (Jvm.Cond.methodLink "PassagePapersLaw" (52 : Nat) ({ cls := "PassagePapers", name := "ahead", desc := "(II)I" } : Jvm.MethodName)) ∈ lw_all := lw_g (lw_at lw_m6 26 rfl) rfl
theorem q1326 : (Jvm.Cond.methodLink "PassagePapersLaw" (182 : Nat) ({ cls := "PassagePapersLaw", name := "gives", desc := "(LPassagePapers;II[J)I" } : Jvm.MethodName)) ∈ lw_all := lw_g (lw_at lw_m6 37 rfl) rfl
theorem q1327 : (Jvm.Cond.static ({ cls := "PassagePapersLaw", name := "gives", desc := "(LPassagePapers;II[J)I" } : Jvm.MethodName)) ∈ lw_all := lw_g (lw_at lw_m6 38 rfl) rfl
theorem q1328 : (Jvm.Cond.codeWith ({ cls := "PassagePapersLaw", name := "gives", desc := "(LPassagePapers;II[J)I" } : Jvm.MethodName) method_16_code (5 : Nat) (Option.some Jvm.ClassFile.FieldType.int) [((0 : Nat), (10 : Nat), (13 : Nat), (31 : Nat))]) ∈ lw_all := lw_g (lw_at lw_m6 39 rfl) rfl
theorem q1329 : (Jvm.Cond.methodLink "PassagePapersLaw" (55 : Nat) ({ cls := "PassagePapers", name := "gives", desc := "(II)I" } : Jvm.MethodName)) ∈ lw_all := lw_g (lw_at lw_m6 40 rfl) rfl
theorem q1337 : (Jvm.Cond.methodLink "PassagePapersLaw" (185 : Nat) ({ cls := "PassagePapersLaw", name := "best", desc := "(LPassagePapers;I[J)I" } : Jvm.MethodName)) ∈ lw_all := lw_g (lw_at lw_m6 48 rfl) rfl
theorem q1338 : (Jvm.Cond.static ({ cls := "PassagePapersLaw", name := "best", desc := "(LPassagePapers;I[J)I" } : Jvm.MethodName)) ∈ lw_all := lw_g (lw_at lw_m6 49 rfl) rfl
theorem q1339 : (Jvm.Cond.codeWith ({ cls := "PassagePapersLaw", name := "best", desc := "(LPassagePapers;I[J)I" } : Jvm.MethodName) method_17_code (4 : Nat) (Option.some Jvm.ClassFile.FieldType.int) [((0 : Nat), (9 : Nat), (12 : Nat), (13 : Nat))]) ∈ lw_all := lw_g (lw_at lw_m6 50 rfl) rfl
theorem q1340 : (Jvm.Cond.methodLink "PassagePapersLaw" (58 : Nat) ({ cls := "PassagePapers", name := "best", desc := "(I)I" } : Jvm.MethodName)) ∈ lw_all := lw_g (lw_at lw_m6 51 rfl) rfl
theorem q1369 : (Jvm.Cond.methodLink "PassagePapersLaw" (188 : Nat) ({ cls := "PassagePapersLaw", name := "bestFor", desc := "(LPassagePapers;I[J)I" } : Jvm.MethodName)) ∈ lw_all := lw_g (lw_at lw_m6 80 rfl) rfl
theorem q1370 : (Jvm.Cond.static ({ cls := "PassagePapersLaw", name := "bestFor", desc := "(LPassagePapers;I[J)I" } : Jvm.MethodName)) ∈ lw_all := lw_g (lw_at lw_m6 81 rfl) rfl
theorem q1371 : (Jvm.Cond.codeWith ({ cls := "PassagePapersLaw", name := "bestFor", desc := "(LPassagePapers;I[J)I" } : Jvm.MethodName) method_18_code (4 : Nat) (Option.some Jvm.ClassFile.FieldType.int) [((0 : Nat), (9 : Nat), (12 : Nat), (31 : Nat))]) ∈ lw_all := lw_g (lw_at lw_m6 82 rfl) rfl
theorem q1372 : (Jvm.Cond.methodLink "PassagePapersLaw" (61 : Nat) ({ cls := "PassagePapers", name := "bestFor", desc := "(I)I" } : Jvm.MethodName)) ∈ lw_all := lw_g (lw_at lw_m6 83 rfl) rfl
theorem q1376 : (Jvm.Cond.methodLink "PassagePapersLaw" (195 : Nat) ({ cls := "PassagePapersLaw", name := "kin", desc := "(LPassagePapers;I[J)I" } : Jvm.MethodName)) ∈ lw_all := lw_g (lw_at lw_m6 87 rfl) rfl
theorem q1377 : (Jvm.Cond.static ({ cls := "PassagePapersLaw", name := "kin", desc := "(LPassagePapers;I[J)I" } : Jvm.MethodName)) ∈ lw_all := lw_g (lw_at lw_m6 88 rfl) rfl
theorem q1378 : (Jvm.Cond.codeWith ({ cls := "PassagePapersLaw", name := "kin", desc := "(LPassagePapers;I[J)I" } : Jvm.MethodName) method_19_code (4 : Nat) (Option.some Jvm.ClassFile.FieldType.int) [((0 : Nat), (9 : Nat), (12 : Nat), (31 : Nat))]) ∈ lw_all := lw_g (lw_at lw_m6 89 rfl) rfl
theorem q1379 : (Jvm.Cond.methodLink "PassagePapersLaw" (64 : Nat) ({ cls := "PassagePapers", name := "kin", desc := "(I)I" } : Jvm.MethodName)) ∈ lw_all := lw_g (lw_at lw_m6 90 rfl) rfl
theorem q1383 : (Jvm.Cond.methodLink "PassagePapersLaw" (198 : Nat) ({ cls := "PassagePapersLaw", name := "fare", desc := "(LPassagePapers;I[J)I" } : Jvm.MethodName)) ∈ lw_all := lw_g (lw_at lw_m6 94 rfl) rfl
theorem q1384 : (Jvm.Cond.static ({ cls := "PassagePapersLaw", name := "fare", desc := "(LPassagePapers;I[J)I" } : Jvm.MethodName)) ∈ lw_all := lw_g (lw_at lw_m6 95 rfl) rfl
theorem q1385 : (Jvm.Cond.codeWith ({ cls := "PassagePapersLaw", name := "fare", desc := "(LPassagePapers;I[J)I" } : Jvm.MethodName) method_20_code (4 : Nat) (Option.some Jvm.ClassFile.FieldType.int) [((0 : Nat), (9 : Nat), (12 : Nat), (31 : Nat))]) ∈ lw_all := lw_g (lw_at lw_m6 96 rfl) rfl
theorem q1386 : (Jvm.Cond.methodLink "PassagePapersLaw" (67 : Nat) ({ cls := "PassagePapers", name := "fare", desc := "(I)I" } : Jvm.MethodName)) ∈ lw_all := lw_g (lw_at lw_m6 97 rfl) rfl
theorem q1391 : (Jvm.Cond.methodLink "PassagePapersLaw" (201 : Nat) ({ cls := "PassagePapersLaw", name := "canPay", desc := "(LPassagePapers;I[J)I" } : Jvm.MethodName)) ∈ lw_all := lw_g (lw_at lw_m6 102 rfl) rfl
theorem q1392 : (Jvm.Cond.static ({ cls := "PassagePapersLaw", name := "canPay", desc := "(LPassagePapers;I[J)I" } : Jvm.MethodName)) ∈ lw_all := lw_g (lw_at lw_m6 103 rfl) rfl
theorem q1393 : (Jvm.Cond.codeWith ({ cls := "PassagePapersLaw", name := "canPay", desc := "(LPassagePapers;I[J)I" } : Jvm.MethodName) method_21_code (4 : Nat) (Option.some Jvm.ClassFile.FieldType.int) [((0 : Nat), (16 : Nat), (19 : Nat), (31 : Nat))]) ∈ lw_all := lw_g (lw_at lw_m6 104 rfl) rfl
theorem q1394 : (Jvm.Cond.methodLink "PassagePapersLaw" (70 : Nat) ({ cls := "PassagePapers", name := "canPay", desc := "(I)Z" } : Jvm.MethodName)) ∈ lw_all := lw_g (lw_at lw_m6 105 rfl) rfl
theorem q1399 : (Jvm.Cond.methodLink "PassagePapersLaw" (204 : Nat) ({ cls := "PassagePapersLaw", name := "enough", desc := "(LPassagePapers;I[J)I" } : Jvm.MethodName)) ∈ lw_all := lw_g (lw_at lw_m6 110 rfl) rfl
theorem q1400 : (Jvm.Cond.static ({ cls := "PassagePapersLaw", name := "enough", desc := "(LPassagePapers;I[J)I" } : Jvm.MethodName)) ∈ lw_all := lw_g (lw_at lw_m6 111 rfl) rfl
theorem q1401 : (Jvm.Cond.codeWith ({ cls := "PassagePapersLaw", name := "enough", desc := "(LPassagePapers;I[J)I" } : Jvm.MethodName) method_22_code (4 : Nat) (Option.some Jvm.ClassFile.FieldType.int) [((0 : Nat), (9 : Nat), (12 : Nat), (13 : Nat))]) ∈ lw_all := lw_g (lw_at lw_m6 112 rfl) rfl
theorem q1402 : (Jvm.Cond.methodLink "PassagePapersLaw" (74 : Nat) ({ cls := "PassagePapers", name := "enough", desc := "(I)I" } : Jvm.MethodName)) ∈ lw_all := lw_g (lw_at lw_m6 113 rfl) rfl
theorem q1406 : (Jvm.Cond.methodLink "PassagePapersLaw" (207 : Nat) ({ cls := "PassagePapersLaw", name := "level", desc := "(LPassagePapers;I[J)I" } : Jvm.MethodName)) ∈ lw_all := lw_g (lw_at lw_m6 117 rfl) rfl
theorem q1407 : (Jvm.Cond.static ({ cls := "PassagePapersLaw", name := "level", desc := "(LPassagePapers;I[J)I" } : Jvm.MethodName)) ∈ lw_all := lw_g (lw_at lw_m6 118 rfl) rfl
theorem q1408 : (Jvm.Cond.codeWith ({ cls := "PassagePapersLaw", name := "level", desc := "(LPassagePapers;I[J)I" } : Jvm.MethodName) method_23_code (4 : Nat) (Option.some Jvm.ClassFile.FieldType.int) [((0 : Nat), (9 : Nat), (12 : Nat), (13 : Nat))]) ∈ lw_all := lw_g (lw_at lw_m6 119 rfl) rfl
theorem q1409 : (Jvm.Cond.methodLink "PassagePapersLaw" (77 : Nat) ({ cls := "PassagePapers", name := "level", desc := "(I)I" } : Jvm.MethodName)) ∈ lw_all := lw_g (lw_at lw_m6 120 rfl) rfl
theorem q1413 : (Jvm.Cond.methodLink "PassagePapersLaw" (214 : Nat) ({ cls := "PassagePapersLaw", name := "terms", desc := "(LPassagePapers;II[J)I" } : Jvm.MethodName)) ∈ lw_all := lw_g (lw_at lw_m6 124 rfl) rfl
theorem q1414 : (Jvm.Cond.static ({ cls := "PassagePapersLaw", name := "terms", desc := "(LPassagePapers;II[J)I" } : Jvm.MethodName)) ∈ lw_all := lw_g (lw_at lw_m6 125 rfl) rfl
theorem q1415 : (Jvm.Cond.codeWith ({ cls := "PassagePapersLaw", name := "terms", desc := "(LPassagePapers;II[J)I" } : Jvm.MethodName) method_24_code (5 : Nat) (Option.some Jvm.ClassFile.FieldType.int) [((0 : Nat), (10 : Nat), (13 : Nat), (31 : Nat)), ((0 : Nat), (10 : Nat), (17 : Nat), (13 : Nat))]) ∈ lw_all := lw_g (lw_at lw_m6 126 rfl) rfl
theorem q1416 : (Jvm.Cond.methodLink "PassagePapersLaw" (80 : Nat) ({ cls := "PassagePapers", name := "terms", desc := "(II)I" } : Jvm.MethodName)) ∈ lw_all := lw_g (lw_at lw_m6 127 rfl) rfl
theorem q1426 : (Jvm.Cond.methodLink "PassagePapersLaw" (217 : Nat) ({ cls := "PassagePapersLaw", name := "ask", desc := "(LPassagePapers;II[J)I" } : Jvm.MethodName)) ∈ lw_all := lw_g (lw_at lw_m6 137 rfl) rfl
theorem q1427 : (Jvm.Cond.static ({ cls := "PassagePapersLaw", name := "ask", desc := "(LPassagePapers;II[J)I" } : Jvm.MethodName)) ∈ lw_all := lw_g (lw_at lw_m6 138 rfl) rfl
theorem q1428 : (Jvm.Cond.codeWith ({ cls := "PassagePapersLaw", name := "ask", desc := "(LPassagePapers;II[J)I" } : Jvm.MethodName) method_25_code (5 : Nat) (Option.some Jvm.ClassFile.FieldType.int) [((0 : Nat), (10 : Nat), (13 : Nat), (31 : Nat)), ((0 : Nat), (10 : Nat), (17 : Nat), (13 : Nat))]) ∈ lw_all := lw_g (lw_at lw_m6 139 rfl) rfl
theorem q1429 : (Jvm.Cond.methodLink "PassagePapersLaw" (83 : Nat) ({ cls := "PassagePapers", name := "ask", desc := "(II)I" } : Jvm.MethodName)) ∈ lw_all := lw_g (lw_at lw_m6 140 rfl) rfl
theorem q1441 : (Jvm.Cond.methodLink "PassagePapersLaw" (220 : Nat) ({ cls := "PassagePapersLaw", name := "court", desc := "(LPassagePapers;III[J)I" } : Jvm.MethodName)) ∈ lw_all := lw_g (lw_at lw_m6 152 rfl) rfl
theorem q1442 : (Jvm.Cond.static ({ cls := "PassagePapersLaw", name := "court", desc := "(LPassagePapers;III[J)I" } : Jvm.MethodName)) ∈ lw_all := lw_g (lw_at lw_m6 153 rfl) rfl
theorem q1443 : (Jvm.Cond.codeWith ({ cls := "PassagePapersLaw", name := "court", desc := "(LPassagePapers;III[J)I" } : Jvm.MethodName) method_26_code (6 : Nat) (Option.some Jvm.ClassFile.FieldType.int) [((0 : Nat), (11 : Nat), (14 : Nat), (13 : Nat))]) ∈ lw_all := lw_g (lw_at lw_m6 154 rfl) rfl
theorem q1444 : (Jvm.Cond.methodLink "PassagePapersLaw" (86 : Nat) ({ cls := "PassagePapers", name := "court", desc := "(III)J" } : Jvm.MethodName)) ∈ lw_all := lw_g (lw_at lw_m6 155 rfl) rfl
theorem q1461 : (Jvm.Cond.methodLink "PassagePapersLaw" (224 : Nat) ({ cls := "PassagePapersLaw", name := "witnesses", desc := "(LPassagePapers;II[J)I" } : Jvm.MethodName)) ∈ lw_all := lw_g (lw_at lw_m6 172 rfl) rfl
theorem q1462 : (Jvm.Cond.static ({ cls := "PassagePapersLaw", name := "witnesses", desc := "(LPassagePapers;II[J)I" } : Jvm.MethodName)) ∈ lw_all := lw_g (lw_at lw_m6 173 rfl) rfl
theorem q1463 : (Jvm.Cond.codeWith ({ cls := "PassagePapersLaw", name := "witnesses", desc := "(LPassagePapers;II[J)I" } : Jvm.MethodName) method_27_code (5 : Nat) (Option.some Jvm.ClassFile.FieldType.int) [((0 : Nat), (10 : Nat), (13 : Nat), (13 : Nat))]) ∈ lw_all := lw_g (lw_at lw_m6 174 rfl) rfl
theorem q1464 : (Jvm.Cond.methodLink "PassagePapersLaw" (90 : Nat) ({ cls := "PassagePapers", name := "witnesses", desc := "(II)I" } : Jvm.MethodName)) ∈ lw_all := lw_g (lw_at lw_m6 175 rfl) rfl
theorem q1469 : (Jvm.Cond.methodLink "PassagePapersLaw" (227 : Nat) ({ cls := "PassagePapersLaw", name := "loan", desc := "(LPassagePapers;III[J)I" } : Jvm.MethodName)) ∈ lw_all := lw_g (lw_at lw_m6 180 rfl) rfl
theorem q1470 : (Jvm.Cond.static ({ cls := "PassagePapersLaw", name := "loan", desc := "(LPassagePapers;III[J)I" } : Jvm.MethodName)) ∈ lw_all := lw_g (lw_at lw_m6 181 rfl) rfl
theorem q1471 : (Jvm.Cond.codeWith ({ cls := "PassagePapersLaw", name := "loan", desc := "(LPassagePapers;III[J)I" } : Jvm.MethodName) method_28_code (6 : Nat) (Option.some Jvm.ClassFile.FieldType.int) [((0 : Nat), (12 : Nat), (15 : Nat), (13 : Nat))]) ∈ lw_all := lw_g (lw_at lw_m6 182 rfl) rfl
theorem q1472 : (Jvm.Cond.methodLink "PassagePapersLaw" (93 : Nat) ({ cls := "PassagePapers", name := "loan", desc := "(III)I" } : Jvm.MethodName)) ∈ lw_all := lw_g (lw_at lw_m6 183 rfl) rfl
theorem q1478 : (Jvm.Cond.methodLink "PassagePapersLaw" (230 : Nat) ({ cls := "PassagePapersLaw", name := "land", desc := "(LPassagePapers;II[J)I" } : Jvm.MethodName)) ∈ lw_all := lw_g (lw_at lw_m6 189 rfl) rfl
theorem q1479 : (Jvm.Cond.static ({ cls := "PassagePapersLaw", name := "land", desc := "(LPassagePapers;II[J)I" } : Jvm.MethodName)) ∈ lw_all := lw_g (lw_at lw_m6 190 rfl) rfl
theorem q1480 : (Jvm.Cond.codeWith ({ cls := "PassagePapersLaw", name := "land", desc := "(LPassagePapers;II[J)I" } : Jvm.MethodName) method_29_code (5 : Nat) (Option.some Jvm.ClassFile.FieldType.int) [((0 : Nat), (10 : Nat), (13 : Nat), (31 : Nat)), ((0 : Nat), (10 : Nat), (17 : Nat), (13 : Nat))]) ∈ lw_all := lw_g (lw_at lw_m6 191 rfl) rfl
theorem q1481 : (Jvm.Cond.methodLink "PassagePapersLaw" (97 : Nat) ({ cls := "PassagePapers", name := "land", desc := "(II)I" } : Jvm.MethodName)) ∈ lw_all := lw_g (lw_at lw_m6 192 rfl) rfl
theorem q1485 : (Jvm.Cond.methodLink "PassagePapersLaw" (233 : Nat) ({ cls := "PassagePapersLaw", name := "bids", desc := "(LPassagePapers;IIII[J)I" } : Jvm.MethodName)) ∈ lw_all := lw_g (lw_at lw_m6 196 rfl) rfl
theorem q1486 : (Jvm.Cond.static ({ cls := "PassagePapersLaw", name := "bids", desc := "(LPassagePapers;IIII[J)I" } : Jvm.MethodName)) ∈ lw_all := lw_g (lw_at lw_m6 197 rfl) rfl
theorem q1487 : (Jvm.Cond.codeWith ({ cls := "PassagePapersLaw", name := "bids", desc := "(LPassagePapers;IIII[J)I" } : Jvm.MethodName) method_30_code (7 : Nat) (Option.some Jvm.ClassFile.FieldType.int) [((0 : Nat), (14 : Nat), (17 : Nat), (13 : Nat))]) ∈ lw_all := lw_g (lw_at lw_m6 198 rfl) rfl
theorem q1488 : (Jvm.Cond.methodLink "PassagePapersLaw" (100 : Nat) ({ cls := "PassagePapers", name := "bids", desc := "(IIII)I" } : Jvm.MethodName)) ∈ lw_all := lw_g (lw_at lw_m6 199 rfl) rfl
theorem q1498 : (Jvm.Cond.methodLink "PassagePapersLaw" (237 : Nat) ({ cls := "PassagePapersLaw", name := "has", desc := "(LPassagePapers;III[J)I" } : Jvm.MethodName)) ∈ lw_all := lw_g (lw_at lw_m6 209 rfl) rfl
theorem q1499 : (Jvm.Cond.static ({ cls := "PassagePapersLaw", name := "has", desc := "(LPassagePapers;III[J)I" } : Jvm.MethodName)) ∈ lw_all := lw_g (lw_at lw_m6 210 rfl) rfl
theorem q1500 : (Jvm.Cond.codeWith ({ cls := "PassagePapersLaw", name := "has", desc := "(LPassagePapers;III[J)I" } : Jvm.MethodName) method_31_code (6 : Nat) (Option.some Jvm.ClassFile.FieldType.int) [((0 : Nat), (12 : Nat), (15 : Nat), (13 : Nat))]) ∈ lw_all := lw_g (lw_at lw_m6 211 rfl) rfl
theorem q1501 : (Jvm.Cond.methodLink "PassagePapersLaw" (104 : Nat) ({ cls := "PassagePapers", name := "has", desc := "(III)I" } : Jvm.MethodName)) ∈ lw_all := lw_g (lw_at lw_m6 212 rfl) rfl
theorem q1505 : (Jvm.Cond.methodLink "PassagePapersLaw" (240 : Nat) ({ cls := "PassagePapersLaw", name := "voyage", desc := "(LPassagePapers;IIIII[J)I" } : Jvm.MethodName)) ∈ lw_all := lw_g (lw_at lw_m6 216 rfl) rfl
theorem q1506 : (Jvm.Cond.static ({ cls := "PassagePapersLaw", name := "voyage", desc := "(LPassagePapers;IIIII[J)I" } : Jvm.MethodName)) ∈ lw_all := lw_g (lw_at lw_m6 217 rfl) rfl
theorem q1507 : (Jvm.Cond.codeWith ({ cls := "PassagePapersLaw", name := "voyage", desc := "(LPassagePapers;IIIII[J)I" } : Jvm.MethodName) method_32_code (8 : Nat) (Option.some Jvm.ClassFile.FieldType.int) [((0 : Nat), (16 : Nat), (19 : Nat), (13 : Nat))]) ∈ lw_all := lw_g (lw_at lw_m6 218 rfl) rfl
theorem q1508 : (Jvm.Cond.methodLink "PassagePapersLaw" (107 : Nat) ({ cls := "PassagePapers", name := "voyage", desc := "(IIIII)I" } : Jvm.MethodName)) ∈ lw_all := lw_g (lw_at lw_m6 219 rfl) rfl
theorem q1525 : (Jvm.Cond.methodLink "PassagePapersLaw" (244 : Nat) ({ cls := "PassagePapersLaw", name := "span", desc := "(LPassagePapers;IIIIII[J)I" } : Jvm.MethodName)) ∈ lw_all := lw_g (lw_at lw_m6 236 rfl) rfl
theorem q1526 : (Jvm.Cond.static ({ cls := "PassagePapersLaw", name := "span", desc := "(LPassagePapers;IIIIII[J)I" } : Jvm.MethodName)) ∈ lw_all := lw_g (lw_at lw_m6 237 rfl) rfl
theorem q1527 : (Jvm.Cond.codeWith ({ cls := "PassagePapersLaw", name := "span", desc := "(LPassagePapers;IIIIII[J)I" } : Jvm.MethodName) method_33_code (9 : Nat) (Option.some Jvm.ClassFile.FieldType.int) [((0 : Nat), (18 : Nat), (21 : Nat), (13 : Nat))]) ∈ lw_all := lw_g (lw_at lw_m6 238 rfl) rfl
theorem q1528 : (Jvm.Cond.methodLink "PassagePapersLaw" (111 : Nat) ({ cls := "PassagePapers", name := "span", desc := "(IIIIII)I" } : Jvm.MethodName)) ∈ lw_all := lw_g (lw_at lw_m6 239 rfl) rfl
theorem q1532 : (Jvm.Cond.methodLink "PassagePapersLaw" (128 : Nat) ({ cls := "PassagePapersModel", name := "thrown", desc := "()I" } : Jvm.MethodName)) ∈ lw_all := lw_g (lw_at lw_m7 3 rfl) rfl
theorem q1536 : (Jvm.Cond.classLink "PassagePapersLaw" (115 : Nat) "PassagePapersModel") ∈ lw_all := lw_g (lw_at lw_m7 7 rfl) rfl
theorem q1538 : (Jvm.Cond.methodLink "PassagePapersLaw" (117 : Nat) ({ cls := "PassagePapersModel", name := "<init>", desc := "()V" } : Jvm.MethodName)) ∈ lw_all := lw_g (lw_at lw_m7 9 rfl) rfl
theorem q1732 : (Jvm.Cond.methodLink "PassagePapersLaw" (121 : Nat) ({ cls := "PassagePapersModel", name := "feed", desc := "(IIIII)I" } : Jvm.MethodName)) ∈ lw_all := lw_g (lw_at lw_m7 203 rfl) rfl
theorem q1736 : (Jvm.Cond.methodLink "PassagePapersLaw" (145 : Nat) ({ cls := "PassagePapersModel", name := "fault", desc := "()I" } : Jvm.MethodName)) ∈ lw_all := lw_g (lw_at lw_m7 207 rfl) rfl
theorem q1740 : (Jvm.Cond.methodLink "PassagePapersLaw" (127 : Nat) ({ cls := "PassagePapersModel", name := "register", desc := "(I)I" } : Jvm.MethodName)) ∈ lw_all := lw_g (lw_at lw_m7 211 rfl) rfl
theorem q1819 : (Jvm.Cond.methodLink "PassagePapersLaw" (135 : Nat) ({ cls := "PassagePapersModel", name := "law", desc := "(II)I" } : Jvm.MethodName)) ∈ lw_all := lw_g (lw_at lw_m8 50 rfl) rfl
theorem q1864 : (Jvm.Cond.methodLink "PassagePapersLaw" (138 : Nat) ({ cls := "PassagePapersModel", name := "work", desc := "(I)I" } : Jvm.MethodName)) ∈ lw_all := lw_g (lw_at lw_m8 95 rfl) rfl
theorem q1967 : (Jvm.Cond.methodLink "PassagePapersLaw" (141 : Nat) ({ cls := "PassagePapersModel", name := "book", desc := "(I)I" } : Jvm.MethodName)) ∈ lw_all := lw_g (lw_at lw_m8 198 rfl) rfl
theorem q1971 : (Jvm.Cond.methodLink "PassagePapersLaw" (149 : Nat) ({ cls := "PassagePapersModel", name := "undo", desc := "()I" } : Jvm.MethodName)) ∈ lw_all := lw_g (lw_at lw_m8 202 rfl) rfl
theorem q1975 : (Jvm.Cond.methodLink "PassagePapersLaw" (152 : Nat) ({ cls := "PassagePapersModel", name := "told", desc := "(I)I" } : Jvm.MethodName)) ∈ lw_all := lw_g (lw_at lw_m8 206 rfl) rfl
theorem q1979 : (Jvm.Cond.methodLink "PassagePapersLaw" (155 : Nat) ({ cls := "PassagePapersModel", name := "signer", desc := "(II)I" } : Jvm.MethodName)) ∈ lw_all := lw_g (lw_at lw_m8 210 rfl) rfl
theorem q1987 : (Jvm.Cond.methodLink "PassagePapersLaw" (158 : Nat) ({ cls := "PassagePapersModel", name := "taker", desc := "(II)I" } : Jvm.MethodName)) ∈ lw_all := lw_g (lw_at lw_m8 218 rfl) rfl
theorem q1995 : (Jvm.Cond.methodLink "PassagePapersLaw" (161 : Nat) ({ cls := "PassagePapersModel", name := "asks", desc := "(II)I" } : Jvm.MethodName)) ∈ lw_all := lw_g (lw_at lw_m8 226 rfl) rfl
theorem q1999 : (Jvm.Cond.methodLink "PassagePapersLaw" (164 : Nat) ({ cls := "PassagePapersModel", name := "owes", desc := "(I)I" } : Jvm.MethodName)) ∈ lw_all := lw_g (lw_at lw_m8 230 rfl) rfl
theorem q2003 : (Jvm.Cond.methodLink "PassagePapersLaw" (168 : Nat) ({ cls := "PassagePapersModel", name := "would", desc := "(IIIIII)I" } : Jvm.MethodName)) ∈ lw_all := lw_g (lw_at lw_m8 234 rfl) rfl
theorem q2007 : (Jvm.Cond.methodLink "PassagePapersLaw" (172 : Nat) ({ cls := "PassagePapersModel", name := "held", desc := "()I" } : Jvm.MethodName)) ∈ lw_all := lw_g (lw_at lw_m8 238 rfl) rfl
theorem q2011 : (Jvm.Cond.methodLink "PassagePapersLaw" (175 : Nat) ({ cls := "PassagePapersModel", name := "freeIn", desc := "(I)I" } : Jvm.MethodName)) ∈ lw_all := lw_g (lw_at lw_m9 2 rfl) rfl
theorem q2019 : (Jvm.Cond.methodLink "PassagePapersLaw" (178 : Nat) ({ cls := "PassagePapersModel", name := "otherwise", desc := "(I)I" } : Jvm.MethodName)) ∈ lw_all := lw_g (lw_at lw_m9 10 rfl) rfl
theorem q2023 : (Jvm.Cond.methodLink "PassagePapersLaw" (181 : Nat) ({ cls := "PassagePapersModel", name := "ahead", desc := "(II)I" } : Jvm.MethodName)) ∈ lw_all := lw_g (lw_at lw_m9 14 rfl) rfl
theorem q2027 : (Jvm.Cond.methodLink "PassagePapersLaw" (184 : Nat) ({ cls := "PassagePapersModel", name := "gives", desc := "(II)I" } : Jvm.MethodName)) ∈ lw_all := lw_g (lw_at lw_m9 18 rfl) rfl
theorem q2035 : (Jvm.Cond.methodLink "PassagePapersLaw" (187 : Nat) ({ cls := "PassagePapersModel", name := "best", desc := "(I)I" } : Jvm.MethodName)) ∈ lw_all := lw_g (lw_at lw_m9 26 rfl) rfl
theorem q2051 : (Jvm.Cond.methodLink "PassagePapersLaw" (190 : Nat) ({ cls := "PassagePapersModel", name := "bestFor", desc := "(I)I" } : Jvm.MethodName)) ∈ lw_all := lw_g (lw_at lw_m9 42 rfl) rfl
theorem q2055 : (Jvm.Cond.methodLink "PassagePapersLaw" (194 : Nat) ({ cls := "PassagePapersModel", name := "parted", desc := "()I" } : Jvm.MethodName)) ∈ lw_all := lw_g (lw_at lw_m9 46 rfl) rfl
theorem q2059 : (Jvm.Cond.methodLink "PassagePapersLaw" (197 : Nat) ({ cls := "PassagePapersModel", name := "kin", desc := "(I)I" } : Jvm.MethodName)) ∈ lw_all := lw_g (lw_at lw_m9 50 rfl) rfl
theorem q2063 : (Jvm.Cond.methodLink "PassagePapersLaw" (200 : Nat) ({ cls := "PassagePapersModel", name := "fare", desc := "(I)I" } : Jvm.MethodName)) ∈ lw_all := lw_g (lw_at lw_m9 54 rfl) rfl
theorem q2067 : (Jvm.Cond.methodLink "PassagePapersLaw" (203 : Nat) ({ cls := "PassagePapersModel", name := "canPay", desc := "(I)Z" } : Jvm.MethodName)) ∈ lw_all := lw_g (lw_at lw_m9 58 rfl) rfl
theorem q2071 : (Jvm.Cond.methodLink "PassagePapersLaw" (206 : Nat) ({ cls := "PassagePapersModel", name := "enough", desc := "(I)I" } : Jvm.MethodName)) ∈ lw_all := lw_g (lw_at lw_m9 62 rfl) rfl
theorem q2075 : (Jvm.Cond.methodLink "PassagePapersLaw" (209 : Nat) ({ cls := "PassagePapersModel", name := "level", desc := "(I)I" } : Jvm.MethodName)) ∈ lw_all := lw_g (lw_at lw_m9 66 rfl) rfl
theorem q2079 : (Jvm.Cond.methodLink "PassagePapersLaw" (213 : Nat) ({ cls := "PassagePapersModel", name := "hunger", desc := "()I" } : Jvm.MethodName)) ∈ lw_all := lw_g (lw_at lw_m9 70 rfl) rfl
theorem q2083 : (Jvm.Cond.methodLink "PassagePapersLaw" (216 : Nat) ({ cls := "PassagePapersModel", name := "terms", desc := "(II)I" } : Jvm.MethodName)) ∈ lw_all := lw_g (lw_at lw_m9 74 rfl) rfl
theorem q2094 : (Jvm.Cond.methodLink "PassagePapersLaw" (219 : Nat) ({ cls := "PassagePapersModel", name := "ask", desc := "(II)I" } : Jvm.MethodName)) ∈ lw_all := lw_g (lw_at lw_m9 85 rfl) rfl
theorem q2106 : (Jvm.Cond.methodLink "PassagePapersLaw" (223 : Nat) ({ cls := "PassagePapersModel", name := "court", desc := "(III)J" } : Jvm.MethodName)) ∈ lw_all := lw_g (lw_at lw_m9 97 rfl) rfl
theorem q2120 : (Jvm.Cond.methodLink "PassagePapersLaw" (226 : Nat) ({ cls := "PassagePapersModel", name := "witnesses", desc := "(II)I" } : Jvm.MethodName)) ∈ lw_all := lw_g (lw_at lw_m9 111 rfl) rfl
theorem q2124 : (Jvm.Cond.methodLink "PassagePapersLaw" (229 : Nat) ({ cls := "PassagePapersModel", name := "loan", desc := "(III)I" } : Jvm.MethodName)) ∈ lw_all := lw_g (lw_at lw_m9 115 rfl) rfl
theorem q2130 : (Jvm.Cond.methodLink "PassagePapersLaw" (232 : Nat) ({ cls := "PassagePapersModel", name := "land", desc := "(II)I" } : Jvm.MethodName)) ∈ lw_all := lw_g (lw_at lw_m9 121 rfl) rfl
theorem q2134 : (Jvm.Cond.methodLink "PassagePapersLaw" (236 : Nat) ({ cls := "PassagePapersModel", name := "bids", desc := "(IIII)I" } : Jvm.MethodName)) ∈ lw_all := lw_g (lw_at lw_m9 125 rfl) rfl
theorem q2144 : (Jvm.Cond.methodLink "PassagePapersLaw" (239 : Nat) ({ cls := "PassagePapersModel", name := "has", desc := "(III)I" } : Jvm.MethodName)) ∈ lw_all := lw_g (lw_at lw_m9 135 rfl) rfl
theorem q2148 : (Jvm.Cond.methodLink "PassagePapersLaw" (243 : Nat) ({ cls := "PassagePapersModel", name := "voyage", desc := "(IIIII)I" } : Jvm.MethodName)) ∈ lw_all := lw_g (lw_at lw_m9 139 rfl) rfl
theorem q2164 : (Jvm.Cond.methodLink "PassagePapersLaw" (246 : Nat) ({ cls := "PassagePapersModel", name := "span", desc := "(IIIIII)I" } : Jvm.MethodName)) ∈ lw_all := lw_g (lw_at lw_m9 155 rfl) rfl
theorem q2168 : (Jvm.Cond.methodLink "PassagePapersLaw" (250 : Nat) ({ cls := "PassagePapersModel", name := "image", desc := "()I" } : Jvm.MethodName)) ∈ lw_all := lw_g (lw_at lw_m9 159 rfl) rfl
theorem q2180 : (Jvm.Cond.methodLink "PassagePapersLaw" (254 : Nat) ({ cls := "PassagePapersModel", name := "restore", desc := "()I" } : Jvm.MethodName)) ∈ lw_all := lw_g (lw_at lw_m9 171 rfl) rfl
theorem q2184 : (Jvm.Cond.methodLink "PassagePapersLaw" (258 : Nat) ({ cls := "PassagePapersModel", name := "status", desc := "(I)I" } : Jvm.MethodName)) ∈ lw_all := lw_g (lw_at lw_m9 175 rfl) rfl
theorem q2188 : (Jvm.Cond.methodLink "PassagePapersLaw" (262 : Nat) ({ cls := "PassagePapersModel", name := "count", desc := "(I)I" } : Jvm.MethodName)) ∈ lw_all := lw_g (lw_at lw_m9 179 rfl) rfl
/-! PassagePapers$Laws -/
set_option maxRecDepth 100000
def RX2 : String := "PassagePapers$Laws"
def TX2 : u_T := fun k => match k with
  | _ => ("PassagePapers$Laws", "terms", "[LPassagePapers$Term;", true)
def tyX2 : Nat → FieldType := fun k => match k with
  | _ => .array (.object "PassagePapers$Term")
abbrev wsX20 : List Cond := u_ws RX2 TX2 1
theorem nmX2 : ∀ a, a < 1 → ∀ b, b < 1 → a ≠ b → (TX2 a).2.1 ≠ (TX2 b).2.1 := by decide +kernel
theorem tyX2_ok : ∀ k, k < 1 → parseFieldDescriptor (TX2 k).2.2.1 = some (tyX2 k) := by decide +kernel
abbrev cX2_init : ByteArray := prog_9_method_1_code
def yX2_init : MethodName := ⟨RX2, "<init>", "()V"⟩
def dkwX2_init_0 : List UInt8 := [42, 183, 0, 3, 42, 5, 189, 0, 9, 181, 0, 11, 177]
abbrev dktX2_init_0 : List UInt8 := dkwX2_init_0 ++ []
theorem dksX2_init_0 : cX2_init.data.toList.drop 0 = dktX2_init_0 := by decide +kernel
theorem dX2_init_0 : decode cX2_init 0 = .ok (.aload_n 0, 1) := dk_42 (dk_at dksX2_init_0 0 rfl rfl)
theorem dX2_init_1 : decode cX2_init 1 = .ok (.invokespecial 3, 3) := dk_183 0 3 (dk_at dksX2_init_0 1 rfl rfl)
theorem dX2_init_4 : decode cX2_init 4 = .ok (.aload_n 0, 1) := dk_42 (dk_at dksX2_init_0 4 rfl rfl)
theorem dX2_init_5 : decode cX2_init 5 = .ok (.iconst 2, 1) := dk_5 (dk_at dksX2_init_0 5 rfl rfl)
theorem dX2_init_6 : decode cX2_init 6 = .ok (.anewarray 9, 3) := dk_189 0 9 (dk_at dksX2_init_0 6 rfl rfl)
theorem dX2_init_9 : decode cX2_init 9 = .ok (.putfield 11, 3) := dk_181 0 11 (dk_at dksX2_init_0 9 rfl rfl)
theorem dX2_init_12 : decode cX2_init 12 = .ok (.return_, 1) := dk_177 (dk_at dksX2_init_0 12 rfl rfl)
abbrev cX2_asks : ByteArray := prog_9_method_2_code
def yX2_asks : MethodName := ⟨RX2, "asks", "(LPassagePapers$Sight;I)I"⟩
def dkwX2_asks_2 : List UInt8 := [184, 0, 36, 172]
abbrev dktX2_asks_2 : List UInt8 := dkwX2_asks_2 ++ []
def dkwX2_asks_1 : List UInt8 := [180, 0, 23, 104, 96, 167, 0, 15, 42, 180, 0, 11, 28, 50, 43, 185, 0, 26, 2, 0, 184, 0, 30]
abbrev dktX2_asks_1 : List UInt8 := dkwX2_asks_1 ++ dktX2_asks_2
def dkwX2_asks_0 : List UInt8 := [3, 17, 3, 231, 42, 180, 0, 11, 28, 50, 199, 0, 20, 16, 52, 43, 180, 0, 17, 104, 7, 43]
abbrev dktX2_asks_0 : List UInt8 := dkwX2_asks_0 ++ dktX2_asks_1
theorem dksX2_asks_0 : cX2_asks.data.toList.drop 0 = dktX2_asks_0 := by decide +kernel
theorem dksX2_asks_1 : cX2_asks.data.toList.drop 22 = dktX2_asks_1 := dk_seg dksX2_asks_0 22 rfl rfl
theorem dksX2_asks_2 : cX2_asks.data.toList.drop 45 = dktX2_asks_2 := dk_seg dksX2_asks_1 23 rfl rfl
theorem dX2_asks_0 : decode cX2_asks 0 = .ok (.iconst 0, 1) := dk_3 (dk_at dksX2_asks_0 0 rfl rfl)
theorem dX2_asks_1 : decode cX2_asks 1 = .ok (.sipush 999, 3) := dk_17 3 231 (dk_at dksX2_asks_0 1 rfl rfl)
theorem dX2_asks_4 : decode cX2_asks 4 = .ok (.aload_n 0, 1) := dk_42 (dk_at dksX2_asks_0 4 rfl rfl)
theorem dX2_asks_5 : decode cX2_asks 5 = .ok (.getfield 11, 3) := dk_180 0 11 (dk_at dksX2_asks_0 5 rfl rfl)
theorem dX2_asks_8 : decode cX2_asks 8 = .ok (.iload_n 2, 1) := dk_28 (dk_at dksX2_asks_0 8 rfl rfl)
theorem dX2_asks_9 : decode cX2_asks 9 = .ok (.aaload, 1) := dk_50 (dk_at dksX2_asks_0 9 rfl rfl)
theorem dX2_asks_10 : decode cX2_asks 10 = .ok (.ifnonnull 20, 3) := dk_199 0 20 (dk_at dksX2_asks_0 10 rfl rfl)
theorem dX2_asks_13 : decode cX2_asks 13 = .ok (.bipush 52, 2) := dk_16 52 (dk_at dksX2_asks_0 13 rfl rfl)
theorem dX2_asks_15 : decode cX2_asks 15 = .ok (.aload_n 1, 1) := dk_43 (dk_at dksX2_asks_0 15 rfl rfl)
theorem dX2_asks_16 : decode cX2_asks 16 = .ok (.getfield 17, 3) := dk_180 0 17 (dk_at dksX2_asks_0 16 rfl rfl)
theorem dX2_asks_19 : decode cX2_asks 19 = .ok (.imul, 1) := dk_104 (dk_at dksX2_asks_0 19 rfl rfl)
theorem dX2_asks_20 : decode cX2_asks 20 = .ok (.iconst 4, 1) := dk_7 (dk_at dksX2_asks_0 20 rfl rfl)
theorem dX2_asks_21 : decode cX2_asks 21 = .ok (.aload_n 1, 1) := dk_43 (dk_at dksX2_asks_0 21 rfl rfl)
theorem dX2_asks_22 : decode cX2_asks 22 = .ok (.getfield 23, 3) := dk_180 0 23 (dk_at dksX2_asks_1 0 rfl rfl)
theorem dX2_asks_25 : decode cX2_asks 25 = .ok (.imul, 1) := dk_104 (dk_at dksX2_asks_1 3 rfl rfl)
theorem dX2_asks_26 : decode cX2_asks 26 = .ok (.iadd, 1) := dk_96 (dk_at dksX2_asks_1 4 rfl rfl)
theorem dX2_asks_27 : decode cX2_asks 27 = .ok (.goto 15, 3) := dk_167 0 15 (dk_at dksX2_asks_1 5 rfl rfl)
theorem dX2_asks_30 : decode cX2_asks 30 = .ok (.aload_n 0, 1) := dk_42 (dk_at dksX2_asks_1 8 rfl rfl)
theorem dX2_asks_31 : decode cX2_asks 31 = .ok (.getfield 11, 3) := dk_180 0 11 (dk_at dksX2_asks_1 9 rfl rfl)
theorem dX2_asks_34 : decode cX2_asks 34 = .ok (.iload_n 2, 1) := dk_28 (dk_at dksX2_asks_1 12 rfl rfl)
theorem dX2_asks_35 : decode cX2_asks 35 = .ok (.aaload, 1) := dk_50 (dk_at dksX2_asks_1 13 rfl rfl)
theorem dX2_asks_36 : decode cX2_asks 36 = .ok (.aload_n 1, 1) := dk_43 (dk_at dksX2_asks_1 14 rfl rfl)
theorem dX2_asks_37 : decode cX2_asks 37 = .ok (.invokeinterface 26 2, 5) := by decide +kernel
theorem dX2_asks_42 : decode cX2_asks 42 = .ok (.invokestatic 30, 3) := dk_184 0 30 (dk_at dksX2_asks_1 20 rfl rfl)
theorem dX2_asks_45 : decode cX2_asks 45 = .ok (.invokestatic 36, 3) := dk_184 0 36 (dk_at dksX2_asks_2 0 rfl rfl)
theorem dX2_asks_48 : decode cX2_asks 48 = .ok (.ireturn, 1) := dk_172 (dk_at dksX2_asks_2 3 rfl rfl)
theorem q91 : (Jvm.Cond.initialized "PassagePapers$Laws") ∈ lw_all := lw_g (lw_at lw_m1 2 rfl) rfl
theorem q135 : (Jvm.Cond.instantiable "PassagePapers$Laws" (1 : Nat)) ∈ lw_all := lw_g (lw_at lw_m1 46 rfl) rfl
theorem q137 : (Jvm.Cond.instanceMethod ({ cls := "PassagePapers$Laws", name := "<init>", desc := "()V" } : Jvm.MethodName)) ∈ lw_all := lw_g (lw_at lw_m1 48 rfl) rfl
theorem q138 : (Jvm.Cond.code ({ cls := "PassagePapers$Laws", name := "<init>", desc := "()V" } : Jvm.MethodName) prog_9_method_1_code (1 : Nat) (Option.none : Option Jvm.ClassFile.FieldType)) ∈ lw_all := lw_g (lw_at lw_m1 49 rfl) rfl
theorem q139 : (Jvm.Cond.methodLink "PassagePapers$Laws" (3 : Nat) ({ cls := "java/lang/Object", name := "<init>", desc := "()V" } : Jvm.MethodName)) ∈ lw_all := lw_g (lw_at lw_m1 50 rfl) rfl
theorem q140 : (Jvm.Cond.classLink "PassagePapers$Laws" (9 : Nat) "PassagePapers$Term") ∈ lw_all := lw_g (lw_at lw_m1 51 rfl) rfl
theorem q142 : (Jvm.Cond.fieldLink "PassagePapers$Laws" (11 : Nat) "PassagePapers$Laws" "terms" "[LPassagePapers$Term;") ∈ lw_all := lw_g (lw_at lw_m1 53 rfl) rfl
theorem q144 : (Jvm.Cond.laysFinal "PassagePapers$Laws" "PassagePapers$Laws" "terms" "[LPassagePapers$Term;") ∈ lw_all := lw_g (lw_at lw_m1 55 rfl) rfl
theorem q145 : (Jvm.Cond.soleField "PassagePapers$Laws" "terms") ∈ lw_all := lw_g (lw_at lw_m1 56 rfl) rfl
theorem q146 : (Jvm.Cond.superclass "PassagePapers$Laws" "java/lang/Object") ∈ lw_all := lw_g (lw_at lw_m1 57 rfl) rfl
theorem q167 : (Jvm.Cond.fieldLinkNest "PassagePapers$Laws" (17 : Nat) "PassagePapers$Sight" "years" "I" "PassagePapers") ∈ lw_tbl := lw_at lw_m1 78 rfl
theorem q171 : (Jvm.Cond.fieldLinkNest "PassagePapers$Laws" (23 : Nat) "PassagePapers$Sight" "added" "I" "PassagePapers") ∈ lw_tbl := lw_at lw_m1 82 rfl
theorem q489 : (Jvm.Cond.instanceMethod ({ cls := "PassagePapers$Laws", name := "asks", desc := "(LPassagePapers$Sight;I)I" } : Jvm.MethodName)) ∈ lw_all := lw_g (lw_at lw_m2 160 rfl) rfl
theorem q490 : (Jvm.Cond.selects "PassagePapers$Laws" ({ cls := "PassagePapers$Laws", name := "asks", desc := "(LPassagePapers$Sight;I)I" } : Jvm.MethodName) ({ cls := "PassagePapers$Laws", name := "asks", desc := "(LPassagePapers$Sight;I)I" } : Jvm.MethodName)) ∈ lw_all := lw_g (lw_at lw_m2 161 rfl) rfl
theorem q491 : (Jvm.Cond.code ({ cls := "PassagePapers$Laws", name := "asks", desc := "(LPassagePapers$Sight;I)I" } : Jvm.MethodName) prog_9_method_2_code (3 : Nat) (Option.some Jvm.ClassFile.FieldType.int)) ∈ lw_all := lw_g (lw_at lw_m2 162 rfl) rfl
theorem q492 : (Jvm.Cond.interfaceEntry "PassagePapers$Laws" (26 : Nat)) ∈ lw_tbl := lw_at lw_m2 163 rfl
theorem q493 : (Jvm.Cond.methodLink "PassagePapers$Laws" (26 : Nat) ({ cls := "PassagePapers$Term", name := "on", desc := "(LPassagePapers$Sight;)I" } : Jvm.MethodName)) ∈ lw_all := lw_g (lw_at lw_m2 164 rfl) rfl
theorem q526 : (Jvm.Cond.methodLink "PassagePapers$Laws" (30 : Nat) ({ cls := "java/lang/Math", name := "min", desc := "(II)I" } : Jvm.MethodName)) ∈ lw_all := lw_g (lw_at lw_m2 197 rfl) rfl
theorem q527 : (Jvm.Cond.methodLink "PassagePapers$Laws" (36 : Nat) ({ cls := "java/lang/Math", name := "max", desc := "(II)I" } : Jvm.MethodName)) ∈ lw_all := lw_g (lw_at lw_m2 198 rfl) rfl
theorem q2195 : (Jvm.Cond.castable "PassagePapers$Laws" "java/lang/Object") ∈ lw_tbl := lw_at lw_m9 186 rfl
theorem in_X2 : ∀ w ∈ wsX20, w ∈ lw_all := lw_in wsX20 [144] (by decide +kernel) (by decide +kernel)
/-! PassagePapers$Kept -/
set_option maxRecDepth 100000
def RX3 : String := "PassagePapers$Kept"
def TX3 : u_T := fun k => match k with
  | 0 => ("PassagePapers$Kept", "states", "[LPassagePapers$State;", true)
  | _ => ("PassagePapers$Kept", "many", "I", false)
def tyX3 : Nat → FieldType := fun k => match k with
  | 0 => .array (.object "PassagePapers$State")
  | _ => .int
abbrev wsX30 : List Cond := u_ws RX3 TX3 2
theorem nmX3 : ∀ a, a < 2 → ∀ b, b < 2 → a ≠ b → (TX3 a).2.1 ≠ (TX3 b).2.1 := by decide +kernel
theorem tyX3_ok : ∀ k, k < 2 → parseFieldDescriptor (TX3 k).2.2.1 = some (tyX3 k) := by decide +kernel
abbrev cX3_init : ByteArray := prog_5_method_1_code
def yX3_init : MethodName := ⟨RX3, "<init>", "(LPassagePapers$Laws;)V"⟩
def dkwX3_init_1 : List UInt8 := [180, 0, 11, 28, 187, 0, 9, 89, 43, 183, 0, 17, 83, 132, 2, 1, 167, 255, 233, 177]
abbrev dktX3_init_1 : List UInt8 := dkwX3_init_1 ++ []
def dkwX3_init_0 : List UInt8 := [42, 183, 0, 3, 42, 16, 17, 189, 0, 9, 181, 0, 11, 3, 61, 28, 16, 16, 163, 0, 23, 42]
abbrev dktX3_init_0 : List UInt8 := dkwX3_init_0 ++ dktX3_init_1
theorem dksX3_init_0 : cX3_init.data.toList.drop 0 = dktX3_init_0 := by decide +kernel
theorem dksX3_init_1 : cX3_init.data.toList.drop 22 = dktX3_init_1 := dk_seg dksX3_init_0 22 rfl rfl
theorem dX3_init_0 : decode cX3_init 0 = .ok (.aload_n 0, 1) := dk_42 (dk_at dksX3_init_0 0 rfl rfl)
theorem dX3_init_1 : decode cX3_init 1 = .ok (.invokespecial 3, 3) := dk_183 0 3 (dk_at dksX3_init_0 1 rfl rfl)
theorem dX3_init_4 : decode cX3_init 4 = .ok (.aload_n 0, 1) := dk_42 (dk_at dksX3_init_0 4 rfl rfl)
theorem dX3_init_5 : decode cX3_init 5 = .ok (.bipush 17, 2) := dk_16 17 (dk_at dksX3_init_0 5 rfl rfl)
theorem dX3_init_7 : decode cX3_init 7 = .ok (.anewarray 9, 3) := dk_189 0 9 (dk_at dksX3_init_0 7 rfl rfl)
theorem dX3_init_10 : decode cX3_init 10 = .ok (.putfield 11, 3) := dk_181 0 11 (dk_at dksX3_init_0 10 rfl rfl)
theorem dX3_init_13 : decode cX3_init 13 = .ok (.iconst 0, 1) := dk_3 (dk_at dksX3_init_0 13 rfl rfl)
theorem dX3_init_14 : decode cX3_init 14 = .ok (.istore_n 2, 1) := dk_61 (dk_at dksX3_init_0 14 rfl rfl)
theorem dX3_init_15 : decode cX3_init 15 = .ok (.iload_n 2, 1) := dk_28 (dk_at dksX3_init_0 15 rfl rfl)
theorem dX3_init_16 : decode cX3_init 16 = .ok (.bipush 16, 2) := dk_16 16 (dk_at dksX3_init_0 16 rfl rfl)
theorem dX3_init_18 : decode cX3_init 18 = .ok (.if_icmp .gt 23, 3) := dk_163 0 23 (dk_at dksX3_init_0 18 rfl rfl)
theorem dX3_init_21 : decode cX3_init 21 = .ok (.aload_n 0, 1) := dk_42 (dk_at dksX3_init_0 21 rfl rfl)
theorem dX3_init_22 : decode cX3_init 22 = .ok (.getfield 11, 3) := dk_180 0 11 (dk_at dksX3_init_1 0 rfl rfl)
theorem dX3_init_25 : decode cX3_init 25 = .ok (.iload_n 2, 1) := dk_28 (dk_at dksX3_init_1 3 rfl rfl)
theorem dX3_init_26 : decode cX3_init 26 = .ok (.new 9, 3) := dk_187 0 9 (dk_at dksX3_init_1 4 rfl rfl)
theorem dX3_init_29 : decode cX3_init 29 = .ok (.dup, 1) := dk_89 (dk_at dksX3_init_1 7 rfl rfl)
theorem dX3_init_30 : decode cX3_init 30 = .ok (.aload_n 1, 1) := dk_43 (dk_at dksX3_init_1 8 rfl rfl)
theorem dX3_init_31 : decode cX3_init 31 = .ok (.invokespecial 17, 3) := dk_183 0 17 (dk_at dksX3_init_1 9 rfl rfl)
theorem dX3_init_34 : decode cX3_init 34 = .ok (.aastore, 1) := dk_83 (dk_at dksX3_init_1 12 rfl rfl)
theorem dX3_init_35 : decode cX3_init 35 = .ok (.iinc 2 1, 3) := dk_132 2 1 (dk_at dksX3_init_1 13 rfl rfl)
theorem dX3_init_38 : decode cX3_init 38 = .ok (.goto (-23), 3) := dk_167 255 233 (dk_at dksX3_init_1 16 rfl rfl)
theorem dX3_init_41 : decode cX3_init 41 = .ok (.return_, 1) := dk_177 (dk_at dksX3_init_1 19 rfl rfl)
abbrev cX3_now : ByteArray := prog_5_method_3_code
def yX3_now : MethodName := ⟨RX3, "now", "()LPassagePapers$State;"⟩
def dkwX3_now_0 : List UInt8 := [42, 180, 0, 11, 42, 180, 0, 20, 50, 176]
abbrev dktX3_now_0 : List UInt8 := dkwX3_now_0 ++ []
theorem dksX3_now_0 : cX3_now.data.toList.drop 0 = dktX3_now_0 := by decide +kernel
theorem dX3_now_0 : decode cX3_now 0 = .ok (.aload_n 0, 1) := dk_42 (dk_at dksX3_now_0 0 rfl rfl)
theorem dX3_now_1 : decode cX3_now 1 = .ok (.getfield 11, 3) := dk_180 0 11 (dk_at dksX3_now_0 1 rfl rfl)
theorem dX3_now_4 : decode cX3_now 4 = .ok (.aload_n 0, 1) := dk_42 (dk_at dksX3_now_0 4 rfl rfl)
theorem dX3_now_5 : decode cX3_now 5 = .ok (.getfield 20, 3) := dk_180 0 20 (dk_at dksX3_now_0 5 rfl rfl)
theorem dX3_now_8 : decode cX3_now 8 = .ok (.aaload, 1) := dk_50 (dk_at dksX3_now_0 8 rfl rfl)
theorem dX3_now_9 : decode cX3_now 9 = .ok (.areturn, 1) := dk_176 (dk_at dksX3_now_0 9 rfl rfl)
abbrev cX3_as : ByteArray := prog_5_method_2_code
def yX3_as : MethodName := ⟨RX3, "as", "(LPassagePapers$Kept;)V"⟩
def dkwX3_as_1 : List UInt8 := [43, 180, 0, 11, 28, 50, 182, 0, 24, 87, 132, 2, 1, 167, 255, 229, 177]
abbrev dktX3_as_1 : List UInt8 := dkwX3_as_1 ++ []
def dkwX3_as_0 : List UInt8 := [42, 43, 180, 0, 20, 181, 0, 20, 3, 61, 28, 42, 180, 0, 20, 163, 0, 25, 42, 180, 0, 11, 28, 50]
abbrev dktX3_as_0 : List UInt8 := dkwX3_as_0 ++ dktX3_as_1
theorem dksX3_as_0 : cX3_as.data.toList.drop 0 = dktX3_as_0 := by decide +kernel
theorem dksX3_as_1 : cX3_as.data.toList.drop 24 = dktX3_as_1 := dk_seg dksX3_as_0 24 rfl rfl
theorem dX3_as_0 : decode cX3_as 0 = .ok (.aload_n 0, 1) := dk_42 (dk_at dksX3_as_0 0 rfl rfl)
theorem dX3_as_1 : decode cX3_as 1 = .ok (.aload_n 1, 1) := dk_43 (dk_at dksX3_as_0 1 rfl rfl)
theorem dX3_as_2 : decode cX3_as 2 = .ok (.getfield 20, 3) := dk_180 0 20 (dk_at dksX3_as_0 2 rfl rfl)
theorem dX3_as_5 : decode cX3_as 5 = .ok (.putfield 20, 3) := dk_181 0 20 (dk_at dksX3_as_0 5 rfl rfl)
theorem dX3_as_8 : decode cX3_as 8 = .ok (.iconst 0, 1) := dk_3 (dk_at dksX3_as_0 8 rfl rfl)
theorem dX3_as_9 : decode cX3_as 9 = .ok (.istore_n 2, 1) := dk_61 (dk_at dksX3_as_0 9 rfl rfl)
theorem dX3_as_10 : decode cX3_as 10 = .ok (.iload_n 2, 1) := dk_28 (dk_at dksX3_as_0 10 rfl rfl)
theorem dX3_as_11 : decode cX3_as 11 = .ok (.aload_n 0, 1) := dk_42 (dk_at dksX3_as_0 11 rfl rfl)
theorem dX3_as_12 : decode cX3_as 12 = .ok (.getfield 20, 3) := dk_180 0 20 (dk_at dksX3_as_0 12 rfl rfl)
theorem dX3_as_15 : decode cX3_as 15 = .ok (.if_icmp .gt 25, 3) := dk_163 0 25 (dk_at dksX3_as_0 15 rfl rfl)
theorem dX3_as_18 : decode cX3_as 18 = .ok (.aload_n 0, 1) := dk_42 (dk_at dksX3_as_0 18 rfl rfl)
theorem dX3_as_19 : decode cX3_as 19 = .ok (.getfield 11, 3) := dk_180 0 11 (dk_at dksX3_as_0 19 rfl rfl)
theorem dX3_as_22 : decode cX3_as 22 = .ok (.iload_n 2, 1) := dk_28 (dk_at dksX3_as_0 22 rfl rfl)
theorem dX3_as_23 : decode cX3_as 23 = .ok (.aaload, 1) := dk_50 (dk_at dksX3_as_0 23 rfl rfl)
theorem dX3_as_24 : decode cX3_as 24 = .ok (.aload_n 1, 1) := dk_43 (dk_at dksX3_as_1 0 rfl rfl)
theorem dX3_as_25 : decode cX3_as 25 = .ok (.getfield 11, 3) := dk_180 0 11 (dk_at dksX3_as_1 1 rfl rfl)
theorem dX3_as_28 : decode cX3_as 28 = .ok (.iload_n 2, 1) := dk_28 (dk_at dksX3_as_1 4 rfl rfl)
theorem dX3_as_29 : decode cX3_as 29 = .ok (.aaload, 1) := dk_50 (dk_at dksX3_as_1 5 rfl rfl)
theorem dX3_as_30 : decode cX3_as 30 = .ok (.invokevirtual 24, 3) := dk_182 0 24 (dk_at dksX3_as_1 6 rfl rfl)
theorem dX3_as_33 : decode cX3_as 33 = .ok (.pop, 1) := dk_87 (dk_at dksX3_as_1 9 rfl rfl)
theorem dX3_as_34 : decode cX3_as 34 = .ok (.iinc 2 1, 3) := dk_132 2 1 (dk_at dksX3_as_1 10 rfl rfl)
theorem dX3_as_37 : decode cX3_as 37 = .ok (.goto (-27), 3) := dk_167 255 229 (dk_at dksX3_as_1 13 rfl rfl)
theorem dX3_as_40 : decode cX3_as 40 = .ok (.return_, 1) := dk_177 (dk_at dksX3_as_1 16 rfl rfl)
theorem q92 : (Jvm.Cond.initialized "PassagePapers$Kept") ∈ lw_all := lw_g (lw_at lw_m1 3 rfl) rfl
theorem q149 : (Jvm.Cond.instantiable "PassagePapers$Kept" (2 : Nat)) ∈ lw_all := lw_g (lw_at lw_m1 60 rfl) rfl
theorem q151 : (Jvm.Cond.instanceMethod ({ cls := "PassagePapers$Kept", name := "<init>", desc := "(LPassagePapers$Laws;)V" } : Jvm.MethodName)) ∈ lw_all := lw_g (lw_at lw_m1 62 rfl) rfl
theorem q152 : (Jvm.Cond.code ({ cls := "PassagePapers$Kept", name := "<init>", desc := "(LPassagePapers$Laws;)V" } : Jvm.MethodName) prog_5_method_1_code (3 : Nat) (Option.none : Option Jvm.ClassFile.FieldType)) ∈ lw_all := lw_g (lw_at lw_m1 63 rfl) rfl
theorem q153 : (Jvm.Cond.methodLink "PassagePapers$Kept" (3 : Nat) ({ cls := "java/lang/Object", name := "<init>", desc := "()V" } : Jvm.MethodName)) ∈ lw_all := lw_g (lw_at lw_m1 64 rfl) rfl
theorem q154 : (Jvm.Cond.classLink "PassagePapers$Kept" (9 : Nat) "PassagePapers$State") ∈ lw_all := lw_g (lw_at lw_m1 65 rfl) rfl
theorem q157 : (Jvm.Cond.methodLink "PassagePapers$Kept" (17 : Nat) ({ cls := "PassagePapers$State", name := "<init>", desc := "(LPassagePapers$Laws;)V" } : Jvm.MethodName)) ∈ lw_all := lw_g (lw_at lw_m1 68 rfl) rfl
theorem q338 : (Jvm.Cond.fieldLink "PassagePapers$Kept" (11 : Nat) "PassagePapers$Kept" "states" "[LPassagePapers$State;") ∈ lw_all := lw_g (lw_at lw_m2 9 rfl) rfl
theorem q339 : (Jvm.Cond.fieldLink "PassagePapers$Kept" (20 : Nat) "PassagePapers$Kept" "many" "I") ∈ lw_all := lw_g (lw_at lw_m2 10 rfl) rfl
theorem q341 : (Jvm.Cond.laysFinal "PassagePapers$Kept" "PassagePapers$Kept" "states" "[LPassagePapers$State;") ∈ lw_all := lw_g (lw_at lw_m2 12 rfl) rfl
theorem q342 : (Jvm.Cond.soleField "PassagePapers$Kept" "states") ∈ lw_all := lw_g (lw_at lw_m2 13 rfl) rfl
theorem q343 : (Jvm.Cond.lays "PassagePapers$Kept" "PassagePapers$Kept" "many" "I") ∈ lw_all := lw_g (lw_at lw_m2 14 rfl) rfl
theorem q344 : (Jvm.Cond.soleField "PassagePapers$Kept" "many") ∈ lw_all := lw_g (lw_at lw_m2 15 rfl) rfl
theorem q345 : (Jvm.Cond.superclass "PassagePapers$Kept" "java/lang/Object") ∈ lw_all := lw_g (lw_at lw_m2 16 rfl) rfl
theorem q381 : (Jvm.Cond.instanceMethod ({ cls := "PassagePapers$Kept", name := "now", desc := "()LPassagePapers$State;" } : Jvm.MethodName)) ∈ lw_all := lw_g (lw_at lw_m2 52 rfl) rfl
theorem q382 : (Jvm.Cond.selects "PassagePapers$Kept" ({ cls := "PassagePapers$Kept", name := "now", desc := "()LPassagePapers$State;" } : Jvm.MethodName) ({ cls := "PassagePapers$Kept", name := "now", desc := "()LPassagePapers$State;" } : Jvm.MethodName)) ∈ lw_all := lw_g (lw_at lw_m2 53 rfl) rfl
theorem q383 : (Jvm.Cond.code ({ cls := "PassagePapers$Kept", name := "now", desc := "()LPassagePapers$State;" } : Jvm.MethodName) prog_5_method_3_code (1 : Nat) (Option.some (Jvm.ClassFile.FieldType.object "PassagePapers$State"))) ∈ lw_all := lw_g (lw_at lw_m2 54 rfl) rfl
theorem q547 : (Jvm.Cond.instanceMethod ({ cls := "PassagePapers$Kept", name := "as", desc := "(LPassagePapers$Kept;)V" } : Jvm.MethodName)) ∈ lw_all := lw_g (lw_at lw_m2 218 rfl) rfl
theorem q548 : (Jvm.Cond.selects "PassagePapers$Kept" ({ cls := "PassagePapers$Kept", name := "as", desc := "(LPassagePapers$Kept;)V" } : Jvm.MethodName) ({ cls := "PassagePapers$Kept", name := "as", desc := "(LPassagePapers$Kept;)V" } : Jvm.MethodName)) ∈ lw_all := lw_g (lw_at lw_m2 219 rfl) rfl
theorem q549 : (Jvm.Cond.code ({ cls := "PassagePapers$Kept", name := "as", desc := "(LPassagePapers$Kept;)V" } : Jvm.MethodName) prog_5_method_2_code (3 : Nat) (Option.none : Option Jvm.ClassFile.FieldType)) ∈ lw_all := lw_g (lw_at lw_m2 220 rfl) rfl
theorem q550 : (Jvm.Cond.methodLink "PassagePapers$Kept" (24 : Nat) ({ cls := "PassagePapers$State", name := "as", desc := "(LPassagePapers$State;)LPassagePapers$State;" } : Jvm.MethodName)) ∈ lw_all := lw_g (lw_at lw_m2 221 rfl) rfl
theorem q2196 : (Jvm.Cond.castable "PassagePapers$Kept" "java/lang/Object") ∈ lw_tbl := lw_at lw_m9 187 rfl
theorem in_X3 : ∀ w ∈ wsX30, w ∈ lw_all := lw_in wsX30 [341, 343] (by decide +kernel) (by decide +kernel)
/-! PassagePapers$State -/
set_option maxRecDepth 100000
def RX4 : String := "PassagePapers$State"
def TX4 : u_T := fun k => match k with
  | 0 => ("PassagePapers$State", "where", "[I", true)
  | 1 => ("PassagePapers$State", "taker", "[I", true)
  | 2 => ("PassagePapers$State", "service", "[I", true)
  | 3 => ("PassagePapers$State", "added", "[I", true)
  | 4 => ("PassagePapers$State", "hungry", "[I", true)
  | 5 => ("PassagePapers$State", "placed", "[I", true)
  | 6 => ("PassagePapers$State", "coins", "[I", true)
  | 7 => ("PassagePapers$State", "isLost", "[Z", true)
  | 8 => ("PassagePapers$State", "sight", "LPassagePapers$Sight;", true)
  | 9 => ("PassagePapers$State", "laws", "LPassagePapers$Laws;", true)
  | 10 => ("PassagePapers$State", "register", "LPassagePapers$Register;", false)
  | 11 => ("PassagePapers$State", "week", "I", false)
  | 12 => ("PassagePapers$State", "stores", "I", false)
  | _ => ("PassagePapers$State", "court", "I", false)
def tyX4 : Nat → FieldType := fun k => match k with
  | 0 => .array .int
  | 1 => .array .int
  | 2 => .array .int
  | 3 => .array .int
  | 4 => .array .int
  | 5 => .array .int
  | 6 => .array .int
  | 7 => .array .boolean
  | 8 => .object "PassagePapers$Sight"
  | 9 => .object "PassagePapers$Laws"
  | 10 => .object "PassagePapers$Register"
  | 11 => .int
  | 12 => .int
  | _ => .int
abbrev wsX40 : List Cond := u_ws RX4 TX4 14
set_option maxRecDepth 100000 in
theorem nmX4 : ∀ a, a < 14 → ∀ b, b < 14 → a ≠ b → (TX4 a).2.1 ≠ (TX4 b).2.1 := by decide +kernel
set_option maxRecDepth 100000 in
theorem tyX4_ok : ∀ k, k < 14 → parseFieldDescriptor (TX4 k).2.2.1 = some (tyX4 k) := by decide +kernel
abbrev cX4_init : ByteArray := prog_18_method_1_code
def yX4_init : MethodName := ⟨RX4, "<init>", "(LPassagePapers$Laws;)V"⟩
def dkwX4_init_4 : List UInt8 := [181, 0, 51, 177]
abbrev dktX4_init_4 : List UInt8 := dkwX4_init_4 ++ []
def dkwX4_init_3 : List UInt8 := [187, 0, 37, 89, 183, 0, 39, 181, 0, 40, 42, 187, 0, 44, 89, 183, 0, 46, 181, 0, 47, 42, 43]
abbrev dktX4_init_3 : List UInt8 := dkwX4_init_3 ++ dktX4_init_4
def dkwX4_init_2 : List UInt8 := [188, 10, 181, 0, 27, 42, 16, 8, 188, 10, 181, 0, 30, 42, 16, 8, 188, 4, 181, 0, 33, 42]
abbrev dktX4_init_2 : List UInt8 := dkwX4_init_2 ++ dktX4_init_3
def dkwX4_init_1 : List UInt8 := [188, 10, 181, 0, 18, 42, 16, 8, 188, 10, 181, 0, 21, 42, 16, 8, 188, 10, 181, 0, 24, 42, 16, 8]
abbrev dktX4_init_1 : List UInt8 := dkwX4_init_1 ++ dktX4_init_2
def dkwX4_init_0 : List UInt8 := [42, 183, 0, 3, 42, 16, 8, 188, 10, 181, 0, 9, 42, 16, 8, 188, 10, 181, 0, 15, 42, 16, 8]
abbrev dktX4_init_0 : List UInt8 := dkwX4_init_0 ++ dktX4_init_1
theorem dksX4_init_0 : cX4_init.data.toList.drop 0 = dktX4_init_0 := by decide +kernel
theorem dksX4_init_1 : cX4_init.data.toList.drop 23 = dktX4_init_1 := dk_seg dksX4_init_0 23 rfl rfl
theorem dksX4_init_2 : cX4_init.data.toList.drop 47 = dktX4_init_2 := dk_seg dksX4_init_1 24 rfl rfl
theorem dksX4_init_3 : cX4_init.data.toList.drop 69 = dktX4_init_3 := dk_seg dksX4_init_2 22 rfl rfl
theorem dksX4_init_4 : cX4_init.data.toList.drop 92 = dktX4_init_4 := dk_seg dksX4_init_3 23 rfl rfl
theorem dX4_init_0 : decode cX4_init 0 = .ok (.aload_n 0, 1) := dk_42 (dk_at dksX4_init_0 0 rfl rfl)
theorem dX4_init_1 : decode cX4_init 1 = .ok (.invokespecial 3, 3) := dk_183 0 3 (dk_at dksX4_init_0 1 rfl rfl)
theorem dX4_init_4 : decode cX4_init 4 = .ok (.aload_n 0, 1) := dk_42 (dk_at dksX4_init_0 4 rfl rfl)
theorem dX4_init_5 : decode cX4_init 5 = .ok (.bipush 8, 2) := dk_16 8 (dk_at dksX4_init_0 5 rfl rfl)
theorem dX4_init_7 : decode cX4_init 7 = .ok (.newarray .int, 2) := dk_188_10 (dk_at dksX4_init_0 7 rfl rfl)
theorem dX4_init_9 : decode cX4_init 9 = .ok (.putfield 9, 3) := dk_181 0 9 (dk_at dksX4_init_0 9 rfl rfl)
theorem dX4_init_12 : decode cX4_init 12 = .ok (.aload_n 0, 1) := dk_42 (dk_at dksX4_init_0 12 rfl rfl)
theorem dX4_init_13 : decode cX4_init 13 = .ok (.bipush 8, 2) := dk_16 8 (dk_at dksX4_init_0 13 rfl rfl)
theorem dX4_init_15 : decode cX4_init 15 = .ok (.newarray .int, 2) := dk_188_10 (dk_at dksX4_init_0 15 rfl rfl)
theorem dX4_init_17 : decode cX4_init 17 = .ok (.putfield 15, 3) := dk_181 0 15 (dk_at dksX4_init_0 17 rfl rfl)
theorem dX4_init_20 : decode cX4_init 20 = .ok (.aload_n 0, 1) := dk_42 (dk_at dksX4_init_0 20 rfl rfl)
theorem dX4_init_21 : decode cX4_init 21 = .ok (.bipush 8, 2) := dk_16 8 (dk_at dksX4_init_0 21 rfl rfl)
theorem dX4_init_23 : decode cX4_init 23 = .ok (.newarray .int, 2) := dk_188_10 (dk_at dksX4_init_1 0 rfl rfl)
theorem dX4_init_25 : decode cX4_init 25 = .ok (.putfield 18, 3) := dk_181 0 18 (dk_at dksX4_init_1 2 rfl rfl)
theorem dX4_init_28 : decode cX4_init 28 = .ok (.aload_n 0, 1) := dk_42 (dk_at dksX4_init_1 5 rfl rfl)
theorem dX4_init_29 : decode cX4_init 29 = .ok (.bipush 8, 2) := dk_16 8 (dk_at dksX4_init_1 6 rfl rfl)
theorem dX4_init_31 : decode cX4_init 31 = .ok (.newarray .int, 2) := dk_188_10 (dk_at dksX4_init_1 8 rfl rfl)
theorem dX4_init_33 : decode cX4_init 33 = .ok (.putfield 21, 3) := dk_181 0 21 (dk_at dksX4_init_1 10 rfl rfl)
theorem dX4_init_36 : decode cX4_init 36 = .ok (.aload_n 0, 1) := dk_42 (dk_at dksX4_init_1 13 rfl rfl)
theorem dX4_init_37 : decode cX4_init 37 = .ok (.bipush 8, 2) := dk_16 8 (dk_at dksX4_init_1 14 rfl rfl)
theorem dX4_init_39 : decode cX4_init 39 = .ok (.newarray .int, 2) := dk_188_10 (dk_at dksX4_init_1 16 rfl rfl)
theorem dX4_init_41 : decode cX4_init 41 = .ok (.putfield 24, 3) := dk_181 0 24 (dk_at dksX4_init_1 18 rfl rfl)
theorem dX4_init_44 : decode cX4_init 44 = .ok (.aload_n 0, 1) := dk_42 (dk_at dksX4_init_1 21 rfl rfl)
theorem dX4_init_45 : decode cX4_init 45 = .ok (.bipush 8, 2) := dk_16 8 (dk_at dksX4_init_1 22 rfl rfl)
theorem dX4_init_47 : decode cX4_init 47 = .ok (.newarray .int, 2) := dk_188_10 (dk_at dksX4_init_2 0 rfl rfl)
theorem dX4_init_49 : decode cX4_init 49 = .ok (.putfield 27, 3) := dk_181 0 27 (dk_at dksX4_init_2 2 rfl rfl)
theorem dX4_init_52 : decode cX4_init 52 = .ok (.aload_n 0, 1) := dk_42 (dk_at dksX4_init_2 5 rfl rfl)
theorem dX4_init_53 : decode cX4_init 53 = .ok (.bipush 8, 2) := dk_16 8 (dk_at dksX4_init_2 6 rfl rfl)
theorem dX4_init_55 : decode cX4_init 55 = .ok (.newarray .int, 2) := dk_188_10 (dk_at dksX4_init_2 8 rfl rfl)
theorem dX4_init_57 : decode cX4_init 57 = .ok (.putfield 30, 3) := dk_181 0 30 (dk_at dksX4_init_2 10 rfl rfl)
theorem dX4_init_60 : decode cX4_init 60 = .ok (.aload_n 0, 1) := dk_42 (dk_at dksX4_init_2 13 rfl rfl)
theorem dX4_init_61 : decode cX4_init 61 = .ok (.bipush 8, 2) := dk_16 8 (dk_at dksX4_init_2 14 rfl rfl)
theorem dX4_init_63 : decode cX4_init 63 = .ok (.newarray .boolean, 2) := dk_188_4 (dk_at dksX4_init_2 16 rfl rfl)
theorem dX4_init_65 : decode cX4_init 65 = .ok (.putfield 33, 3) := dk_181 0 33 (dk_at dksX4_init_2 18 rfl rfl)
theorem dX4_init_68 : decode cX4_init 68 = .ok (.aload_n 0, 1) := dk_42 (dk_at dksX4_init_2 21 rfl rfl)
theorem dX4_init_69 : decode cX4_init 69 = .ok (.new 37, 3) := dk_187 0 37 (dk_at dksX4_init_3 0 rfl rfl)
theorem dX4_init_72 : decode cX4_init 72 = .ok (.dup, 1) := dk_89 (dk_at dksX4_init_3 3 rfl rfl)
theorem dX4_init_73 : decode cX4_init 73 = .ok (.invokespecial 39, 3) := dk_183 0 39 (dk_at dksX4_init_3 4 rfl rfl)
theorem dX4_init_76 : decode cX4_init 76 = .ok (.putfield 40, 3) := dk_181 0 40 (dk_at dksX4_init_3 7 rfl rfl)
theorem dX4_init_79 : decode cX4_init 79 = .ok (.aload_n 0, 1) := dk_42 (dk_at dksX4_init_3 10 rfl rfl)
theorem dX4_init_80 : decode cX4_init 80 = .ok (.new 44, 3) := dk_187 0 44 (dk_at dksX4_init_3 11 rfl rfl)
theorem dX4_init_83 : decode cX4_init 83 = .ok (.dup, 1) := dk_89 (dk_at dksX4_init_3 14 rfl rfl)
theorem dX4_init_84 : decode cX4_init 84 = .ok (.invokespecial 46, 3) := dk_183 0 46 (dk_at dksX4_init_3 15 rfl rfl)
theorem dX4_init_87 : decode cX4_init 87 = .ok (.putfield 47, 3) := dk_181 0 47 (dk_at dksX4_init_3 18 rfl rfl)
theorem dX4_init_90 : decode cX4_init 90 = .ok (.aload_n 0, 1) := dk_42 (dk_at dksX4_init_3 21 rfl rfl)
theorem dX4_init_91 : decode cX4_init 91 = .ok (.aload_n 1, 1) := dk_43 (dk_at dksX4_init_3 22 rfl rfl)
theorem dX4_init_92 : decode cX4_init 92 = .ok (.putfield 51, 3) := dk_181 0 51 (dk_at dksX4_init_4 0 rfl rfl)
theorem dX4_init_95 : decode cX4_init 95 = .ok (.return_, 1) := dk_177 (dk_at dksX4_init_4 3 rfl rfl)
abbrev cX4_begins : ByteArray := prog_18_method_2_code
def yX4_begins : MethodName := ⟨RX4, "begins", "(LPassagePapers$Register;)V"⟩
def dkwX4_begins_4 : List UInt8 := [177]
abbrev dktX4_begins_4 : List UInt8 := dkwX4_begins_4 ++ []
def dkwX4_begins_3 : List UInt8 := [180, 0, 30, 28, 43, 180, 0, 63, 28, 46, 79, 42, 180, 0, 33, 28, 3, 84, 132, 2, 1, 167, 255, 186]
abbrev dktX4_begins_3 : List UInt8 := dkwX4_begins_3 ++ dktX4_begins_4
def dkwX4_begins_2 : List UInt8 := [42, 180, 0, 21, 28, 3, 79, 42, 180, 0, 24, 28, 3, 79, 42, 180, 0, 27, 28, 2, 79, 42]
abbrev dktX4_begins_2 : List UInt8 := dkwX4_begins_2 ++ dktX4_begins_3
def dkwX4_begins_1 : List UInt8 := [162, 0, 70, 42, 180, 0, 9, 28, 3, 79, 42, 180, 0, 15, 28, 2, 79, 42, 180, 0, 18, 28, 3, 79]
abbrev dktX4_begins_1 : List UInt8 := dkwX4_begins_1 ++ dktX4_begins_2
def dkwX4_begins_0 : List UInt8 := [42, 43, 181, 0, 47, 42, 3, 181, 0, 55, 42, 43, 180, 0, 59, 181, 0, 62, 3, 61, 28, 16, 8]
abbrev dktX4_begins_0 : List UInt8 := dkwX4_begins_0 ++ dktX4_begins_1
theorem dksX4_begins_0 : cX4_begins.data.toList.drop 0 = dktX4_begins_0 := by decide +kernel
theorem dksX4_begins_1 : cX4_begins.data.toList.drop 23 = dktX4_begins_1 := dk_seg dksX4_begins_0 23 rfl rfl
theorem dksX4_begins_2 : cX4_begins.data.toList.drop 47 = dktX4_begins_2 := dk_seg dksX4_begins_1 24 rfl rfl
theorem dksX4_begins_3 : cX4_begins.data.toList.drop 69 = dktX4_begins_3 := dk_seg dksX4_begins_2 22 rfl rfl
theorem dksX4_begins_4 : cX4_begins.data.toList.drop 93 = dktX4_begins_4 := dk_seg dksX4_begins_3 24 rfl rfl
theorem dX4_begins_0 : decode cX4_begins 0 = .ok (.aload_n 0, 1) := dk_42 (dk_at dksX4_begins_0 0 rfl rfl)
theorem dX4_begins_1 : decode cX4_begins 1 = .ok (.aload_n 1, 1) := dk_43 (dk_at dksX4_begins_0 1 rfl rfl)
theorem dX4_begins_2 : decode cX4_begins 2 = .ok (.putfield 47, 3) := dk_181 0 47 (dk_at dksX4_begins_0 2 rfl rfl)
theorem dX4_begins_5 : decode cX4_begins 5 = .ok (.aload_n 0, 1) := dk_42 (dk_at dksX4_begins_0 5 rfl rfl)
theorem dX4_begins_6 : decode cX4_begins 6 = .ok (.iconst 0, 1) := dk_3 (dk_at dksX4_begins_0 6 rfl rfl)
theorem dX4_begins_7 : decode cX4_begins 7 = .ok (.putfield 55, 3) := dk_181 0 55 (dk_at dksX4_begins_0 7 rfl rfl)
theorem dX4_begins_10 : decode cX4_begins 10 = .ok (.aload_n 0, 1) := dk_42 (dk_at dksX4_begins_0 10 rfl rfl)
theorem dX4_begins_11 : decode cX4_begins 11 = .ok (.aload_n 1, 1) := dk_43 (dk_at dksX4_begins_0 11 rfl rfl)
theorem dX4_begins_12 : decode cX4_begins 12 = .ok (.getfield 59, 3) := dk_180 0 59 (dk_at dksX4_begins_0 12 rfl rfl)
theorem dX4_begins_15 : decode cX4_begins 15 = .ok (.putfield 62, 3) := dk_181 0 62 (dk_at dksX4_begins_0 15 rfl rfl)
theorem dX4_begins_18 : decode cX4_begins 18 = .ok (.iconst 0, 1) := dk_3 (dk_at dksX4_begins_0 18 rfl rfl)
theorem dX4_begins_19 : decode cX4_begins 19 = .ok (.istore_n 2, 1) := dk_61 (dk_at dksX4_begins_0 19 rfl rfl)
theorem dX4_begins_20 : decode cX4_begins 20 = .ok (.iload_n 2, 1) := dk_28 (dk_at dksX4_begins_0 20 rfl rfl)
theorem dX4_begins_21 : decode cX4_begins 21 = .ok (.bipush 8, 2) := dk_16 8 (dk_at dksX4_begins_0 21 rfl rfl)
theorem dX4_begins_23 : decode cX4_begins 23 = .ok (.if_icmp .ge 70, 3) := dk_162 0 70 (dk_at dksX4_begins_1 0 rfl rfl)
theorem dX4_begins_26 : decode cX4_begins 26 = .ok (.aload_n 0, 1) := dk_42 (dk_at dksX4_begins_1 3 rfl rfl)
theorem dX4_begins_27 : decode cX4_begins 27 = .ok (.getfield 9, 3) := dk_180 0 9 (dk_at dksX4_begins_1 4 rfl rfl)
theorem dX4_begins_30 : decode cX4_begins 30 = .ok (.iload_n 2, 1) := dk_28 (dk_at dksX4_begins_1 7 rfl rfl)
theorem dX4_begins_31 : decode cX4_begins 31 = .ok (.iconst 0, 1) := dk_3 (dk_at dksX4_begins_1 8 rfl rfl)
theorem dX4_begins_32 : decode cX4_begins 32 = .ok (.iastore, 1) := dk_79 (dk_at dksX4_begins_1 9 rfl rfl)
theorem dX4_begins_33 : decode cX4_begins 33 = .ok (.aload_n 0, 1) := dk_42 (dk_at dksX4_begins_1 10 rfl rfl)
theorem dX4_begins_34 : decode cX4_begins 34 = .ok (.getfield 15, 3) := dk_180 0 15 (dk_at dksX4_begins_1 11 rfl rfl)
theorem dX4_begins_37 : decode cX4_begins 37 = .ok (.iload_n 2, 1) := dk_28 (dk_at dksX4_begins_1 14 rfl rfl)
theorem dX4_begins_38 : decode cX4_begins 38 = .ok (.iconst (-1), 1) := dk_2 (dk_at dksX4_begins_1 15 rfl rfl)
theorem dX4_begins_39 : decode cX4_begins 39 = .ok (.iastore, 1) := dk_79 (dk_at dksX4_begins_1 16 rfl rfl)
theorem dX4_begins_40 : decode cX4_begins 40 = .ok (.aload_n 0, 1) := dk_42 (dk_at dksX4_begins_1 17 rfl rfl)
theorem dX4_begins_41 : decode cX4_begins 41 = .ok (.getfield 18, 3) := dk_180 0 18 (dk_at dksX4_begins_1 18 rfl rfl)
theorem dX4_begins_44 : decode cX4_begins 44 = .ok (.iload_n 2, 1) := dk_28 (dk_at dksX4_begins_1 21 rfl rfl)
theorem dX4_begins_45 : decode cX4_begins 45 = .ok (.iconst 0, 1) := dk_3 (dk_at dksX4_begins_1 22 rfl rfl)
theorem dX4_begins_46 : decode cX4_begins 46 = .ok (.iastore, 1) := dk_79 (dk_at dksX4_begins_1 23 rfl rfl)
theorem dX4_begins_47 : decode cX4_begins 47 = .ok (.aload_n 0, 1) := dk_42 (dk_at dksX4_begins_2 0 rfl rfl)
theorem dX4_begins_48 : decode cX4_begins 48 = .ok (.getfield 21, 3) := dk_180 0 21 (dk_at dksX4_begins_2 1 rfl rfl)
theorem dX4_begins_51 : decode cX4_begins 51 = .ok (.iload_n 2, 1) := dk_28 (dk_at dksX4_begins_2 4 rfl rfl)
theorem dX4_begins_52 : decode cX4_begins 52 = .ok (.iconst 0, 1) := dk_3 (dk_at dksX4_begins_2 5 rfl rfl)
theorem dX4_begins_53 : decode cX4_begins 53 = .ok (.iastore, 1) := dk_79 (dk_at dksX4_begins_2 6 rfl rfl)
theorem dX4_begins_54 : decode cX4_begins 54 = .ok (.aload_n 0, 1) := dk_42 (dk_at dksX4_begins_2 7 rfl rfl)
theorem dX4_begins_55 : decode cX4_begins 55 = .ok (.getfield 24, 3) := dk_180 0 24 (dk_at dksX4_begins_2 8 rfl rfl)
theorem dX4_begins_58 : decode cX4_begins 58 = .ok (.iload_n 2, 1) := dk_28 (dk_at dksX4_begins_2 11 rfl rfl)
theorem dX4_begins_59 : decode cX4_begins 59 = .ok (.iconst 0, 1) := dk_3 (dk_at dksX4_begins_2 12 rfl rfl)
theorem dX4_begins_60 : decode cX4_begins 60 = .ok (.iastore, 1) := dk_79 (dk_at dksX4_begins_2 13 rfl rfl)
theorem dX4_begins_61 : decode cX4_begins 61 = .ok (.aload_n 0, 1) := dk_42 (dk_at dksX4_begins_2 14 rfl rfl)
theorem dX4_begins_62 : decode cX4_begins 62 = .ok (.getfield 27, 3) := dk_180 0 27 (dk_at dksX4_begins_2 15 rfl rfl)
theorem dX4_begins_65 : decode cX4_begins 65 = .ok (.iload_n 2, 1) := dk_28 (dk_at dksX4_begins_2 18 rfl rfl)
theorem dX4_begins_66 : decode cX4_begins 66 = .ok (.iconst (-1), 1) := dk_2 (dk_at dksX4_begins_2 19 rfl rfl)
theorem dX4_begins_67 : decode cX4_begins 67 = .ok (.iastore, 1) := dk_79 (dk_at dksX4_begins_2 20 rfl rfl)
theorem dX4_begins_68 : decode cX4_begins 68 = .ok (.aload_n 0, 1) := dk_42 (dk_at dksX4_begins_2 21 rfl rfl)
theorem dX4_begins_69 : decode cX4_begins 69 = .ok (.getfield 30, 3) := dk_180 0 30 (dk_at dksX4_begins_3 0 rfl rfl)
theorem dX4_begins_72 : decode cX4_begins 72 = .ok (.iload_n 2, 1) := dk_28 (dk_at dksX4_begins_3 3 rfl rfl)
theorem dX4_begins_73 : decode cX4_begins 73 = .ok (.aload_n 1, 1) := dk_43 (dk_at dksX4_begins_3 4 rfl rfl)
theorem dX4_begins_74 : decode cX4_begins 74 = .ok (.getfield 63, 3) := dk_180 0 63 (dk_at dksX4_begins_3 5 rfl rfl)
theorem dX4_begins_77 : decode cX4_begins 77 = .ok (.iload_n 2, 1) := dk_28 (dk_at dksX4_begins_3 8 rfl rfl)
theorem dX4_begins_78 : decode cX4_begins 78 = .ok (.iaload, 1) := dk_46 (dk_at dksX4_begins_3 9 rfl rfl)
theorem dX4_begins_79 : decode cX4_begins 79 = .ok (.iastore, 1) := dk_79 (dk_at dksX4_begins_3 10 rfl rfl)
theorem dX4_begins_80 : decode cX4_begins 80 = .ok (.aload_n 0, 1) := dk_42 (dk_at dksX4_begins_3 11 rfl rfl)
theorem dX4_begins_81 : decode cX4_begins 81 = .ok (.getfield 33, 3) := dk_180 0 33 (dk_at dksX4_begins_3 12 rfl rfl)
theorem dX4_begins_84 : decode cX4_begins 84 = .ok (.iload_n 2, 1) := dk_28 (dk_at dksX4_begins_3 15 rfl rfl)
theorem dX4_begins_85 : decode cX4_begins 85 = .ok (.iconst 0, 1) := dk_3 (dk_at dksX4_begins_3 16 rfl rfl)
theorem dX4_begins_86 : decode cX4_begins 86 = .ok (.bastore, 1) := dk_84 (dk_at dksX4_begins_3 17 rfl rfl)
theorem dX4_begins_87 : decode cX4_begins 87 = .ok (.iinc 2 1, 3) := dk_132 2 1 (dk_at dksX4_begins_3 18 rfl rfl)
theorem dX4_begins_90 : decode cX4_begins 90 = .ok (.goto (-70), 3) := dk_167 255 186 (dk_at dksX4_begins_3 21 rfl rfl)
theorem dX4_begins_93 : decode cX4_begins 93 = .ok (.return_, 1) := dk_177 (dk_at dksX4_begins_4 0 rfl rfl)
abbrev cX4_isBound : ByteArray := prog_18_method_6_code
def yX4_isBound : MethodName := ⟨RX4, "isBound", "(I)Z"⟩
def dkwX4_isBound_0 : List UInt8 := [42, 180, 0, 9, 27, 46, 5, 160, 0, 7, 4, 167, 0, 4, 3, 172]
abbrev dktX4_isBound_0 : List UInt8 := dkwX4_isBound_0 ++ []
theorem dksX4_isBound_0 : cX4_isBound.data.toList.drop 0 = dktX4_isBound_0 := by decide +kernel
theorem dX4_isBound_0 : decode cX4_isBound 0 = .ok (.aload_n 0, 1) := dk_42 (dk_at dksX4_isBound_0 0 rfl rfl)
theorem dX4_isBound_1 : decode cX4_isBound 1 = .ok (.getfield 9, 3) := dk_180 0 9 (dk_at dksX4_isBound_0 1 rfl rfl)
theorem dX4_isBound_4 : decode cX4_isBound 4 = .ok (.iload_n 1, 1) := dk_27 (dk_at dksX4_isBound_0 4 rfl rfl)
theorem dX4_isBound_5 : decode cX4_isBound 5 = .ok (.iaload, 1) := dk_46 (dk_at dksX4_isBound_0 5 rfl rfl)
theorem dX4_isBound_6 : decode cX4_isBound 6 = .ok (.iconst 2, 1) := dk_5 (dk_at dksX4_isBound_0 6 rfl rfl)
theorem dX4_isBound_7 : decode cX4_isBound 7 = .ok (.if_icmp .ne 7, 3) := dk_160 0 7 (dk_at dksX4_isBound_0 7 rfl rfl)
theorem dX4_isBound_10 : decode cX4_isBound 10 = .ok (.iconst 1, 1) := dk_4 (dk_at dksX4_isBound_0 10 rfl rfl)
theorem dX4_isBound_11 : decode cX4_isBound 11 = .ok (.goto 4, 3) := dk_167 0 4 (dk_at dksX4_isBound_0 11 rfl rfl)
theorem dX4_isBound_14 : decode cX4_isBound 14 = .ok (.iconst 0, 1) := dk_3 (dk_at dksX4_isBound_0 14 rfl rfl)
theorem dX4_isBound_15 : decode cX4_isBound 15 = .ok (.ireturn, 1) := dk_172 (dk_at dksX4_isBound_0 15 rfl rfl)
abbrev cX4_owesBy : ByteArray := prog_18_method_11_code
def yX4_owesBy : MethodName := ⟨RX4, "owesBy", "(II)I"⟩
def dkwX4_owesBy_1 : List UInt8 := [180, 0, 18, 27, 46, 100, 184, 0, 125, 172]
abbrev dktX4_owesBy_1 : List UInt8 := dkwX4_owesBy_1 ++ []
def dkwX4_owesBy_0 : List UInt8 := [42, 180, 0, 9, 27, 46, 6, 160, 0, 7, 3, 167, 0, 20, 3, 42, 27, 28, 182, 0, 122, 42]
abbrev dktX4_owesBy_0 : List UInt8 := dkwX4_owesBy_0 ++ dktX4_owesBy_1
theorem dksX4_owesBy_0 : cX4_owesBy.data.toList.drop 0 = dktX4_owesBy_0 := by decide +kernel
theorem dksX4_owesBy_1 : cX4_owesBy.data.toList.drop 22 = dktX4_owesBy_1 := dk_seg dksX4_owesBy_0 22 rfl rfl
theorem dX4_owesBy_0 : decode cX4_owesBy 0 = .ok (.aload_n 0, 1) := dk_42 (dk_at dksX4_owesBy_0 0 rfl rfl)
theorem dX4_owesBy_1 : decode cX4_owesBy 1 = .ok (.getfield 9, 3) := dk_180 0 9 (dk_at dksX4_owesBy_0 1 rfl rfl)
theorem dX4_owesBy_4 : decode cX4_owesBy 4 = .ok (.iload_n 1, 1) := dk_27 (dk_at dksX4_owesBy_0 4 rfl rfl)
theorem dX4_owesBy_5 : decode cX4_owesBy 5 = .ok (.iaload, 1) := dk_46 (dk_at dksX4_owesBy_0 5 rfl rfl)
theorem dX4_owesBy_6 : decode cX4_owesBy 6 = .ok (.iconst 3, 1) := dk_6 (dk_at dksX4_owesBy_0 6 rfl rfl)
theorem dX4_owesBy_7 : decode cX4_owesBy 7 = .ok (.if_icmp .ne 7, 3) := dk_160 0 7 (dk_at dksX4_owesBy_0 7 rfl rfl)
theorem dX4_owesBy_10 : decode cX4_owesBy 10 = .ok (.iconst 0, 1) := dk_3 (dk_at dksX4_owesBy_0 10 rfl rfl)
theorem dX4_owesBy_11 : decode cX4_owesBy 11 = .ok (.goto 20, 3) := dk_167 0 20 (dk_at dksX4_owesBy_0 11 rfl rfl)
theorem dX4_owesBy_14 : decode cX4_owesBy 14 = .ok (.iconst 0, 1) := dk_3 (dk_at dksX4_owesBy_0 14 rfl rfl)
theorem dX4_owesBy_15 : decode cX4_owesBy 15 = .ok (.aload_n 0, 1) := dk_42 (dk_at dksX4_owesBy_0 15 rfl rfl)
theorem dX4_owesBy_16 : decode cX4_owesBy 16 = .ok (.iload_n 1, 1) := dk_27 (dk_at dksX4_owesBy_0 16 rfl rfl)
theorem dX4_owesBy_17 : decode cX4_owesBy 17 = .ok (.iload_n 2, 1) := dk_28 (dk_at dksX4_owesBy_0 17 rfl rfl)
theorem dX4_owesBy_18 : decode cX4_owesBy 18 = .ok (.invokevirtual 122, 3) := dk_182 0 122 (dk_at dksX4_owesBy_0 18 rfl rfl)
theorem dX4_owesBy_21 : decode cX4_owesBy 21 = .ok (.aload_n 0, 1) := dk_42 (dk_at dksX4_owesBy_0 21 rfl rfl)
theorem dX4_owesBy_22 : decode cX4_owesBy 22 = .ok (.getfield 18, 3) := dk_180 0 18 (dk_at dksX4_owesBy_1 0 rfl rfl)
theorem dX4_owesBy_25 : decode cX4_owesBy 25 = .ok (.iload_n 1, 1) := dk_27 (dk_at dksX4_owesBy_1 3 rfl rfl)
theorem dX4_owesBy_26 : decode cX4_owesBy 26 = .ok (.iaload, 1) := dk_46 (dk_at dksX4_owesBy_1 4 rfl rfl)
theorem dX4_owesBy_27 : decode cX4_owesBy 27 = .ok (.isub, 1) := dk_100 (dk_at dksX4_owesBy_1 5 rfl rfl)
theorem dX4_owesBy_28 : decode cX4_owesBy 28 = .ok (.invokestatic 125, 3) := dk_184 0 125 (dk_at dksX4_owesBy_1 6 rfl rfl)
theorem dX4_owesBy_31 : decode cX4_owesBy 31 = .ok (.ireturn, 1) := dk_172 (dk_at dksX4_owesBy_1 9 rfl rfl)
abbrev cX4_asks : ByteArray := prog_18_method_10_code
def yX4_asks : MethodName := ⟨RX4, "asks", "(II)I"⟩
def dkwX4_asks_0 : List UInt8 := [42, 27, 42, 180, 0, 47, 180, 0, 116, 27, 46, 42, 180, 0, 21, 27, 46, 28, 182, 0, 118, 172]
abbrev dktX4_asks_0 : List UInt8 := dkwX4_asks_0 ++ []
theorem dksX4_asks_0 : cX4_asks.data.toList.drop 0 = dktX4_asks_0 := by decide +kernel
theorem dX4_asks_0 : decode cX4_asks 0 = .ok (.aload_n 0, 1) := dk_42 (dk_at dksX4_asks_0 0 rfl rfl)
theorem dX4_asks_1 : decode cX4_asks 1 = .ok (.iload_n 1, 1) := dk_27 (dk_at dksX4_asks_0 1 rfl rfl)
theorem dX4_asks_2 : decode cX4_asks 2 = .ok (.aload_n 0, 1) := dk_42 (dk_at dksX4_asks_0 2 rfl rfl)
theorem dX4_asks_3 : decode cX4_asks 3 = .ok (.getfield 47, 3) := dk_180 0 47 (dk_at dksX4_asks_0 3 rfl rfl)
theorem dX4_asks_6 : decode cX4_asks 6 = .ok (.getfield 116, 3) := dk_180 0 116 (dk_at dksX4_asks_0 6 rfl rfl)
theorem dX4_asks_9 : decode cX4_asks 9 = .ok (.iload_n 1, 1) := dk_27 (dk_at dksX4_asks_0 9 rfl rfl)
theorem dX4_asks_10 : decode cX4_asks 10 = .ok (.iaload, 1) := dk_46 (dk_at dksX4_asks_0 10 rfl rfl)
theorem dX4_asks_11 : decode cX4_asks 11 = .ok (.aload_n 0, 1) := dk_42 (dk_at dksX4_asks_0 11 rfl rfl)
theorem dX4_asks_12 : decode cX4_asks 12 = .ok (.getfield 21, 3) := dk_180 0 21 (dk_at dksX4_asks_0 12 rfl rfl)
theorem dX4_asks_15 : decode cX4_asks 15 = .ok (.iload_n 1, 1) := dk_27 (dk_at dksX4_asks_0 15 rfl rfl)
theorem dX4_asks_16 : decode cX4_asks 16 = .ok (.iaload, 1) := dk_46 (dk_at dksX4_asks_0 16 rfl rfl)
theorem dX4_asks_17 : decode cX4_asks 17 = .ok (.iload_n 2, 1) := dk_28 (dk_at dksX4_asks_0 17 rfl rfl)
theorem dX4_asks_18 : decode cX4_asks 18 = .ok (.invokevirtual 118, 3) := dk_182 0 118 (dk_at dksX4_asks_0 18 rfl rfl)
theorem dX4_asks_21 : decode cX4_asks 21 = .ok (.ireturn, 1) := dk_172 (dk_at dksX4_asks_0 21 rfl rfl)
abbrev cX4_asksBy : ByteArray := prog_18_method_9_code
def yX4_asksBy : MethodName := ⟨RX4, "asksBy", "(IIII)I"⟩
def dkwX4_asksBy_5 : List UInt8 := [180, 0, 40, 42, 180, 0, 55, 181, 0, 109, 42, 180, 0, 51, 42, 180, 0, 40, 21, 4, 182, 0, 110, 172]
abbrev dktX4_asksBy_5 : List UInt8 := dkwX4_asksBy_5 ++ []
def dkwX4_asksBy_4 : List UInt8 := [27, 46, 2, 160, 0, 10, 42, 180, 0, 55, 167, 0, 9, 42, 180, 0, 27, 27, 46, 181, 0, 107, 42]
abbrev dktX4_asksBy_4 : List UInt8 := dkwX4_asksBy_4 ++ dktX4_asksBy_5
def dkwX4_asksBy_3 : List UInt8 := [180, 0, 33, 27, 51, 153, 0, 7, 4, 167, 0, 4, 3, 181, 0, 104, 42, 180, 0, 40, 42, 180, 0, 27]
abbrev dktX4_asksBy_3 : List UInt8 := dkwX4_asksBy_3 ++ dktX4_asksBy_4
def dkwX4_asksBy_2 : List UInt8 := [180, 0, 40, 42, 180, 0, 47, 27, 182, 0, 92, 184, 0, 96, 181, 0, 101, 42, 180, 0, 40, 42]
abbrev dktX4_asksBy_2 : List UInt8 := dkwX4_asksBy_2 ++ dktX4_asksBy_3
def dkwX4_asksBy_1 : List UInt8 := [180, 0, 85, 27, 46, 181, 0, 88, 42, 180, 0, 40, 42, 180, 0, 24, 27, 46, 181, 0, 90, 42]
abbrev dktX4_asksBy_1 : List UInt8 := dkwX4_asksBy_1 ++ dktX4_asksBy_2
def dkwX4_asksBy_0 : List UInt8 := [42, 180, 0, 40, 28, 181, 0, 80, 42, 180, 0, 40, 29, 181, 0, 83, 42, 180, 0, 40, 42, 180, 0, 47]
abbrev dktX4_asksBy_0 : List UInt8 := dkwX4_asksBy_0 ++ dktX4_asksBy_1
theorem dksX4_asksBy_0 : cX4_asksBy.data.toList.drop 0 = dktX4_asksBy_0 := by decide +kernel
theorem dksX4_asksBy_1 : cX4_asksBy.data.toList.drop 24 = dktX4_asksBy_1 := dk_seg dksX4_asksBy_0 24 rfl rfl
theorem dksX4_asksBy_2 : cX4_asksBy.data.toList.drop 46 = dktX4_asksBy_2 := dk_seg dksX4_asksBy_1 22 rfl rfl
theorem dksX4_asksBy_3 : cX4_asksBy.data.toList.drop 68 = dktX4_asksBy_3 := dk_seg dksX4_asksBy_2 22 rfl rfl
theorem dksX4_asksBy_4 : cX4_asksBy.data.toList.drop 92 = dktX4_asksBy_4 := dk_seg dksX4_asksBy_3 24 rfl rfl
theorem dksX4_asksBy_5 : cX4_asksBy.data.toList.drop 115 = dktX4_asksBy_5 := dk_seg dksX4_asksBy_4 23 rfl rfl
theorem dX4_asksBy_0 : decode cX4_asksBy 0 = .ok (.aload_n 0, 1) := dk_42 (dk_at dksX4_asksBy_0 0 rfl rfl)
theorem dX4_asksBy_1 : decode cX4_asksBy 1 = .ok (.getfield 40, 3) := dk_180 0 40 (dk_at dksX4_asksBy_0 1 rfl rfl)
theorem dX4_asksBy_4 : decode cX4_asksBy 4 = .ok (.iload_n 2, 1) := dk_28 (dk_at dksX4_asksBy_0 4 rfl rfl)
theorem dX4_asksBy_5 : decode cX4_asksBy 5 = .ok (.putfield 80, 3) := dk_181 0 80 (dk_at dksX4_asksBy_0 5 rfl rfl)
theorem dX4_asksBy_8 : decode cX4_asksBy 8 = .ok (.aload_n 0, 1) := dk_42 (dk_at dksX4_asksBy_0 8 rfl rfl)
theorem dX4_asksBy_9 : decode cX4_asksBy 9 = .ok (.getfield 40, 3) := dk_180 0 40 (dk_at dksX4_asksBy_0 9 rfl rfl)
theorem dX4_asksBy_12 : decode cX4_asksBy 12 = .ok (.iload_n 3, 1) := dk_29 (dk_at dksX4_asksBy_0 12 rfl rfl)
theorem dX4_asksBy_13 : decode cX4_asksBy 13 = .ok (.putfield 83, 3) := dk_181 0 83 (dk_at dksX4_asksBy_0 13 rfl rfl)
theorem dX4_asksBy_16 : decode cX4_asksBy 16 = .ok (.aload_n 0, 1) := dk_42 (dk_at dksX4_asksBy_0 16 rfl rfl)
theorem dX4_asksBy_17 : decode cX4_asksBy 17 = .ok (.getfield 40, 3) := dk_180 0 40 (dk_at dksX4_asksBy_0 17 rfl rfl)
theorem dX4_asksBy_20 : decode cX4_asksBy 20 = .ok (.aload_n 0, 1) := dk_42 (dk_at dksX4_asksBy_0 20 rfl rfl)
theorem dX4_asksBy_21 : decode cX4_asksBy 21 = .ok (.getfield 47, 3) := dk_180 0 47 (dk_at dksX4_asksBy_0 21 rfl rfl)
theorem dX4_asksBy_24 : decode cX4_asksBy 24 = .ok (.getfield 85, 3) := dk_180 0 85 (dk_at dksX4_asksBy_1 0 rfl rfl)
theorem dX4_asksBy_27 : decode cX4_asksBy 27 = .ok (.iload_n 1, 1) := dk_27 (dk_at dksX4_asksBy_1 3 rfl rfl)
theorem dX4_asksBy_28 : decode cX4_asksBy 28 = .ok (.iaload, 1) := dk_46 (dk_at dksX4_asksBy_1 4 rfl rfl)
theorem dX4_asksBy_29 : decode cX4_asksBy 29 = .ok (.putfield 88, 3) := dk_181 0 88 (dk_at dksX4_asksBy_1 5 rfl rfl)
theorem dX4_asksBy_32 : decode cX4_asksBy 32 = .ok (.aload_n 0, 1) := dk_42 (dk_at dksX4_asksBy_1 8 rfl rfl)
theorem dX4_asksBy_33 : decode cX4_asksBy 33 = .ok (.getfield 40, 3) := dk_180 0 40 (dk_at dksX4_asksBy_1 9 rfl rfl)
theorem dX4_asksBy_36 : decode cX4_asksBy 36 = .ok (.aload_n 0, 1) := dk_42 (dk_at dksX4_asksBy_1 12 rfl rfl)
theorem dX4_asksBy_37 : decode cX4_asksBy 37 = .ok (.getfield 24, 3) := dk_180 0 24 (dk_at dksX4_asksBy_1 13 rfl rfl)
theorem dX4_asksBy_40 : decode cX4_asksBy 40 = .ok (.iload_n 1, 1) := dk_27 (dk_at dksX4_asksBy_1 16 rfl rfl)
theorem dX4_asksBy_41 : decode cX4_asksBy 41 = .ok (.iaload, 1) := dk_46 (dk_at dksX4_asksBy_1 17 rfl rfl)
theorem dX4_asksBy_42 : decode cX4_asksBy 42 = .ok (.putfield 90, 3) := dk_181 0 90 (dk_at dksX4_asksBy_1 18 rfl rfl)
theorem dX4_asksBy_45 : decode cX4_asksBy 45 = .ok (.aload_n 0, 1) := dk_42 (dk_at dksX4_asksBy_1 21 rfl rfl)
theorem dX4_asksBy_46 : decode cX4_asksBy 46 = .ok (.getfield 40, 3) := dk_180 0 40 (dk_at dksX4_asksBy_2 0 rfl rfl)
theorem dX4_asksBy_49 : decode cX4_asksBy 49 = .ok (.aload_n 0, 1) := dk_42 (dk_at dksX4_asksBy_2 3 rfl rfl)
theorem dX4_asksBy_50 : decode cX4_asksBy 50 = .ok (.getfield 47, 3) := dk_180 0 47 (dk_at dksX4_asksBy_2 4 rfl rfl)
theorem dX4_asksBy_53 : decode cX4_asksBy 53 = .ok (.iload_n 1, 1) := dk_27 (dk_at dksX4_asksBy_2 7 rfl rfl)
theorem dX4_asksBy_54 : decode cX4_asksBy 54 = .ok (.invokevirtual 92, 3) := dk_182 0 92 (dk_at dksX4_asksBy_2 8 rfl rfl)
theorem dX4_asksBy_57 : decode cX4_asksBy 57 = .ok (.invokestatic 96, 3) := dk_184 0 96 (dk_at dksX4_asksBy_2 11 rfl rfl)
theorem dX4_asksBy_60 : decode cX4_asksBy 60 = .ok (.putfield 101, 3) := dk_181 0 101 (dk_at dksX4_asksBy_2 14 rfl rfl)
theorem dX4_asksBy_63 : decode cX4_asksBy 63 = .ok (.aload_n 0, 1) := dk_42 (dk_at dksX4_asksBy_2 17 rfl rfl)
theorem dX4_asksBy_64 : decode cX4_asksBy 64 = .ok (.getfield 40, 3) := dk_180 0 40 (dk_at dksX4_asksBy_2 18 rfl rfl)
theorem dX4_asksBy_67 : decode cX4_asksBy 67 = .ok (.aload_n 0, 1) := dk_42 (dk_at dksX4_asksBy_2 21 rfl rfl)
theorem dX4_asksBy_68 : decode cX4_asksBy 68 = .ok (.getfield 33, 3) := dk_180 0 33 (dk_at dksX4_asksBy_3 0 rfl rfl)
theorem dX4_asksBy_71 : decode cX4_asksBy 71 = .ok (.iload_n 1, 1) := dk_27 (dk_at dksX4_asksBy_3 3 rfl rfl)
theorem dX4_asksBy_72 : decode cX4_asksBy 72 = .ok (.baload, 1) := dk_51 (dk_at dksX4_asksBy_3 4 rfl rfl)
theorem dX4_asksBy_73 : decode cX4_asksBy 73 = .ok (.ifCond .eq 7, 3) := dk_153 0 7 (dk_at dksX4_asksBy_3 5 rfl rfl)
theorem dX4_asksBy_76 : decode cX4_asksBy 76 = .ok (.iconst 1, 1) := dk_4 (dk_at dksX4_asksBy_3 8 rfl rfl)
theorem dX4_asksBy_77 : decode cX4_asksBy 77 = .ok (.goto 4, 3) := dk_167 0 4 (dk_at dksX4_asksBy_3 9 rfl rfl)
theorem dX4_asksBy_80 : decode cX4_asksBy 80 = .ok (.iconst 0, 1) := dk_3 (dk_at dksX4_asksBy_3 12 rfl rfl)
theorem dX4_asksBy_81 : decode cX4_asksBy 81 = .ok (.putfield 104, 3) := dk_181 0 104 (dk_at dksX4_asksBy_3 13 rfl rfl)
theorem dX4_asksBy_84 : decode cX4_asksBy 84 = .ok (.aload_n 0, 1) := dk_42 (dk_at dksX4_asksBy_3 16 rfl rfl)
theorem dX4_asksBy_85 : decode cX4_asksBy 85 = .ok (.getfield 40, 3) := dk_180 0 40 (dk_at dksX4_asksBy_3 17 rfl rfl)
theorem dX4_asksBy_88 : decode cX4_asksBy 88 = .ok (.aload_n 0, 1) := dk_42 (dk_at dksX4_asksBy_3 20 rfl rfl)
theorem dX4_asksBy_89 : decode cX4_asksBy 89 = .ok (.getfield 27, 3) := dk_180 0 27 (dk_at dksX4_asksBy_3 21 rfl rfl)
theorem dX4_asksBy_92 : decode cX4_asksBy 92 = .ok (.iload_n 1, 1) := dk_27 (dk_at dksX4_asksBy_4 0 rfl rfl)
theorem dX4_asksBy_93 : decode cX4_asksBy 93 = .ok (.iaload, 1) := dk_46 (dk_at dksX4_asksBy_4 1 rfl rfl)
theorem dX4_asksBy_94 : decode cX4_asksBy 94 = .ok (.iconst (-1), 1) := dk_2 (dk_at dksX4_asksBy_4 2 rfl rfl)
theorem dX4_asksBy_95 : decode cX4_asksBy 95 = .ok (.if_icmp .ne 10, 3) := dk_160 0 10 (dk_at dksX4_asksBy_4 3 rfl rfl)
theorem dX4_asksBy_98 : decode cX4_asksBy 98 = .ok (.aload_n 0, 1) := dk_42 (dk_at dksX4_asksBy_4 6 rfl rfl)
theorem dX4_asksBy_99 : decode cX4_asksBy 99 = .ok (.getfield 55, 3) := dk_180 0 55 (dk_at dksX4_asksBy_4 7 rfl rfl)
theorem dX4_asksBy_102 : decode cX4_asksBy 102 = .ok (.goto 9, 3) := dk_167 0 9 (dk_at dksX4_asksBy_4 10 rfl rfl)
theorem dX4_asksBy_105 : decode cX4_asksBy 105 = .ok (.aload_n 0, 1) := dk_42 (dk_at dksX4_asksBy_4 13 rfl rfl)
theorem dX4_asksBy_106 : decode cX4_asksBy 106 = .ok (.getfield 27, 3) := dk_180 0 27 (dk_at dksX4_asksBy_4 14 rfl rfl)
theorem dX4_asksBy_109 : decode cX4_asksBy 109 = .ok (.iload_n 1, 1) := dk_27 (dk_at dksX4_asksBy_4 17 rfl rfl)
theorem dX4_asksBy_110 : decode cX4_asksBy 110 = .ok (.iaload, 1) := dk_46 (dk_at dksX4_asksBy_4 18 rfl rfl)
theorem dX4_asksBy_111 : decode cX4_asksBy 111 = .ok (.putfield 107, 3) := dk_181 0 107 (dk_at dksX4_asksBy_4 19 rfl rfl)
theorem dX4_asksBy_114 : decode cX4_asksBy 114 = .ok (.aload_n 0, 1) := dk_42 (dk_at dksX4_asksBy_4 22 rfl rfl)
theorem dX4_asksBy_115 : decode cX4_asksBy 115 = .ok (.getfield 40, 3) := dk_180 0 40 (dk_at dksX4_asksBy_5 0 rfl rfl)
theorem dX4_asksBy_118 : decode cX4_asksBy 118 = .ok (.aload_n 0, 1) := dk_42 (dk_at dksX4_asksBy_5 3 rfl rfl)
theorem dX4_asksBy_119 : decode cX4_asksBy 119 = .ok (.getfield 55, 3) := dk_180 0 55 (dk_at dksX4_asksBy_5 4 rfl rfl)
theorem dX4_asksBy_122 : decode cX4_asksBy 122 = .ok (.putfield 109, 3) := dk_181 0 109 (dk_at dksX4_asksBy_5 7 rfl rfl)
theorem dX4_asksBy_125 : decode cX4_asksBy 125 = .ok (.aload_n 0, 1) := dk_42 (dk_at dksX4_asksBy_5 10 rfl rfl)
theorem dX4_asksBy_126 : decode cX4_asksBy 126 = .ok (.getfield 51, 3) := dk_180 0 51 (dk_at dksX4_asksBy_5 11 rfl rfl)
theorem dX4_asksBy_129 : decode cX4_asksBy 129 = .ok (.aload_n 0, 1) := dk_42 (dk_at dksX4_asksBy_5 14 rfl rfl)
theorem dX4_asksBy_130 : decode cX4_asksBy 130 = .ok (.getfield 40, 3) := dk_180 0 40 (dk_at dksX4_asksBy_5 15 rfl rfl)
theorem dX4_asksBy_133 : decode cX4_asksBy 133 = .ok (.iload 4, 2) := dk_21 4 (dk_at dksX4_asksBy_5 18 rfl rfl)
theorem dX4_asksBy_135 : decode cX4_asksBy 135 = .ok (.invokevirtual 110, 3) := dk_182 0 110 (dk_at dksX4_asksBy_5 20 rfl rfl)
theorem dX4_asksBy_138 : decode cX4_asksBy 138 = .ok (.ireturn, 1) := dk_172 (dk_at dksX4_asksBy_5 23 rfl rfl)
abbrev cX4_many : ByteArray := prog_18_method_7_code
def yX4_many : MethodName := ⟨RX4, "many", "(I)I"⟩
def dkwX4_many_1 : List UInt8 := [160, 0, 6, 132, 2, 1, 132, 3, 1, 167, 255, 229, 28, 172]
abbrev dktX4_many_1 : List UInt8 := dkwX4_many_1 ++ []
def dkwX4_many_0 : List UInt8 := [3, 61, 3, 62, 29, 42, 180, 0, 47, 180, 0, 77, 162, 0, 22, 42, 180, 0, 9, 29, 46, 27]
abbrev dktX4_many_0 : List UInt8 := dkwX4_many_0 ++ dktX4_many_1
theorem dksX4_many_0 : cX4_many.data.toList.drop 0 = dktX4_many_0 := by decide +kernel
theorem dksX4_many_1 : cX4_many.data.toList.drop 22 = dktX4_many_1 := dk_seg dksX4_many_0 22 rfl rfl
theorem dX4_many_0 : decode cX4_many 0 = .ok (.iconst 0, 1) := dk_3 (dk_at dksX4_many_0 0 rfl rfl)
theorem dX4_many_1 : decode cX4_many 1 = .ok (.istore_n 2, 1) := dk_61 (dk_at dksX4_many_0 1 rfl rfl)
theorem dX4_many_2 : decode cX4_many 2 = .ok (.iconst 0, 1) := dk_3 (dk_at dksX4_many_0 2 rfl rfl)
theorem dX4_many_3 : decode cX4_many 3 = .ok (.istore_n 3, 1) := dk_62 (dk_at dksX4_many_0 3 rfl rfl)
theorem dX4_many_4 : decode cX4_many 4 = .ok (.iload_n 3, 1) := dk_29 (dk_at dksX4_many_0 4 rfl rfl)
theorem dX4_many_5 : decode cX4_many 5 = .ok (.aload_n 0, 1) := dk_42 (dk_at dksX4_many_0 5 rfl rfl)
theorem dX4_many_6 : decode cX4_many 6 = .ok (.getfield 47, 3) := dk_180 0 47 (dk_at dksX4_many_0 6 rfl rfl)
theorem dX4_many_9 : decode cX4_many 9 = .ok (.getfield 77, 3) := dk_180 0 77 (dk_at dksX4_many_0 9 rfl rfl)
theorem dX4_many_12 : decode cX4_many 12 = .ok (.if_icmp .ge 22, 3) := dk_162 0 22 (dk_at dksX4_many_0 12 rfl rfl)
theorem dX4_many_15 : decode cX4_many 15 = .ok (.aload_n 0, 1) := dk_42 (dk_at dksX4_many_0 15 rfl rfl)
theorem dX4_many_16 : decode cX4_many 16 = .ok (.getfield 9, 3) := dk_180 0 9 (dk_at dksX4_many_0 16 rfl rfl)
theorem dX4_many_19 : decode cX4_many 19 = .ok (.iload_n 3, 1) := dk_29 (dk_at dksX4_many_0 19 rfl rfl)
theorem dX4_many_20 : decode cX4_many 20 = .ok (.iaload, 1) := dk_46 (dk_at dksX4_many_0 20 rfl rfl)
theorem dX4_many_21 : decode cX4_many 21 = .ok (.iload_n 1, 1) := dk_27 (dk_at dksX4_many_0 21 rfl rfl)
theorem dX4_many_22 : decode cX4_many 22 = .ok (.if_icmp .ne 6, 3) := dk_160 0 6 (dk_at dksX4_many_1 0 rfl rfl)
theorem dX4_many_25 : decode cX4_many 25 = .ok (.iinc 2 1, 3) := dk_132 2 1 (dk_at dksX4_many_1 3 rfl rfl)
theorem dX4_many_28 : decode cX4_many 28 = .ok (.iinc 3 1, 3) := dk_132 3 1 (dk_at dksX4_many_1 6 rfl rfl)
theorem dX4_many_31 : decode cX4_many 31 = .ok (.goto (-27), 3) := dk_167 255 229 (dk_at dksX4_many_1 9 rfl rfl)
theorem dX4_many_34 : decode cX4_many 34 = .ok (.iload_n 2, 1) := dk_28 (dk_at dksX4_many_1 12 rfl rfl)
theorem dX4_many_35 : decode cX4_many 35 = .ok (.ireturn, 1) := dk_172 (dk_at dksX4_many_1 13 rfl rfl)
abbrev cX4_as : ByteArray := prog_18_method_3_code
def yX4_as : MethodName := ⟨RX4, "as", "(LPassagePapers$State;)LPassagePapers$State;"⟩
def dkwX4_as_5 : List UInt8 := [16, 8, 184, 0, 71, 42, 176]
abbrev dktX4_as_5 : List UInt8 := dkwX4_as_5 ++ []
def dkwX4_as_4 : List UInt8 := [184, 0, 67, 43, 180, 0, 30, 42, 180, 0, 30, 184, 0, 67, 43, 180, 0, 33, 3, 42, 180, 0, 33, 3]
abbrev dktX4_as_4 : List UInt8 := dkwX4_as_4 ++ dktX4_as_5
def dkwX4_as_3 : List UInt8 := [184, 0, 67, 43, 180, 0, 24, 42, 180, 0, 24, 184, 0, 67, 43, 180, 0, 27, 42, 180, 0, 27]
abbrev dktX4_as_3 : List UInt8 := dkwX4_as_3 ++ dktX4_as_4
def dkwX4_as_2 : List UInt8 := [184, 0, 67, 43, 180, 0, 18, 42, 180, 0, 18, 184, 0, 67, 43, 180, 0, 21, 42, 180, 0, 21]
abbrev dktX4_as_2 : List UInt8 := dkwX4_as_2 ++ dktX4_as_3
def dkwX4_as_1 : List UInt8 := [42, 3, 181, 0, 64, 43, 180, 0, 9, 42, 180, 0, 9, 184, 0, 67, 43, 180, 0, 15, 42, 180, 0, 15]
abbrev dktX4_as_1 : List UInt8 := dkwX4_as_1 ++ dktX4_as_2
def dkwX4_as_0 : List UInt8 := [42, 43, 180, 0, 47, 181, 0, 47, 42, 43, 180, 0, 55, 181, 0, 55, 42, 43, 180, 0, 62, 181, 0, 62]
abbrev dktX4_as_0 : List UInt8 := dkwX4_as_0 ++ dktX4_as_1
theorem dksX4_as_0 : cX4_as.data.toList.drop 0 = dktX4_as_0 := by decide +kernel
theorem dksX4_as_1 : cX4_as.data.toList.drop 24 = dktX4_as_1 := dk_seg dksX4_as_0 24 rfl rfl
theorem dksX4_as_2 : cX4_as.data.toList.drop 48 = dktX4_as_2 := dk_seg dksX4_as_1 24 rfl rfl
theorem dksX4_as_3 : cX4_as.data.toList.drop 70 = dktX4_as_3 := dk_seg dksX4_as_2 22 rfl rfl
theorem dksX4_as_4 : cX4_as.data.toList.drop 92 = dktX4_as_4 := dk_seg dksX4_as_3 22 rfl rfl
theorem dksX4_as_5 : cX4_as.data.toList.drop 116 = dktX4_as_5 := dk_seg dksX4_as_4 24 rfl rfl
theorem dX4_as_0 : decode cX4_as 0 = .ok (.aload_n 0, 1) := dk_42 (dk_at dksX4_as_0 0 rfl rfl)
theorem dX4_as_1 : decode cX4_as 1 = .ok (.aload_n 1, 1) := dk_43 (dk_at dksX4_as_0 1 rfl rfl)
theorem dX4_as_2 : decode cX4_as 2 = .ok (.getfield 47, 3) := dk_180 0 47 (dk_at dksX4_as_0 2 rfl rfl)
theorem dX4_as_5 : decode cX4_as 5 = .ok (.putfield 47, 3) := dk_181 0 47 (dk_at dksX4_as_0 5 rfl rfl)
theorem dX4_as_8 : decode cX4_as 8 = .ok (.aload_n 0, 1) := dk_42 (dk_at dksX4_as_0 8 rfl rfl)
theorem dX4_as_9 : decode cX4_as 9 = .ok (.aload_n 1, 1) := dk_43 (dk_at dksX4_as_0 9 rfl rfl)
theorem dX4_as_10 : decode cX4_as 10 = .ok (.getfield 55, 3) := dk_180 0 55 (dk_at dksX4_as_0 10 rfl rfl)
theorem dX4_as_13 : decode cX4_as 13 = .ok (.putfield 55, 3) := dk_181 0 55 (dk_at dksX4_as_0 13 rfl rfl)
theorem dX4_as_16 : decode cX4_as 16 = .ok (.aload_n 0, 1) := dk_42 (dk_at dksX4_as_0 16 rfl rfl)
theorem dX4_as_17 : decode cX4_as 17 = .ok (.aload_n 1, 1) := dk_43 (dk_at dksX4_as_0 17 rfl rfl)
theorem dX4_as_18 : decode cX4_as 18 = .ok (.getfield 62, 3) := dk_180 0 62 (dk_at dksX4_as_0 18 rfl rfl)
theorem dX4_as_21 : decode cX4_as 21 = .ok (.putfield 62, 3) := dk_181 0 62 (dk_at dksX4_as_0 21 rfl rfl)
theorem dX4_as_24 : decode cX4_as 24 = .ok (.aload_n 0, 1) := dk_42 (dk_at dksX4_as_1 0 rfl rfl)
theorem dX4_as_25 : decode cX4_as 25 = .ok (.iconst 0, 1) := dk_3 (dk_at dksX4_as_1 1 rfl rfl)
theorem dX4_as_26 : decode cX4_as 26 = .ok (.putfield 64, 3) := dk_181 0 64 (dk_at dksX4_as_1 2 rfl rfl)
theorem dX4_as_29 : decode cX4_as 29 = .ok (.aload_n 1, 1) := dk_43 (dk_at dksX4_as_1 5 rfl rfl)
theorem dX4_as_30 : decode cX4_as 30 = .ok (.getfield 9, 3) := dk_180 0 9 (dk_at dksX4_as_1 6 rfl rfl)
theorem dX4_as_33 : decode cX4_as 33 = .ok (.aload_n 0, 1) := dk_42 (dk_at dksX4_as_1 9 rfl rfl)
theorem dX4_as_34 : decode cX4_as 34 = .ok (.getfield 9, 3) := dk_180 0 9 (dk_at dksX4_as_1 10 rfl rfl)
theorem dX4_as_37 : decode cX4_as 37 = .ok (.invokestatic 67, 3) := dk_184 0 67 (dk_at dksX4_as_1 13 rfl rfl)
theorem dX4_as_40 : decode cX4_as 40 = .ok (.aload_n 1, 1) := dk_43 (dk_at dksX4_as_1 16 rfl rfl)
theorem dX4_as_41 : decode cX4_as 41 = .ok (.getfield 15, 3) := dk_180 0 15 (dk_at dksX4_as_1 17 rfl rfl)
theorem dX4_as_44 : decode cX4_as 44 = .ok (.aload_n 0, 1) := dk_42 (dk_at dksX4_as_1 20 rfl rfl)
theorem dX4_as_45 : decode cX4_as 45 = .ok (.getfield 15, 3) := dk_180 0 15 (dk_at dksX4_as_1 21 rfl rfl)
theorem dX4_as_48 : decode cX4_as 48 = .ok (.invokestatic 67, 3) := dk_184 0 67 (dk_at dksX4_as_2 0 rfl rfl)
theorem dX4_as_51 : decode cX4_as 51 = .ok (.aload_n 1, 1) := dk_43 (dk_at dksX4_as_2 3 rfl rfl)
theorem dX4_as_52 : decode cX4_as 52 = .ok (.getfield 18, 3) := dk_180 0 18 (dk_at dksX4_as_2 4 rfl rfl)
theorem dX4_as_55 : decode cX4_as 55 = .ok (.aload_n 0, 1) := dk_42 (dk_at dksX4_as_2 7 rfl rfl)
theorem dX4_as_56 : decode cX4_as 56 = .ok (.getfield 18, 3) := dk_180 0 18 (dk_at dksX4_as_2 8 rfl rfl)
theorem dX4_as_59 : decode cX4_as 59 = .ok (.invokestatic 67, 3) := dk_184 0 67 (dk_at dksX4_as_2 11 rfl rfl)
theorem dX4_as_62 : decode cX4_as 62 = .ok (.aload_n 1, 1) := dk_43 (dk_at dksX4_as_2 14 rfl rfl)
theorem dX4_as_63 : decode cX4_as 63 = .ok (.getfield 21, 3) := dk_180 0 21 (dk_at dksX4_as_2 15 rfl rfl)
theorem dX4_as_66 : decode cX4_as 66 = .ok (.aload_n 0, 1) := dk_42 (dk_at dksX4_as_2 18 rfl rfl)
theorem dX4_as_67 : decode cX4_as 67 = .ok (.getfield 21, 3) := dk_180 0 21 (dk_at dksX4_as_2 19 rfl rfl)
theorem dX4_as_70 : decode cX4_as 70 = .ok (.invokestatic 67, 3) := dk_184 0 67 (dk_at dksX4_as_3 0 rfl rfl)
theorem dX4_as_73 : decode cX4_as 73 = .ok (.aload_n 1, 1) := dk_43 (dk_at dksX4_as_3 3 rfl rfl)
theorem dX4_as_74 : decode cX4_as 74 = .ok (.getfield 24, 3) := dk_180 0 24 (dk_at dksX4_as_3 4 rfl rfl)
theorem dX4_as_77 : decode cX4_as 77 = .ok (.aload_n 0, 1) := dk_42 (dk_at dksX4_as_3 7 rfl rfl)
theorem dX4_as_78 : decode cX4_as 78 = .ok (.getfield 24, 3) := dk_180 0 24 (dk_at dksX4_as_3 8 rfl rfl)
theorem dX4_as_81 : decode cX4_as 81 = .ok (.invokestatic 67, 3) := dk_184 0 67 (dk_at dksX4_as_3 11 rfl rfl)
theorem dX4_as_84 : decode cX4_as 84 = .ok (.aload_n 1, 1) := dk_43 (dk_at dksX4_as_3 14 rfl rfl)
theorem dX4_as_85 : decode cX4_as 85 = .ok (.getfield 27, 3) := dk_180 0 27 (dk_at dksX4_as_3 15 rfl rfl)
theorem dX4_as_88 : decode cX4_as 88 = .ok (.aload_n 0, 1) := dk_42 (dk_at dksX4_as_3 18 rfl rfl)
theorem dX4_as_89 : decode cX4_as 89 = .ok (.getfield 27, 3) := dk_180 0 27 (dk_at dksX4_as_3 19 rfl rfl)
theorem dX4_as_92 : decode cX4_as 92 = .ok (.invokestatic 67, 3) := dk_184 0 67 (dk_at dksX4_as_4 0 rfl rfl)
theorem dX4_as_95 : decode cX4_as 95 = .ok (.aload_n 1, 1) := dk_43 (dk_at dksX4_as_4 3 rfl rfl)
theorem dX4_as_96 : decode cX4_as 96 = .ok (.getfield 30, 3) := dk_180 0 30 (dk_at dksX4_as_4 4 rfl rfl)
theorem dX4_as_99 : decode cX4_as 99 = .ok (.aload_n 0, 1) := dk_42 (dk_at dksX4_as_4 7 rfl rfl)
theorem dX4_as_100 : decode cX4_as 100 = .ok (.getfield 30, 3) := dk_180 0 30 (dk_at dksX4_as_4 8 rfl rfl)
theorem dX4_as_103 : decode cX4_as 103 = .ok (.invokestatic 67, 3) := dk_184 0 67 (dk_at dksX4_as_4 11 rfl rfl)
theorem dX4_as_106 : decode cX4_as 106 = .ok (.aload_n 1, 1) := dk_43 (dk_at dksX4_as_4 14 rfl rfl)
theorem dX4_as_107 : decode cX4_as 107 = .ok (.getfield 33, 3) := dk_180 0 33 (dk_at dksX4_as_4 15 rfl rfl)
theorem dX4_as_110 : decode cX4_as 110 = .ok (.iconst 0, 1) := dk_3 (dk_at dksX4_as_4 18 rfl rfl)
theorem dX4_as_111 : decode cX4_as 111 = .ok (.aload_n 0, 1) := dk_42 (dk_at dksX4_as_4 19 rfl rfl)
theorem dX4_as_112 : decode cX4_as 112 = .ok (.getfield 33, 3) := dk_180 0 33 (dk_at dksX4_as_4 20 rfl rfl)
theorem dX4_as_115 : decode cX4_as 115 = .ok (.iconst 0, 1) := dk_3 (dk_at dksX4_as_4 23 rfl rfl)
theorem dX4_as_116 : decode cX4_as 116 = .ok (.bipush 8, 2) := dk_16 8 (dk_at dksX4_as_5 0 rfl rfl)
theorem dX4_as_118 : decode cX4_as 118 = .ok (.invokestatic 71, 3) := dk_184 0 71 (dk_at dksX4_as_5 2 rfl rfl)
theorem dX4_as_121 : decode cX4_as 121 = .ok (.aload_n 0, 1) := dk_42 (dk_at dksX4_as_5 5 rfl rfl)
theorem dX4_as_122 : decode cX4_as 122 = .ok (.areturn, 1) := dk_176 (dk_at dksX4_as_5 6 rfl rfl)
abbrev cX4_copies : ByteArray := prog_18_method_4_code
def yX4_copies : MethodName := ⟨RX4, "copies", "([I[I)V"⟩
def dkwX4_copies_0 : List UInt8 := [42, 3, 43, 3, 16, 8, 184, 0, 71, 177]
abbrev dktX4_copies_0 : List UInt8 := dkwX4_copies_0 ++ []
theorem dksX4_copies_0 : cX4_copies.data.toList.drop 0 = dktX4_copies_0 := by decide +kernel
theorem dX4_copies_0 : decode cX4_copies 0 = .ok (.aload_n 0, 1) := dk_42 (dk_at dksX4_copies_0 0 rfl rfl)
theorem dX4_copies_1 : decode cX4_copies 1 = .ok (.iconst 0, 1) := dk_3 (dk_at dksX4_copies_0 1 rfl rfl)
theorem dX4_copies_2 : decode cX4_copies 2 = .ok (.aload_n 1, 1) := dk_43 (dk_at dksX4_copies_0 2 rfl rfl)
theorem dX4_copies_3 : decode cX4_copies 3 = .ok (.iconst 0, 1) := dk_3 (dk_at dksX4_copies_0 3 rfl rfl)
theorem dX4_copies_4 : decode cX4_copies 4 = .ok (.bipush 8, 2) := dk_16 8 (dk_at dksX4_copies_0 4 rfl rfl)
theorem dX4_copies_6 : decode cX4_copies 6 = .ok (.invokestatic 71, 3) := dk_184 0 71 (dk_at dksX4_copies_0 6 rfl rfl)
theorem dX4_copies_9 : decode cX4_copies 9 = .ok (.return_, 1) := dk_177 (dk_at dksX4_copies_0 9 rfl rfl)
abbrev cX4_adds : ByteArray := prog_18_method_16_code
def yX4_adds : MethodName := ⟨RX4, "adds", "(II)Z"⟩
def dkwX4_adds_1 : List UInt8 := [180, 0, 21, 27, 16, 99, 42, 180, 0, 21, 27, 46, 28, 96, 184, 0, 152, 79, 4, 172]
abbrev dktX4_adds_1 : List UInt8 := dkwX4_adds_1 ++ []
def dkwX4_adds_0 : List UInt8 := [42, 27, 182, 0, 148, 153, 0, 14, 42, 180, 0, 21, 27, 46, 16, 99, 160, 0, 5, 3, 172, 42]
abbrev dktX4_adds_0 : List UInt8 := dkwX4_adds_0 ++ dktX4_adds_1
theorem dksX4_adds_0 : cX4_adds.data.toList.drop 0 = dktX4_adds_0 := by decide +kernel
theorem dksX4_adds_1 : cX4_adds.data.toList.drop 22 = dktX4_adds_1 := dk_seg dksX4_adds_0 22 rfl rfl
theorem dX4_adds_0 : decode cX4_adds 0 = .ok (.aload_n 0, 1) := dk_42 (dk_at dksX4_adds_0 0 rfl rfl)
theorem dX4_adds_1 : decode cX4_adds 1 = .ok (.iload_n 1, 1) := dk_27 (dk_at dksX4_adds_0 1 rfl rfl)
theorem dX4_adds_2 : decode cX4_adds 2 = .ok (.invokevirtual 148, 3) := dk_182 0 148 (dk_at dksX4_adds_0 2 rfl rfl)
theorem dX4_adds_5 : decode cX4_adds 5 = .ok (.ifCond .eq 14, 3) := dk_153 0 14 (dk_at dksX4_adds_0 5 rfl rfl)
theorem dX4_adds_8 : decode cX4_adds 8 = .ok (.aload_n 0, 1) := dk_42 (dk_at dksX4_adds_0 8 rfl rfl)
theorem dX4_adds_9 : decode cX4_adds 9 = .ok (.getfield 21, 3) := dk_180 0 21 (dk_at dksX4_adds_0 9 rfl rfl)
theorem dX4_adds_12 : decode cX4_adds 12 = .ok (.iload_n 1, 1) := dk_27 (dk_at dksX4_adds_0 12 rfl rfl)
theorem dX4_adds_13 : decode cX4_adds 13 = .ok (.iaload, 1) := dk_46 (dk_at dksX4_adds_0 13 rfl rfl)
theorem dX4_adds_14 : decode cX4_adds 14 = .ok (.bipush 99, 2) := dk_16 99 (dk_at dksX4_adds_0 14 rfl rfl)
theorem dX4_adds_16 : decode cX4_adds 16 = .ok (.if_icmp .ne 5, 3) := dk_160 0 5 (dk_at dksX4_adds_0 16 rfl rfl)
theorem dX4_adds_19 : decode cX4_adds 19 = .ok (.iconst 0, 1) := dk_3 (dk_at dksX4_adds_0 19 rfl rfl)
theorem dX4_adds_20 : decode cX4_adds 20 = .ok (.ireturn, 1) := dk_172 (dk_at dksX4_adds_0 20 rfl rfl)
theorem dX4_adds_21 : decode cX4_adds 21 = .ok (.aload_n 0, 1) := dk_42 (dk_at dksX4_adds_0 21 rfl rfl)
theorem dX4_adds_22 : decode cX4_adds 22 = .ok (.getfield 21, 3) := dk_180 0 21 (dk_at dksX4_adds_1 0 rfl rfl)
theorem dX4_adds_25 : decode cX4_adds 25 = .ok (.iload_n 1, 1) := dk_27 (dk_at dksX4_adds_1 3 rfl rfl)
theorem dX4_adds_26 : decode cX4_adds 26 = .ok (.bipush 99, 2) := dk_16 99 (dk_at dksX4_adds_1 4 rfl rfl)
theorem dX4_adds_28 : decode cX4_adds 28 = .ok (.aload_n 0, 1) := dk_42 (dk_at dksX4_adds_1 6 rfl rfl)
theorem dX4_adds_29 : decode cX4_adds 29 = .ok (.getfield 21, 3) := dk_180 0 21 (dk_at dksX4_adds_1 7 rfl rfl)
theorem dX4_adds_32 : decode cX4_adds 32 = .ok (.iload_n 1, 1) := dk_27 (dk_at dksX4_adds_1 10 rfl rfl)
theorem dX4_adds_33 : decode cX4_adds 33 = .ok (.iaload, 1) := dk_46 (dk_at dksX4_adds_1 11 rfl rfl)
theorem dX4_adds_34 : decode cX4_adds 34 = .ok (.iload_n 2, 1) := dk_28 (dk_at dksX4_adds_1 12 rfl rfl)
theorem dX4_adds_35 : decode cX4_adds 35 = .ok (.iadd, 1) := dk_96 (dk_at dksX4_adds_1 13 rfl rfl)
theorem dX4_adds_36 : decode cX4_adds 36 = .ok (.invokestatic 152, 3) := dk_184 0 152 (dk_at dksX4_adds_1 14 rfl rfl)
theorem dX4_adds_39 : decode cX4_adds 39 = .ok (.iastore, 1) := dk_79 (dk_at dksX4_adds_1 17 rfl rfl)
theorem dX4_adds_40 : decode cX4_adds 40 = .ok (.iconst 1, 1) := dk_4 (dk_at dksX4_adds_1 18 rfl rfl)
theorem dX4_adds_41 : decode cX4_adds 41 = .ok (.ireturn, 1) := dk_172 (dk_at dksX4_adds_1 19 rfl rfl)
abbrev cX4_strikes : ByteArray := prog_18_method_17_code
def yX4_strikes : MethodName := ⟨RX4, "strikes", "(I)Z"⟩
def dkwX4_strikes_0 : List UInt8 := [42, 180, 0, 21, 27, 46, 154, 0, 5, 3, 172, 42, 180, 0, 21, 27, 3, 79, 4, 172]
abbrev dktX4_strikes_0 : List UInt8 := dkwX4_strikes_0 ++ []
theorem dksX4_strikes_0 : cX4_strikes.data.toList.drop 0 = dktX4_strikes_0 := by decide +kernel
theorem dX4_strikes_0 : decode cX4_strikes 0 = .ok (.aload_n 0, 1) := dk_42 (dk_at dksX4_strikes_0 0 rfl rfl)
theorem dX4_strikes_1 : decode cX4_strikes 1 = .ok (.getfield 21, 3) := dk_180 0 21 (dk_at dksX4_strikes_0 1 rfl rfl)
theorem dX4_strikes_4 : decode cX4_strikes 4 = .ok (.iload_n 1, 1) := dk_27 (dk_at dksX4_strikes_0 4 rfl rfl)
theorem dX4_strikes_5 : decode cX4_strikes 5 = .ok (.iaload, 1) := dk_46 (dk_at dksX4_strikes_0 5 rfl rfl)
theorem dX4_strikes_6 : decode cX4_strikes 6 = .ok (.ifCond .ne 5, 3) := dk_154 0 5 (dk_at dksX4_strikes_0 6 rfl rfl)
theorem dX4_strikes_9 : decode cX4_strikes 9 = .ok (.iconst 0, 1) := dk_3 (dk_at dksX4_strikes_0 9 rfl rfl)
theorem dX4_strikes_10 : decode cX4_strikes 10 = .ok (.ireturn, 1) := dk_172 (dk_at dksX4_strikes_0 10 rfl rfl)
theorem dX4_strikes_11 : decode cX4_strikes 11 = .ok (.aload_n 0, 1) := dk_42 (dk_at dksX4_strikes_0 11 rfl rfl)
theorem dX4_strikes_12 : decode cX4_strikes 12 = .ok (.getfield 21, 3) := dk_180 0 21 (dk_at dksX4_strikes_0 12 rfl rfl)
theorem dX4_strikes_15 : decode cX4_strikes 15 = .ok (.iload_n 1, 1) := dk_27 (dk_at dksX4_strikes_0 15 rfl rfl)
theorem dX4_strikes_16 : decode cX4_strikes 16 = .ok (.iconst 0, 1) := dk_3 (dk_at dksX4_strikes_0 16 rfl rfl)
theorem dX4_strikes_17 : decode cX4_strikes 17 = .ok (.iastore, 1) := dk_79 (dk_at dksX4_strikes_0 17 rfl rfl)
theorem dX4_strikes_18 : decode cX4_strikes 18 = .ok (.iconst 1, 1) := dk_4 (dk_at dksX4_strikes_0 18 rfl rfl)
theorem dX4_strikes_19 : decode cX4_strikes 19 = .ok (.ireturn, 1) := dk_172 (dk_at dksX4_strikes_0 19 rfl rfl)
abbrev cX4_pays : ByteArray := prog_18_method_20_code
def yX4_pays : MethodName := ⟨RX4, "pays", "(I)Z"⟩
def dkwX4_pays_1 : List UInt8 := [42, 27, 182, 0, 161, 4, 172]
abbrev dktX4_pays_1 : List UInt8 := dkwX4_pays_1 ++ []
def dkwX4_pays_0 : List UInt8 := [42, 27, 182, 0, 158, 154, 0, 5, 3, 172, 42, 180, 0, 30, 27, 92, 46, 42, 27, 182, 0, 155, 100, 79]
abbrev dktX4_pays_0 : List UInt8 := dkwX4_pays_0 ++ dktX4_pays_1
theorem dksX4_pays_0 : cX4_pays.data.toList.drop 0 = dktX4_pays_0 := by decide +kernel
theorem dksX4_pays_1 : cX4_pays.data.toList.drop 24 = dktX4_pays_1 := dk_seg dksX4_pays_0 24 rfl rfl
theorem dX4_pays_0 : decode cX4_pays 0 = .ok (.aload_n 0, 1) := dk_42 (dk_at dksX4_pays_0 0 rfl rfl)
theorem dX4_pays_1 : decode cX4_pays 1 = .ok (.iload_n 1, 1) := dk_27 (dk_at dksX4_pays_0 1 rfl rfl)
theorem dX4_pays_2 : decode cX4_pays 2 = .ok (.invokevirtual 158, 3) := dk_182 0 158 (dk_at dksX4_pays_0 2 rfl rfl)
theorem dX4_pays_5 : decode cX4_pays 5 = .ok (.ifCond .ne 5, 3) := dk_154 0 5 (dk_at dksX4_pays_0 5 rfl rfl)
theorem dX4_pays_8 : decode cX4_pays 8 = .ok (.iconst 0, 1) := dk_3 (dk_at dksX4_pays_0 8 rfl rfl)
theorem dX4_pays_9 : decode cX4_pays 9 = .ok (.ireturn, 1) := dk_172 (dk_at dksX4_pays_0 9 rfl rfl)
theorem dX4_pays_10 : decode cX4_pays 10 = .ok (.aload_n 0, 1) := dk_42 (dk_at dksX4_pays_0 10 rfl rfl)
theorem dX4_pays_11 : decode cX4_pays 11 = .ok (.getfield 30, 3) := dk_180 0 30 (dk_at dksX4_pays_0 11 rfl rfl)
theorem dX4_pays_14 : decode cX4_pays 14 = .ok (.iload_n 1, 1) := dk_27 (dk_at dksX4_pays_0 14 rfl rfl)
theorem dX4_pays_15 : decode cX4_pays 15 = .ok (.dup2, 1) := dk_92 (dk_at dksX4_pays_0 15 rfl rfl)
theorem dX4_pays_16 : decode cX4_pays 16 = .ok (.iaload, 1) := dk_46 (dk_at dksX4_pays_0 16 rfl rfl)
theorem dX4_pays_17 : decode cX4_pays 17 = .ok (.aload_n 0, 1) := dk_42 (dk_at dksX4_pays_0 17 rfl rfl)
theorem dX4_pays_18 : decode cX4_pays 18 = .ok (.iload_n 1, 1) := dk_27 (dk_at dksX4_pays_0 18 rfl rfl)
theorem dX4_pays_19 : decode cX4_pays 19 = .ok (.invokevirtual 155, 3) := dk_182 0 155 (dk_at dksX4_pays_0 19 rfl rfl)
theorem dX4_pays_22 : decode cX4_pays 22 = .ok (.isub, 1) := dk_100 (dk_at dksX4_pays_0 22 rfl rfl)
theorem dX4_pays_23 : decode cX4_pays 23 = .ok (.iastore, 1) := dk_79 (dk_at dksX4_pays_0 23 rfl rfl)
theorem dX4_pays_24 : decode cX4_pays 24 = .ok (.aload_n 0, 1) := dk_42 (dk_at dksX4_pays_1 0 rfl rfl)
theorem dX4_pays_25 : decode cX4_pays 25 = .ok (.iload_n 1, 1) := dk_27 (dk_at dksX4_pays_1 1 rfl rfl)
theorem dX4_pays_26 : decode cX4_pays 26 = .ok (.invokevirtual 161, 3) := dk_182 0 161 (dk_at dksX4_pays_1 2 rfl rfl)
theorem dX4_pays_29 : decode cX4_pays 29 = .ok (.iconst 1, 1) := dk_4 (dk_at dksX4_pays_1 5 rfl rfl)
theorem dX4_pays_30 : decode cX4_pays 30 = .ok (.ireturn, 1) := dk_172 (dk_at dksX4_pays_1 6 rfl rfl)
abbrev cX4_mayPay : ByteArray := prog_18_method_19_code
def yX4_mayPay : MethodName := ⟨RX4, "mayPay", "(I)Z"⟩
def dkwX4_mayPay_1 : List UInt8 := [27, 46, 42, 27, 182, 0, 155, 161, 0, 7, 4, 167, 0, 4, 3, 172]
abbrev dktX4_mayPay_1 : List UInt8 := dkwX4_mayPay_1 ++ []
def dkwX4_mayPay_0 : List UInt8 := [42, 180, 0, 9, 27, 46, 4, 159, 0, 13, 42, 180, 0, 9, 27, 46, 5, 160, 0, 21, 42, 180, 0, 30]
abbrev dktX4_mayPay_0 : List UInt8 := dkwX4_mayPay_0 ++ dktX4_mayPay_1
theorem dksX4_mayPay_0 : cX4_mayPay.data.toList.drop 0 = dktX4_mayPay_0 := by decide +kernel
theorem dksX4_mayPay_1 : cX4_mayPay.data.toList.drop 24 = dktX4_mayPay_1 := dk_seg dksX4_mayPay_0 24 rfl rfl
theorem dX4_mayPay_0 : decode cX4_mayPay 0 = .ok (.aload_n 0, 1) := dk_42 (dk_at dksX4_mayPay_0 0 rfl rfl)
theorem dX4_mayPay_1 : decode cX4_mayPay 1 = .ok (.getfield 9, 3) := dk_180 0 9 (dk_at dksX4_mayPay_0 1 rfl rfl)
theorem dX4_mayPay_4 : decode cX4_mayPay 4 = .ok (.iload_n 1, 1) := dk_27 (dk_at dksX4_mayPay_0 4 rfl rfl)
theorem dX4_mayPay_5 : decode cX4_mayPay 5 = .ok (.iaload, 1) := dk_46 (dk_at dksX4_mayPay_0 5 rfl rfl)
theorem dX4_mayPay_6 : decode cX4_mayPay 6 = .ok (.iconst 1, 1) := dk_4 (dk_at dksX4_mayPay_0 6 rfl rfl)
theorem dX4_mayPay_7 : decode cX4_mayPay 7 = .ok (.if_icmp .eq 13, 3) := dk_159 0 13 (dk_at dksX4_mayPay_0 7 rfl rfl)
theorem dX4_mayPay_10 : decode cX4_mayPay 10 = .ok (.aload_n 0, 1) := dk_42 (dk_at dksX4_mayPay_0 10 rfl rfl)
theorem dX4_mayPay_11 : decode cX4_mayPay 11 = .ok (.getfield 9, 3) := dk_180 0 9 (dk_at dksX4_mayPay_0 11 rfl rfl)
theorem dX4_mayPay_14 : decode cX4_mayPay 14 = .ok (.iload_n 1, 1) := dk_27 (dk_at dksX4_mayPay_0 14 rfl rfl)
theorem dX4_mayPay_15 : decode cX4_mayPay 15 = .ok (.iaload, 1) := dk_46 (dk_at dksX4_mayPay_0 15 rfl rfl)
theorem dX4_mayPay_16 : decode cX4_mayPay 16 = .ok (.iconst 2, 1) := dk_5 (dk_at dksX4_mayPay_0 16 rfl rfl)
theorem dX4_mayPay_17 : decode cX4_mayPay 17 = .ok (.if_icmp .ne 21, 3) := dk_160 0 21 (dk_at dksX4_mayPay_0 17 rfl rfl)
theorem dX4_mayPay_20 : decode cX4_mayPay 20 = .ok (.aload_n 0, 1) := dk_42 (dk_at dksX4_mayPay_0 20 rfl rfl)
theorem dX4_mayPay_21 : decode cX4_mayPay 21 = .ok (.getfield 30, 3) := dk_180 0 30 (dk_at dksX4_mayPay_0 21 rfl rfl)
theorem dX4_mayPay_24 : decode cX4_mayPay 24 = .ok (.iload_n 1, 1) := dk_27 (dk_at dksX4_mayPay_1 0 rfl rfl)
theorem dX4_mayPay_25 : decode cX4_mayPay 25 = .ok (.iaload, 1) := dk_46 (dk_at dksX4_mayPay_1 1 rfl rfl)
theorem dX4_mayPay_26 : decode cX4_mayPay 26 = .ok (.aload_n 0, 1) := dk_42 (dk_at dksX4_mayPay_1 2 rfl rfl)
theorem dX4_mayPay_27 : decode cX4_mayPay 27 = .ok (.iload_n 1, 1) := dk_27 (dk_at dksX4_mayPay_1 3 rfl rfl)
theorem dX4_mayPay_28 : decode cX4_mayPay 28 = .ok (.invokevirtual 155, 3) := dk_182 0 155 (dk_at dksX4_mayPay_1 4 rfl rfl)
theorem dX4_mayPay_31 : decode cX4_mayPay 31 = .ok (.if_icmp .lt 7, 3) := dk_161 0 7 (dk_at dksX4_mayPay_1 7 rfl rfl)
theorem dX4_mayPay_34 : decode cX4_mayPay 34 = .ok (.iconst 1, 1) := dk_4 (dk_at dksX4_mayPay_1 10 rfl rfl)
theorem dX4_mayPay_35 : decode cX4_mayPay 35 = .ok (.goto 4, 3) := dk_167 0 4 (dk_at dksX4_mayPay_1 11 rfl rfl)
theorem dX4_mayPay_38 : decode cX4_mayPay 38 = .ok (.iconst 0, 1) := dk_3 (dk_at dksX4_mayPay_1 14 rfl rfl)
theorem dX4_mayPay_39 : decode cX4_mayPay 39 = .ok (.ireturn, 1) := dk_172 (dk_at dksX4_mayPay_1 15 rfl rfl)
abbrev cX4_fare : ByteArray := prog_18_method_13_code
def yX4_fare : MethodName := ⟨RX4, "fare", "(I)I"⟩
def dkwX4_fare_0 : List UInt8 := [42, 27, 182, 0, 133, 7, 108, 172]
abbrev dktX4_fare_0 : List UInt8 := dkwX4_fare_0 ++ []
theorem dksX4_fare_0 : cX4_fare.data.toList.drop 0 = dktX4_fare_0 := by decide +kernel
theorem dX4_fare_0 : decode cX4_fare 0 = .ok (.aload_n 0, 1) := dk_42 (dk_at dksX4_fare_0 0 rfl rfl)
theorem dX4_fare_1 : decode cX4_fare 1 = .ok (.iload_n 1, 1) := dk_27 (dk_at dksX4_fare_0 1 rfl rfl)
theorem dX4_fare_2 : decode cX4_fare 2 = .ok (.invokevirtual 133, 3) := dk_182 0 133 (dk_at dksX4_fare_0 2 rfl rfl)
theorem dX4_fare_5 : decode cX4_fare 5 = .ok (.iconst 4, 1) := dk_7 (dk_at dksX4_fare_0 5 rfl rfl)
theorem dX4_fare_6 : decode cX4_fare 6 = .ok (.idiv, 1) := dk_108 (dk_at dksX4_fare_0 6 rfl rfl)
theorem dX4_fare_7 : decode cX4_fare 7 = .ok (.ireturn, 1) := dk_172 (dk_at dksX4_fare_0 7 rfl rfl)
abbrev cX4_owes : ByteArray := prog_18_method_12_code
def yX4_owes : MethodName := ⟨RX4, "owes", "(I)I"⟩
def dkwX4_owes_0 : List UInt8 := [42, 27, 3, 182, 0, 130, 172]
abbrev dktX4_owes_0 : List UInt8 := dkwX4_owes_0 ++ []
theorem dksX4_owes_0 : cX4_owes.data.toList.drop 0 = dktX4_owes_0 := by decide +kernel
theorem dX4_owes_0 : decode cX4_owes 0 = .ok (.aload_n 0, 1) := dk_42 (dk_at dksX4_owes_0 0 rfl rfl)
theorem dX4_owes_1 : decode cX4_owes 1 = .ok (.iload_n 1, 1) := dk_27 (dk_at dksX4_owes_0 1 rfl rfl)
theorem dX4_owes_2 : decode cX4_owes 2 = .ok (.iconst 0, 1) := dk_3 (dk_at dksX4_owes_0 2 rfl rfl)
theorem dX4_owes_3 : decode cX4_owes 3 = .ok (.invokevirtual 130, 3) := dk_182 0 130 (dk_at dksX4_owes_0 3 rfl rfl)
theorem dX4_owes_6 : decode cX4_owes 6 = .ok (.ireturn, 1) := dk_172 (dk_at dksX4_owes_0 6 rfl rfl)
abbrev cX4_frees : ByteArray := prog_18_method_21_code
def yX4_frees : MethodName := ⟨RX4, "frees", "(I)V"⟩
def dkwX4_frees_0 : List UInt8 := [42, 180, 0, 9, 27, 6, 79, 42, 180, 0, 15, 27, 2, 79, 177]
abbrev dktX4_frees_0 : List UInt8 := dkwX4_frees_0 ++ []
theorem dksX4_frees_0 : cX4_frees.data.toList.drop 0 = dktX4_frees_0 := by decide +kernel
theorem dX4_frees_0 : decode cX4_frees 0 = .ok (.aload_n 0, 1) := dk_42 (dk_at dksX4_frees_0 0 rfl rfl)
theorem dX4_frees_1 : decode cX4_frees 1 = .ok (.getfield 9, 3) := dk_180 0 9 (dk_at dksX4_frees_0 1 rfl rfl)
theorem dX4_frees_4 : decode cX4_frees 4 = .ok (.iload_n 1, 1) := dk_27 (dk_at dksX4_frees_0 4 rfl rfl)
theorem dX4_frees_5 : decode cX4_frees 5 = .ok (.iconst 3, 1) := dk_6 (dk_at dksX4_frees_0 5 rfl rfl)
theorem dX4_frees_6 : decode cX4_frees 6 = .ok (.iastore, 1) := dk_79 (dk_at dksX4_frees_0 6 rfl rfl)
theorem dX4_frees_7 : decode cX4_frees 7 = .ok (.aload_n 0, 1) := dk_42 (dk_at dksX4_frees_0 7 rfl rfl)
theorem dX4_frees_8 : decode cX4_frees 8 = .ok (.getfield 15, 3) := dk_180 0 15 (dk_at dksX4_frees_0 8 rfl rfl)
theorem dX4_frees_11 : decode cX4_frees 11 = .ok (.iload_n 1, 1) := dk_27 (dk_at dksX4_frees_0 11 rfl rfl)
theorem dX4_frees_12 : decode cX4_frees 12 = .ok (.iconst (-1), 1) := dk_2 (dk_at dksX4_frees_0 12 rfl rfl)
theorem dX4_frees_13 : decode cX4_frees 13 = .ok (.iastore, 1) := dk_79 (dk_at dksX4_frees_0 13 rfl rfl)
theorem dX4_frees_14 : decode cX4_frees 14 = .ok (.return_, 1) := dk_177 (dk_at dksX4_frees_0 14 rfl rfl)
abbrev cX4_loses : ByteArray := prog_18_method_18_code
def yX4_loses : MethodName := ⟨RX4, "loses", "(IZ)Z"⟩
def dkwX4_loses_1 : List UInt8 := [180, 0, 33, 27, 28, 84, 4, 172]
abbrev dktX4_loses_1 : List UInt8 := dkwX4_loses_1 ++ []
def dkwX4_loses_0 : List UInt8 := [42, 180, 0, 9, 27, 46, 6, 159, 0, 13, 42, 180, 0, 33, 27, 51, 28, 160, 0, 5, 3, 172, 42]
abbrev dktX4_loses_0 : List UInt8 := dkwX4_loses_0 ++ dktX4_loses_1
theorem dksX4_loses_0 : cX4_loses.data.toList.drop 0 = dktX4_loses_0 := by decide +kernel
theorem dksX4_loses_1 : cX4_loses.data.toList.drop 23 = dktX4_loses_1 := dk_seg dksX4_loses_0 23 rfl rfl
theorem dX4_loses_0 : decode cX4_loses 0 = .ok (.aload_n 0, 1) := dk_42 (dk_at dksX4_loses_0 0 rfl rfl)
theorem dX4_loses_1 : decode cX4_loses 1 = .ok (.getfield 9, 3) := dk_180 0 9 (dk_at dksX4_loses_0 1 rfl rfl)
theorem dX4_loses_4 : decode cX4_loses 4 = .ok (.iload_n 1, 1) := dk_27 (dk_at dksX4_loses_0 4 rfl rfl)
theorem dX4_loses_5 : decode cX4_loses 5 = .ok (.iaload, 1) := dk_46 (dk_at dksX4_loses_0 5 rfl rfl)
theorem dX4_loses_6 : decode cX4_loses 6 = .ok (.iconst 3, 1) := dk_6 (dk_at dksX4_loses_0 6 rfl rfl)
theorem dX4_loses_7 : decode cX4_loses 7 = .ok (.if_icmp .eq 13, 3) := dk_159 0 13 (dk_at dksX4_loses_0 7 rfl rfl)
theorem dX4_loses_10 : decode cX4_loses 10 = .ok (.aload_n 0, 1) := dk_42 (dk_at dksX4_loses_0 10 rfl rfl)
theorem dX4_loses_11 : decode cX4_loses 11 = .ok (.getfield 33, 3) := dk_180 0 33 (dk_at dksX4_loses_0 11 rfl rfl)
theorem dX4_loses_14 : decode cX4_loses 14 = .ok (.iload_n 1, 1) := dk_27 (dk_at dksX4_loses_0 14 rfl rfl)
theorem dX4_loses_15 : decode cX4_loses 15 = .ok (.baload, 1) := dk_51 (dk_at dksX4_loses_0 15 rfl rfl)
theorem dX4_loses_16 : decode cX4_loses 16 = .ok (.iload_n 2, 1) := dk_28 (dk_at dksX4_loses_0 16 rfl rfl)
theorem dX4_loses_17 : decode cX4_loses 17 = .ok (.if_icmp .ne 5, 3) := dk_160 0 5 (dk_at dksX4_loses_0 17 rfl rfl)
theorem dX4_loses_20 : decode cX4_loses 20 = .ok (.iconst 0, 1) := dk_3 (dk_at dksX4_loses_0 20 rfl rfl)
theorem dX4_loses_21 : decode cX4_loses 21 = .ok (.ireturn, 1) := dk_172 (dk_at dksX4_loses_0 21 rfl rfl)
theorem dX4_loses_22 : decode cX4_loses 22 = .ok (.aload_n 0, 1) := dk_42 (dk_at dksX4_loses_0 22 rfl rfl)
theorem dX4_loses_23 : decode cX4_loses 23 = .ok (.getfield 33, 3) := dk_180 0 33 (dk_at dksX4_loses_1 0 rfl rfl)
theorem dX4_loses_26 : decode cX4_loses 26 = .ok (.iload_n 1, 1) := dk_27 (dk_at dksX4_loses_1 3 rfl rfl)
theorem dX4_loses_27 : decode cX4_loses 27 = .ok (.iload_n 2, 1) := dk_28 (dk_at dksX4_loses_1 4 rfl rfl)
theorem dX4_loses_28 : decode cX4_loses 28 = .ok (.bastore, 1) := dk_84 (dk_at dksX4_loses_1 5 rfl rfl)
theorem dX4_loses_29 : decode cX4_loses 29 = .ok (.iconst 1, 1) := dk_4 (dk_at dksX4_loses_1 6 rfl rfl)
theorem dX4_loses_30 : decode cX4_loses 30 = .ok (.ireturn, 1) := dk_172 (dk_at dksX4_loses_1 7 rfl rfl)
abbrev cX4_lands : ByteArray := prog_18_method_14_code
def yX4_lands : MethodName := ⟨RX4, "lands", "()Z"⟩
def dkwX4_lands_2 : List UInt8 := [180, 0, 9, 27, 4, 79, 132, 1, 1, 167, 255, 226, 4, 172]
abbrev dktX4_lands_2 : List UInt8 := dkwX4_lands_2 ++ []
def dkwX4_lands_1 : List UInt8 := [3, 60, 27, 42, 180, 0, 47, 180, 0, 77, 162, 0, 25, 42, 180, 0, 9, 27, 46, 154, 0, 10, 42]
abbrev dktX4_lands_1 : List UInt8 := dkwX4_lands_1 ++ dktX4_lands_2
def dkwX4_lands_0 : List UInt8 := [42, 180, 0, 55, 42, 180, 0, 47, 180, 0, 136, 161, 0, 11, 42, 3, 182, 0, 139, 154, 0, 5, 3, 172]
abbrev dktX4_lands_0 : List UInt8 := dkwX4_lands_0 ++ dktX4_lands_1
theorem dksX4_lands_0 : cX4_lands.data.toList.drop 0 = dktX4_lands_0 := by decide +kernel
theorem dksX4_lands_1 : cX4_lands.data.toList.drop 24 = dktX4_lands_1 := dk_seg dksX4_lands_0 24 rfl rfl
theorem dksX4_lands_2 : cX4_lands.data.toList.drop 47 = dktX4_lands_2 := dk_seg dksX4_lands_1 23 rfl rfl
theorem dX4_lands_0 : decode cX4_lands 0 = .ok (.aload_n 0, 1) := dk_42 (dk_at dksX4_lands_0 0 rfl rfl)
theorem dX4_lands_1 : decode cX4_lands 1 = .ok (.getfield 55, 3) := dk_180 0 55 (dk_at dksX4_lands_0 1 rfl rfl)
theorem dX4_lands_4 : decode cX4_lands 4 = .ok (.aload_n 0, 1) := dk_42 (dk_at dksX4_lands_0 4 rfl rfl)
theorem dX4_lands_5 : decode cX4_lands 5 = .ok (.getfield 47, 3) := dk_180 0 47 (dk_at dksX4_lands_0 5 rfl rfl)
theorem dX4_lands_8 : decode cX4_lands 8 = .ok (.getfield 136, 3) := dk_180 0 136 (dk_at dksX4_lands_0 8 rfl rfl)
theorem dX4_lands_11 : decode cX4_lands 11 = .ok (.if_icmp .lt 11, 3) := dk_161 0 11 (dk_at dksX4_lands_0 11 rfl rfl)
theorem dX4_lands_14 : decode cX4_lands 14 = .ok (.aload_n 0, 1) := dk_42 (dk_at dksX4_lands_0 14 rfl rfl)
theorem dX4_lands_15 : decode cX4_lands 15 = .ok (.iconst 0, 1) := dk_3 (dk_at dksX4_lands_0 15 rfl rfl)
theorem dX4_lands_16 : decode cX4_lands 16 = .ok (.invokevirtual 139, 3) := dk_182 0 139 (dk_at dksX4_lands_0 16 rfl rfl)
theorem dX4_lands_19 : decode cX4_lands 19 = .ok (.ifCond .ne 5, 3) := dk_154 0 5 (dk_at dksX4_lands_0 19 rfl rfl)
theorem dX4_lands_22 : decode cX4_lands 22 = .ok (.iconst 0, 1) := dk_3 (dk_at dksX4_lands_0 22 rfl rfl)
theorem dX4_lands_23 : decode cX4_lands 23 = .ok (.ireturn, 1) := dk_172 (dk_at dksX4_lands_0 23 rfl rfl)
theorem dX4_lands_24 : decode cX4_lands 24 = .ok (.iconst 0, 1) := dk_3 (dk_at dksX4_lands_1 0 rfl rfl)
theorem dX4_lands_25 : decode cX4_lands 25 = .ok (.istore_n 1, 1) := dk_60 (dk_at dksX4_lands_1 1 rfl rfl)
theorem dX4_lands_26 : decode cX4_lands 26 = .ok (.iload_n 1, 1) := dk_27 (dk_at dksX4_lands_1 2 rfl rfl)
theorem dX4_lands_27 : decode cX4_lands 27 = .ok (.aload_n 0, 1) := dk_42 (dk_at dksX4_lands_1 3 rfl rfl)
theorem dX4_lands_28 : decode cX4_lands 28 = .ok (.getfield 47, 3) := dk_180 0 47 (dk_at dksX4_lands_1 4 rfl rfl)
theorem dX4_lands_31 : decode cX4_lands 31 = .ok (.getfield 77, 3) := dk_180 0 77 (dk_at dksX4_lands_1 7 rfl rfl)
theorem dX4_lands_34 : decode cX4_lands 34 = .ok (.if_icmp .ge 25, 3) := dk_162 0 25 (dk_at dksX4_lands_1 10 rfl rfl)
theorem dX4_lands_37 : decode cX4_lands 37 = .ok (.aload_n 0, 1) := dk_42 (dk_at dksX4_lands_1 13 rfl rfl)
theorem dX4_lands_38 : decode cX4_lands 38 = .ok (.getfield 9, 3) := dk_180 0 9 (dk_at dksX4_lands_1 14 rfl rfl)
theorem dX4_lands_41 : decode cX4_lands 41 = .ok (.iload_n 1, 1) := dk_27 (dk_at dksX4_lands_1 17 rfl rfl)
theorem dX4_lands_42 : decode cX4_lands 42 = .ok (.iaload, 1) := dk_46 (dk_at dksX4_lands_1 18 rfl rfl)
theorem dX4_lands_43 : decode cX4_lands 43 = .ok (.ifCond .ne 10, 3) := dk_154 0 10 (dk_at dksX4_lands_1 19 rfl rfl)
theorem dX4_lands_46 : decode cX4_lands 46 = .ok (.aload_n 0, 1) := dk_42 (dk_at dksX4_lands_1 22 rfl rfl)
theorem dX4_lands_47 : decode cX4_lands 47 = .ok (.getfield 9, 3) := dk_180 0 9 (dk_at dksX4_lands_2 0 rfl rfl)
theorem dX4_lands_50 : decode cX4_lands 50 = .ok (.iload_n 1, 1) := dk_27 (dk_at dksX4_lands_2 3 rfl rfl)
theorem dX4_lands_51 : decode cX4_lands 51 = .ok (.iconst 1, 1) := dk_4 (dk_at dksX4_lands_2 4 rfl rfl)
theorem dX4_lands_52 : decode cX4_lands 52 = .ok (.iastore, 1) := dk_79 (dk_at dksX4_lands_2 5 rfl rfl)
theorem dX4_lands_53 : decode cX4_lands 53 = .ok (.iinc 1 1, 3) := dk_132 1 1 (dk_at dksX4_lands_2 6 rfl rfl)
theorem dX4_lands_56 : decode cX4_lands 56 = .ok (.goto (-30), 3) := dk_167 255 226 (dk_at dksX4_lands_2 9 rfl rfl)
theorem dX4_lands_59 : decode cX4_lands 59 = .ok (.iconst 1, 1) := dk_4 (dk_at dksX4_lands_2 12 rfl rfl)
theorem dX4_lands_60 : decode cX4_lands 60 = .ok (.ireturn, 1) := dk_172 (dk_at dksX4_lands_2 13 rfl rfl)
abbrev cX4_places : ByteArray := prog_18_method_15_code
def yX4_places : MethodName := ⟨RX4, "places", "(II)Z"⟩
def dkwX4_places_2 : List UInt8 := [3, 79, 42, 180, 0, 27, 27, 42, 180, 0, 55, 79, 4, 172]
abbrev dktX4_places_2 : List UInt8 := dkwX4_places_2 ++ []
def dkwX4_places_1 : List UInt8 := [161, 0, 5, 3, 172, 42, 180, 0, 9, 27, 5, 79, 42, 180, 0, 15, 27, 28, 79, 42, 180, 0, 18, 27]
abbrev dktX4_places_1 : List UInt8 := dkwX4_places_1 ++ dktX4_places_2
def dkwX4_places_0 : List UInt8 := [42, 180, 0, 9, 27, 46, 4, 160, 0, 20, 42, 28, 182, 0, 142, 42, 180, 0, 47, 180, 0, 145, 28, 46]
abbrev dktX4_places_0 : List UInt8 := dkwX4_places_0 ++ dktX4_places_1
theorem dksX4_places_0 : cX4_places.data.toList.drop 0 = dktX4_places_0 := by decide +kernel
theorem dksX4_places_1 : cX4_places.data.toList.drop 24 = dktX4_places_1 := dk_seg dksX4_places_0 24 rfl rfl
theorem dksX4_places_2 : cX4_places.data.toList.drop 48 = dktX4_places_2 := dk_seg dksX4_places_1 24 rfl rfl
theorem dX4_places_0 : decode cX4_places 0 = .ok (.aload_n 0, 1) := dk_42 (dk_at dksX4_places_0 0 rfl rfl)
theorem dX4_places_1 : decode cX4_places 1 = .ok (.getfield 9, 3) := dk_180 0 9 (dk_at dksX4_places_0 1 rfl rfl)
theorem dX4_places_4 : decode cX4_places 4 = .ok (.iload_n 1, 1) := dk_27 (dk_at dksX4_places_0 4 rfl rfl)
theorem dX4_places_5 : decode cX4_places 5 = .ok (.iaload, 1) := dk_46 (dk_at dksX4_places_0 5 rfl rfl)
theorem dX4_places_6 : decode cX4_places 6 = .ok (.iconst 1, 1) := dk_4 (dk_at dksX4_places_0 6 rfl rfl)
theorem dX4_places_7 : decode cX4_places 7 = .ok (.if_icmp .ne 20, 3) := dk_160 0 20 (dk_at dksX4_places_0 7 rfl rfl)
theorem dX4_places_10 : decode cX4_places 10 = .ok (.aload_n 0, 1) := dk_42 (dk_at dksX4_places_0 10 rfl rfl)
theorem dX4_places_11 : decode cX4_places 11 = .ok (.iload_n 2, 1) := dk_28 (dk_at dksX4_places_0 11 rfl rfl)
theorem dX4_places_12 : decode cX4_places 12 = .ok (.invokevirtual 142, 3) := dk_182 0 142 (dk_at dksX4_places_0 12 rfl rfl)
theorem dX4_places_15 : decode cX4_places 15 = .ok (.aload_n 0, 1) := dk_42 (dk_at dksX4_places_0 15 rfl rfl)
theorem dX4_places_16 : decode cX4_places 16 = .ok (.getfield 47, 3) := dk_180 0 47 (dk_at dksX4_places_0 16 rfl rfl)
theorem dX4_places_19 : decode cX4_places 19 = .ok (.getfield 145, 3) := dk_180 0 145 (dk_at dksX4_places_0 19 rfl rfl)
theorem dX4_places_22 : decode cX4_places 22 = .ok (.iload_n 2, 1) := dk_28 (dk_at dksX4_places_0 22 rfl rfl)
theorem dX4_places_23 : decode cX4_places 23 = .ok (.iaload, 1) := dk_46 (dk_at dksX4_places_0 23 rfl rfl)
theorem dX4_places_24 : decode cX4_places 24 = .ok (.if_icmp .lt 5, 3) := dk_161 0 5 (dk_at dksX4_places_1 0 rfl rfl)
theorem dX4_places_27 : decode cX4_places 27 = .ok (.iconst 0, 1) := dk_3 (dk_at dksX4_places_1 3 rfl rfl)
theorem dX4_places_28 : decode cX4_places 28 = .ok (.ireturn, 1) := dk_172 (dk_at dksX4_places_1 4 rfl rfl)
theorem dX4_places_29 : decode cX4_places 29 = .ok (.aload_n 0, 1) := dk_42 (dk_at dksX4_places_1 5 rfl rfl)
theorem dX4_places_30 : decode cX4_places 30 = .ok (.getfield 9, 3) := dk_180 0 9 (dk_at dksX4_places_1 6 rfl rfl)
theorem dX4_places_33 : decode cX4_places 33 = .ok (.iload_n 1, 1) := dk_27 (dk_at dksX4_places_1 9 rfl rfl)
theorem dX4_places_34 : decode cX4_places 34 = .ok (.iconst 2, 1) := dk_5 (dk_at dksX4_places_1 10 rfl rfl)
theorem dX4_places_35 : decode cX4_places 35 = .ok (.iastore, 1) := dk_79 (dk_at dksX4_places_1 11 rfl rfl)
theorem dX4_places_36 : decode cX4_places 36 = .ok (.aload_n 0, 1) := dk_42 (dk_at dksX4_places_1 12 rfl rfl)
theorem dX4_places_37 : decode cX4_places 37 = .ok (.getfield 15, 3) := dk_180 0 15 (dk_at dksX4_places_1 13 rfl rfl)
theorem dX4_places_40 : decode cX4_places 40 = .ok (.iload_n 1, 1) := dk_27 (dk_at dksX4_places_1 16 rfl rfl)
theorem dX4_places_41 : decode cX4_places 41 = .ok (.iload_n 2, 1) := dk_28 (dk_at dksX4_places_1 17 rfl rfl)
theorem dX4_places_42 : decode cX4_places 42 = .ok (.iastore, 1) := dk_79 (dk_at dksX4_places_1 18 rfl rfl)
theorem dX4_places_43 : decode cX4_places 43 = .ok (.aload_n 0, 1) := dk_42 (dk_at dksX4_places_1 19 rfl rfl)
theorem dX4_places_44 : decode cX4_places 44 = .ok (.getfield 18, 3) := dk_180 0 18 (dk_at dksX4_places_1 20 rfl rfl)
theorem dX4_places_47 : decode cX4_places 47 = .ok (.iload_n 1, 1) := dk_27 (dk_at dksX4_places_1 23 rfl rfl)
theorem dX4_places_48 : decode cX4_places 48 = .ok (.iconst 0, 1) := dk_3 (dk_at dksX4_places_2 0 rfl rfl)
theorem dX4_places_49 : decode cX4_places 49 = .ok (.iastore, 1) := dk_79 (dk_at dksX4_places_2 1 rfl rfl)
theorem dX4_places_50 : decode cX4_places 50 = .ok (.aload_n 0, 1) := dk_42 (dk_at dksX4_places_2 2 rfl rfl)
theorem dX4_places_51 : decode cX4_places 51 = .ok (.getfield 27, 3) := dk_180 0 27 (dk_at dksX4_places_2 3 rfl rfl)
theorem dX4_places_54 : decode cX4_places 54 = .ok (.iload_n 1, 1) := dk_27 (dk_at dksX4_places_2 6 rfl rfl)
theorem dX4_places_55 : decode cX4_places 55 = .ok (.aload_n 0, 1) := dk_42 (dk_at dksX4_places_2 7 rfl rfl)
theorem dX4_places_56 : decode cX4_places 56 = .ok (.getfield 55, 3) := dk_180 0 55 (dk_at dksX4_places_2 8 rfl rfl)
theorem dX4_places_59 : decode cX4_places 59 = .ok (.iastore, 1) := dk_79 (dk_at dksX4_places_2 11 rfl rfl)
theorem dX4_places_60 : decode cX4_places 60 = .ok (.iconst 1, 1) := dk_4 (dk_at dksX4_places_2 12 rfl rfl)
theorem dX4_places_61 : decode cX4_places 61 = .ok (.ireturn, 1) := dk_172 (dk_at dksX4_places_2 13 rfl rfl)
abbrev cX4_boundTo : ByteArray := prog_18_method_8_code
def yX4_boundTo : MethodName := ⟨RX4, "boundTo", "(I)I"⟩
def dkwX4_boundTo_1 : List UInt8 := [160, 0, 6, 132, 2, 1, 132, 3, 1, 167, 255, 229, 28, 172]
abbrev dktX4_boundTo_1 : List UInt8 := dkwX4_boundTo_1 ++ []
def dkwX4_boundTo_0 : List UInt8 := [3, 61, 3, 62, 29, 42, 180, 0, 47, 180, 0, 77, 162, 0, 22, 42, 180, 0, 15, 29, 46, 27]
abbrev dktX4_boundTo_0 : List UInt8 := dkwX4_boundTo_0 ++ dktX4_boundTo_1
theorem dksX4_boundTo_0 : cX4_boundTo.data.toList.drop 0 = dktX4_boundTo_0 := by decide +kernel
theorem dksX4_boundTo_1 : cX4_boundTo.data.toList.drop 22 = dktX4_boundTo_1 := dk_seg dksX4_boundTo_0 22 rfl rfl
theorem dX4_boundTo_0 : decode cX4_boundTo 0 = .ok (.iconst 0, 1) := dk_3 (dk_at dksX4_boundTo_0 0 rfl rfl)
theorem dX4_boundTo_1 : decode cX4_boundTo 1 = .ok (.istore_n 2, 1) := dk_61 (dk_at dksX4_boundTo_0 1 rfl rfl)
theorem dX4_boundTo_2 : decode cX4_boundTo 2 = .ok (.iconst 0, 1) := dk_3 (dk_at dksX4_boundTo_0 2 rfl rfl)
theorem dX4_boundTo_3 : decode cX4_boundTo 3 = .ok (.istore_n 3, 1) := dk_62 (dk_at dksX4_boundTo_0 3 rfl rfl)
theorem dX4_boundTo_4 : decode cX4_boundTo 4 = .ok (.iload_n 3, 1) := dk_29 (dk_at dksX4_boundTo_0 4 rfl rfl)
theorem dX4_boundTo_5 : decode cX4_boundTo 5 = .ok (.aload_n 0, 1) := dk_42 (dk_at dksX4_boundTo_0 5 rfl rfl)
theorem dX4_boundTo_6 : decode cX4_boundTo 6 = .ok (.getfield 47, 3) := dk_180 0 47 (dk_at dksX4_boundTo_0 6 rfl rfl)
theorem dX4_boundTo_9 : decode cX4_boundTo 9 = .ok (.getfield 77, 3) := dk_180 0 77 (dk_at dksX4_boundTo_0 9 rfl rfl)
theorem dX4_boundTo_12 : decode cX4_boundTo 12 = .ok (.if_icmp .ge 22, 3) := dk_162 0 22 (dk_at dksX4_boundTo_0 12 rfl rfl)
theorem dX4_boundTo_15 : decode cX4_boundTo 15 = .ok (.aload_n 0, 1) := dk_42 (dk_at dksX4_boundTo_0 15 rfl rfl)
theorem dX4_boundTo_16 : decode cX4_boundTo 16 = .ok (.getfield 15, 3) := dk_180 0 15 (dk_at dksX4_boundTo_0 16 rfl rfl)
theorem dX4_boundTo_19 : decode cX4_boundTo 19 = .ok (.iload_n 3, 1) := dk_29 (dk_at dksX4_boundTo_0 19 rfl rfl)
theorem dX4_boundTo_20 : decode cX4_boundTo 20 = .ok (.iaload, 1) := dk_46 (dk_at dksX4_boundTo_0 20 rfl rfl)
theorem dX4_boundTo_21 : decode cX4_boundTo 21 = .ok (.iload_n 1, 1) := dk_27 (dk_at dksX4_boundTo_0 21 rfl rfl)
theorem dX4_boundTo_22 : decode cX4_boundTo 22 = .ok (.if_icmp .ne 6, 3) := dk_160 0 6 (dk_at dksX4_boundTo_1 0 rfl rfl)
theorem dX4_boundTo_25 : decode cX4_boundTo 25 = .ok (.iinc 2 1, 3) := dk_132 2 1 (dk_at dksX4_boundTo_1 3 rfl rfl)
theorem dX4_boundTo_28 : decode cX4_boundTo 28 = .ok (.iinc 3 1, 3) := dk_132 3 1 (dk_at dksX4_boundTo_1 6 rfl rfl)
theorem dX4_boundTo_31 : decode cX4_boundTo 31 = .ok (.goto (-27), 3) := dk_167 255 229 (dk_at dksX4_boundTo_1 9 rfl rfl)
theorem dX4_boundTo_34 : decode cX4_boundTo 34 = .ok (.iload_n 2, 1) := dk_28 (dk_at dksX4_boundTo_1 12 rfl rfl)
theorem dX4_boundTo_35 : decode cX4_boundTo 35 = .ok (.ireturn, 1) := dk_172 (dk_at dksX4_boundTo_1 13 rfl rfl)
abbrev cX4_goes : ByteArray := prog_18_method_22_code
def yX4_goes : MethodName := ⟨RX4, "goes", "()Z"⟩
def dkwX4_goes_0 : List UInt8 := [42, 180, 0, 55, 17, 3, 132, 161, 0, 5, 3, 172, 42, 182, 0, 165, 4, 172]
abbrev dktX4_goes_0 : List UInt8 := dkwX4_goes_0 ++ []
theorem dksX4_goes_0 : cX4_goes.data.toList.drop 0 = dktX4_goes_0 := by decide +kernel
theorem dX4_goes_0 : decode cX4_goes 0 = .ok (.aload_n 0, 1) := dk_42 (dk_at dksX4_goes_0 0 rfl rfl)
theorem dX4_goes_1 : decode cX4_goes 1 = .ok (.getfield 55, 3) := dk_180 0 55 (dk_at dksX4_goes_0 1 rfl rfl)
theorem dX4_goes_4 : decode cX4_goes 4 = .ok (.sipush 900, 3) := dk_17 3 132 (dk_at dksX4_goes_0 4 rfl rfl)
theorem dX4_goes_7 : decode cX4_goes 7 = .ok (.if_icmp .lt 5, 3) := dk_161 0 5 (dk_at dksX4_goes_0 7 rfl rfl)
theorem dX4_goes_10 : decode cX4_goes 10 = .ok (.iconst 0, 1) := dk_3 (dk_at dksX4_goes_0 10 rfl rfl)
theorem dX4_goes_11 : decode cX4_goes 11 = .ok (.ireturn, 1) := dk_172 (dk_at dksX4_goes_0 11 rfl rfl)
theorem dX4_goes_12 : decode cX4_goes 12 = .ok (.aload_n 0, 1) := dk_42 (dk_at dksX4_goes_0 12 rfl rfl)
theorem dX4_goes_13 : decode cX4_goes 13 = .ok (.invokevirtual 165, 3) := dk_182 0 165 (dk_at dksX4_goes_0 13 rfl rfl)
theorem dX4_goes_16 : decode cX4_goes 16 = .ok (.iconst 1, 1) := dk_4 (dk_at dksX4_goes_0 16 rfl rfl)
theorem dX4_goes_17 : decode cX4_goes 17 = .ok (.ireturn, 1) := dk_172 (dk_at dksX4_goes_0 17 rfl rfl)
abbrev cX4_passes : ByteArray := prog_18_method_23_code
def yX4_passes : MethodName := ⟨RX4, "passes", "()V"⟩
def dkwX4_passes_5 : List UInt8 := [180, 0, 64, 182, 0, 130, 154, 0, 8, 42, 27, 182, 0, 161, 132, 1, 1, 167, 255, 217, 177]
abbrev dktX4_passes_5 : List UInt8 := dkwX4_passes_5 ++ []
def dkwX4_passes_4 : List UInt8 := [27, 42, 180, 0, 47, 180, 0, 77, 162, 0, 34, 42, 27, 182, 0, 148, 153, 0, 20, 42, 27, 42]
abbrev dktX4_passes_4 : List UInt8 := dkwX4_passes_4 ++ dktX4_passes_5
def dkwX4_passes_3 : List UInt8 := [184, 0, 125, 181, 0, 62, 132, 1, 1, 167, 255, 179, 42, 89, 180, 0, 55, 4, 96, 181, 0, 55, 3, 60]
abbrev dktX4_passes_3 : List UInt8 := dkwX4_passes_3 ++ dktX4_passes_4
def dkwX4_passes_2 : List UInt8 := [182, 0, 148, 153, 0, 13, 42, 180, 0, 18, 27, 92, 46, 4, 96, 79, 42, 3, 42, 180, 0, 62]
abbrev dktX4_passes_2 : List UInt8 := dkwX4_passes_2 ++ dktX4_passes_3
def dkwX4_passes_1 : List UInt8 := [180, 0, 62, 4, 100, 90, 181, 0, 62, 156, 0, 13, 42, 180, 0, 24, 27, 92, 46, 4, 96, 79, 42, 27]
abbrev dktX4_passes_1 : List UInt8 := dkwX4_passes_1 ++ dktX4_passes_2
def dkwX4_passes_0 : List UInt8 := [3, 60, 27, 42, 180, 0, 47, 180, 0, 77, 162, 0, 72, 42, 180, 0, 9, 27, 46, 154, 0, 27, 42, 89]
abbrev dktX4_passes_0 : List UInt8 := dkwX4_passes_0 ++ dktX4_passes_1
theorem dksX4_passes_0 : cX4_passes.data.toList.drop 0 = dktX4_passes_0 := by decide +kernel
theorem dksX4_passes_1 : cX4_passes.data.toList.drop 24 = dktX4_passes_1 := dk_seg dksX4_passes_0 24 rfl rfl
theorem dksX4_passes_2 : cX4_passes.data.toList.drop 48 = dktX4_passes_2 := dk_seg dksX4_passes_1 24 rfl rfl
theorem dksX4_passes_3 : cX4_passes.data.toList.drop 70 = dktX4_passes_3 := dk_seg dksX4_passes_2 22 rfl rfl
theorem dksX4_passes_4 : cX4_passes.data.toList.drop 94 = dktX4_passes_4 := dk_seg dksX4_passes_3 24 rfl rfl
theorem dksX4_passes_5 : cX4_passes.data.toList.drop 116 = dktX4_passes_5 := dk_seg dksX4_passes_4 22 rfl rfl
theorem dX4_passes_0 : decode cX4_passes 0 = .ok (.iconst 0, 1) := dk_3 (dk_at dksX4_passes_0 0 rfl rfl)
theorem dX4_passes_1 : decode cX4_passes 1 = .ok (.istore_n 1, 1) := dk_60 (dk_at dksX4_passes_0 1 rfl rfl)
theorem dX4_passes_2 : decode cX4_passes 2 = .ok (.iload_n 1, 1) := dk_27 (dk_at dksX4_passes_0 2 rfl rfl)
theorem dX4_passes_3 : decode cX4_passes 3 = .ok (.aload_n 0, 1) := dk_42 (dk_at dksX4_passes_0 3 rfl rfl)
theorem dX4_passes_4 : decode cX4_passes 4 = .ok (.getfield 47, 3) := dk_180 0 47 (dk_at dksX4_passes_0 4 rfl rfl)
theorem dX4_passes_7 : decode cX4_passes 7 = .ok (.getfield 77, 3) := dk_180 0 77 (dk_at dksX4_passes_0 7 rfl rfl)
theorem dX4_passes_10 : decode cX4_passes 10 = .ok (.if_icmp .ge 72, 3) := dk_162 0 72 (dk_at dksX4_passes_0 10 rfl rfl)
theorem dX4_passes_13 : decode cX4_passes 13 = .ok (.aload_n 0, 1) := dk_42 (dk_at dksX4_passes_0 13 rfl rfl)
theorem dX4_passes_14 : decode cX4_passes 14 = .ok (.getfield 9, 3) := dk_180 0 9 (dk_at dksX4_passes_0 14 rfl rfl)
theorem dX4_passes_17 : decode cX4_passes 17 = .ok (.iload_n 1, 1) := dk_27 (dk_at dksX4_passes_0 17 rfl rfl)
theorem dX4_passes_18 : decode cX4_passes 18 = .ok (.iaload, 1) := dk_46 (dk_at dksX4_passes_0 18 rfl rfl)
theorem dX4_passes_19 : decode cX4_passes 19 = .ok (.ifCond .ne 27, 3) := dk_154 0 27 (dk_at dksX4_passes_0 19 rfl rfl)
theorem dX4_passes_22 : decode cX4_passes 22 = .ok (.aload_n 0, 1) := dk_42 (dk_at dksX4_passes_0 22 rfl rfl)
theorem dX4_passes_23 : decode cX4_passes 23 = .ok (.dup, 1) := dk_89 (dk_at dksX4_passes_0 23 rfl rfl)
theorem dX4_passes_24 : decode cX4_passes 24 = .ok (.getfield 62, 3) := dk_180 0 62 (dk_at dksX4_passes_1 0 rfl rfl)
theorem dX4_passes_27 : decode cX4_passes 27 = .ok (.iconst 1, 1) := dk_4 (dk_at dksX4_passes_1 3 rfl rfl)
theorem dX4_passes_28 : decode cX4_passes 28 = .ok (.isub, 1) := dk_100 (dk_at dksX4_passes_1 4 rfl rfl)
theorem dX4_passes_29 : decode cX4_passes 29 = .ok (.dup_x1, 1) := dk_90 (dk_at dksX4_passes_1 5 rfl rfl)
theorem dX4_passes_30 : decode cX4_passes 30 = .ok (.putfield 62, 3) := dk_181 0 62 (dk_at dksX4_passes_1 6 rfl rfl)
theorem dX4_passes_33 : decode cX4_passes 33 = .ok (.ifCond .ge 13, 3) := dk_156 0 13 (dk_at dksX4_passes_1 9 rfl rfl)
theorem dX4_passes_36 : decode cX4_passes 36 = .ok (.aload_n 0, 1) := dk_42 (dk_at dksX4_passes_1 12 rfl rfl)
theorem dX4_passes_37 : decode cX4_passes 37 = .ok (.getfield 24, 3) := dk_180 0 24 (dk_at dksX4_passes_1 13 rfl rfl)
theorem dX4_passes_40 : decode cX4_passes 40 = .ok (.iload_n 1, 1) := dk_27 (dk_at dksX4_passes_1 16 rfl rfl)
theorem dX4_passes_41 : decode cX4_passes 41 = .ok (.dup2, 1) := dk_92 (dk_at dksX4_passes_1 17 rfl rfl)
theorem dX4_passes_42 : decode cX4_passes 42 = .ok (.iaload, 1) := dk_46 (dk_at dksX4_passes_1 18 rfl rfl)
theorem dX4_passes_43 : decode cX4_passes 43 = .ok (.iconst 1, 1) := dk_4 (dk_at dksX4_passes_1 19 rfl rfl)
theorem dX4_passes_44 : decode cX4_passes 44 = .ok (.iadd, 1) := dk_96 (dk_at dksX4_passes_1 20 rfl rfl)
theorem dX4_passes_45 : decode cX4_passes 45 = .ok (.iastore, 1) := dk_79 (dk_at dksX4_passes_1 21 rfl rfl)
theorem dX4_passes_46 : decode cX4_passes 46 = .ok (.aload_n 0, 1) := dk_42 (dk_at dksX4_passes_1 22 rfl rfl)
theorem dX4_passes_47 : decode cX4_passes 47 = .ok (.iload_n 1, 1) := dk_27 (dk_at dksX4_passes_1 23 rfl rfl)
theorem dX4_passes_48 : decode cX4_passes 48 = .ok (.invokevirtual 148, 3) := dk_182 0 148 (dk_at dksX4_passes_2 0 rfl rfl)
theorem dX4_passes_51 : decode cX4_passes 51 = .ok (.ifCond .eq 13, 3) := dk_153 0 13 (dk_at dksX4_passes_2 3 rfl rfl)
theorem dX4_passes_54 : decode cX4_passes 54 = .ok (.aload_n 0, 1) := dk_42 (dk_at dksX4_passes_2 6 rfl rfl)
theorem dX4_passes_55 : decode cX4_passes 55 = .ok (.getfield 18, 3) := dk_180 0 18 (dk_at dksX4_passes_2 7 rfl rfl)
theorem dX4_passes_58 : decode cX4_passes 58 = .ok (.iload_n 1, 1) := dk_27 (dk_at dksX4_passes_2 10 rfl rfl)
theorem dX4_passes_59 : decode cX4_passes 59 = .ok (.dup2, 1) := dk_92 (dk_at dksX4_passes_2 11 rfl rfl)
theorem dX4_passes_60 : decode cX4_passes 60 = .ok (.iaload, 1) := dk_46 (dk_at dksX4_passes_2 12 rfl rfl)
theorem dX4_passes_61 : decode cX4_passes 61 = .ok (.iconst 1, 1) := dk_4 (dk_at dksX4_passes_2 13 rfl rfl)
theorem dX4_passes_62 : decode cX4_passes 62 = .ok (.iadd, 1) := dk_96 (dk_at dksX4_passes_2 14 rfl rfl)
theorem dX4_passes_63 : decode cX4_passes 63 = .ok (.iastore, 1) := dk_79 (dk_at dksX4_passes_2 15 rfl rfl)
theorem dX4_passes_64 : decode cX4_passes 64 = .ok (.aload_n 0, 1) := dk_42 (dk_at dksX4_passes_2 16 rfl rfl)
theorem dX4_passes_65 : decode cX4_passes 65 = .ok (.iconst 0, 1) := dk_3 (dk_at dksX4_passes_2 17 rfl rfl)
theorem dX4_passes_66 : decode cX4_passes 66 = .ok (.aload_n 0, 1) := dk_42 (dk_at dksX4_passes_2 18 rfl rfl)
theorem dX4_passes_67 : decode cX4_passes 67 = .ok (.getfield 62, 3) := dk_180 0 62 (dk_at dksX4_passes_2 19 rfl rfl)
theorem dX4_passes_70 : decode cX4_passes 70 = .ok (.invokestatic 125, 3) := dk_184 0 125 (dk_at dksX4_passes_3 0 rfl rfl)
theorem dX4_passes_73 : decode cX4_passes 73 = .ok (.putfield 62, 3) := dk_181 0 62 (dk_at dksX4_passes_3 3 rfl rfl)
theorem dX4_passes_76 : decode cX4_passes 76 = .ok (.iinc 1 1, 3) := dk_132 1 1 (dk_at dksX4_passes_3 6 rfl rfl)
theorem dX4_passes_79 : decode cX4_passes 79 = .ok (.goto (-77), 3) := dk_167 255 179 (dk_at dksX4_passes_3 9 rfl rfl)
theorem dX4_passes_82 : decode cX4_passes 82 = .ok (.aload_n 0, 1) := dk_42 (dk_at dksX4_passes_3 12 rfl rfl)
theorem dX4_passes_83 : decode cX4_passes 83 = .ok (.dup, 1) := dk_89 (dk_at dksX4_passes_3 13 rfl rfl)
theorem dX4_passes_84 : decode cX4_passes 84 = .ok (.getfield 55, 3) := dk_180 0 55 (dk_at dksX4_passes_3 14 rfl rfl)
theorem dX4_passes_87 : decode cX4_passes 87 = .ok (.iconst 1, 1) := dk_4 (dk_at dksX4_passes_3 17 rfl rfl)
theorem dX4_passes_88 : decode cX4_passes 88 = .ok (.iadd, 1) := dk_96 (dk_at dksX4_passes_3 18 rfl rfl)
theorem dX4_passes_89 : decode cX4_passes 89 = .ok (.putfield 55, 3) := dk_181 0 55 (dk_at dksX4_passes_3 19 rfl rfl)
theorem dX4_passes_92 : decode cX4_passes 92 = .ok (.iconst 0, 1) := dk_3 (dk_at dksX4_passes_3 22 rfl rfl)
theorem dX4_passes_93 : decode cX4_passes 93 = .ok (.istore_n 1, 1) := dk_60 (dk_at dksX4_passes_3 23 rfl rfl)
theorem dX4_passes_94 : decode cX4_passes 94 = .ok (.iload_n 1, 1) := dk_27 (dk_at dksX4_passes_4 0 rfl rfl)
theorem dX4_passes_95 : decode cX4_passes 95 = .ok (.aload_n 0, 1) := dk_42 (dk_at dksX4_passes_4 1 rfl rfl)
theorem dX4_passes_96 : decode cX4_passes 96 = .ok (.getfield 47, 3) := dk_180 0 47 (dk_at dksX4_passes_4 2 rfl rfl)
theorem dX4_passes_99 : decode cX4_passes 99 = .ok (.getfield 77, 3) := dk_180 0 77 (dk_at dksX4_passes_4 5 rfl rfl)
theorem dX4_passes_102 : decode cX4_passes 102 = .ok (.if_icmp .ge 34, 3) := dk_162 0 34 (dk_at dksX4_passes_4 8 rfl rfl)
theorem dX4_passes_105 : decode cX4_passes 105 = .ok (.aload_n 0, 1) := dk_42 (dk_at dksX4_passes_4 11 rfl rfl)
theorem dX4_passes_106 : decode cX4_passes 106 = .ok (.iload_n 1, 1) := dk_27 (dk_at dksX4_passes_4 12 rfl rfl)
theorem dX4_passes_107 : decode cX4_passes 107 = .ok (.invokevirtual 148, 3) := dk_182 0 148 (dk_at dksX4_passes_4 13 rfl rfl)
theorem dX4_passes_110 : decode cX4_passes 110 = .ok (.ifCond .eq 20, 3) := dk_153 0 20 (dk_at dksX4_passes_4 16 rfl rfl)
theorem dX4_passes_113 : decode cX4_passes 113 = .ok (.aload_n 0, 1) := dk_42 (dk_at dksX4_passes_4 19 rfl rfl)
theorem dX4_passes_114 : decode cX4_passes 114 = .ok (.iload_n 1, 1) := dk_27 (dk_at dksX4_passes_4 20 rfl rfl)
theorem dX4_passes_115 : decode cX4_passes 115 = .ok (.aload_n 0, 1) := dk_42 (dk_at dksX4_passes_4 21 rfl rfl)
theorem dX4_passes_116 : decode cX4_passes 116 = .ok (.getfield 64, 3) := dk_180 0 64 (dk_at dksX4_passes_5 0 rfl rfl)
theorem dX4_passes_119 : decode cX4_passes 119 = .ok (.invokevirtual 130, 3) := dk_182 0 130 (dk_at dksX4_passes_5 3 rfl rfl)
theorem dX4_passes_122 : decode cX4_passes 122 = .ok (.ifCond .ne 8, 3) := dk_154 0 8 (dk_at dksX4_passes_5 6 rfl rfl)
theorem dX4_passes_125 : decode cX4_passes 125 = .ok (.aload_n 0, 1) := dk_42 (dk_at dksX4_passes_5 9 rfl rfl)
theorem dX4_passes_126 : decode cX4_passes 126 = .ok (.iload_n 1, 1) := dk_27 (dk_at dksX4_passes_5 10 rfl rfl)
theorem dX4_passes_127 : decode cX4_passes 127 = .ok (.invokevirtual 161, 3) := dk_182 0 161 (dk_at dksX4_passes_5 11 rfl rfl)
theorem dX4_passes_130 : decode cX4_passes 130 = .ok (.iinc 1 1, 3) := dk_132 1 1 (dk_at dksX4_passes_5 14 rfl rfl)
theorem dX4_passes_133 : decode cX4_passes 133 = .ok (.goto (-39), 3) := dk_167 255 217 (dk_at dksX4_passes_5 17 rfl rfl)
theorem dX4_passes_136 : decode cX4_passes 136 = .ok (.return_, 1) := dk_177 (dk_at dksX4_passes_5 20 rfl rfl)
abbrev cX4_goesOn : ByteArray := prog_18_method_24_code
def yX4_goesOn : MethodName := ⟨RX4, "goesOn", "(I)LPassagePapers$State;"⟩
def dkwX4_goesOn_0 : List UInt8 := [3, 61, 28, 27, 162, 0, 13, 42, 182, 0, 165, 132, 2, 1, 167, 255, 244, 42, 176]
abbrev dktX4_goesOn_0 : List UInt8 := dkwX4_goesOn_0 ++ []
theorem dksX4_goesOn_0 : cX4_goesOn.data.toList.drop 0 = dktX4_goesOn_0 := by decide +kernel
theorem dX4_goesOn_0 : decode cX4_goesOn 0 = .ok (.iconst 0, 1) := dk_3 (dk_at dksX4_goesOn_0 0 rfl rfl)
theorem dX4_goesOn_1 : decode cX4_goesOn 1 = .ok (.istore_n 2, 1) := dk_61 (dk_at dksX4_goesOn_0 1 rfl rfl)
theorem dX4_goesOn_2 : decode cX4_goesOn 2 = .ok (.iload_n 2, 1) := dk_28 (dk_at dksX4_goesOn_0 2 rfl rfl)
theorem dX4_goesOn_3 : decode cX4_goesOn 3 = .ok (.iload_n 1, 1) := dk_27 (dk_at dksX4_goesOn_0 3 rfl rfl)
theorem dX4_goesOn_4 : decode cX4_goesOn 4 = .ok (.if_icmp .ge 13, 3) := dk_162 0 13 (dk_at dksX4_goesOn_0 4 rfl rfl)
theorem dX4_goesOn_7 : decode cX4_goesOn 7 = .ok (.aload_n 0, 1) := dk_42 (dk_at dksX4_goesOn_0 7 rfl rfl)
theorem dX4_goesOn_8 : decode cX4_goesOn 8 = .ok (.invokevirtual 165, 3) := dk_182 0 165 (dk_at dksX4_goesOn_0 8 rfl rfl)
theorem dX4_goesOn_11 : decode cX4_goesOn 11 = .ok (.iinc 2 1, 3) := dk_132 2 1 (dk_at dksX4_goesOn_0 11 rfl rfl)
theorem dX4_goesOn_14 : decode cX4_goesOn 14 = .ok (.goto (-12), 3) := dk_167 255 244 (dk_at dksX4_goesOn_0 14 rfl rfl)
theorem dX4_goesOn_17 : decode cX4_goesOn 17 = .ok (.aload_n 0, 1) := dk_42 (dk_at dksX4_goesOn_0 17 rfl rfl)
theorem dX4_goesOn_18 : decode cX4_goesOn 18 = .ok (.areturn, 1) := dk_176 (dk_at dksX4_goesOn_0 18 rfl rfl)
abbrev cX4_sum : ByteArray := prog_18_method_5_code
def yX4_sum : MethodName := ⟨RX4, "sum", "([I)I"⟩
def dkwX4_sum_0 : List UInt8 := [3, 60, 3, 61, 28, 16, 8, 162, 0, 15, 27, 42, 28, 46, 96, 60, 132, 2, 1, 167, 255, 241, 27, 172]
abbrev dktX4_sum_0 : List UInt8 := dkwX4_sum_0 ++ []
theorem dksX4_sum_0 : cX4_sum.data.toList.drop 0 = dktX4_sum_0 := by decide +kernel
theorem dX4_sum_0 : decode cX4_sum 0 = .ok (.iconst 0, 1) := dk_3 (dk_at dksX4_sum_0 0 rfl rfl)
theorem dX4_sum_1 : decode cX4_sum 1 = .ok (.istore_n 1, 1) := dk_60 (dk_at dksX4_sum_0 1 rfl rfl)
theorem dX4_sum_2 : decode cX4_sum 2 = .ok (.iconst 0, 1) := dk_3 (dk_at dksX4_sum_0 2 rfl rfl)
theorem dX4_sum_3 : decode cX4_sum 3 = .ok (.istore_n 2, 1) := dk_61 (dk_at dksX4_sum_0 3 rfl rfl)
theorem dX4_sum_4 : decode cX4_sum 4 = .ok (.iload_n 2, 1) := dk_28 (dk_at dksX4_sum_0 4 rfl rfl)
theorem dX4_sum_5 : decode cX4_sum 5 = .ok (.bipush 8, 2) := dk_16 8 (dk_at dksX4_sum_0 5 rfl rfl)
theorem dX4_sum_7 : decode cX4_sum 7 = .ok (.if_icmp .ge 15, 3) := dk_162 0 15 (dk_at dksX4_sum_0 7 rfl rfl)
theorem dX4_sum_10 : decode cX4_sum 10 = .ok (.iload_n 1, 1) := dk_27 (dk_at dksX4_sum_0 10 rfl rfl)
theorem dX4_sum_11 : decode cX4_sum 11 = .ok (.aload_n 0, 1) := dk_42 (dk_at dksX4_sum_0 11 rfl rfl)
theorem dX4_sum_12 : decode cX4_sum 12 = .ok (.iload_n 2, 1) := dk_28 (dk_at dksX4_sum_0 12 rfl rfl)
theorem dX4_sum_13 : decode cX4_sum 13 = .ok (.iaload, 1) := dk_46 (dk_at dksX4_sum_0 13 rfl rfl)
theorem dX4_sum_14 : decode cX4_sum 14 = .ok (.iadd, 1) := dk_96 (dk_at dksX4_sum_0 14 rfl rfl)
theorem dX4_sum_15 : decode cX4_sum 15 = .ok (.istore_n 1, 1) := dk_60 (dk_at dksX4_sum_0 15 rfl rfl)
theorem dX4_sum_16 : decode cX4_sum 16 = .ok (.iinc 2 1, 3) := dk_132 2 1 (dk_at dksX4_sum_0 16 rfl rfl)
theorem dX4_sum_19 : decode cX4_sum 19 = .ok (.goto (-15), 3) := dk_167 255 241 (dk_at dksX4_sum_0 19 rfl rfl)
theorem dX4_sum_22 : decode cX4_sum 22 = .ok (.iload_n 1, 1) := dk_27 (dk_at dksX4_sum_0 22 rfl rfl)
theorem dX4_sum_23 : decode cX4_sum 23 = .ok (.ireturn, 1) := dk_172 (dk_at dksX4_sum_0 23 rfl rfl)
abbrev cX4_gives : ByteArray := prog_18_method_25_code
def yX4_gives : MethodName := ⟨RX4, "gives", "(II)I"⟩
def dkwX4_gives_2 : List UInt8 := [172]
abbrev dktX4_gives_2 : List UInt8 := dkwX4_gives_2 ++ []
def dkwX4_gives_1 : List UInt8 := [180, 0, 171, 27, 46, 42, 180, 0, 47, 180, 0, 85, 28, 46, 160, 0, 7, 29, 167, 0, 6, 29, 5, 108]
abbrev dktX4_gives_1 : List UInt8 := dkwX4_gives_1 ++ dktX4_gives_2
def dkwX4_gives_0 : List UInt8 := [42, 180, 0, 47, 180, 0, 168, 27, 46, 42, 28, 182, 0, 133, 104, 16, 52, 108, 62, 42, 180, 0, 47]
abbrev dktX4_gives_0 : List UInt8 := dkwX4_gives_0 ++ dktX4_gives_1
theorem dksX4_gives_0 : cX4_gives.data.toList.drop 0 = dktX4_gives_0 := by decide +kernel
theorem dksX4_gives_1 : cX4_gives.data.toList.drop 23 = dktX4_gives_1 := dk_seg dksX4_gives_0 23 rfl rfl
theorem dksX4_gives_2 : cX4_gives.data.toList.drop 47 = dktX4_gives_2 := dk_seg dksX4_gives_1 24 rfl rfl
theorem dX4_gives_0 : decode cX4_gives 0 = .ok (.aload_n 0, 1) := dk_42 (dk_at dksX4_gives_0 0 rfl rfl)
theorem dX4_gives_1 : decode cX4_gives 1 = .ok (.getfield 47, 3) := dk_180 0 47 (dk_at dksX4_gives_0 1 rfl rfl)
theorem dX4_gives_4 : decode cX4_gives 4 = .ok (.getfield 168, 3) := dk_180 0 168 (dk_at dksX4_gives_0 4 rfl rfl)
theorem dX4_gives_7 : decode cX4_gives 7 = .ok (.iload_n 1, 1) := dk_27 (dk_at dksX4_gives_0 7 rfl rfl)
theorem dX4_gives_8 : decode cX4_gives 8 = .ok (.iaload, 1) := dk_46 (dk_at dksX4_gives_0 8 rfl rfl)
theorem dX4_gives_9 : decode cX4_gives 9 = .ok (.aload_n 0, 1) := dk_42 (dk_at dksX4_gives_0 9 rfl rfl)
theorem dX4_gives_10 : decode cX4_gives 10 = .ok (.iload_n 2, 1) := dk_28 (dk_at dksX4_gives_0 10 rfl rfl)
theorem dX4_gives_11 : decode cX4_gives 11 = .ok (.invokevirtual 133, 3) := dk_182 0 133 (dk_at dksX4_gives_0 11 rfl rfl)
theorem dX4_gives_14 : decode cX4_gives 14 = .ok (.imul, 1) := dk_104 (dk_at dksX4_gives_0 14 rfl rfl)
theorem dX4_gives_15 : decode cX4_gives 15 = .ok (.bipush 52, 2) := dk_16 52 (dk_at dksX4_gives_0 15 rfl rfl)
theorem dX4_gives_17 : decode cX4_gives 17 = .ok (.idiv, 1) := dk_108 (dk_at dksX4_gives_0 17 rfl rfl)
theorem dX4_gives_18 : decode cX4_gives 18 = .ok (.istore_n 3, 1) := dk_62 (dk_at dksX4_gives_0 18 rfl rfl)
theorem dX4_gives_19 : decode cX4_gives 19 = .ok (.aload_n 0, 1) := dk_42 (dk_at dksX4_gives_0 19 rfl rfl)
theorem dX4_gives_20 : decode cX4_gives 20 = .ok (.getfield 47, 3) := dk_180 0 47 (dk_at dksX4_gives_0 20 rfl rfl)
theorem dX4_gives_23 : decode cX4_gives 23 = .ok (.getfield 171, 3) := dk_180 0 171 (dk_at dksX4_gives_1 0 rfl rfl)
theorem dX4_gives_26 : decode cX4_gives 26 = .ok (.iload_n 1, 1) := dk_27 (dk_at dksX4_gives_1 3 rfl rfl)
theorem dX4_gives_27 : decode cX4_gives 27 = .ok (.iaload, 1) := dk_46 (dk_at dksX4_gives_1 4 rfl rfl)
theorem dX4_gives_28 : decode cX4_gives 28 = .ok (.aload_n 0, 1) := dk_42 (dk_at dksX4_gives_1 5 rfl rfl)
theorem dX4_gives_29 : decode cX4_gives 29 = .ok (.getfield 47, 3) := dk_180 0 47 (dk_at dksX4_gives_1 6 rfl rfl)
theorem dX4_gives_32 : decode cX4_gives 32 = .ok (.getfield 85, 3) := dk_180 0 85 (dk_at dksX4_gives_1 9 rfl rfl)
theorem dX4_gives_35 : decode cX4_gives 35 = .ok (.iload_n 2, 1) := dk_28 (dk_at dksX4_gives_1 12 rfl rfl)
theorem dX4_gives_36 : decode cX4_gives 36 = .ok (.iaload, 1) := dk_46 (dk_at dksX4_gives_1 13 rfl rfl)
theorem dX4_gives_37 : decode cX4_gives 37 = .ok (.if_icmp .ne 7, 3) := dk_160 0 7 (dk_at dksX4_gives_1 14 rfl rfl)
theorem dX4_gives_40 : decode cX4_gives 40 = .ok (.iload_n 3, 1) := dk_29 (dk_at dksX4_gives_1 17 rfl rfl)
theorem dX4_gives_41 : decode cX4_gives 41 = .ok (.goto 6, 3) := dk_167 0 6 (dk_at dksX4_gives_1 18 rfl rfl)
theorem dX4_gives_44 : decode cX4_gives 44 = .ok (.iload_n 3, 1) := dk_29 (dk_at dksX4_gives_1 21 rfl rfl)
theorem dX4_gives_45 : decode cX4_gives 45 = .ok (.iconst 2, 1) := dk_5 (dk_at dksX4_gives_1 22 rfl rfl)
theorem dX4_gives_46 : decode cX4_gives 46 = .ok (.idiv, 1) := dk_108 (dk_at dksX4_gives_1 23 rfl rfl)
theorem dX4_gives_47 : decode cX4_gives 47 = .ok (.ireturn, 1) := dk_172 (dk_at dksX4_gives_2 0 rfl rfl)
theorem q93 : (Jvm.Cond.initialized "PassagePapers$State") ∈ lw_all := lw_g (lw_at lw_m1 4 rfl) rfl
theorem q156 : (Jvm.Cond.instantiable "PassagePapers$State" (14 : Nat)) ∈ lw_all := lw_g (lw_at lw_m1 67 rfl) rfl
theorem q158 : (Jvm.Cond.instanceMethod ({ cls := "PassagePapers$State", name := "<init>", desc := "(LPassagePapers$Laws;)V" } : Jvm.MethodName)) ∈ lw_all := lw_g (lw_at lw_m1 69 rfl) rfl
theorem q159 : (Jvm.Cond.code ({ cls := "PassagePapers$State", name := "<init>", desc := "(LPassagePapers$Laws;)V" } : Jvm.MethodName) prog_18_method_1_code (2 : Nat) (Option.none : Option Jvm.ClassFile.FieldType)) ∈ lw_all := lw_g (lw_at lw_m1 70 rfl) rfl
theorem q160 : (Jvm.Cond.methodLink "PassagePapers$State" (3 : Nat) ({ cls := "java/lang/Object", name := "<init>", desc := "()V" } : Jvm.MethodName)) ∈ lw_all := lw_g (lw_at lw_m1 71 rfl) rfl
theorem q161 : (Jvm.Cond.classLink "PassagePapers$State" (37 : Nat) "PassagePapers$Sight") ∈ lw_all := lw_g (lw_at lw_m1 72 rfl) rfl
theorem q163 : (Jvm.Cond.methodLinkNest "PassagePapers$State" (39 : Nat) ({ cls := "PassagePapers$Sight", name := "<init>", desc := "()V" } : Jvm.MethodName) "PassagePapers") ∈ lw_tbl := lw_at lw_m1 74 rfl
theorem q169 : (Jvm.Cond.fieldLinkNest "PassagePapers$State" (80 : Nat) "PassagePapers$Sight" "years" "I" "PassagePapers") ∈ lw_tbl := lw_at lw_m1 80 rfl
theorem q173 : (Jvm.Cond.fieldLinkNest "PassagePapers$State" (83 : Nat) "PassagePapers$Sight" "added" "I" "PassagePapers") ∈ lw_tbl := lw_at lw_m1 84 rfl
theorem q176 : (Jvm.Cond.fieldLinkNest "PassagePapers$State" (88 : Nat) "PassagePapers$Sight" "trade" "I" "PassagePapers") ∈ lw_tbl := lw_at lw_m1 87 rfl
theorem q179 : (Jvm.Cond.fieldLinkNest "PassagePapers$State" (90 : Nat) "PassagePapers$Sight" "hungry" "I" "PassagePapers") ∈ lw_tbl := lw_at lw_m1 90 rfl
theorem q182 : (Jvm.Cond.fieldLinkNest "PassagePapers$State" (101 : Nat) "PassagePapers$Sight" "kin" "I" "PassagePapers") ∈ lw_tbl := lw_at lw_m1 93 rfl
theorem q184 : (Jvm.Cond.fieldLinkNest "PassagePapers$State" (104 : Nat) "PassagePapers$Sight" "lost" "I" "PassagePapers") ∈ lw_tbl := lw_at lw_m1 95 rfl
theorem q187 : (Jvm.Cond.fieldLinkNest "PassagePapers$State" (107 : Nat) "PassagePapers$Sight" "placed" "I" "PassagePapers") ∈ lw_tbl := lw_at lw_m1 98 rfl
theorem q189 : (Jvm.Cond.fieldLinkNest "PassagePapers$State" (109 : Nat) "PassagePapers$Sight" "week" "I" "PassagePapers") ∈ lw_tbl := lw_at lw_m1 100 rfl
theorem q210 : (Jvm.Cond.classLink "PassagePapers$State" (44 : Nat) "PassagePapers$Register") ∈ lw_all := lw_g (lw_at lw_m1 121 rfl) rfl
theorem q212 : (Jvm.Cond.methodLinkNest "PassagePapers$State" (46 : Nat) ({ cls := "PassagePapers$Register", name := "<init>", desc := "()V" } : Jvm.MethodName) "PassagePapers") ∈ lw_tbl := lw_at lw_m1 123 rfl
theorem q218 : (Jvm.Cond.fieldLinkNest "PassagePapers$State" (116 : Nat) "PassagePapers$Register" "years" "[I" "PassagePapers") ∈ lw_tbl := lw_at lw_m1 129 rfl
theorem q222 : (Jvm.Cond.fieldLinkNest "PassagePapers$State" (85 : Nat) "PassagePapers$Register" "trade" "[I" "PassagePapers") ∈ lw_tbl := lw_at lw_m1 133 rfl
theorem q228 : (Jvm.Cond.fieldLinkNest "PassagePapers$State" (63 : Nat) "PassagePapers$Register" "coins" "[I" "PassagePapers") ∈ lw_tbl := lw_at lw_m1 139 rfl
theorem q233 : (Jvm.Cond.fieldLinkNest "PassagePapers$State" (171 : Nat) "PassagePapers$Register" "wants" "[I" "PassagePapers") ∈ lw_tbl := lw_at lw_m1 144 rfl
theorem q237 : (Jvm.Cond.fieldLinkNest "PassagePapers$State" (168 : Nat) "PassagePapers$Register" "pays" "[I" "PassagePapers") ∈ lw_tbl := lw_at lw_m1 148 rfl
theorem q241 : (Jvm.Cond.fieldLinkNest "PassagePapers$State" (145 : Nat) "PassagePapers$Register" "room" "[I" "PassagePapers") ∈ lw_tbl := lw_at lw_m1 152 rfl
theorem q248 : (Jvm.Cond.fieldLinkNest "PassagePapers$State" (77 : Nat) "PassagePapers$Register" "signers" "I" "PassagePapers") ∈ lw_tbl := lw_at lw_m1 159 rfl
theorem q254 : (Jvm.Cond.fieldLinkNest "PassagePapers$State" (59 : Nat) "PassagePapers$Register" "stores" "I" "PassagePapers") ∈ lw_tbl := lw_at lw_m1 165 rfl
theorem q258 : (Jvm.Cond.fieldLinkNest "PassagePapers$State" (136 : Nat) "PassagePapers$Register" "voyage" "I" "PassagePapers") ∈ lw_tbl := lw_at lw_m1 169 rfl
theorem q283 : (Jvm.Cond.fieldLink "PassagePapers$State" (9 : Nat) "PassagePapers$State" "where" "[I") ∈ lw_all := lw_g (lw_at lw_m1 194 rfl) rfl
theorem q286 : (Jvm.Cond.fieldLink "PassagePapers$State" (15 : Nat) "PassagePapers$State" "taker" "[I") ∈ lw_all := lw_g (lw_at lw_m1 197 rfl) rfl
theorem q288 : (Jvm.Cond.fieldLink "PassagePapers$State" (18 : Nat) "PassagePapers$State" "service" "[I") ∈ lw_all := lw_g (lw_at lw_m1 199 rfl) rfl
theorem q290 : (Jvm.Cond.fieldLink "PassagePapers$State" (21 : Nat) "PassagePapers$State" "added" "[I") ∈ lw_all := lw_g (lw_at lw_m1 201 rfl) rfl
theorem q292 : (Jvm.Cond.fieldLink "PassagePapers$State" (24 : Nat) "PassagePapers$State" "hungry" "[I") ∈ lw_all := lw_g (lw_at lw_m1 203 rfl) rfl
theorem q294 : (Jvm.Cond.fieldLink "PassagePapers$State" (27 : Nat) "PassagePapers$State" "placed" "[I") ∈ lw_all := lw_g (lw_at lw_m1 205 rfl) rfl
theorem q295 : (Jvm.Cond.fieldLink "PassagePapers$State" (30 : Nat) "PassagePapers$State" "coins" "[I") ∈ lw_all := lw_g (lw_at lw_m1 206 rfl) rfl
theorem q297 : (Jvm.Cond.fieldLink "PassagePapers$State" (33 : Nat) "PassagePapers$State" "isLost" "[Z") ∈ lw_all := lw_g (lw_at lw_m1 208 rfl) rfl
theorem q299 : (Jvm.Cond.fieldLink "PassagePapers$State" (40 : Nat) "PassagePapers$State" "sight" "LPassagePapers$Sight;") ∈ lw_all := lw_g (lw_at lw_m1 210 rfl) rfl
theorem q300 : (Jvm.Cond.fieldLink "PassagePapers$State" (51 : Nat) "PassagePapers$State" "laws" "LPassagePapers$Laws;") ∈ lw_all := lw_g (lw_at lw_m1 211 rfl) rfl
theorem q301 : (Jvm.Cond.fieldLink "PassagePapers$State" (47 : Nat) "PassagePapers$State" "register" "LPassagePapers$Register;") ∈ lw_all := lw_g (lw_at lw_m1 212 rfl) rfl
theorem q303 : (Jvm.Cond.fieldLink "PassagePapers$State" (55 : Nat) "PassagePapers$State" "week" "I") ∈ lw_all := lw_g (lw_at lw_m1 214 rfl) rfl
theorem q305 : (Jvm.Cond.fieldLink "PassagePapers$State" (62 : Nat) "PassagePapers$State" "stores" "I") ∈ lw_all := lw_g (lw_at lw_m1 216 rfl) rfl
theorem q307 : (Jvm.Cond.fieldLink "PassagePapers$State" (64 : Nat) "PassagePapers$State" "court" "I") ∈ lw_all := lw_g (lw_at lw_m1 218 rfl) rfl
theorem q309 : (Jvm.Cond.laysFinal "PassagePapers$State" "PassagePapers$State" "where" "[I") ∈ lw_all := lw_g (lw_at lw_m1 220 rfl) rfl
theorem q310 : (Jvm.Cond.soleField "PassagePapers$State" "where") ∈ lw_all := lw_g (lw_at lw_m1 221 rfl) rfl
theorem q311 : (Jvm.Cond.laysFinal "PassagePapers$State" "PassagePapers$State" "taker" "[I") ∈ lw_all := lw_g (lw_at lw_m1 222 rfl) rfl
theorem q312 : (Jvm.Cond.soleField "PassagePapers$State" "taker") ∈ lw_all := lw_g (lw_at lw_m1 223 rfl) rfl
theorem q313 : (Jvm.Cond.laysFinal "PassagePapers$State" "PassagePapers$State" "service" "[I") ∈ lw_all := lw_g (lw_at lw_m1 224 rfl) rfl
theorem q314 : (Jvm.Cond.soleField "PassagePapers$State" "service") ∈ lw_all := lw_g (lw_at lw_m1 225 rfl) rfl
theorem q315 : (Jvm.Cond.laysFinal "PassagePapers$State" "PassagePapers$State" "added" "[I") ∈ lw_all := lw_g (lw_at lw_m1 226 rfl) rfl
theorem q316 : (Jvm.Cond.soleField "PassagePapers$State" "added") ∈ lw_all := lw_g (lw_at lw_m1 227 rfl) rfl
theorem q317 : (Jvm.Cond.laysFinal "PassagePapers$State" "PassagePapers$State" "hungry" "[I") ∈ lw_all := lw_g (lw_at lw_m1 228 rfl) rfl
theorem q318 : (Jvm.Cond.soleField "PassagePapers$State" "hungry") ∈ lw_all := lw_g (lw_at lw_m1 229 rfl) rfl
theorem q319 : (Jvm.Cond.laysFinal "PassagePapers$State" "PassagePapers$State" "placed" "[I") ∈ lw_all := lw_g (lw_at lw_m1 230 rfl) rfl
theorem q320 : (Jvm.Cond.soleField "PassagePapers$State" "placed") ∈ lw_all := lw_g (lw_at lw_m1 231 rfl) rfl
theorem q321 : (Jvm.Cond.laysFinal "PassagePapers$State" "PassagePapers$State" "coins" "[I") ∈ lw_all := lw_g (lw_at lw_m1 232 rfl) rfl
theorem q322 : (Jvm.Cond.soleField "PassagePapers$State" "coins") ∈ lw_all := lw_g (lw_at lw_m1 233 rfl) rfl
theorem q323 : (Jvm.Cond.laysFinal "PassagePapers$State" "PassagePapers$State" "isLost" "[Z") ∈ lw_all := lw_g (lw_at lw_m1 234 rfl) rfl
theorem q324 : (Jvm.Cond.soleField "PassagePapers$State" "isLost") ∈ lw_all := lw_g (lw_at lw_m1 235 rfl) rfl
theorem q325 : (Jvm.Cond.laysFinal "PassagePapers$State" "PassagePapers$State" "sight" "LPassagePapers$Sight;") ∈ lw_all := lw_g (lw_at lw_m1 236 rfl) rfl
theorem q326 : (Jvm.Cond.soleField "PassagePapers$State" "sight") ∈ lw_all := lw_g (lw_at lw_m1 237 rfl) rfl
theorem q327 : (Jvm.Cond.laysFinal "PassagePapers$State" "PassagePapers$State" "laws" "LPassagePapers$Laws;") ∈ lw_all := lw_g (lw_at lw_m1 238 rfl) rfl
theorem q328 : (Jvm.Cond.soleField "PassagePapers$State" "laws") ∈ lw_all := lw_g (lw_at lw_m1 239 rfl) rfl
theorem q329 : (Jvm.Cond.lays "PassagePapers$State" "PassagePapers$State" "register" "LPassagePapers$Register;") ∈ lw_all := lw_g (lw_at lw_m2 0 rfl) rfl
theorem q330 : (Jvm.Cond.soleField "PassagePapers$State" "register") ∈ lw_all := lw_g (lw_at lw_m2 1 rfl) rfl
theorem q331 : (Jvm.Cond.lays "PassagePapers$State" "PassagePapers$State" "week" "I") ∈ lw_all := lw_g (lw_at lw_m2 2 rfl) rfl
theorem q332 : (Jvm.Cond.soleField "PassagePapers$State" "week") ∈ lw_all := lw_g (lw_at lw_m2 3 rfl) rfl
theorem q333 : (Jvm.Cond.lays "PassagePapers$State" "PassagePapers$State" "stores" "I") ∈ lw_all := lw_g (lw_at lw_m2 4 rfl) rfl
theorem q334 : (Jvm.Cond.soleField "PassagePapers$State" "stores") ∈ lw_all := lw_g (lw_at lw_m2 5 rfl) rfl
theorem q335 : (Jvm.Cond.lays "PassagePapers$State" "PassagePapers$State" "court" "I") ∈ lw_all := lw_g (lw_at lw_m2 6 rfl) rfl
theorem q336 : (Jvm.Cond.soleField "PassagePapers$State" "court") ∈ lw_all := lw_g (lw_at lw_m2 7 rfl) rfl
theorem q337 : (Jvm.Cond.superclass "PassagePapers$State" "java/lang/Object") ∈ lw_all := lw_g (lw_at lw_m2 8 rfl) rfl
theorem q385 : (Jvm.Cond.instanceMethod ({ cls := "PassagePapers$State", name := "begins", desc := "(LPassagePapers$Register;)V" } : Jvm.MethodName)) ∈ lw_all := lw_g (lw_at lw_m2 56 rfl) rfl
theorem q386 : (Jvm.Cond.selects "PassagePapers$State" ({ cls := "PassagePapers$State", name := "begins", desc := "(LPassagePapers$Register;)V" } : Jvm.MethodName) ({ cls := "PassagePapers$State", name := "begins", desc := "(LPassagePapers$Register;)V" } : Jvm.MethodName)) ∈ lw_all := lw_g (lw_at lw_m2 57 rfl) rfl
theorem q387 : (Jvm.Cond.code ({ cls := "PassagePapers$State", name := "begins", desc := "(LPassagePapers$Register;)V" } : Jvm.MethodName) prog_18_method_2_code (3 : Nat) (Option.none : Option Jvm.ClassFile.FieldType)) ∈ lw_all := lw_g (lw_at lw_m2 58 rfl) rfl
theorem q463 : (Jvm.Cond.instanceMethod ({ cls := "PassagePapers$State", name := "isBound", desc := "(I)Z" } : Jvm.MethodName)) ∈ lw_all := lw_g (lw_at lw_m2 134 rfl) rfl
theorem q464 : (Jvm.Cond.selects "PassagePapers$State" ({ cls := "PassagePapers$State", name := "isBound", desc := "(I)Z" } : Jvm.MethodName) ({ cls := "PassagePapers$State", name := "isBound", desc := "(I)Z" } : Jvm.MethodName)) ∈ lw_all := lw_g (lw_at lw_m2 135 rfl) rfl
theorem q465 : (Jvm.Cond.code ({ cls := "PassagePapers$State", name := "isBound", desc := "(I)Z" } : Jvm.MethodName) prog_18_method_6_code (2 : Nat) (Option.some Jvm.ClassFile.FieldType.boolean)) ∈ lw_all := lw_g (lw_at lw_m2 136 rfl) rfl
theorem q467 : (Jvm.Cond.instanceMethod ({ cls := "PassagePapers$State", name := "owesBy", desc := "(II)I" } : Jvm.MethodName)) ∈ lw_all := lw_g (lw_at lw_m2 138 rfl) rfl
theorem q468 : (Jvm.Cond.selects "PassagePapers$State" ({ cls := "PassagePapers$State", name := "owesBy", desc := "(II)I" } : Jvm.MethodName) ({ cls := "PassagePapers$State", name := "owesBy", desc := "(II)I" } : Jvm.MethodName)) ∈ lw_all := lw_g (lw_at lw_m2 139 rfl) rfl
theorem q469 : (Jvm.Cond.code ({ cls := "PassagePapers$State", name := "owesBy", desc := "(II)I" } : Jvm.MethodName) prog_18_method_11_code (3 : Nat) (Option.some Jvm.ClassFile.FieldType.int)) ∈ lw_all := lw_g (lw_at lw_m2 140 rfl) rfl
theorem q470 : (Jvm.Cond.methodLink "PassagePapers$State" (122 : Nat) ({ cls := "PassagePapers$State", name := "asks", desc := "(II)I" } : Jvm.MethodName)) ∈ lw_all := lw_g (lw_at lw_m2 141 rfl) rfl
theorem q471 : (Jvm.Cond.instanceMethod ({ cls := "PassagePapers$State", name := "asks", desc := "(II)I" } : Jvm.MethodName)) ∈ lw_all := lw_g (lw_at lw_m2 142 rfl) rfl
theorem q472 : (Jvm.Cond.selects "PassagePapers$State" ({ cls := "PassagePapers$State", name := "asks", desc := "(II)I" } : Jvm.MethodName) ({ cls := "PassagePapers$State", name := "asks", desc := "(II)I" } : Jvm.MethodName)) ∈ lw_all := lw_g (lw_at lw_m2 143 rfl) rfl
theorem q473 : (Jvm.Cond.code ({ cls := "PassagePapers$State", name := "asks", desc := "(II)I" } : Jvm.MethodName) prog_18_method_10_code (3 : Nat) (Option.some Jvm.ClassFile.FieldType.int)) ∈ lw_all := lw_g (lw_at lw_m2 144 rfl) rfl
theorem q474 : (Jvm.Cond.methodLink "PassagePapers$State" (118 : Nat) ({ cls := "PassagePapers$State", name := "asksBy", desc := "(IIII)I" } : Jvm.MethodName)) ∈ lw_all := lw_g (lw_at lw_m2 145 rfl) rfl
theorem q475 : (Jvm.Cond.instanceMethod ({ cls := "PassagePapers$State", name := "asksBy", desc := "(IIII)I" } : Jvm.MethodName)) ∈ lw_all := lw_g (lw_at lw_m2 146 rfl) rfl
theorem q476 : (Jvm.Cond.selects "PassagePapers$State" ({ cls := "PassagePapers$State", name := "asksBy", desc := "(IIII)I" } : Jvm.MethodName) ({ cls := "PassagePapers$State", name := "asksBy", desc := "(IIII)I" } : Jvm.MethodName)) ∈ lw_all := lw_g (lw_at lw_m2 147 rfl) rfl
theorem q477 : (Jvm.Cond.code ({ cls := "PassagePapers$State", name := "asksBy", desc := "(IIII)I" } : Jvm.MethodName) prog_18_method_9_code (5 : Nat) (Option.some Jvm.ClassFile.FieldType.int)) ∈ lw_all := lw_g (lw_at lw_m2 148 rfl) rfl
theorem q478 : (Jvm.Cond.methodLink "PassagePapers$State" (92 : Nat) ({ cls := "PassagePapers$Register", name := "kinOf", desc := "(I)I" } : Jvm.MethodName)) ∈ lw_all := lw_g (lw_at lw_m2 149 rfl) rfl
theorem q482 : (Jvm.Cond.methodLink "PassagePapers$State" (96 : Nat) ({ cls := "java/lang/Integer", name := "bitCount", desc := "(I)I" } : Jvm.MethodName)) ∈ lw_all := lw_g (lw_at lw_m2 153 rfl) rfl
theorem q488 : (Jvm.Cond.methodLink "PassagePapers$State" (110 : Nat) ({ cls := "PassagePapers$Laws", name := "asks", desc := "(LPassagePapers$Sight;I)I" } : Jvm.MethodName)) ∈ lw_all := lw_g (lw_at lw_m2 159 rfl) rfl
theorem q528 : (Jvm.Cond.methodLink "PassagePapers$State" (125 : Nat) ({ cls := "java/lang/Math", name := "max", desc := "(II)I" } : Jvm.MethodName)) ∈ lw_all := lw_g (lw_at lw_m2 199 rfl) rfl
theorem q539 : (Jvm.Cond.instanceMethod ({ cls := "PassagePapers$State", name := "many", desc := "(I)I" } : Jvm.MethodName)) ∈ lw_all := lw_g (lw_at lw_m2 210 rfl) rfl
theorem q540 : (Jvm.Cond.selects "PassagePapers$State" ({ cls := "PassagePapers$State", name := "many", desc := "(I)I" } : Jvm.MethodName) ({ cls := "PassagePapers$State", name := "many", desc := "(I)I" } : Jvm.MethodName)) ∈ lw_all := lw_g (lw_at lw_m2 211 rfl) rfl
theorem q541 : (Jvm.Cond.code ({ cls := "PassagePapers$State", name := "many", desc := "(I)I" } : Jvm.MethodName) prog_18_method_7_code (4 : Nat) (Option.some Jvm.ClassFile.FieldType.int)) ∈ lw_all := lw_g (lw_at lw_m2 212 rfl) rfl
theorem q551 : (Jvm.Cond.instanceMethod ({ cls := "PassagePapers$State", name := "as", desc := "(LPassagePapers$State;)LPassagePapers$State;" } : Jvm.MethodName)) ∈ lw_all := lw_g (lw_at lw_m2 222 rfl) rfl
theorem q552 : (Jvm.Cond.selects "PassagePapers$State" ({ cls := "PassagePapers$State", name := "as", desc := "(LPassagePapers$State;)LPassagePapers$State;" } : Jvm.MethodName) ({ cls := "PassagePapers$State", name := "as", desc := "(LPassagePapers$State;)LPassagePapers$State;" } : Jvm.MethodName)) ∈ lw_all := lw_g (lw_at lw_m2 223 rfl) rfl
theorem q553 : (Jvm.Cond.code ({ cls := "PassagePapers$State", name := "as", desc := "(LPassagePapers$State;)LPassagePapers$State;" } : Jvm.MethodName) prog_18_method_3_code (2 : Nat) (Option.some (Jvm.ClassFile.FieldType.object "PassagePapers$State"))) ∈ lw_all := lw_g (lw_at lw_m2 224 rfl) rfl
theorem q554 : (Jvm.Cond.methodLink "PassagePapers$State" (67 : Nat) ({ cls := "PassagePapers$State", name := "copies", desc := "([I[I)V" } : Jvm.MethodName)) ∈ lw_all := lw_g (lw_at lw_m2 225 rfl) rfl
theorem q555 : (Jvm.Cond.static ({ cls := "PassagePapers$State", name := "copies", desc := "([I[I)V" } : Jvm.MethodName)) ∈ lw_all := lw_g (lw_at lw_m2 226 rfl) rfl
theorem q556 : (Jvm.Cond.code ({ cls := "PassagePapers$State", name := "copies", desc := "([I[I)V" } : Jvm.MethodName) prog_18_method_4_code (2 : Nat) (Option.none : Option Jvm.ClassFile.FieldType)) ∈ lw_all := lw_g (lw_at lw_m2 227 rfl) rfl
theorem q557 : (Jvm.Cond.methodLink "PassagePapers$State" (71 : Nat) ({ cls := "java/lang/System", name := "arraycopy", desc := "(Ljava/lang/Object;ILjava/lang/Object;II)V" } : Jvm.MethodName)) ∈ lw_all := lw_g (lw_at lw_m2 228 rfl) rfl
theorem q1130 : (Jvm.Cond.instanceMethod ({ cls := "PassagePapers$State", name := "adds", desc := "(II)Z" } : Jvm.MethodName)) ∈ lw_all := lw_g (lw_at lw_m5 81 rfl) rfl
theorem q1131 : (Jvm.Cond.selects "PassagePapers$State" ({ cls := "PassagePapers$State", name := "adds", desc := "(II)Z" } : Jvm.MethodName) ({ cls := "PassagePapers$State", name := "adds", desc := "(II)Z" } : Jvm.MethodName)) ∈ lw_all := lw_g (lw_at lw_m5 82 rfl) rfl
theorem q1132 : (Jvm.Cond.code ({ cls := "PassagePapers$State", name := "adds", desc := "(II)Z" } : Jvm.MethodName) prog_18_method_16_code (3 : Nat) (Option.some Jvm.ClassFile.FieldType.boolean)) ∈ lw_all := lw_g (lw_at lw_m5 83 rfl) rfl
theorem q1133 : (Jvm.Cond.methodLink "PassagePapers$State" (148 : Nat) ({ cls := "PassagePapers$State", name := "isBound", desc := "(I)Z" } : Jvm.MethodName)) ∈ lw_all := lw_g (lw_at lw_m5 84 rfl) rfl
theorem q1134 : (Jvm.Cond.methodLink "PassagePapers$State" (152 : Nat) ({ cls := "java/lang/Math", name := "min", desc := "(II)I" } : Jvm.MethodName)) ∈ lw_all := lw_g (lw_at lw_m5 85 rfl) rfl
theorem q1143 : (Jvm.Cond.instanceMethod ({ cls := "PassagePapers$State", name := "strikes", desc := "(I)Z" } : Jvm.MethodName)) ∈ lw_all := lw_g (lw_at lw_m5 94 rfl) rfl
theorem q1144 : (Jvm.Cond.selects "PassagePapers$State" ({ cls := "PassagePapers$State", name := "strikes", desc := "(I)Z" } : Jvm.MethodName) ({ cls := "PassagePapers$State", name := "strikes", desc := "(I)Z" } : Jvm.MethodName)) ∈ lw_all := lw_g (lw_at lw_m5 95 rfl) rfl
theorem q1145 : (Jvm.Cond.code ({ cls := "PassagePapers$State", name := "strikes", desc := "(I)Z" } : Jvm.MethodName) prog_18_method_17_code (2 : Nat) (Option.some Jvm.ClassFile.FieldType.boolean)) ∈ lw_all := lw_g (lw_at lw_m5 96 rfl) rfl
theorem q1147 : (Jvm.Cond.instanceMethod ({ cls := "PassagePapers$State", name := "pays", desc := "(I)Z" } : Jvm.MethodName)) ∈ lw_all := lw_g (lw_at lw_m5 98 rfl) rfl
theorem q1148 : (Jvm.Cond.selects "PassagePapers$State" ({ cls := "PassagePapers$State", name := "pays", desc := "(I)Z" } : Jvm.MethodName) ({ cls := "PassagePapers$State", name := "pays", desc := "(I)Z" } : Jvm.MethodName)) ∈ lw_all := lw_g (lw_at lw_m5 99 rfl) rfl
theorem q1149 : (Jvm.Cond.code ({ cls := "PassagePapers$State", name := "pays", desc := "(I)Z" } : Jvm.MethodName) prog_18_method_20_code (2 : Nat) (Option.some Jvm.ClassFile.FieldType.boolean)) ∈ lw_all := lw_g (lw_at lw_m5 100 rfl) rfl
theorem q1150 : (Jvm.Cond.methodLink "PassagePapers$State" (158 : Nat) ({ cls := "PassagePapers$State", name := "mayPay", desc := "(I)Z" } : Jvm.MethodName)) ∈ lw_all := lw_g (lw_at lw_m5 101 rfl) rfl
theorem q1151 : (Jvm.Cond.instanceMethod ({ cls := "PassagePapers$State", name := "mayPay", desc := "(I)Z" } : Jvm.MethodName)) ∈ lw_all := lw_g (lw_at lw_m5 102 rfl) rfl
theorem q1152 : (Jvm.Cond.selects "PassagePapers$State" ({ cls := "PassagePapers$State", name := "mayPay", desc := "(I)Z" } : Jvm.MethodName) ({ cls := "PassagePapers$State", name := "mayPay", desc := "(I)Z" } : Jvm.MethodName)) ∈ lw_all := lw_g (lw_at lw_m5 103 rfl) rfl
theorem q1153 : (Jvm.Cond.code ({ cls := "PassagePapers$State", name := "mayPay", desc := "(I)Z" } : Jvm.MethodName) prog_18_method_19_code (2 : Nat) (Option.some Jvm.ClassFile.FieldType.boolean)) ∈ lw_all := lw_g (lw_at lw_m5 104 rfl) rfl
theorem q1154 : (Jvm.Cond.methodLink "PassagePapers$State" (155 : Nat) ({ cls := "PassagePapers$State", name := "fare", desc := "(I)I" } : Jvm.MethodName)) ∈ lw_all := lw_g (lw_at lw_m5 105 rfl) rfl
theorem q1155 : (Jvm.Cond.instanceMethod ({ cls := "PassagePapers$State", name := "fare", desc := "(I)I" } : Jvm.MethodName)) ∈ lw_all := lw_g (lw_at lw_m5 106 rfl) rfl
theorem q1156 : (Jvm.Cond.selects "PassagePapers$State" ({ cls := "PassagePapers$State", name := "fare", desc := "(I)I" } : Jvm.MethodName) ({ cls := "PassagePapers$State", name := "fare", desc := "(I)I" } : Jvm.MethodName)) ∈ lw_all := lw_g (lw_at lw_m5 107 rfl) rfl
theorem q1157 : (Jvm.Cond.code ({ cls := "PassagePapers$State", name := "fare", desc := "(I)I" } : Jvm.MethodName) prog_18_method_13_code (2 : Nat) (Option.some Jvm.ClassFile.FieldType.int)) ∈ lw_all := lw_g (lw_at lw_m5 108 rfl) rfl
theorem q1158 : (Jvm.Cond.methodLink "PassagePapers$State" (133 : Nat) ({ cls := "PassagePapers$State", name := "owes", desc := "(I)I" } : Jvm.MethodName)) ∈ lw_all := lw_g (lw_at lw_m5 109 rfl) rfl
theorem q1159 : (Jvm.Cond.instanceMethod ({ cls := "PassagePapers$State", name := "owes", desc := "(I)I" } : Jvm.MethodName)) ∈ lw_all := lw_g (lw_at lw_m5 110 rfl) rfl
theorem q1160 : (Jvm.Cond.selects "PassagePapers$State" ({ cls := "PassagePapers$State", name := "owes", desc := "(I)I" } : Jvm.MethodName) ({ cls := "PassagePapers$State", name := "owes", desc := "(I)I" } : Jvm.MethodName)) ∈ lw_all := lw_g (lw_at lw_m5 111 rfl) rfl
theorem q1161 : (Jvm.Cond.code ({ cls := "PassagePapers$State", name := "owes", desc := "(I)I" } : Jvm.MethodName) prog_18_method_12_code (2 : Nat) (Option.some Jvm.ClassFile.FieldType.int)) ∈ lw_all := lw_g (lw_at lw_m5 112 rfl) rfl
theorem q1162 : (Jvm.Cond.methodLink "PassagePapers$State" (130 : Nat) ({ cls := "PassagePapers$State", name := "owesBy", desc := "(II)I" } : Jvm.MethodName)) ∈ lw_all := lw_g (lw_at lw_m5 113 rfl) rfl
theorem q1163 : (Jvm.Cond.methodLink "PassagePapers$State" (161 : Nat) ({ cls := "PassagePapers$State", name := "frees", desc := "(I)V" } : Jvm.MethodName)) ∈ lw_all := lw_g (lw_at lw_m5 114 rfl) rfl
theorem q1164 : (Jvm.Cond.privateMethod ({ cls := "PassagePapers$State", name := "frees", desc := "(I)V" } : Jvm.MethodName)) ∈ lw_tbl := lw_at lw_m5 115 rfl
theorem q1165 : (Jvm.Cond.instanceMethod ({ cls := "PassagePapers$State", name := "frees", desc := "(I)V" } : Jvm.MethodName)) ∈ lw_all := lw_g (lw_at lw_m5 116 rfl) rfl
theorem q1166 : (Jvm.Cond.code ({ cls := "PassagePapers$State", name := "frees", desc := "(I)V" } : Jvm.MethodName) prog_18_method_21_code (2 : Nat) (Option.none : Option Jvm.ClassFile.FieldType)) ∈ lw_all := lw_g (lw_at lw_m5 117 rfl) rfl
theorem q1168 : (Jvm.Cond.instanceMethod ({ cls := "PassagePapers$State", name := "loses", desc := "(IZ)Z" } : Jvm.MethodName)) ∈ lw_all := lw_g (lw_at lw_m5 119 rfl) rfl
theorem q1169 : (Jvm.Cond.selects "PassagePapers$State" ({ cls := "PassagePapers$State", name := "loses", desc := "(IZ)Z" } : Jvm.MethodName) ({ cls := "PassagePapers$State", name := "loses", desc := "(IZ)Z" } : Jvm.MethodName)) ∈ lw_all := lw_g (lw_at lw_m5 120 rfl) rfl
theorem q1170 : (Jvm.Cond.code ({ cls := "PassagePapers$State", name := "loses", desc := "(IZ)Z" } : Jvm.MethodName) prog_18_method_18_code (3 : Nat) (Option.some Jvm.ClassFile.FieldType.boolean)) ∈ lw_all := lw_g (lw_at lw_m5 121 rfl) rfl
theorem q1176 : (Jvm.Cond.instanceMethod ({ cls := "PassagePapers$State", name := "lands", desc := "()Z" } : Jvm.MethodName)) ∈ lw_all := lw_g (lw_at lw_m5 127 rfl) rfl
theorem q1177 : (Jvm.Cond.selects "PassagePapers$State" ({ cls := "PassagePapers$State", name := "lands", desc := "()Z" } : Jvm.MethodName) ({ cls := "PassagePapers$State", name := "lands", desc := "()Z" } : Jvm.MethodName)) ∈ lw_all := lw_g (lw_at lw_m5 128 rfl) rfl
theorem q1178 : (Jvm.Cond.code ({ cls := "PassagePapers$State", name := "lands", desc := "()Z" } : Jvm.MethodName) prog_18_method_14_code (2 : Nat) (Option.some Jvm.ClassFile.FieldType.boolean)) ∈ lw_all := lw_g (lw_at lw_m5 129 rfl) rfl
theorem q1179 : (Jvm.Cond.methodLink "PassagePapers$State" (139 : Nat) ({ cls := "PassagePapers$State", name := "many", desc := "(I)I" } : Jvm.MethodName)) ∈ lw_all := lw_g (lw_at lw_m5 130 rfl) rfl
theorem q1185 : (Jvm.Cond.instanceMethod ({ cls := "PassagePapers$State", name := "places", desc := "(II)Z" } : Jvm.MethodName)) ∈ lw_all := lw_g (lw_at lw_m5 136 rfl) rfl
theorem q1186 : (Jvm.Cond.selects "PassagePapers$State" ({ cls := "PassagePapers$State", name := "places", desc := "(II)Z" } : Jvm.MethodName) ({ cls := "PassagePapers$State", name := "places", desc := "(II)Z" } : Jvm.MethodName)) ∈ lw_all := lw_g (lw_at lw_m5 137 rfl) rfl
theorem q1187 : (Jvm.Cond.code ({ cls := "PassagePapers$State", name := "places", desc := "(II)Z" } : Jvm.MethodName) prog_18_method_15_code (3 : Nat) (Option.some Jvm.ClassFile.FieldType.boolean)) ∈ lw_all := lw_g (lw_at lw_m5 138 rfl) rfl
theorem q1188 : (Jvm.Cond.methodLink "PassagePapers$State" (142 : Nat) ({ cls := "PassagePapers$State", name := "boundTo", desc := "(I)I" } : Jvm.MethodName)) ∈ lw_all := lw_g (lw_at lw_m5 139 rfl) rfl
theorem q1189 : (Jvm.Cond.instanceMethod ({ cls := "PassagePapers$State", name := "boundTo", desc := "(I)I" } : Jvm.MethodName)) ∈ lw_all := lw_g (lw_at lw_m5 140 rfl) rfl
theorem q1190 : (Jvm.Cond.selects "PassagePapers$State" ({ cls := "PassagePapers$State", name := "boundTo", desc := "(I)I" } : Jvm.MethodName) ({ cls := "PassagePapers$State", name := "boundTo", desc := "(I)I" } : Jvm.MethodName)) ∈ lw_all := lw_g (lw_at lw_m5 141 rfl) rfl
theorem q1191 : (Jvm.Cond.code ({ cls := "PassagePapers$State", name := "boundTo", desc := "(I)I" } : Jvm.MethodName) prog_18_method_8_code (4 : Nat) (Option.some Jvm.ClassFile.FieldType.int)) ∈ lw_all := lw_g (lw_at lw_m5 142 rfl) rfl
theorem q1198 : (Jvm.Cond.instanceMethod ({ cls := "PassagePapers$State", name := "goes", desc := "()Z" } : Jvm.MethodName)) ∈ lw_all := lw_g (lw_at lw_m5 149 rfl) rfl
theorem q1199 : (Jvm.Cond.selects "PassagePapers$State" ({ cls := "PassagePapers$State", name := "goes", desc := "()Z" } : Jvm.MethodName) ({ cls := "PassagePapers$State", name := "goes", desc := "()Z" } : Jvm.MethodName)) ∈ lw_all := lw_g (lw_at lw_m5 150 rfl) rfl
theorem q1200 : (Jvm.Cond.code ({ cls := "PassagePapers$State", name := "goes", desc := "()Z" } : Jvm.MethodName) prog_18_method_22_code (1 : Nat) (Option.some Jvm.ClassFile.FieldType.boolean)) ∈ lw_all := lw_g (lw_at lw_m5 151 rfl) rfl
theorem q1201 : (Jvm.Cond.methodLink "PassagePapers$State" (165 : Nat) ({ cls := "PassagePapers$State", name := "passes", desc := "()V" } : Jvm.MethodName)) ∈ lw_all := lw_g (lw_at lw_m5 152 rfl) rfl
theorem q1202 : (Jvm.Cond.instanceMethod ({ cls := "PassagePapers$State", name := "passes", desc := "()V" } : Jvm.MethodName)) ∈ lw_all := lw_g (lw_at lw_m5 153 rfl) rfl
theorem q1203 : (Jvm.Cond.selects "PassagePapers$State" ({ cls := "PassagePapers$State", name := "passes", desc := "()V" } : Jvm.MethodName) ({ cls := "PassagePapers$State", name := "passes", desc := "()V" } : Jvm.MethodName)) ∈ lw_all := lw_g (lw_at lw_m5 154 rfl) rfl
theorem q1204 : (Jvm.Cond.code ({ cls := "PassagePapers$State", name := "passes", desc := "()V" } : Jvm.MethodName) prog_18_method_23_code (2 : Nat) (Option.none : Option Jvm.ClassFile.FieldType)) ∈ lw_all := lw_g (lw_at lw_m5 155 rfl) rfl
theorem q1320 : (Jvm.Cond.instanceMethod ({ cls := "PassagePapers$State", name := "goesOn", desc := "(I)LPassagePapers$State;" } : Jvm.MethodName)) ∈ lw_all := lw_g (lw_at lw_m6 31 rfl) rfl
theorem q1321 : (Jvm.Cond.selects "PassagePapers$State" ({ cls := "PassagePapers$State", name := "goesOn", desc := "(I)LPassagePapers$State;" } : Jvm.MethodName) ({ cls := "PassagePapers$State", name := "goesOn", desc := "(I)LPassagePapers$State;" } : Jvm.MethodName)) ∈ lw_all := lw_g (lw_at lw_m6 32 rfl) rfl
theorem q1322 : (Jvm.Cond.code ({ cls := "PassagePapers$State", name := "goesOn", desc := "(I)LPassagePapers$State;" } : Jvm.MethodName) prog_18_method_24_code (3 : Nat) (Option.some (Jvm.ClassFile.FieldType.object "PassagePapers$State"))) ∈ lw_all := lw_g (lw_at lw_m6 33 rfl) rfl
theorem q1324 : (Jvm.Cond.static ({ cls := "PassagePapers$State", name := "sum", desc := "([I)I" } : Jvm.MethodName)) ∈ lw_all := lw_g (lw_at lw_m6 35 rfl) rfl
theorem q1325 : (Jvm.Cond.code ({ cls := "PassagePapers$State", name := "sum", desc := "([I)I" } : Jvm.MethodName) prog_18_method_5_code (3 : Nat) (Option.some Jvm.ClassFile.FieldType.int)) ∈ lw_all := lw_g (lw_at lw_m6 36 rfl) rfl
theorem q1334 : (Jvm.Cond.instanceMethod ({ cls := "PassagePapers$State", name := "gives", desc := "(II)I" } : Jvm.MethodName)) ∈ lw_all := lw_g (lw_at lw_m6 45 rfl) rfl
theorem q1335 : (Jvm.Cond.selects "PassagePapers$State" ({ cls := "PassagePapers$State", name := "gives", desc := "(II)I" } : Jvm.MethodName) ({ cls := "PassagePapers$State", name := "gives", desc := "(II)I" } : Jvm.MethodName)) ∈ lw_all := lw_g (lw_at lw_m6 46 rfl) rfl
theorem q1336 : (Jvm.Cond.code ({ cls := "PassagePapers$State", name := "gives", desc := "(II)I" } : Jvm.MethodName) prog_18_method_25_code (4 : Nat) (Option.some Jvm.ClassFile.FieldType.int)) ∈ lw_all := lw_g (lw_at lw_m6 47 rfl) rfl
theorem q2197 : (Jvm.Cond.castable "PassagePapers$State" "java/lang/Object") ∈ lw_tbl := lw_at lw_m9 188 rfl
theorem in_X4 : ∀ w ∈ wsX40, w ∈ lw_all := lw_in wsX40 [309, 311, 313, 315, 317, 319, 321, 323, 325, 327, 329, 331, 333, 335] (by decide +kernel) (by decide +kernel)
/-! PassagePapers$Sight -/
set_option maxRecDepth 100000
def RX5 : String := "PassagePapers$Sight"
def TX5 : u_T := fun k => match k with
  | 0 => ("PassagePapers$Sight", "years", "I", false)
  | 1 => ("PassagePapers$Sight", "added", "I", false)
  | 2 => ("PassagePapers$Sight", "trade", "I", false)
  | 3 => ("PassagePapers$Sight", "hungry", "I", false)
  | 4 => ("PassagePapers$Sight", "kin", "I", false)
  | 5 => ("PassagePapers$Sight", "lost", "I", false)
  | 6 => ("PassagePapers$Sight", "placed", "I", false)
  | _ => ("PassagePapers$Sight", "week", "I", false)
def tyX5 : Nat → FieldType := fun k => match k with
  | 0 => .int
  | 1 => .int
  | 2 => .int
  | 3 => .int
  | 4 => .int
  | 5 => .int
  | 6 => .int
  | _ => .int
abbrev wsX50 : List Cond := u_ws RX5 TX5 8
theorem nmX5 : ∀ a, a < 8 → ∀ b, b < 8 → a ≠ b → (TX5 a).2.1 ≠ (TX5 b).2.1 := by decide +kernel
theorem tyX5_ok : ∀ k, k < 8 → parseFieldDescriptor (TX5 k).2.2.1 = some (tyX5 k) := by decide +kernel
abbrev cX5_init : ByteArray := prog_17_method_1_code
def yX5_init : MethodName := ⟨RX5, "<init>", "()V"⟩
theorem dX5_init_0 : decode cX5_init 0 = .ok (.aload_n 0, 1) := by decide +kernel
theorem dX5_init_1 : decode cX5_init 1 = .ok (.invokespecial 1, 3) := by decide +kernel
theorem dX5_init_4 : decode cX5_init 4 = .ok (.return_, 1) := by decide +kernel
abbrev cX5_known : ByteArray := prog_17_method_2_code
def yX5_known : MethodName := ⟨RX5, "known", "(I)I"⟩
def dkwX5_known_3 : List UInt8 := [172, 42, 180, 0, 25, 172, 42, 180, 0, 28, 172, 42, 180, 0, 31, 172]
abbrev dktX5_known_3 : List UInt8 := dkwX5_known_3 ++ []
def dkwX5_known_2 : List UInt8 := [42, 180, 0, 7, 172, 42, 180, 0, 13, 172, 42, 180, 0, 16, 172, 42, 180, 0, 19, 172, 42, 180, 0, 22]
abbrev dktX5_known_2 : List UInt8 := dkwX5_known_2 ++ dktX5_known_3
def dkwX5_known_1 : List UInt8 := [170, 0, 0, 0, 0, 0, 78, 0, 0, 0, 0, 0, 0, 0, 6, 0, 0, 0, 43, 0, 0, 0, 48, 0, 0, 0, 53, 0, 0, 0, 58, 0, 0, 0, 63, 0, 0, 0, 68, 0, 0, 0, 73]
abbrev dktX5_known_1 : List UInt8 := dkwX5_known_1 ++ dktX5_known_2
def dkwX5_known_0 : List UInt8 := [27]
abbrev dktX5_known_0 : List UInt8 := dkwX5_known_0 ++ dktX5_known_1
theorem dksX5_known_0 : cX5_known.data.toList.drop 0 = dktX5_known_0 := by decide +kernel
theorem dksX5_known_1 : cX5_known.data.toList.drop 1 = dktX5_known_1 := dk_seg dksX5_known_0 1 rfl rfl
theorem dksX5_known_2 : cX5_known.data.toList.drop 44 = dktX5_known_2 := dk_seg dksX5_known_1 43 rfl rfl
theorem dksX5_known_3 : cX5_known.data.toList.drop 68 = dktX5_known_3 := dk_seg dksX5_known_2 24 rfl rfl
theorem dX5_known_0 : decode cX5_known 0 = .ok (.iload_n 1, 1) := dk_27 (dk_at dksX5_known_0 0 rfl rfl)
theorem dX5_known_1 : decode cX5_known 1 = .ok (.tableswitch 78 0 6 #[43, 48, 53, 58, 63, 68, 73], 43) := by decide +kernel
theorem dX5_known_44 : decode cX5_known 44 = .ok (.aload_n 0, 1) := dk_42 (dk_at dksX5_known_2 0 rfl rfl)
theorem dX5_known_45 : decode cX5_known 45 = .ok (.getfield 7, 3) := dk_180 0 7 (dk_at dksX5_known_2 1 rfl rfl)
theorem dX5_known_48 : decode cX5_known 48 = .ok (.ireturn, 1) := dk_172 (dk_at dksX5_known_2 4 rfl rfl)
theorem dX5_known_49 : decode cX5_known 49 = .ok (.aload_n 0, 1) := dk_42 (dk_at dksX5_known_2 5 rfl rfl)
theorem dX5_known_50 : decode cX5_known 50 = .ok (.getfield 13, 3) := dk_180 0 13 (dk_at dksX5_known_2 6 rfl rfl)
theorem dX5_known_53 : decode cX5_known 53 = .ok (.ireturn, 1) := dk_172 (dk_at dksX5_known_2 9 rfl rfl)
theorem dX5_known_54 : decode cX5_known 54 = .ok (.aload_n 0, 1) := dk_42 (dk_at dksX5_known_2 10 rfl rfl)
theorem dX5_known_55 : decode cX5_known 55 = .ok (.getfield 16, 3) := dk_180 0 16 (dk_at dksX5_known_2 11 rfl rfl)
theorem dX5_known_58 : decode cX5_known 58 = .ok (.ireturn, 1) := dk_172 (dk_at dksX5_known_2 14 rfl rfl)
theorem dX5_known_59 : decode cX5_known 59 = .ok (.aload_n 0, 1) := dk_42 (dk_at dksX5_known_2 15 rfl rfl)
theorem dX5_known_60 : decode cX5_known 60 = .ok (.getfield 19, 3) := dk_180 0 19 (dk_at dksX5_known_2 16 rfl rfl)
theorem dX5_known_63 : decode cX5_known 63 = .ok (.ireturn, 1) := dk_172 (dk_at dksX5_known_2 19 rfl rfl)
theorem dX5_known_64 : decode cX5_known 64 = .ok (.aload_n 0, 1) := dk_42 (dk_at dksX5_known_2 20 rfl rfl)
theorem dX5_known_65 : decode cX5_known 65 = .ok (.getfield 22, 3) := dk_180 0 22 (dk_at dksX5_known_2 21 rfl rfl)
theorem dX5_known_68 : decode cX5_known 68 = .ok (.ireturn, 1) := dk_172 (dk_at dksX5_known_3 0 rfl rfl)
theorem dX5_known_69 : decode cX5_known 69 = .ok (.aload_n 0, 1) := dk_42 (dk_at dksX5_known_3 1 rfl rfl)
theorem dX5_known_70 : decode cX5_known 70 = .ok (.getfield 25, 3) := dk_180 0 25 (dk_at dksX5_known_3 2 rfl rfl)
theorem dX5_known_73 : decode cX5_known 73 = .ok (.ireturn, 1) := dk_172 (dk_at dksX5_known_3 5 rfl rfl)
theorem dX5_known_74 : decode cX5_known 74 = .ok (.aload_n 0, 1) := dk_42 (dk_at dksX5_known_3 6 rfl rfl)
theorem dX5_known_75 : decode cX5_known 75 = .ok (.getfield 28, 3) := dk_180 0 28 (dk_at dksX5_known_3 7 rfl rfl)
theorem dX5_known_78 : decode cX5_known 78 = .ok (.ireturn, 1) := dk_172 (dk_at dksX5_known_3 10 rfl rfl)
theorem dX5_known_79 : decode cX5_known 79 = .ok (.aload_n 0, 1) := dk_42 (dk_at dksX5_known_3 11 rfl rfl)
theorem dX5_known_80 : decode cX5_known 80 = .ok (.getfield 31, 3) := dk_180 0 31 (dk_at dksX5_known_3 12 rfl rfl)
theorem dX5_known_83 : decode cX5_known 83 = .ok (.ireturn, 1) := dk_172 (dk_at dksX5_known_3 15 rfl rfl)
theorem q94 : (Jvm.Cond.initialized "PassagePapers$Sight") ∈ lw_all := lw_g (lw_at lw_m1 5 rfl) rfl
theorem q162 : (Jvm.Cond.instantiable "PassagePapers$Sight" (8 : Nat)) ∈ lw_all := lw_g (lw_at lw_m1 73 rfl) rfl
theorem q164 : (Jvm.Cond.instanceMethod ({ cls := "PassagePapers$Sight", name := "<init>", desc := "()V" } : Jvm.MethodName)) ∈ lw_all := lw_g (lw_at lw_m1 75 rfl) rfl
theorem q165 : (Jvm.Cond.code ({ cls := "PassagePapers$Sight", name := "<init>", desc := "()V" } : Jvm.MethodName) prog_17_method_1_code (1 : Nat) (Option.none : Option Jvm.ClassFile.FieldType)) ∈ lw_all := lw_g (lw_at lw_m1 76 rfl) rfl
theorem q166 : (Jvm.Cond.methodLink "PassagePapers$Sight" (1 : Nat) ({ cls := "java/lang/Object", name := "<init>", desc := "()V" } : Jvm.MethodName)) ∈ lw_all := lw_g (lw_at lw_m1 77 rfl) rfl
theorem q168 : (Jvm.Cond.fieldLink "PassagePapers$Sight" (7 : Nat) "PassagePapers$Sight" "years" "I") ∈ lw_all := lw_g (lw_at lw_m1 79 rfl) rfl
theorem q172 : (Jvm.Cond.fieldLink "PassagePapers$Sight" (13 : Nat) "PassagePapers$Sight" "added" "I") ∈ lw_all := lw_g (lw_at lw_m1 83 rfl) rfl
theorem q175 : (Jvm.Cond.fieldLink "PassagePapers$Sight" (16 : Nat) "PassagePapers$Sight" "trade" "I") ∈ lw_all := lw_g (lw_at lw_m1 86 rfl) rfl
theorem q178 : (Jvm.Cond.fieldLink "PassagePapers$Sight" (19 : Nat) "PassagePapers$Sight" "hungry" "I") ∈ lw_all := lw_g (lw_at lw_m1 89 rfl) rfl
theorem q181 : (Jvm.Cond.fieldLink "PassagePapers$Sight" (22 : Nat) "PassagePapers$Sight" "kin" "I") ∈ lw_all := lw_g (lw_at lw_m1 92 rfl) rfl
theorem q183 : (Jvm.Cond.fieldLink "PassagePapers$Sight" (25 : Nat) "PassagePapers$Sight" "lost" "I") ∈ lw_all := lw_g (lw_at lw_m1 94 rfl) rfl
theorem q186 : (Jvm.Cond.fieldLink "PassagePapers$Sight" (28 : Nat) "PassagePapers$Sight" "placed" "I") ∈ lw_all := lw_g (lw_at lw_m1 97 rfl) rfl
theorem q188 : (Jvm.Cond.fieldLink "PassagePapers$Sight" (31 : Nat) "PassagePapers$Sight" "week" "I") ∈ lw_all := lw_g (lw_at lw_m1 99 rfl) rfl
theorem q191 : (Jvm.Cond.lays "PassagePapers$Sight" "PassagePapers$Sight" "years" "I") ∈ lw_all := lw_g (lw_at lw_m1 102 rfl) rfl
theorem q192 : (Jvm.Cond.soleField "PassagePapers$Sight" "years") ∈ lw_all := lw_g (lw_at lw_m1 103 rfl) rfl
theorem q193 : (Jvm.Cond.lays "PassagePapers$Sight" "PassagePapers$Sight" "added" "I") ∈ lw_all := lw_g (lw_at lw_m1 104 rfl) rfl
theorem q194 : (Jvm.Cond.soleField "PassagePapers$Sight" "added") ∈ lw_all := lw_g (lw_at lw_m1 105 rfl) rfl
theorem q195 : (Jvm.Cond.lays "PassagePapers$Sight" "PassagePapers$Sight" "trade" "I") ∈ lw_all := lw_g (lw_at lw_m1 106 rfl) rfl
theorem q196 : (Jvm.Cond.soleField "PassagePapers$Sight" "trade") ∈ lw_all := lw_g (lw_at lw_m1 107 rfl) rfl
theorem q197 : (Jvm.Cond.lays "PassagePapers$Sight" "PassagePapers$Sight" "hungry" "I") ∈ lw_all := lw_g (lw_at lw_m1 108 rfl) rfl
theorem q198 : (Jvm.Cond.soleField "PassagePapers$Sight" "hungry") ∈ lw_all := lw_g (lw_at lw_m1 109 rfl) rfl
theorem q199 : (Jvm.Cond.lays "PassagePapers$Sight" "PassagePapers$Sight" "kin" "I") ∈ lw_all := lw_g (lw_at lw_m1 110 rfl) rfl
theorem q200 : (Jvm.Cond.soleField "PassagePapers$Sight" "kin") ∈ lw_all := lw_g (lw_at lw_m1 111 rfl) rfl
theorem q201 : (Jvm.Cond.lays "PassagePapers$Sight" "PassagePapers$Sight" "lost" "I") ∈ lw_all := lw_g (lw_at lw_m1 112 rfl) rfl
theorem q202 : (Jvm.Cond.soleField "PassagePapers$Sight" "lost") ∈ lw_all := lw_g (lw_at lw_m1 113 rfl) rfl
theorem q203 : (Jvm.Cond.lays "PassagePapers$Sight" "PassagePapers$Sight" "placed" "I") ∈ lw_all := lw_g (lw_at lw_m1 114 rfl) rfl
theorem q204 : (Jvm.Cond.soleField "PassagePapers$Sight" "placed") ∈ lw_all := lw_g (lw_at lw_m1 115 rfl) rfl
theorem q205 : (Jvm.Cond.lays "PassagePapers$Sight" "PassagePapers$Sight" "week" "I") ∈ lw_all := lw_g (lw_at lw_m1 116 rfl) rfl
theorem q206 : (Jvm.Cond.soleField "PassagePapers$Sight" "week") ∈ lw_all := lw_g (lw_at lw_m1 117 rfl) rfl
theorem q207 : (Jvm.Cond.superclass "PassagePapers$Sight" "java/lang/Object") ∈ lw_all := lw_g (lw_at lw_m1 118 rfl) rfl
theorem q509 : (Jvm.Cond.instanceMethod ({ cls := "PassagePapers$Sight", name := "known", desc := "(I)I" } : Jvm.MethodName)) ∈ lw_all := lw_g (lw_at lw_m2 180 rfl) rfl
theorem q510 : (Jvm.Cond.selects "PassagePapers$Sight" ({ cls := "PassagePapers$Sight", name := "known", desc := "(I)I" } : Jvm.MethodName) ({ cls := "PassagePapers$Sight", name := "known", desc := "(I)I" } : Jvm.MethodName)) ∈ lw_all := lw_g (lw_at lw_m2 181 rfl) rfl
theorem q511 : (Jvm.Cond.code ({ cls := "PassagePapers$Sight", name := "known", desc := "(I)I" } : Jvm.MethodName) prog_17_method_2_code (2 : Nat) (Option.some Jvm.ClassFile.FieldType.int)) ∈ lw_all := lw_g (lw_at lw_m2 182 rfl) rfl
theorem q2198 : (Jvm.Cond.castable "PassagePapers$Sight" "java/lang/Object") ∈ lw_tbl := lw_at lw_m9 189 rfl
theorem in_X5 : ∀ w ∈ wsX50, w ∈ lw_all := lw_in wsX50 [191, 193, 195, 197, 199, 201, 203, 205] (by decide +kernel) (by decide +kernel)
/-! PassagePapers$Register -/
set_option maxRecDepth 100000
def RX6 : String := "PassagePapers$Register"
def TX6 : u_T := fun k => match k with
  | 0 => ("PassagePapers$Register", "years", "[I", true)
  | 1 => ("PassagePapers$Register", "trade", "[I", true)
  | 2 => ("PassagePapers$Register", "kin", "[I", true)
  | 3 => ("PassagePapers$Register", "coins", "[I", true)
  | 4 => ("PassagePapers$Register", "wants", "[I", true)
  | 5 => ("PassagePapers$Register", "pays", "[I", true)
  | 6 => ("PassagePapers$Register", "room", "[I", true)
  | 7 => ("PassagePapers$Register", "signers", "I", false)
  | 8 => ("PassagePapers$Register", "takers", "I", false)
  | 9 => ("PassagePapers$Register", "stores", "I", false)
  | _ => ("PassagePapers$Register", "voyage", "I", false)
def tyX6 : Nat → FieldType := fun k => match k with
  | 0 => .array .int
  | 1 => .array .int
  | 2 => .array .int
  | 3 => .array .int
  | 4 => .array .int
  | 5 => .array .int
  | 6 => .array .int
  | 7 => .int
  | 8 => .int
  | 9 => .int
  | _ => .int
abbrev wsX60 : List Cond := u_ws RX6 TX6 11
theorem nmX6 : ∀ a, a < 11 → ∀ b, b < 11 → a ≠ b → (TX6 a).2.1 ≠ (TX6 b).2.1 := by decide +kernel
theorem tyX6_ok : ∀ k, k < 11 → parseFieldDescriptor (TX6 k).2.2.1 = some (tyX6 k) := by decide +kernel
abbrev cX6_init : ByteArray := prog_13_method_1_code
def yX6_init : MethodName := ⟨RX6, "<init>", "()V"⟩
def dkwX6_init_2 : List UInt8 := [181, 0, 27, 42, 8, 188, 10, 181, 0, 30, 42, 16, 60, 181, 0, 33, 42, 16, 8, 181, 0, 37, 177]
abbrev dktX6_init_2 : List UInt8 := dkwX6_init_2 ++ []
def dkwX6_init_1 : List UInt8 := [188, 10, 181, 0, 18, 42, 16, 8, 188, 10, 181, 0, 21, 42, 8, 188, 10, 181, 0, 24, 42, 8, 188, 10]
abbrev dktX6_init_1 : List UInt8 := dkwX6_init_1 ++ dktX6_init_2
def dkwX6_init_0 : List UInt8 := [42, 183, 0, 3, 42, 16, 8, 188, 10, 181, 0, 9, 42, 16, 8, 188, 10, 181, 0, 15, 42, 16, 8]
abbrev dktX6_init_0 : List UInt8 := dkwX6_init_0 ++ dktX6_init_1
theorem dksX6_init_0 : cX6_init.data.toList.drop 0 = dktX6_init_0 := by decide +kernel
theorem dksX6_init_1 : cX6_init.data.toList.drop 23 = dktX6_init_1 := dk_seg dksX6_init_0 23 rfl rfl
theorem dksX6_init_2 : cX6_init.data.toList.drop 47 = dktX6_init_2 := dk_seg dksX6_init_1 24 rfl rfl
theorem dX6_init_0 : decode cX6_init 0 = .ok (.aload_n 0, 1) := dk_42 (dk_at dksX6_init_0 0 rfl rfl)
theorem dX6_init_1 : decode cX6_init 1 = .ok (.invokespecial 3, 3) := dk_183 0 3 (dk_at dksX6_init_0 1 rfl rfl)
theorem dX6_init_4 : decode cX6_init 4 = .ok (.aload_n 0, 1) := dk_42 (dk_at dksX6_init_0 4 rfl rfl)
theorem dX6_init_5 : decode cX6_init 5 = .ok (.bipush 8, 2) := dk_16 8 (dk_at dksX6_init_0 5 rfl rfl)
theorem dX6_init_7 : decode cX6_init 7 = .ok (.newarray .int, 2) := dk_188_10 (dk_at dksX6_init_0 7 rfl rfl)
theorem dX6_init_9 : decode cX6_init 9 = .ok (.putfield 9, 3) := dk_181 0 9 (dk_at dksX6_init_0 9 rfl rfl)
theorem dX6_init_12 : decode cX6_init 12 = .ok (.aload_n 0, 1) := dk_42 (dk_at dksX6_init_0 12 rfl rfl)
theorem dX6_init_13 : decode cX6_init 13 = .ok (.bipush 8, 2) := dk_16 8 (dk_at dksX6_init_0 13 rfl rfl)
theorem dX6_init_15 : decode cX6_init 15 = .ok (.newarray .int, 2) := dk_188_10 (dk_at dksX6_init_0 15 rfl rfl)
theorem dX6_init_17 : decode cX6_init 17 = .ok (.putfield 15, 3) := dk_181 0 15 (dk_at dksX6_init_0 17 rfl rfl)
theorem dX6_init_20 : decode cX6_init 20 = .ok (.aload_n 0, 1) := dk_42 (dk_at dksX6_init_0 20 rfl rfl)
theorem dX6_init_21 : decode cX6_init 21 = .ok (.bipush 8, 2) := dk_16 8 (dk_at dksX6_init_0 21 rfl rfl)
theorem dX6_init_23 : decode cX6_init 23 = .ok (.newarray .int, 2) := dk_188_10 (dk_at dksX6_init_1 0 rfl rfl)
theorem dX6_init_25 : decode cX6_init 25 = .ok (.putfield 18, 3) := dk_181 0 18 (dk_at dksX6_init_1 2 rfl rfl)
theorem dX6_init_28 : decode cX6_init 28 = .ok (.aload_n 0, 1) := dk_42 (dk_at dksX6_init_1 5 rfl rfl)
theorem dX6_init_29 : decode cX6_init 29 = .ok (.bipush 8, 2) := dk_16 8 (dk_at dksX6_init_1 6 rfl rfl)
theorem dX6_init_31 : decode cX6_init 31 = .ok (.newarray .int, 2) := dk_188_10 (dk_at dksX6_init_1 8 rfl rfl)
theorem dX6_init_33 : decode cX6_init 33 = .ok (.putfield 21, 3) := dk_181 0 21 (dk_at dksX6_init_1 10 rfl rfl)
theorem dX6_init_36 : decode cX6_init 36 = .ok (.aload_n 0, 1) := dk_42 (dk_at dksX6_init_1 13 rfl rfl)
theorem dX6_init_37 : decode cX6_init 37 = .ok (.iconst 5, 1) := dk_8 (dk_at dksX6_init_1 14 rfl rfl)
theorem dX6_init_38 : decode cX6_init 38 = .ok (.newarray .int, 2) := dk_188_10 (dk_at dksX6_init_1 15 rfl rfl)
theorem dX6_init_40 : decode cX6_init 40 = .ok (.putfield 24, 3) := dk_181 0 24 (dk_at dksX6_init_1 17 rfl rfl)
theorem dX6_init_43 : decode cX6_init 43 = .ok (.aload_n 0, 1) := dk_42 (dk_at dksX6_init_1 20 rfl rfl)
theorem dX6_init_44 : decode cX6_init 44 = .ok (.iconst 5, 1) := dk_8 (dk_at dksX6_init_1 21 rfl rfl)
theorem dX6_init_45 : decode cX6_init 45 = .ok (.newarray .int, 2) := dk_188_10 (dk_at dksX6_init_1 22 rfl rfl)
theorem dX6_init_47 : decode cX6_init 47 = .ok (.putfield 27, 3) := dk_181 0 27 (dk_at dksX6_init_2 0 rfl rfl)
theorem dX6_init_50 : decode cX6_init 50 = .ok (.aload_n 0, 1) := dk_42 (dk_at dksX6_init_2 3 rfl rfl)
theorem dX6_init_51 : decode cX6_init 51 = .ok (.iconst 5, 1) := dk_8 (dk_at dksX6_init_2 4 rfl rfl)
theorem dX6_init_52 : decode cX6_init 52 = .ok (.newarray .int, 2) := dk_188_10 (dk_at dksX6_init_2 5 rfl rfl)
theorem dX6_init_54 : decode cX6_init 54 = .ok (.putfield 30, 3) := dk_181 0 30 (dk_at dksX6_init_2 7 rfl rfl)
theorem dX6_init_57 : decode cX6_init 57 = .ok (.aload_n 0, 1) := dk_42 (dk_at dksX6_init_2 10 rfl rfl)
theorem dX6_init_58 : decode cX6_init 58 = .ok (.bipush 60, 2) := dk_16 60 (dk_at dksX6_init_2 11 rfl rfl)
theorem dX6_init_60 : decode cX6_init 60 = .ok (.putfield 33, 3) := dk_181 0 33 (dk_at dksX6_init_2 13 rfl rfl)
theorem dX6_init_63 : decode cX6_init 63 = .ok (.aload_n 0, 1) := dk_42 (dk_at dksX6_init_2 16 rfl rfl)
theorem dX6_init_64 : decode cX6_init 64 = .ok (.bipush 8, 2) := dk_16 8 (dk_at dksX6_init_2 17 rfl rfl)
theorem dX6_init_66 : decode cX6_init 66 = .ok (.putfield 37, 3) := dk_181 0 37 (dk_at dksX6_init_2 19 rfl rfl)
theorem dX6_init_69 : decode cX6_init 69 = .ok (.return_, 1) := dk_177 (dk_at dksX6_init_2 22 rfl rfl)
abbrev cX6_kinOf : ByteArray := prog_13_method_2_code
def yX6_kinOf : MethodName := ⟨RX6, "kinOf", "(I)I"⟩
def dkwX6_kinOf_2 : List UInt8 := [132, 3, 1, 167, 255, 210, 28, 172]
abbrev dktX6_kinOf_2 : List UInt8 := dkwX6_kinOf_2 ++ []
def dkwX6_kinOf_1 : List UInt8 := [158, 0, 24, 42, 180, 0, 18, 29, 46, 42, 180, 0, 18, 27, 46, 160, 0, 9, 28, 4, 29, 120, 128, 61]
abbrev dktX6_kinOf_1 : List UInt8 := dkwX6_kinOf_1 ++ dktX6_kinOf_2
def dkwX6_kinOf_0 : List UInt8 := [3, 61, 3, 62, 29, 42, 180, 0, 40, 162, 0, 44, 29, 27, 159, 0, 33, 42, 180, 0, 18, 27, 46]
abbrev dktX6_kinOf_0 : List UInt8 := dkwX6_kinOf_0 ++ dktX6_kinOf_1
theorem dksX6_kinOf_0 : cX6_kinOf.data.toList.drop 0 = dktX6_kinOf_0 := by decide +kernel
theorem dksX6_kinOf_1 : cX6_kinOf.data.toList.drop 23 = dktX6_kinOf_1 := dk_seg dksX6_kinOf_0 23 rfl rfl
theorem dksX6_kinOf_2 : cX6_kinOf.data.toList.drop 47 = dktX6_kinOf_2 := dk_seg dksX6_kinOf_1 24 rfl rfl
theorem dX6_kinOf_0 : decode cX6_kinOf 0 = .ok (.iconst 0, 1) := dk_3 (dk_at dksX6_kinOf_0 0 rfl rfl)
theorem dX6_kinOf_1 : decode cX6_kinOf 1 = .ok (.istore_n 2, 1) := dk_61 (dk_at dksX6_kinOf_0 1 rfl rfl)
theorem dX6_kinOf_2 : decode cX6_kinOf 2 = .ok (.iconst 0, 1) := dk_3 (dk_at dksX6_kinOf_0 2 rfl rfl)
theorem dX6_kinOf_3 : decode cX6_kinOf 3 = .ok (.istore_n 3, 1) := dk_62 (dk_at dksX6_kinOf_0 3 rfl rfl)
theorem dX6_kinOf_4 : decode cX6_kinOf 4 = .ok (.iload_n 3, 1) := dk_29 (dk_at dksX6_kinOf_0 4 rfl rfl)
theorem dX6_kinOf_5 : decode cX6_kinOf 5 = .ok (.aload_n 0, 1) := dk_42 (dk_at dksX6_kinOf_0 5 rfl rfl)
theorem dX6_kinOf_6 : decode cX6_kinOf 6 = .ok (.getfield 40, 3) := dk_180 0 40 (dk_at dksX6_kinOf_0 6 rfl rfl)
theorem dX6_kinOf_9 : decode cX6_kinOf 9 = .ok (.if_icmp .ge 44, 3) := dk_162 0 44 (dk_at dksX6_kinOf_0 9 rfl rfl)
theorem dX6_kinOf_12 : decode cX6_kinOf 12 = .ok (.iload_n 3, 1) := dk_29 (dk_at dksX6_kinOf_0 12 rfl rfl)
theorem dX6_kinOf_13 : decode cX6_kinOf 13 = .ok (.iload_n 1, 1) := dk_27 (dk_at dksX6_kinOf_0 13 rfl rfl)
theorem dX6_kinOf_14 : decode cX6_kinOf 14 = .ok (.if_icmp .eq 33, 3) := dk_159 0 33 (dk_at dksX6_kinOf_0 14 rfl rfl)
theorem dX6_kinOf_17 : decode cX6_kinOf 17 = .ok (.aload_n 0, 1) := dk_42 (dk_at dksX6_kinOf_0 17 rfl rfl)
theorem dX6_kinOf_18 : decode cX6_kinOf 18 = .ok (.getfield 18, 3) := dk_180 0 18 (dk_at dksX6_kinOf_0 18 rfl rfl)
theorem dX6_kinOf_21 : decode cX6_kinOf 21 = .ok (.iload_n 1, 1) := dk_27 (dk_at dksX6_kinOf_0 21 rfl rfl)
theorem dX6_kinOf_22 : decode cX6_kinOf 22 = .ok (.iaload, 1) := dk_46 (dk_at dksX6_kinOf_0 22 rfl rfl)
theorem dX6_kinOf_23 : decode cX6_kinOf 23 = .ok (.ifCond .le 24, 3) := dk_158 0 24 (dk_at dksX6_kinOf_1 0 rfl rfl)
theorem dX6_kinOf_26 : decode cX6_kinOf 26 = .ok (.aload_n 0, 1) := dk_42 (dk_at dksX6_kinOf_1 3 rfl rfl)
theorem dX6_kinOf_27 : decode cX6_kinOf 27 = .ok (.getfield 18, 3) := dk_180 0 18 (dk_at dksX6_kinOf_1 4 rfl rfl)
theorem dX6_kinOf_30 : decode cX6_kinOf 30 = .ok (.iload_n 3, 1) := dk_29 (dk_at dksX6_kinOf_1 7 rfl rfl)
theorem dX6_kinOf_31 : decode cX6_kinOf 31 = .ok (.iaload, 1) := dk_46 (dk_at dksX6_kinOf_1 8 rfl rfl)
theorem dX6_kinOf_32 : decode cX6_kinOf 32 = .ok (.aload_n 0, 1) := dk_42 (dk_at dksX6_kinOf_1 9 rfl rfl)
theorem dX6_kinOf_33 : decode cX6_kinOf 33 = .ok (.getfield 18, 3) := dk_180 0 18 (dk_at dksX6_kinOf_1 10 rfl rfl)
theorem dX6_kinOf_36 : decode cX6_kinOf 36 = .ok (.iload_n 1, 1) := dk_27 (dk_at dksX6_kinOf_1 13 rfl rfl)
theorem dX6_kinOf_37 : decode cX6_kinOf 37 = .ok (.iaload, 1) := dk_46 (dk_at dksX6_kinOf_1 14 rfl rfl)
theorem dX6_kinOf_38 : decode cX6_kinOf 38 = .ok (.if_icmp .ne 9, 3) := dk_160 0 9 (dk_at dksX6_kinOf_1 15 rfl rfl)
theorem dX6_kinOf_41 : decode cX6_kinOf 41 = .ok (.iload_n 2, 1) := dk_28 (dk_at dksX6_kinOf_1 18 rfl rfl)
theorem dX6_kinOf_42 : decode cX6_kinOf 42 = .ok (.iconst 1, 1) := dk_4 (dk_at dksX6_kinOf_1 19 rfl rfl)
theorem dX6_kinOf_43 : decode cX6_kinOf 43 = .ok (.iload_n 3, 1) := dk_29 (dk_at dksX6_kinOf_1 20 rfl rfl)
theorem dX6_kinOf_44 : decode cX6_kinOf 44 = .ok (.ishl, 1) := dk_120 (dk_at dksX6_kinOf_1 21 rfl rfl)
theorem dX6_kinOf_45 : decode cX6_kinOf 45 = .ok (.ior, 1) := dk_128 (dk_at dksX6_kinOf_1 22 rfl rfl)
theorem dX6_kinOf_46 : decode cX6_kinOf 46 = .ok (.istore_n 2, 1) := dk_61 (dk_at dksX6_kinOf_1 23 rfl rfl)
theorem dX6_kinOf_47 : decode cX6_kinOf 47 = .ok (.iinc 3 1, 3) := dk_132 3 1 (dk_at dksX6_kinOf_2 0 rfl rfl)
theorem dX6_kinOf_50 : decode cX6_kinOf 50 = .ok (.goto (-46), 3) := dk_167 255 210 (dk_at dksX6_kinOf_2 3 rfl rfl)
theorem dX6_kinOf_53 : decode cX6_kinOf 53 = .ok (.iload_n 2, 1) := dk_28 (dk_at dksX6_kinOf_2 6 rfl rfl)
theorem dX6_kinOf_54 : decode cX6_kinOf 54 = .ok (.ireturn, 1) := dk_172 (dk_at dksX6_kinOf_2 7 rfl rfl)
theorem q95 : (Jvm.Cond.initialized "PassagePapers$Register") ∈ lw_all := lw_g (lw_at lw_m1 6 rfl) rfl
theorem q211 : (Jvm.Cond.instantiable "PassagePapers$Register" (11 : Nat)) ∈ lw_all := lw_g (lw_at lw_m1 122 rfl) rfl
theorem q213 : (Jvm.Cond.instanceMethod ({ cls := "PassagePapers$Register", name := "<init>", desc := "()V" } : Jvm.MethodName)) ∈ lw_all := lw_g (lw_at lw_m1 124 rfl) rfl
theorem q214 : (Jvm.Cond.code ({ cls := "PassagePapers$Register", name := "<init>", desc := "()V" } : Jvm.MethodName) prog_13_method_1_code (1 : Nat) (Option.none : Option Jvm.ClassFile.FieldType)) ∈ lw_all := lw_g (lw_at lw_m1 125 rfl) rfl
theorem q215 : (Jvm.Cond.methodLink "PassagePapers$Register" (3 : Nat) ({ cls := "java/lang/Object", name := "<init>", desc := "()V" } : Jvm.MethodName)) ∈ lw_all := lw_g (lw_at lw_m1 126 rfl) rfl
theorem q216 : (Jvm.Cond.fieldLink "PassagePapers$Register" (9 : Nat) "PassagePapers$Register" "years" "[I") ∈ lw_all := lw_g (lw_at lw_m1 127 rfl) rfl
theorem q220 : (Jvm.Cond.fieldLink "PassagePapers$Register" (15 : Nat) "PassagePapers$Register" "trade" "[I") ∈ lw_all := lw_g (lw_at lw_m1 131 rfl) rfl
theorem q224 : (Jvm.Cond.fieldLink "PassagePapers$Register" (18 : Nat) "PassagePapers$Register" "kin" "[I") ∈ lw_all := lw_g (lw_at lw_m1 135 rfl) rfl
theorem q227 : (Jvm.Cond.fieldLink "PassagePapers$Register" (21 : Nat) "PassagePapers$Register" "coins" "[I") ∈ lw_all := lw_g (lw_at lw_m1 138 rfl) rfl
theorem q230 : (Jvm.Cond.fieldLink "PassagePapers$Register" (24 : Nat) "PassagePapers$Register" "wants" "[I") ∈ lw_all := lw_g (lw_at lw_m1 141 rfl) rfl
theorem q234 : (Jvm.Cond.fieldLink "PassagePapers$Register" (27 : Nat) "PassagePapers$Register" "pays" "[I") ∈ lw_all := lw_g (lw_at lw_m1 145 rfl) rfl
theorem q238 : (Jvm.Cond.fieldLink "PassagePapers$Register" (30 : Nat) "PassagePapers$Register" "room" "[I") ∈ lw_all := lw_g (lw_at lw_m1 149 rfl) rfl
theorem q243 : (Jvm.Cond.fieldLink "PassagePapers$Register" (40 : Nat) "PassagePapers$Register" "signers" "I") ∈ lw_all := lw_g (lw_at lw_m1 154 rfl) rfl
theorem q253 : (Jvm.Cond.fieldLink "PassagePapers$Register" (33 : Nat) "PassagePapers$Register" "stores" "I") ∈ lw_all := lw_g (lw_at lw_m1 164 rfl) rfl
theorem q256 : (Jvm.Cond.fieldLink "PassagePapers$Register" (37 : Nat) "PassagePapers$Register" "voyage" "I") ∈ lw_all := lw_g (lw_at lw_m1 167 rfl) rfl
theorem q260 : (Jvm.Cond.laysFinal "PassagePapers$Register" "PassagePapers$Register" "years" "[I") ∈ lw_all := lw_g (lw_at lw_m1 171 rfl) rfl
theorem q261 : (Jvm.Cond.soleField "PassagePapers$Register" "years") ∈ lw_all := lw_g (lw_at lw_m1 172 rfl) rfl
theorem q262 : (Jvm.Cond.laysFinal "PassagePapers$Register" "PassagePapers$Register" "trade" "[I") ∈ lw_all := lw_g (lw_at lw_m1 173 rfl) rfl
theorem q263 : (Jvm.Cond.soleField "PassagePapers$Register" "trade") ∈ lw_all := lw_g (lw_at lw_m1 174 rfl) rfl
theorem q264 : (Jvm.Cond.laysFinal "PassagePapers$Register" "PassagePapers$Register" "kin" "[I") ∈ lw_all := lw_g (lw_at lw_m1 175 rfl) rfl
theorem q265 : (Jvm.Cond.soleField "PassagePapers$Register" "kin") ∈ lw_all := lw_g (lw_at lw_m1 176 rfl) rfl
theorem q266 : (Jvm.Cond.laysFinal "PassagePapers$Register" "PassagePapers$Register" "coins" "[I") ∈ lw_all := lw_g (lw_at lw_m1 177 rfl) rfl
theorem q267 : (Jvm.Cond.soleField "PassagePapers$Register" "coins") ∈ lw_all := lw_g (lw_at lw_m1 178 rfl) rfl
theorem q268 : (Jvm.Cond.laysFinal "PassagePapers$Register" "PassagePapers$Register" "wants" "[I") ∈ lw_all := lw_g (lw_at lw_m1 179 rfl) rfl
theorem q269 : (Jvm.Cond.soleField "PassagePapers$Register" "wants") ∈ lw_all := lw_g (lw_at lw_m1 180 rfl) rfl
theorem q270 : (Jvm.Cond.laysFinal "PassagePapers$Register" "PassagePapers$Register" "pays" "[I") ∈ lw_all := lw_g (lw_at lw_m1 181 rfl) rfl
theorem q271 : (Jvm.Cond.soleField "PassagePapers$Register" "pays") ∈ lw_all := lw_g (lw_at lw_m1 182 rfl) rfl
theorem q272 : (Jvm.Cond.laysFinal "PassagePapers$Register" "PassagePapers$Register" "room" "[I") ∈ lw_all := lw_g (lw_at lw_m1 183 rfl) rfl
theorem q273 : (Jvm.Cond.soleField "PassagePapers$Register" "room") ∈ lw_all := lw_g (lw_at lw_m1 184 rfl) rfl
theorem q274 : (Jvm.Cond.lays "PassagePapers$Register" "PassagePapers$Register" "signers" "I") ∈ lw_all := lw_g (lw_at lw_m1 185 rfl) rfl
theorem q275 : (Jvm.Cond.soleField "PassagePapers$Register" "signers") ∈ lw_all := lw_g (lw_at lw_m1 186 rfl) rfl
theorem q276 : (Jvm.Cond.lays "PassagePapers$Register" "PassagePapers$Register" "takers" "I") ∈ lw_all := lw_g (lw_at lw_m1 187 rfl) rfl
theorem q277 : (Jvm.Cond.soleField "PassagePapers$Register" "takers") ∈ lw_all := lw_g (lw_at lw_m1 188 rfl) rfl
theorem q278 : (Jvm.Cond.lays "PassagePapers$Register" "PassagePapers$Register" "stores" "I") ∈ lw_all := lw_g (lw_at lw_m1 189 rfl) rfl
theorem q279 : (Jvm.Cond.soleField "PassagePapers$Register" "stores") ∈ lw_all := lw_g (lw_at lw_m1 190 rfl) rfl
theorem q280 : (Jvm.Cond.lays "PassagePapers$Register" "PassagePapers$Register" "voyage" "I") ∈ lw_all := lw_g (lw_at lw_m1 191 rfl) rfl
theorem q281 : (Jvm.Cond.soleField "PassagePapers$Register" "voyage") ∈ lw_all := lw_g (lw_at lw_m1 192 rfl) rfl
theorem q282 : (Jvm.Cond.superclass "PassagePapers$Register" "java/lang/Object") ∈ lw_all := lw_g (lw_at lw_m1 193 rfl) rfl
theorem q479 : (Jvm.Cond.instanceMethod ({ cls := "PassagePapers$Register", name := "kinOf", desc := "(I)I" } : Jvm.MethodName)) ∈ lw_all := lw_g (lw_at lw_m2 150 rfl) rfl
theorem q480 : (Jvm.Cond.selects "PassagePapers$Register" ({ cls := "PassagePapers$Register", name := "kinOf", desc := "(I)I" } : Jvm.MethodName) ({ cls := "PassagePapers$Register", name := "kinOf", desc := "(I)I" } : Jvm.MethodName)) ∈ lw_all := lw_g (lw_at lw_m2 151 rfl) rfl
theorem q481 : (Jvm.Cond.code ({ cls := "PassagePapers$Register", name := "kinOf", desc := "(I)I" } : Jvm.MethodName) prog_13_method_2_code (4 : Nat) (Option.some Jvm.ClassFile.FieldType.int)) ∈ lw_all := lw_g (lw_at lw_m2 152 rfl) rfl
theorem q2199 : (Jvm.Cond.castable "PassagePapers$Register" "java/lang/Object") ∈ lw_tbl := lw_at lw_m9 190 rfl
theorem in_X6 : ∀ w ∈ wsX60, w ∈ lw_all := lw_in wsX60 [260, 262, 264, 266, 268, 270, 272, 274, 276, 278, 280] (by decide +kernel) (by decide +kernel)
/-! PassagePapers$Places -/
set_option maxRecDepth 100000
def RX7 : String := "PassagePapers$Places"
def TX7 : u_T := fun k => match k with
  | 0 => ("PassagePapers$Places", "at", "[I", true)
  | 1 => ("PassagePapers$Places", "best", "[I", true)
  | 2 => ("PassagePapers$Places", "room", "[I", true)
  | 3 => ("PassagePapers$Places", "most", "[I", true)
  | 4 => ("PassagePapers$Places", "state", "LPassagePapers$State;", false)
  | _ => ("PassagePapers$Places", "top", "I", false)
def tyX7 : Nat → FieldType := fun k => match k with
  | 0 => .array .int
  | 1 => .array .int
  | 2 => .array .int
  | 3 => .array .int
  | 4 => .object "PassagePapers$State"
  | _ => .int
abbrev wsX70 : List Cond := u_ws RX7 TX7 6
theorem nmX7 : ∀ a, a < 6 → ∀ b, b < 6 → a ≠ b → (TX7 a).2.1 ≠ (TX7 b).2.1 := by decide +kernel
theorem tyX7_ok : ∀ k, k < 6 → parseFieldDescriptor (TX7 k).2.2.1 = some (tyX7 k) := by decide +kernel
abbrev cX7_init : ByteArray := prog_11_method_1_code
def yX7_init : MethodName := ⟨RX7, "<init>", "()V"⟩
def dkwX7_init_1 : List UInt8 := [181, 0, 18, 42, 16, 9, 188, 10, 181, 0, 21, 177]
abbrev dktX7_init_1 : List UInt8 := dkwX7_init_1 ++ []
def dkwX7_init_0 : List UInt8 := [42, 183, 0, 3, 42, 16, 8, 188, 10, 181, 0, 9, 42, 16, 8, 188, 10, 181, 0, 15, 42, 8, 188, 10]
abbrev dktX7_init_0 : List UInt8 := dkwX7_init_0 ++ dktX7_init_1
theorem dksX7_init_0 : cX7_init.data.toList.drop 0 = dktX7_init_0 := by decide +kernel
theorem dksX7_init_1 : cX7_init.data.toList.drop 24 = dktX7_init_1 := dk_seg dksX7_init_0 24 rfl rfl
theorem dX7_init_0 : decode cX7_init 0 = .ok (.aload_n 0, 1) := dk_42 (dk_at dksX7_init_0 0 rfl rfl)
theorem dX7_init_1 : decode cX7_init 1 = .ok (.invokespecial 3, 3) := dk_183 0 3 (dk_at dksX7_init_0 1 rfl rfl)
theorem dX7_init_4 : decode cX7_init 4 = .ok (.aload_n 0, 1) := dk_42 (dk_at dksX7_init_0 4 rfl rfl)
theorem dX7_init_5 : decode cX7_init 5 = .ok (.bipush 8, 2) := dk_16 8 (dk_at dksX7_init_0 5 rfl rfl)
theorem dX7_init_7 : decode cX7_init 7 = .ok (.newarray .int, 2) := dk_188_10 (dk_at dksX7_init_0 7 rfl rfl)
theorem dX7_init_9 : decode cX7_init 9 = .ok (.putfield 9, 3) := dk_181 0 9 (dk_at dksX7_init_0 9 rfl rfl)
theorem dX7_init_12 : decode cX7_init 12 = .ok (.aload_n 0, 1) := dk_42 (dk_at dksX7_init_0 12 rfl rfl)
theorem dX7_init_13 : decode cX7_init 13 = .ok (.bipush 8, 2) := dk_16 8 (dk_at dksX7_init_0 13 rfl rfl)
theorem dX7_init_15 : decode cX7_init 15 = .ok (.newarray .int, 2) := dk_188_10 (dk_at dksX7_init_0 15 rfl rfl)
theorem dX7_init_17 : decode cX7_init 17 = .ok (.putfield 15, 3) := dk_181 0 15 (dk_at dksX7_init_0 17 rfl rfl)
theorem dX7_init_20 : decode cX7_init 20 = .ok (.aload_n 0, 1) := dk_42 (dk_at dksX7_init_0 20 rfl rfl)
theorem dX7_init_21 : decode cX7_init 21 = .ok (.iconst 5, 1) := dk_8 (dk_at dksX7_init_0 21 rfl rfl)
theorem dX7_init_22 : decode cX7_init 22 = .ok (.newarray .int, 2) := dk_188_10 (dk_at dksX7_init_0 22 rfl rfl)
theorem dX7_init_24 : decode cX7_init 24 = .ok (.putfield 18, 3) := dk_181 0 18 (dk_at dksX7_init_1 0 rfl rfl)
theorem dX7_init_27 : decode cX7_init 27 = .ok (.aload_n 0, 1) := dk_42 (dk_at dksX7_init_1 3 rfl rfl)
theorem dX7_init_28 : decode cX7_init 28 = .ok (.bipush 9, 2) := dk_16 9 (dk_at dksX7_init_1 4 rfl rfl)
theorem dX7_init_30 : decode cX7_init 30 = .ok (.newarray .int, 2) := dk_188_10 (dk_at dksX7_init_1 6 rfl rfl)
theorem dX7_init_32 : decode cX7_init 32 = .ok (.putfield 21, 3) := dk_181 0 21 (dk_at dksX7_init_1 8 rfl rfl)
theorem dX7_init_35 : decode cX7_init 35 = .ok (.return_, 1) := dk_177 (dk_at dksX7_init_1 11 rfl rfl)
abbrev cX7_finds : ByteArray := prog_11_method_2_code
def yX7_finds : MethodName := ⟨RX7, "finds", "(LPassagePapers$State;)V"⟩
def dkwX7_finds_4 : List UInt8 := [132, 3, 255, 167, 255, 217, 42, 3, 3, 182, 0, 54, 177]
abbrev dktX7_finds_4 : List UInt8 := dkwX7_finds_4 ++ []
def dkwX7_finds_3 : List UInt8 := [160, 0, 7, 3, 167, 0, 17, 42, 180, 0, 21, 29, 4, 96, 46, 42, 29, 182, 0, 51, 96, 79]
abbrev dktX7_finds_3 : List UInt8 := dkwX7_finds_3 ++ dktX7_finds_4
def dkwX7_finds_2 : List UInt8 := [167, 255, 227, 44, 180, 0, 48, 62, 29, 155, 0, 41, 42, 180, 0, 21, 29, 29, 44, 180, 0, 48]
abbrev dktX7_finds_2 : List UInt8 := dkwX7_finds_2 ++ dktX7_finds_3
def dkwX7_finds_1 : List UInt8 := [162, 0, 27, 42, 180, 0, 18, 29, 44, 180, 0, 43, 29, 46, 43, 29, 182, 0, 44, 100, 79, 132, 3, 1]
abbrev dktX7_finds_1 : List UInt8 := dkwX7_finds_1 ++ dktX7_finds_2
def dkwX7_finds_0 : List UInt8 := [42, 43, 181, 0, 24, 42, 2, 181, 0, 28, 43, 180, 0, 32, 77, 3, 62, 29, 44, 180, 0, 38]
abbrev dktX7_finds_0 : List UInt8 := dkwX7_finds_0 ++ dktX7_finds_1
theorem dksX7_finds_0 : cX7_finds.data.toList.drop 0 = dktX7_finds_0 := by decide +kernel
theorem dksX7_finds_1 : cX7_finds.data.toList.drop 22 = dktX7_finds_1 := dk_seg dksX7_finds_0 22 rfl rfl
theorem dksX7_finds_2 : cX7_finds.data.toList.drop 46 = dktX7_finds_2 := dk_seg dksX7_finds_1 24 rfl rfl
theorem dksX7_finds_3 : cX7_finds.data.toList.drop 68 = dktX7_finds_3 := dk_seg dksX7_finds_2 22 rfl rfl
theorem dksX7_finds_4 : cX7_finds.data.toList.drop 90 = dktX7_finds_4 := dk_seg dksX7_finds_3 22 rfl rfl
theorem dX7_finds_0 : decode cX7_finds 0 = .ok (.aload_n 0, 1) := dk_42 (dk_at dksX7_finds_0 0 rfl rfl)
theorem dX7_finds_1 : decode cX7_finds 1 = .ok (.aload_n 1, 1) := dk_43 (dk_at dksX7_finds_0 1 rfl rfl)
theorem dX7_finds_2 : decode cX7_finds 2 = .ok (.putfield 24, 3) := dk_181 0 24 (dk_at dksX7_finds_0 2 rfl rfl)
theorem dX7_finds_5 : decode cX7_finds 5 = .ok (.aload_n 0, 1) := dk_42 (dk_at dksX7_finds_0 5 rfl rfl)
theorem dX7_finds_6 : decode cX7_finds 6 = .ok (.iconst (-1), 1) := dk_2 (dk_at dksX7_finds_0 6 rfl rfl)
theorem dX7_finds_7 : decode cX7_finds 7 = .ok (.putfield 28, 3) := dk_181 0 28 (dk_at dksX7_finds_0 7 rfl rfl)
theorem dX7_finds_10 : decode cX7_finds 10 = .ok (.aload_n 1, 1) := dk_43 (dk_at dksX7_finds_0 10 rfl rfl)
theorem dX7_finds_11 : decode cX7_finds 11 = .ok (.getfield 32, 3) := dk_180 0 32 (dk_at dksX7_finds_0 11 rfl rfl)
theorem dX7_finds_14 : decode cX7_finds 14 = .ok (.astore_n 2, 1) := dk_77 (dk_at dksX7_finds_0 14 rfl rfl)
theorem dX7_finds_15 : decode cX7_finds 15 = .ok (.iconst 0, 1) := dk_3 (dk_at dksX7_finds_0 15 rfl rfl)
theorem dX7_finds_16 : decode cX7_finds 16 = .ok (.istore_n 3, 1) := dk_62 (dk_at dksX7_finds_0 16 rfl rfl)
theorem dX7_finds_17 : decode cX7_finds 17 = .ok (.iload_n 3, 1) := dk_29 (dk_at dksX7_finds_0 17 rfl rfl)
theorem dX7_finds_18 : decode cX7_finds 18 = .ok (.aload_n 2, 1) := dk_44 (dk_at dksX7_finds_0 18 rfl rfl)
theorem dX7_finds_19 : decode cX7_finds 19 = .ok (.getfield 38, 3) := dk_180 0 38 (dk_at dksX7_finds_0 19 rfl rfl)
theorem dX7_finds_22 : decode cX7_finds 22 = .ok (.if_icmp .ge 27, 3) := dk_162 0 27 (dk_at dksX7_finds_1 0 rfl rfl)
theorem dX7_finds_25 : decode cX7_finds 25 = .ok (.aload_n 0, 1) := dk_42 (dk_at dksX7_finds_1 3 rfl rfl)
theorem dX7_finds_26 : decode cX7_finds 26 = .ok (.getfield 18, 3) := dk_180 0 18 (dk_at dksX7_finds_1 4 rfl rfl)
theorem dX7_finds_29 : decode cX7_finds 29 = .ok (.iload_n 3, 1) := dk_29 (dk_at dksX7_finds_1 7 rfl rfl)
theorem dX7_finds_30 : decode cX7_finds 30 = .ok (.aload_n 2, 1) := dk_44 (dk_at dksX7_finds_1 8 rfl rfl)
theorem dX7_finds_31 : decode cX7_finds 31 = .ok (.getfield 43, 3) := dk_180 0 43 (dk_at dksX7_finds_1 9 rfl rfl)
theorem dX7_finds_34 : decode cX7_finds 34 = .ok (.iload_n 3, 1) := dk_29 (dk_at dksX7_finds_1 12 rfl rfl)
theorem dX7_finds_35 : decode cX7_finds 35 = .ok (.iaload, 1) := dk_46 (dk_at dksX7_finds_1 13 rfl rfl)
theorem dX7_finds_36 : decode cX7_finds 36 = .ok (.aload_n 1, 1) := dk_43 (dk_at dksX7_finds_1 14 rfl rfl)
theorem dX7_finds_37 : decode cX7_finds 37 = .ok (.iload_n 3, 1) := dk_29 (dk_at dksX7_finds_1 15 rfl rfl)
theorem dX7_finds_38 : decode cX7_finds 38 = .ok (.invokevirtual 44, 3) := dk_182 0 44 (dk_at dksX7_finds_1 16 rfl rfl)
theorem dX7_finds_41 : decode cX7_finds 41 = .ok (.isub, 1) := dk_100 (dk_at dksX7_finds_1 19 rfl rfl)
theorem dX7_finds_42 : decode cX7_finds 42 = .ok (.iastore, 1) := dk_79 (dk_at dksX7_finds_1 20 rfl rfl)
theorem dX7_finds_43 : decode cX7_finds 43 = .ok (.iinc 3 1, 3) := dk_132 3 1 (dk_at dksX7_finds_1 21 rfl rfl)
theorem dX7_finds_46 : decode cX7_finds 46 = .ok (.goto (-29), 3) := dk_167 255 227 (dk_at dksX7_finds_2 0 rfl rfl)
theorem dX7_finds_49 : decode cX7_finds 49 = .ok (.aload_n 2, 1) := dk_44 (dk_at dksX7_finds_2 3 rfl rfl)
theorem dX7_finds_50 : decode cX7_finds 50 = .ok (.getfield 48, 3) := dk_180 0 48 (dk_at dksX7_finds_2 4 rfl rfl)
theorem dX7_finds_53 : decode cX7_finds 53 = .ok (.istore_n 3, 1) := dk_62 (dk_at dksX7_finds_2 7 rfl rfl)
theorem dX7_finds_54 : decode cX7_finds 54 = .ok (.iload_n 3, 1) := dk_29 (dk_at dksX7_finds_2 8 rfl rfl)
theorem dX7_finds_55 : decode cX7_finds 55 = .ok (.ifCond .lt 41, 3) := dk_155 0 41 (dk_at dksX7_finds_2 9 rfl rfl)
theorem dX7_finds_58 : decode cX7_finds 58 = .ok (.aload_n 0, 1) := dk_42 (dk_at dksX7_finds_2 12 rfl rfl)
theorem dX7_finds_59 : decode cX7_finds 59 = .ok (.getfield 21, 3) := dk_180 0 21 (dk_at dksX7_finds_2 13 rfl rfl)
theorem dX7_finds_62 : decode cX7_finds 62 = .ok (.iload_n 3, 1) := dk_29 (dk_at dksX7_finds_2 16 rfl rfl)
theorem dX7_finds_63 : decode cX7_finds 63 = .ok (.iload_n 3, 1) := dk_29 (dk_at dksX7_finds_2 17 rfl rfl)
theorem dX7_finds_64 : decode cX7_finds 64 = .ok (.aload_n 2, 1) := dk_44 (dk_at dksX7_finds_2 18 rfl rfl)
theorem dX7_finds_65 : decode cX7_finds 65 = .ok (.getfield 48, 3) := dk_180 0 48 (dk_at dksX7_finds_2 19 rfl rfl)
theorem dX7_finds_68 : decode cX7_finds 68 = .ok (.if_icmp .ne 7, 3) := dk_160 0 7 (dk_at dksX7_finds_3 0 rfl rfl)
theorem dX7_finds_71 : decode cX7_finds 71 = .ok (.iconst 0, 1) := dk_3 (dk_at dksX7_finds_3 3 rfl rfl)
theorem dX7_finds_72 : decode cX7_finds 72 = .ok (.goto 17, 3) := dk_167 0 17 (dk_at dksX7_finds_3 4 rfl rfl)
theorem dX7_finds_75 : decode cX7_finds 75 = .ok (.aload_n 0, 1) := dk_42 (dk_at dksX7_finds_3 7 rfl rfl)
theorem dX7_finds_76 : decode cX7_finds 76 = .ok (.getfield 21, 3) := dk_180 0 21 (dk_at dksX7_finds_3 8 rfl rfl)
theorem dX7_finds_79 : decode cX7_finds 79 = .ok (.iload_n 3, 1) := dk_29 (dk_at dksX7_finds_3 11 rfl rfl)
theorem dX7_finds_80 : decode cX7_finds 80 = .ok (.iconst 1, 1) := dk_4 (dk_at dksX7_finds_3 12 rfl rfl)
theorem dX7_finds_81 : decode cX7_finds 81 = .ok (.iadd, 1) := dk_96 (dk_at dksX7_finds_3 13 rfl rfl)
theorem dX7_finds_82 : decode cX7_finds 82 = .ok (.iaload, 1) := dk_46 (dk_at dksX7_finds_3 14 rfl rfl)
theorem dX7_finds_83 : decode cX7_finds 83 = .ok (.aload_n 0, 1) := dk_42 (dk_at dksX7_finds_3 15 rfl rfl)
theorem dX7_finds_84 : decode cX7_finds 84 = .ok (.iload_n 3, 1) := dk_29 (dk_at dksX7_finds_3 16 rfl rfl)
theorem dX7_finds_85 : decode cX7_finds 85 = .ok (.invokevirtual 51, 3) := dk_182 0 51 (dk_at dksX7_finds_3 17 rfl rfl)
theorem dX7_finds_88 : decode cX7_finds 88 = .ok (.iadd, 1) := dk_96 (dk_at dksX7_finds_3 20 rfl rfl)
theorem dX7_finds_89 : decode cX7_finds 89 = .ok (.iastore, 1) := dk_79 (dk_at dksX7_finds_3 21 rfl rfl)
theorem dX7_finds_90 : decode cX7_finds 90 = .ok (.iinc 3 (-1), 3) := dk_132 3 255 (dk_at dksX7_finds_4 0 rfl rfl)
theorem dX7_finds_93 : decode cX7_finds 93 = .ok (.goto (-39), 3) := dk_167 255 217 (dk_at dksX7_finds_4 3 rfl rfl)
theorem dX7_finds_96 : decode cX7_finds 96 = .ok (.aload_n 0, 1) := dk_42 (dk_at dksX7_finds_4 6 rfl rfl)
theorem dX7_finds_97 : decode cX7_finds 97 = .ok (.iconst 0, 1) := dk_3 (dk_at dksX7_finds_4 7 rfl rfl)
theorem dX7_finds_98 : decode cX7_finds 98 = .ok (.iconst 0, 1) := dk_3 (dk_at dksX7_finds_4 8 rfl rfl)
theorem dX7_finds_99 : decode cX7_finds 99 = .ok (.invokevirtual 54, 3) := dk_182 0 54 (dk_at dksX7_finds_4 9 rfl rfl)
theorem dX7_finds_102 : decode cX7_finds 102 = .ok (.return_, 1) := dk_177 (dk_at dksX7_finds_4 12 rfl rfl)
abbrev cX7_mostOf : ByteArray := prog_11_method_3_code
def yX7_mostOf : MethodName := ⟨RX7, "mostOf", "(I)I"⟩
def dkwX7_mostOf_2 : List UInt8 := [132, 3, 1, 167, 255, 212, 28, 172]
abbrev dktX7_mostOf_2 : List UInt8 := dkwX7_mostOf_2 ++ []
def dkwX7_mostOf_1 : List UInt8 := [180, 0, 58, 27, 46, 4, 160, 0, 23, 28, 42, 180, 0, 24, 29, 27, 182, 0, 61, 184, 0, 65, 61]
abbrev dktX7_mostOf_1 : List UInt8 := dkwX7_mostOf_1 ++ dktX7_mostOf_2
def dkwX7_mostOf_0 : List UInt8 := [3, 61, 3, 62, 29, 42, 180, 0, 24, 180, 0, 32, 180, 0, 38, 162, 0, 36, 42, 180, 0, 24]
abbrev dktX7_mostOf_0 : List UInt8 := dkwX7_mostOf_0 ++ dktX7_mostOf_1
theorem dksX7_mostOf_0 : cX7_mostOf.data.toList.drop 0 = dktX7_mostOf_0 := by decide +kernel
theorem dksX7_mostOf_1 : cX7_mostOf.data.toList.drop 22 = dktX7_mostOf_1 := dk_seg dksX7_mostOf_0 22 rfl rfl
theorem dksX7_mostOf_2 : cX7_mostOf.data.toList.drop 45 = dktX7_mostOf_2 := dk_seg dksX7_mostOf_1 23 rfl rfl
theorem dX7_mostOf_0 : decode cX7_mostOf 0 = .ok (.iconst 0, 1) := dk_3 (dk_at dksX7_mostOf_0 0 rfl rfl)
theorem dX7_mostOf_1 : decode cX7_mostOf 1 = .ok (.istore_n 2, 1) := dk_61 (dk_at dksX7_mostOf_0 1 rfl rfl)
theorem dX7_mostOf_2 : decode cX7_mostOf 2 = .ok (.iconst 0, 1) := dk_3 (dk_at dksX7_mostOf_0 2 rfl rfl)
theorem dX7_mostOf_3 : decode cX7_mostOf 3 = .ok (.istore_n 3, 1) := dk_62 (dk_at dksX7_mostOf_0 3 rfl rfl)
theorem dX7_mostOf_4 : decode cX7_mostOf 4 = .ok (.iload_n 3, 1) := dk_29 (dk_at dksX7_mostOf_0 4 rfl rfl)
theorem dX7_mostOf_5 : decode cX7_mostOf 5 = .ok (.aload_n 0, 1) := dk_42 (dk_at dksX7_mostOf_0 5 rfl rfl)
theorem dX7_mostOf_6 : decode cX7_mostOf 6 = .ok (.getfield 24, 3) := dk_180 0 24 (dk_at dksX7_mostOf_0 6 rfl rfl)
theorem dX7_mostOf_9 : decode cX7_mostOf 9 = .ok (.getfield 32, 3) := dk_180 0 32 (dk_at dksX7_mostOf_0 9 rfl rfl)
theorem dX7_mostOf_12 : decode cX7_mostOf 12 = .ok (.getfield 38, 3) := dk_180 0 38 (dk_at dksX7_mostOf_0 12 rfl rfl)
theorem dX7_mostOf_15 : decode cX7_mostOf 15 = .ok (.if_icmp .ge 36, 3) := dk_162 0 36 (dk_at dksX7_mostOf_0 15 rfl rfl)
theorem dX7_mostOf_18 : decode cX7_mostOf 18 = .ok (.aload_n 0, 1) := dk_42 (dk_at dksX7_mostOf_0 18 rfl rfl)
theorem dX7_mostOf_19 : decode cX7_mostOf 19 = .ok (.getfield 24, 3) := dk_180 0 24 (dk_at dksX7_mostOf_0 19 rfl rfl)
theorem dX7_mostOf_22 : decode cX7_mostOf 22 = .ok (.getfield 58, 3) := dk_180 0 58 (dk_at dksX7_mostOf_1 0 rfl rfl)
theorem dX7_mostOf_25 : decode cX7_mostOf 25 = .ok (.iload_n 1, 1) := dk_27 (dk_at dksX7_mostOf_1 3 rfl rfl)
theorem dX7_mostOf_26 : decode cX7_mostOf 26 = .ok (.iaload, 1) := dk_46 (dk_at dksX7_mostOf_1 4 rfl rfl)
theorem dX7_mostOf_27 : decode cX7_mostOf 27 = .ok (.iconst 1, 1) := dk_4 (dk_at dksX7_mostOf_1 5 rfl rfl)
theorem dX7_mostOf_28 : decode cX7_mostOf 28 = .ok (.if_icmp .ne 23, 3) := dk_160 0 23 (dk_at dksX7_mostOf_1 6 rfl rfl)
theorem dX7_mostOf_31 : decode cX7_mostOf 31 = .ok (.iload_n 2, 1) := dk_28 (dk_at dksX7_mostOf_1 9 rfl rfl)
theorem dX7_mostOf_32 : decode cX7_mostOf 32 = .ok (.aload_n 0, 1) := dk_42 (dk_at dksX7_mostOf_1 10 rfl rfl)
theorem dX7_mostOf_33 : decode cX7_mostOf 33 = .ok (.getfield 24, 3) := dk_180 0 24 (dk_at dksX7_mostOf_1 11 rfl rfl)
theorem dX7_mostOf_36 : decode cX7_mostOf 36 = .ok (.iload_n 3, 1) := dk_29 (dk_at dksX7_mostOf_1 14 rfl rfl)
theorem dX7_mostOf_37 : decode cX7_mostOf 37 = .ok (.iload_n 1, 1) := dk_27 (dk_at dksX7_mostOf_1 15 rfl rfl)
theorem dX7_mostOf_38 : decode cX7_mostOf 38 = .ok (.invokevirtual 61, 3) := dk_182 0 61 (dk_at dksX7_mostOf_1 16 rfl rfl)
theorem dX7_mostOf_41 : decode cX7_mostOf 41 = .ok (.invokestatic 65, 3) := dk_184 0 65 (dk_at dksX7_mostOf_1 19 rfl rfl)
theorem dX7_mostOf_44 : decode cX7_mostOf 44 = .ok (.istore_n 2, 1) := dk_61 (dk_at dksX7_mostOf_1 22 rfl rfl)
theorem dX7_mostOf_45 : decode cX7_mostOf 45 = .ok (.iinc 3 1, 3) := dk_132 3 1 (dk_at dksX7_mostOf_2 0 rfl rfl)
theorem dX7_mostOf_48 : decode cX7_mostOf 48 = .ok (.goto (-44), 3) := dk_167 255 212 (dk_at dksX7_mostOf_2 3 rfl rfl)
theorem dX7_mostOf_51 : decode cX7_mostOf 51 = .ok (.iload_n 2, 1) := dk_28 (dk_at dksX7_mostOf_2 6 rfl rfl)
theorem dX7_mostOf_52 : decode cX7_mostOf 52 = .ok (.ireturn, 1) := dk_172 (dk_at dksX7_mostOf_2 7 rfl rfl)
abbrev cX7_tries : ByteArray := prog_11_method_5_code
def yX7_tries : MethodName := ⟨RX7, "tries", "(II)V"⟩
def dkwX7_tries_8 : List UInt8 := [132, 4, 1, 167, 255, 161, 177]
abbrev dktX7_tries_8 : List UInt8 := dkwX7_tries_8 ++ []
def dkwX7_tries_7 : List UInt8 := [180, 0, 24, 21, 4, 27, 182, 0, 61, 96, 182, 0, 54, 42, 180, 0, 18, 21, 4, 92, 46, 4, 96, 79]
abbrev dktX7_tries_7 : List UInt8 := dkwX7_tries_7 ++ dktX7_tries_8
def dkwX7_tries_6 : List UInt8 := [180, 0, 9, 27, 21, 4, 79, 42, 180, 0, 18, 21, 4, 92, 46, 4, 100, 79, 42, 27, 4, 96, 28, 42]
abbrev dktX7_tries_6 : List UInt8 := dkwX7_tries_6 ++ dktX7_tries_7
def dkwX7_tries_5 : List UInt8 := [180, 0, 18, 21, 4, 46, 158, 0, 65, 29, 155, 0, 12, 29, 21, 4, 159, 0, 6, 167, 0, 52, 42]
abbrev dktX7_tries_5 : List UInt8 := dkwX7_tries_5 ++ dktX7_tries_6
def dkwX7_tries_4 : List UInt8 := [3, 54, 4, 21, 4, 42, 180, 0, 24, 180, 0, 32, 180, 0, 38, 162, 0, 86, 29, 2, 159, 0, 81, 42]
abbrev dktX7_tries_4 : List UInt8 := dkwX7_tries_4 ++ dktX7_tries_5
def dkwX7_tries_3 : List UInt8 := [167, 0, 4, 2, 62, 42, 180, 0, 9, 27, 2, 79, 29, 156, 0, 11, 42, 27, 4, 96, 28, 182, 0, 54]
abbrev dktX7_tries_3 : List UInt8 := dkwX7_tries_3 ++ dktX7_tries_4
def dkwX7_tries_2 : List UInt8 := [184, 0, 73, 177, 42, 180, 0, 24, 180, 0, 58, 27, 46, 4, 160, 0, 11, 42, 27, 182, 0, 79]
abbrev dktX7_tries_2 : List UInt8 := dkwX7_tries_2 ++ dktX7_tries_3
def dkwX7_tries_1 : List UInt8 := [180, 0, 48, 160, 0, 24, 42, 28, 181, 0, 28, 42, 180, 0, 9, 3, 42, 180, 0, 15, 3, 16, 8]
abbrev dktX7_tries_1 : List UInt8 := dkwX7_tries_1 ++ dktX7_tries_2
def dkwX7_tries_0 : List UInt8 := [28, 42, 180, 0, 21, 27, 46, 96, 42, 180, 0, 28, 163, 0, 4, 177, 27, 42, 180, 0, 24, 180, 0, 32]
abbrev dktX7_tries_0 : List UInt8 := dkwX7_tries_0 ++ dktX7_tries_1
theorem dksX7_tries_0 : cX7_tries.data.toList.drop 0 = dktX7_tries_0 := by decide +kernel
theorem dksX7_tries_1 : cX7_tries.data.toList.drop 24 = dktX7_tries_1 := dk_seg dksX7_tries_0 24 rfl rfl
theorem dksX7_tries_2 : cX7_tries.data.toList.drop 47 = dktX7_tries_2 := dk_seg dksX7_tries_1 23 rfl rfl
theorem dksX7_tries_3 : cX7_tries.data.toList.drop 69 = dktX7_tries_3 := dk_seg dksX7_tries_2 22 rfl rfl
theorem dksX7_tries_4 : cX7_tries.data.toList.drop 93 = dktX7_tries_4 := dk_seg dksX7_tries_3 24 rfl rfl
theorem dksX7_tries_5 : cX7_tries.data.toList.drop 117 = dktX7_tries_5 := dk_seg dksX7_tries_4 24 rfl rfl
theorem dksX7_tries_6 : cX7_tries.data.toList.drop 140 = dktX7_tries_6 := dk_seg dksX7_tries_5 23 rfl rfl
theorem dksX7_tries_7 : cX7_tries.data.toList.drop 164 = dktX7_tries_7 := dk_seg dksX7_tries_6 24 rfl rfl
theorem dksX7_tries_8 : cX7_tries.data.toList.drop 188 = dktX7_tries_8 := dk_seg dksX7_tries_7 24 rfl rfl
theorem dX7_tries_0 : decode cX7_tries 0 = .ok (.iload_n 2, 1) := dk_28 (dk_at dksX7_tries_0 0 rfl rfl)
theorem dX7_tries_1 : decode cX7_tries 1 = .ok (.aload_n 0, 1) := dk_42 (dk_at dksX7_tries_0 1 rfl rfl)
theorem dX7_tries_2 : decode cX7_tries 2 = .ok (.getfield 21, 3) := dk_180 0 21 (dk_at dksX7_tries_0 2 rfl rfl)
theorem dX7_tries_5 : decode cX7_tries 5 = .ok (.iload_n 1, 1) := dk_27 (dk_at dksX7_tries_0 5 rfl rfl)
theorem dX7_tries_6 : decode cX7_tries 6 = .ok (.iaload, 1) := dk_46 (dk_at dksX7_tries_0 6 rfl rfl)
theorem dX7_tries_7 : decode cX7_tries 7 = .ok (.iadd, 1) := dk_96 (dk_at dksX7_tries_0 7 rfl rfl)
theorem dX7_tries_8 : decode cX7_tries 8 = .ok (.aload_n 0, 1) := dk_42 (dk_at dksX7_tries_0 8 rfl rfl)
theorem dX7_tries_9 : decode cX7_tries 9 = .ok (.getfield 28, 3) := dk_180 0 28 (dk_at dksX7_tries_0 9 rfl rfl)
theorem dX7_tries_12 : decode cX7_tries 12 = .ok (.if_icmp .gt 4, 3) := dk_163 0 4 (dk_at dksX7_tries_0 12 rfl rfl)
theorem dX7_tries_15 : decode cX7_tries 15 = .ok (.return_, 1) := dk_177 (dk_at dksX7_tries_0 15 rfl rfl)
theorem dX7_tries_16 : decode cX7_tries 16 = .ok (.iload_n 1, 1) := dk_27 (dk_at dksX7_tries_0 16 rfl rfl)
theorem dX7_tries_17 : decode cX7_tries 17 = .ok (.aload_n 0, 1) := dk_42 (dk_at dksX7_tries_0 17 rfl rfl)
theorem dX7_tries_18 : decode cX7_tries 18 = .ok (.getfield 24, 3) := dk_180 0 24 (dk_at dksX7_tries_0 18 rfl rfl)
theorem dX7_tries_21 : decode cX7_tries 21 = .ok (.getfield 32, 3) := dk_180 0 32 (dk_at dksX7_tries_0 21 rfl rfl)
theorem dX7_tries_24 : decode cX7_tries 24 = .ok (.getfield 48, 3) := dk_180 0 48 (dk_at dksX7_tries_1 0 rfl rfl)
theorem dX7_tries_27 : decode cX7_tries 27 = .ok (.if_icmp .ne 24, 3) := dk_160 0 24 (dk_at dksX7_tries_1 3 rfl rfl)
theorem dX7_tries_30 : decode cX7_tries 30 = .ok (.aload_n 0, 1) := dk_42 (dk_at dksX7_tries_1 6 rfl rfl)
theorem dX7_tries_31 : decode cX7_tries 31 = .ok (.iload_n 2, 1) := dk_28 (dk_at dksX7_tries_1 7 rfl rfl)
theorem dX7_tries_32 : decode cX7_tries 32 = .ok (.putfield 28, 3) := dk_181 0 28 (dk_at dksX7_tries_1 8 rfl rfl)
theorem dX7_tries_35 : decode cX7_tries 35 = .ok (.aload_n 0, 1) := dk_42 (dk_at dksX7_tries_1 11 rfl rfl)
theorem dX7_tries_36 : decode cX7_tries 36 = .ok (.getfield 9, 3) := dk_180 0 9 (dk_at dksX7_tries_1 12 rfl rfl)
theorem dX7_tries_39 : decode cX7_tries 39 = .ok (.iconst 0, 1) := dk_3 (dk_at dksX7_tries_1 15 rfl rfl)
theorem dX7_tries_40 : decode cX7_tries 40 = .ok (.aload_n 0, 1) := dk_42 (dk_at dksX7_tries_1 16 rfl rfl)
theorem dX7_tries_41 : decode cX7_tries 41 = .ok (.getfield 15, 3) := dk_180 0 15 (dk_at dksX7_tries_1 17 rfl rfl)
theorem dX7_tries_44 : decode cX7_tries 44 = .ok (.iconst 0, 1) := dk_3 (dk_at dksX7_tries_1 20 rfl rfl)
theorem dX7_tries_45 : decode cX7_tries 45 = .ok (.bipush 8, 2) := dk_16 8 (dk_at dksX7_tries_1 21 rfl rfl)
theorem dX7_tries_47 : decode cX7_tries 47 = .ok (.invokestatic 73, 3) := dk_184 0 73 (dk_at dksX7_tries_2 0 rfl rfl)
theorem dX7_tries_50 : decode cX7_tries 50 = .ok (.return_, 1) := dk_177 (dk_at dksX7_tries_2 3 rfl rfl)
theorem dX7_tries_51 : decode cX7_tries 51 = .ok (.aload_n 0, 1) := dk_42 (dk_at dksX7_tries_2 4 rfl rfl)
theorem dX7_tries_52 : decode cX7_tries 52 = .ok (.getfield 24, 3) := dk_180 0 24 (dk_at dksX7_tries_2 5 rfl rfl)
theorem dX7_tries_55 : decode cX7_tries 55 = .ok (.getfield 58, 3) := dk_180 0 58 (dk_at dksX7_tries_2 8 rfl rfl)
theorem dX7_tries_58 : decode cX7_tries 58 = .ok (.iload_n 1, 1) := dk_27 (dk_at dksX7_tries_2 11 rfl rfl)
theorem dX7_tries_59 : decode cX7_tries 59 = .ok (.iaload, 1) := dk_46 (dk_at dksX7_tries_2 12 rfl rfl)
theorem dX7_tries_60 : decode cX7_tries 60 = .ok (.iconst 1, 1) := dk_4 (dk_at dksX7_tries_2 13 rfl rfl)
theorem dX7_tries_61 : decode cX7_tries 61 = .ok (.if_icmp .ne 11, 3) := dk_160 0 11 (dk_at dksX7_tries_2 14 rfl rfl)
theorem dX7_tries_64 : decode cX7_tries 64 = .ok (.aload_n 0, 1) := dk_42 (dk_at dksX7_tries_2 17 rfl rfl)
theorem dX7_tries_65 : decode cX7_tries 65 = .ok (.iload_n 1, 1) := dk_27 (dk_at dksX7_tries_2 18 rfl rfl)
theorem dX7_tries_66 : decode cX7_tries 66 = .ok (.invokevirtual 79, 3) := dk_182 0 79 (dk_at dksX7_tries_2 19 rfl rfl)
theorem dX7_tries_69 : decode cX7_tries 69 = .ok (.goto 4, 3) := dk_167 0 4 (dk_at dksX7_tries_3 0 rfl rfl)
theorem dX7_tries_72 : decode cX7_tries 72 = .ok (.iconst (-1), 1) := dk_2 (dk_at dksX7_tries_3 3 rfl rfl)
theorem dX7_tries_73 : decode cX7_tries 73 = .ok (.istore_n 3, 1) := dk_62 (dk_at dksX7_tries_3 4 rfl rfl)
theorem dX7_tries_74 : decode cX7_tries 74 = .ok (.aload_n 0, 1) := dk_42 (dk_at dksX7_tries_3 5 rfl rfl)
theorem dX7_tries_75 : decode cX7_tries 75 = .ok (.getfield 9, 3) := dk_180 0 9 (dk_at dksX7_tries_3 6 rfl rfl)
theorem dX7_tries_78 : decode cX7_tries 78 = .ok (.iload_n 1, 1) := dk_27 (dk_at dksX7_tries_3 9 rfl rfl)
theorem dX7_tries_79 : decode cX7_tries 79 = .ok (.iconst (-1), 1) := dk_2 (dk_at dksX7_tries_3 10 rfl rfl)
theorem dX7_tries_80 : decode cX7_tries 80 = .ok (.iastore, 1) := dk_79 (dk_at dksX7_tries_3 11 rfl rfl)
theorem dX7_tries_81 : decode cX7_tries 81 = .ok (.iload_n 3, 1) := dk_29 (dk_at dksX7_tries_3 12 rfl rfl)
theorem dX7_tries_82 : decode cX7_tries 82 = .ok (.ifCond .ge 11, 3) := dk_156 0 11 (dk_at dksX7_tries_3 13 rfl rfl)
theorem dX7_tries_85 : decode cX7_tries 85 = .ok (.aload_n 0, 1) := dk_42 (dk_at dksX7_tries_3 16 rfl rfl)
theorem dX7_tries_86 : decode cX7_tries 86 = .ok (.iload_n 1, 1) := dk_27 (dk_at dksX7_tries_3 17 rfl rfl)
theorem dX7_tries_87 : decode cX7_tries 87 = .ok (.iconst 1, 1) := dk_4 (dk_at dksX7_tries_3 18 rfl rfl)
theorem dX7_tries_88 : decode cX7_tries 88 = .ok (.iadd, 1) := dk_96 (dk_at dksX7_tries_3 19 rfl rfl)
theorem dX7_tries_89 : decode cX7_tries 89 = .ok (.iload_n 2, 1) := dk_28 (dk_at dksX7_tries_3 20 rfl rfl)
theorem dX7_tries_90 : decode cX7_tries 90 = .ok (.invokevirtual 54, 3) := dk_182 0 54 (dk_at dksX7_tries_3 21 rfl rfl)
theorem dX7_tries_93 : decode cX7_tries 93 = .ok (.iconst 0, 1) := dk_3 (dk_at dksX7_tries_4 0 rfl rfl)
theorem dX7_tries_94 : decode cX7_tries 94 = .ok (.istore 4, 2) := dk_54 4 (dk_at dksX7_tries_4 1 rfl rfl)
theorem dX7_tries_96 : decode cX7_tries 96 = .ok (.iload 4, 2) := dk_21 4 (dk_at dksX7_tries_4 3 rfl rfl)
theorem dX7_tries_98 : decode cX7_tries 98 = .ok (.aload_n 0, 1) := dk_42 (dk_at dksX7_tries_4 5 rfl rfl)
theorem dX7_tries_99 : decode cX7_tries 99 = .ok (.getfield 24, 3) := dk_180 0 24 (dk_at dksX7_tries_4 6 rfl rfl)
theorem dX7_tries_102 : decode cX7_tries 102 = .ok (.getfield 32, 3) := dk_180 0 32 (dk_at dksX7_tries_4 9 rfl rfl)
theorem dX7_tries_105 : decode cX7_tries 105 = .ok (.getfield 38, 3) := dk_180 0 38 (dk_at dksX7_tries_4 12 rfl rfl)
theorem dX7_tries_108 : decode cX7_tries 108 = .ok (.if_icmp .ge 86, 3) := dk_162 0 86 (dk_at dksX7_tries_4 15 rfl rfl)
theorem dX7_tries_111 : decode cX7_tries 111 = .ok (.iload_n 3, 1) := dk_29 (dk_at dksX7_tries_4 18 rfl rfl)
theorem dX7_tries_112 : decode cX7_tries 112 = .ok (.iconst (-1), 1) := dk_2 (dk_at dksX7_tries_4 19 rfl rfl)
theorem dX7_tries_113 : decode cX7_tries 113 = .ok (.if_icmp .eq 81, 3) := dk_159 0 81 (dk_at dksX7_tries_4 20 rfl rfl)
theorem dX7_tries_116 : decode cX7_tries 116 = .ok (.aload_n 0, 1) := dk_42 (dk_at dksX7_tries_4 23 rfl rfl)
theorem dX7_tries_117 : decode cX7_tries 117 = .ok (.getfield 18, 3) := dk_180 0 18 (dk_at dksX7_tries_5 0 rfl rfl)
theorem dX7_tries_120 : decode cX7_tries 120 = .ok (.iload 4, 2) := dk_21 4 (dk_at dksX7_tries_5 3 rfl rfl)
theorem dX7_tries_122 : decode cX7_tries 122 = .ok (.iaload, 1) := dk_46 (dk_at dksX7_tries_5 5 rfl rfl)
theorem dX7_tries_123 : decode cX7_tries 123 = .ok (.ifCond .le 65, 3) := dk_158 0 65 (dk_at dksX7_tries_5 6 rfl rfl)
theorem dX7_tries_126 : decode cX7_tries 126 = .ok (.iload_n 3, 1) := dk_29 (dk_at dksX7_tries_5 9 rfl rfl)
theorem dX7_tries_127 : decode cX7_tries 127 = .ok (.ifCond .lt 12, 3) := dk_155 0 12 (dk_at dksX7_tries_5 10 rfl rfl)
theorem dX7_tries_130 : decode cX7_tries 130 = .ok (.iload_n 3, 1) := dk_29 (dk_at dksX7_tries_5 13 rfl rfl)
theorem dX7_tries_131 : decode cX7_tries 131 = .ok (.iload 4, 2) := dk_21 4 (dk_at dksX7_tries_5 14 rfl rfl)
theorem dX7_tries_133 : decode cX7_tries 133 = .ok (.if_icmp .eq 6, 3) := dk_159 0 6 (dk_at dksX7_tries_5 16 rfl rfl)
theorem dX7_tries_136 : decode cX7_tries 136 = .ok (.goto 52, 3) := dk_167 0 52 (dk_at dksX7_tries_5 19 rfl rfl)
theorem dX7_tries_139 : decode cX7_tries 139 = .ok (.aload_n 0, 1) := dk_42 (dk_at dksX7_tries_5 22 rfl rfl)
theorem dX7_tries_140 : decode cX7_tries 140 = .ok (.getfield 9, 3) := dk_180 0 9 (dk_at dksX7_tries_6 0 rfl rfl)
theorem dX7_tries_143 : decode cX7_tries 143 = .ok (.iload_n 1, 1) := dk_27 (dk_at dksX7_tries_6 3 rfl rfl)
theorem dX7_tries_144 : decode cX7_tries 144 = .ok (.iload 4, 2) := dk_21 4 (dk_at dksX7_tries_6 4 rfl rfl)
theorem dX7_tries_146 : decode cX7_tries 146 = .ok (.iastore, 1) := dk_79 (dk_at dksX7_tries_6 6 rfl rfl)
theorem dX7_tries_147 : decode cX7_tries 147 = .ok (.aload_n 0, 1) := dk_42 (dk_at dksX7_tries_6 7 rfl rfl)
theorem dX7_tries_148 : decode cX7_tries 148 = .ok (.getfield 18, 3) := dk_180 0 18 (dk_at dksX7_tries_6 8 rfl rfl)
theorem dX7_tries_151 : decode cX7_tries 151 = .ok (.iload 4, 2) := dk_21 4 (dk_at dksX7_tries_6 11 rfl rfl)
theorem dX7_tries_153 : decode cX7_tries 153 = .ok (.dup2, 1) := dk_92 (dk_at dksX7_tries_6 13 rfl rfl)
theorem dX7_tries_154 : decode cX7_tries 154 = .ok (.iaload, 1) := dk_46 (dk_at dksX7_tries_6 14 rfl rfl)
theorem dX7_tries_155 : decode cX7_tries 155 = .ok (.iconst 1, 1) := dk_4 (dk_at dksX7_tries_6 15 rfl rfl)
theorem dX7_tries_156 : decode cX7_tries 156 = .ok (.isub, 1) := dk_100 (dk_at dksX7_tries_6 16 rfl rfl)
theorem dX7_tries_157 : decode cX7_tries 157 = .ok (.iastore, 1) := dk_79 (dk_at dksX7_tries_6 17 rfl rfl)
theorem dX7_tries_158 : decode cX7_tries 158 = .ok (.aload_n 0, 1) := dk_42 (dk_at dksX7_tries_6 18 rfl rfl)
theorem dX7_tries_159 : decode cX7_tries 159 = .ok (.iload_n 1, 1) := dk_27 (dk_at dksX7_tries_6 19 rfl rfl)
theorem dX7_tries_160 : decode cX7_tries 160 = .ok (.iconst 1, 1) := dk_4 (dk_at dksX7_tries_6 20 rfl rfl)
theorem dX7_tries_161 : decode cX7_tries 161 = .ok (.iadd, 1) := dk_96 (dk_at dksX7_tries_6 21 rfl rfl)
theorem dX7_tries_162 : decode cX7_tries 162 = .ok (.iload_n 2, 1) := dk_28 (dk_at dksX7_tries_6 22 rfl rfl)
theorem dX7_tries_163 : decode cX7_tries 163 = .ok (.aload_n 0, 1) := dk_42 (dk_at dksX7_tries_6 23 rfl rfl)
theorem dX7_tries_164 : decode cX7_tries 164 = .ok (.getfield 24, 3) := dk_180 0 24 (dk_at dksX7_tries_7 0 rfl rfl)
theorem dX7_tries_167 : decode cX7_tries 167 = .ok (.iload 4, 2) := dk_21 4 (dk_at dksX7_tries_7 3 rfl rfl)
theorem dX7_tries_169 : decode cX7_tries 169 = .ok (.iload_n 1, 1) := dk_27 (dk_at dksX7_tries_7 5 rfl rfl)
theorem dX7_tries_170 : decode cX7_tries 170 = .ok (.invokevirtual 61, 3) := dk_182 0 61 (dk_at dksX7_tries_7 6 rfl rfl)
theorem dX7_tries_173 : decode cX7_tries 173 = .ok (.iadd, 1) := dk_96 (dk_at dksX7_tries_7 9 rfl rfl)
theorem dX7_tries_174 : decode cX7_tries 174 = .ok (.invokevirtual 54, 3) := dk_182 0 54 (dk_at dksX7_tries_7 10 rfl rfl)
theorem dX7_tries_177 : decode cX7_tries 177 = .ok (.aload_n 0, 1) := dk_42 (dk_at dksX7_tries_7 13 rfl rfl)
theorem dX7_tries_178 : decode cX7_tries 178 = .ok (.getfield 18, 3) := dk_180 0 18 (dk_at dksX7_tries_7 14 rfl rfl)
theorem dX7_tries_181 : decode cX7_tries 181 = .ok (.iload 4, 2) := dk_21 4 (dk_at dksX7_tries_7 17 rfl rfl)
theorem dX7_tries_183 : decode cX7_tries 183 = .ok (.dup2, 1) := dk_92 (dk_at dksX7_tries_7 19 rfl rfl)
theorem dX7_tries_184 : decode cX7_tries 184 = .ok (.iaload, 1) := dk_46 (dk_at dksX7_tries_7 20 rfl rfl)
theorem dX7_tries_185 : decode cX7_tries 185 = .ok (.iconst 1, 1) := dk_4 (dk_at dksX7_tries_7 21 rfl rfl)
theorem dX7_tries_186 : decode cX7_tries 186 = .ok (.iadd, 1) := dk_96 (dk_at dksX7_tries_7 22 rfl rfl)
theorem dX7_tries_187 : decode cX7_tries 187 = .ok (.iastore, 1) := dk_79 (dk_at dksX7_tries_7 23 rfl rfl)
theorem dX7_tries_188 : decode cX7_tries 188 = .ok (.iinc 4 1, 3) := dk_132 4 1 (dk_at dksX7_tries_8 0 rfl rfl)
theorem dX7_tries_191 : decode cX7_tries 191 = .ok (.goto (-95), 3) := dk_167 255 161 (dk_at dksX7_tries_8 3 rfl rfl)
theorem dX7_tries_194 : decode cX7_tries 194 = .ok (.return_, 1) := dk_177 (dk_at dksX7_tries_8 6 rfl rfl)
abbrev cX7_kinAt : ByteArray := prog_11_method_4_code
def yX7_kinAt : MethodName := ⟨RX7, "kinAt", "(I)I"⟩
def dkwX7_kinAt_2 : List UInt8 := [132, 3, 1, 167, 255, 219, 16, 254, 172]
abbrev dktX7_kinAt_2 : List UInt8 := dkwX7_kinAt_2 ++ []
def dkwX7_kinAt_1 : List UInt8 := [4, 160, 0, 23, 42, 180, 0, 24, 180, 0, 58, 29, 46, 4, 160, 0, 10, 42, 180, 0, 9, 29, 46, 172]
abbrev dktX7_kinAt_1 : List UInt8 := dkwX7_kinAt_1 ++ dktX7_kinAt_2
def dkwX7_kinAt_0 : List UInt8 := [42, 180, 0, 24, 180, 0, 32, 27, 182, 0, 70, 61, 3, 62, 29, 27, 162, 0, 38, 28, 29, 122, 4, 126]
abbrev dktX7_kinAt_0 : List UInt8 := dkwX7_kinAt_0 ++ dktX7_kinAt_1
theorem dksX7_kinAt_0 : cX7_kinAt.data.toList.drop 0 = dktX7_kinAt_0 := by decide +kernel
theorem dksX7_kinAt_1 : cX7_kinAt.data.toList.drop 24 = dktX7_kinAt_1 := dk_seg dksX7_kinAt_0 24 rfl rfl
theorem dksX7_kinAt_2 : cX7_kinAt.data.toList.drop 48 = dktX7_kinAt_2 := dk_seg dksX7_kinAt_1 24 rfl rfl
theorem dX7_kinAt_0 : decode cX7_kinAt 0 = .ok (.aload_n 0, 1) := dk_42 (dk_at dksX7_kinAt_0 0 rfl rfl)
theorem dX7_kinAt_1 : decode cX7_kinAt 1 = .ok (.getfield 24, 3) := dk_180 0 24 (dk_at dksX7_kinAt_0 1 rfl rfl)
theorem dX7_kinAt_4 : decode cX7_kinAt 4 = .ok (.getfield 32, 3) := dk_180 0 32 (dk_at dksX7_kinAt_0 4 rfl rfl)
theorem dX7_kinAt_7 : decode cX7_kinAt 7 = .ok (.iload_n 1, 1) := dk_27 (dk_at dksX7_kinAt_0 7 rfl rfl)
theorem dX7_kinAt_8 : decode cX7_kinAt 8 = .ok (.invokevirtual 70, 3) := dk_182 0 70 (dk_at dksX7_kinAt_0 8 rfl rfl)
theorem dX7_kinAt_11 : decode cX7_kinAt 11 = .ok (.istore_n 2, 1) := dk_61 (dk_at dksX7_kinAt_0 11 rfl rfl)
theorem dX7_kinAt_12 : decode cX7_kinAt 12 = .ok (.iconst 0, 1) := dk_3 (dk_at dksX7_kinAt_0 12 rfl rfl)
theorem dX7_kinAt_13 : decode cX7_kinAt 13 = .ok (.istore_n 3, 1) := dk_62 (dk_at dksX7_kinAt_0 13 rfl rfl)
theorem dX7_kinAt_14 : decode cX7_kinAt 14 = .ok (.iload_n 3, 1) := dk_29 (dk_at dksX7_kinAt_0 14 rfl rfl)
theorem dX7_kinAt_15 : decode cX7_kinAt 15 = .ok (.iload_n 1, 1) := dk_27 (dk_at dksX7_kinAt_0 15 rfl rfl)
theorem dX7_kinAt_16 : decode cX7_kinAt 16 = .ok (.if_icmp .ge 38, 3) := dk_162 0 38 (dk_at dksX7_kinAt_0 16 rfl rfl)
theorem dX7_kinAt_19 : decode cX7_kinAt 19 = .ok (.iload_n 2, 1) := dk_28 (dk_at dksX7_kinAt_0 19 rfl rfl)
theorem dX7_kinAt_20 : decode cX7_kinAt 20 = .ok (.iload_n 3, 1) := dk_29 (dk_at dksX7_kinAt_0 20 rfl rfl)
theorem dX7_kinAt_21 : decode cX7_kinAt 21 = .ok (.ishr, 1) := dk_122 (dk_at dksX7_kinAt_0 21 rfl rfl)
theorem dX7_kinAt_22 : decode cX7_kinAt 22 = .ok (.iconst 1, 1) := dk_4 (dk_at dksX7_kinAt_0 22 rfl rfl)
theorem dX7_kinAt_23 : decode cX7_kinAt 23 = .ok (.iand, 1) := dk_126 (dk_at dksX7_kinAt_0 23 rfl rfl)
theorem dX7_kinAt_24 : decode cX7_kinAt 24 = .ok (.iconst 1, 1) := dk_4 (dk_at dksX7_kinAt_1 0 rfl rfl)
theorem dX7_kinAt_25 : decode cX7_kinAt 25 = .ok (.if_icmp .ne 23, 3) := dk_160 0 23 (dk_at dksX7_kinAt_1 1 rfl rfl)
theorem dX7_kinAt_28 : decode cX7_kinAt 28 = .ok (.aload_n 0, 1) := dk_42 (dk_at dksX7_kinAt_1 4 rfl rfl)
theorem dX7_kinAt_29 : decode cX7_kinAt 29 = .ok (.getfield 24, 3) := dk_180 0 24 (dk_at dksX7_kinAt_1 5 rfl rfl)
theorem dX7_kinAt_32 : decode cX7_kinAt 32 = .ok (.getfield 58, 3) := dk_180 0 58 (dk_at dksX7_kinAt_1 8 rfl rfl)
theorem dX7_kinAt_35 : decode cX7_kinAt 35 = .ok (.iload_n 3, 1) := dk_29 (dk_at dksX7_kinAt_1 11 rfl rfl)
theorem dX7_kinAt_36 : decode cX7_kinAt 36 = .ok (.iaload, 1) := dk_46 (dk_at dksX7_kinAt_1 12 rfl rfl)
theorem dX7_kinAt_37 : decode cX7_kinAt 37 = .ok (.iconst 1, 1) := dk_4 (dk_at dksX7_kinAt_1 13 rfl rfl)
theorem dX7_kinAt_38 : decode cX7_kinAt 38 = .ok (.if_icmp .ne 10, 3) := dk_160 0 10 (dk_at dksX7_kinAt_1 14 rfl rfl)
theorem dX7_kinAt_41 : decode cX7_kinAt 41 = .ok (.aload_n 0, 1) := dk_42 (dk_at dksX7_kinAt_1 17 rfl rfl)
theorem dX7_kinAt_42 : decode cX7_kinAt 42 = .ok (.getfield 9, 3) := dk_180 0 9 (dk_at dksX7_kinAt_1 18 rfl rfl)
theorem dX7_kinAt_45 : decode cX7_kinAt 45 = .ok (.iload_n 3, 1) := dk_29 (dk_at dksX7_kinAt_1 21 rfl rfl)
theorem dX7_kinAt_46 : decode cX7_kinAt 46 = .ok (.iaload, 1) := dk_46 (dk_at dksX7_kinAt_1 22 rfl rfl)
theorem dX7_kinAt_47 : decode cX7_kinAt 47 = .ok (.ireturn, 1) := dk_172 (dk_at dksX7_kinAt_1 23 rfl rfl)
theorem dX7_kinAt_48 : decode cX7_kinAt 48 = .ok (.iinc 3 1, 3) := dk_132 3 1 (dk_at dksX7_kinAt_2 0 rfl rfl)
theorem dX7_kinAt_51 : decode cX7_kinAt 51 = .ok (.goto (-37), 3) := dk_167 255 219 (dk_at dksX7_kinAt_2 3 rfl rfl)
theorem dX7_kinAt_54 : decode cX7_kinAt 54 = .ok (.bipush (-2), 2) := dk_16 254 (dk_at dksX7_kinAt_2 6 rfl rfl)
theorem dX7_kinAt_56 : decode cX7_kinAt 56 = .ok (.ireturn, 1) := dk_172 (dk_at dksX7_kinAt_2 8 rfl rfl)
abbrev cX7_placed : ByteArray := prog_11_method_6_code
def yX7_placed : MethodName := ⟨RX7, "placed", "()I"⟩
def dkwX7_placed_1 : List UInt8 := [2, 159, 0, 6, 132, 1, 1, 132, 2, 1, 167, 255, 226, 27, 172]
abbrev dktX7_placed_1 : List UInt8 := dkwX7_placed_1 ++ []
def dkwX7_placed_0 : List UInt8 := [3, 60, 3, 61, 28, 42, 180, 0, 24, 180, 0, 32, 180, 0, 48, 162, 0, 22, 42, 180, 0, 15, 28, 46]
abbrev dktX7_placed_0 : List UInt8 := dkwX7_placed_0 ++ dktX7_placed_1
theorem dksX7_placed_0 : cX7_placed.data.toList.drop 0 = dktX7_placed_0 := by decide +kernel
theorem dksX7_placed_1 : cX7_placed.data.toList.drop 24 = dktX7_placed_1 := dk_seg dksX7_placed_0 24 rfl rfl
theorem dX7_placed_0 : decode cX7_placed 0 = .ok (.iconst 0, 1) := dk_3 (dk_at dksX7_placed_0 0 rfl rfl)
theorem dX7_placed_1 : decode cX7_placed 1 = .ok (.istore_n 1, 1) := dk_60 (dk_at dksX7_placed_0 1 rfl rfl)
theorem dX7_placed_2 : decode cX7_placed 2 = .ok (.iconst 0, 1) := dk_3 (dk_at dksX7_placed_0 2 rfl rfl)
theorem dX7_placed_3 : decode cX7_placed 3 = .ok (.istore_n 2, 1) := dk_61 (dk_at dksX7_placed_0 3 rfl rfl)
theorem dX7_placed_4 : decode cX7_placed 4 = .ok (.iload_n 2, 1) := dk_28 (dk_at dksX7_placed_0 4 rfl rfl)
theorem dX7_placed_5 : decode cX7_placed 5 = .ok (.aload_n 0, 1) := dk_42 (dk_at dksX7_placed_0 5 rfl rfl)
theorem dX7_placed_6 : decode cX7_placed 6 = .ok (.getfield 24, 3) := dk_180 0 24 (dk_at dksX7_placed_0 6 rfl rfl)
theorem dX7_placed_9 : decode cX7_placed 9 = .ok (.getfield 32, 3) := dk_180 0 32 (dk_at dksX7_placed_0 9 rfl rfl)
theorem dX7_placed_12 : decode cX7_placed 12 = .ok (.getfield 48, 3) := dk_180 0 48 (dk_at dksX7_placed_0 12 rfl rfl)
theorem dX7_placed_15 : decode cX7_placed 15 = .ok (.if_icmp .ge 22, 3) := dk_162 0 22 (dk_at dksX7_placed_0 15 rfl rfl)
theorem dX7_placed_18 : decode cX7_placed 18 = .ok (.aload_n 0, 1) := dk_42 (dk_at dksX7_placed_0 18 rfl rfl)
theorem dX7_placed_19 : decode cX7_placed 19 = .ok (.getfield 15, 3) := dk_180 0 15 (dk_at dksX7_placed_0 19 rfl rfl)
theorem dX7_placed_22 : decode cX7_placed 22 = .ok (.iload_n 2, 1) := dk_28 (dk_at dksX7_placed_0 22 rfl rfl)
theorem dX7_placed_23 : decode cX7_placed 23 = .ok (.iaload, 1) := dk_46 (dk_at dksX7_placed_0 23 rfl rfl)
theorem dX7_placed_24 : decode cX7_placed 24 = .ok (.iconst (-1), 1) := dk_2 (dk_at dksX7_placed_1 0 rfl rfl)
theorem dX7_placed_25 : decode cX7_placed 25 = .ok (.if_icmp .eq 6, 3) := dk_159 0 6 (dk_at dksX7_placed_1 1 rfl rfl)
theorem dX7_placed_28 : decode cX7_placed 28 = .ok (.iinc 1 1, 3) := dk_132 1 1 (dk_at dksX7_placed_1 4 rfl rfl)
theorem dX7_placed_31 : decode cX7_placed 31 = .ok (.iinc 2 1, 3) := dk_132 2 1 (dk_at dksX7_placed_1 7 rfl rfl)
theorem dX7_placed_34 : decode cX7_placed 34 = .ok (.goto (-30), 3) := dk_167 255 226 (dk_at dksX7_placed_1 10 rfl rfl)
theorem dX7_placed_37 : decode cX7_placed 37 = .ok (.iload_n 1, 1) := dk_27 (dk_at dksX7_placed_1 13 rfl rfl)
theorem dX7_placed_38 : decode cX7_placed 38 = .ok (.ireturn, 1) := dk_172 (dk_at dksX7_placed_1 14 rfl rfl)
theorem q96 : (Jvm.Cond.initialized "PassagePapers$Places") ∈ lw_all := lw_g (lw_at lw_m1 7 rfl) rfl
theorem q239 : (Jvm.Cond.fieldLinkNest "PassagePapers$Places" (43 : Nat) "PassagePapers$Register" "room" "[I" "PassagePapers") ∈ lw_tbl := lw_at lw_m1 150 rfl
theorem q245 : (Jvm.Cond.fieldLinkNest "PassagePapers$Places" (48 : Nat) "PassagePapers$Register" "signers" "I" "PassagePapers") ∈ lw_tbl := lw_at lw_m1 156 rfl
theorem q249 : (Jvm.Cond.fieldLinkNest "PassagePapers$Places" (38 : Nat) "PassagePapers$Register" "takers" "I" "PassagePapers") ∈ lw_tbl := lw_at lw_m1 160 rfl
theorem q284 : (Jvm.Cond.fieldLinkNest "PassagePapers$Places" (58 : Nat) "PassagePapers$State" "where" "[I" "PassagePapers") ∈ lw_tbl := lw_at lw_m1 195 rfl
theorem q302 : (Jvm.Cond.fieldLinkNest "PassagePapers$Places" (32 : Nat) "PassagePapers$State" "register" "LPassagePapers$Register;" "PassagePapers") ∈ lw_tbl := lw_at lw_m1 213 rfl
theorem q350 : (Jvm.Cond.instantiable "PassagePapers$Places" (6 : Nat)) ∈ lw_all := lw_g (lw_at lw_m2 21 rfl) rfl
theorem q352 : (Jvm.Cond.instanceMethod ({ cls := "PassagePapers$Places", name := "<init>", desc := "()V" } : Jvm.MethodName)) ∈ lw_all := lw_g (lw_at lw_m2 23 rfl) rfl
theorem q353 : (Jvm.Cond.code ({ cls := "PassagePapers$Places", name := "<init>", desc := "()V" } : Jvm.MethodName) prog_11_method_1_code (1 : Nat) (Option.none : Option Jvm.ClassFile.FieldType)) ∈ lw_all := lw_g (lw_at lw_m2 24 rfl) rfl
theorem q354 : (Jvm.Cond.methodLink "PassagePapers$Places" (3 : Nat) ({ cls := "java/lang/Object", name := "<init>", desc := "()V" } : Jvm.MethodName)) ∈ lw_all := lw_g (lw_at lw_m2 25 rfl) rfl
theorem q355 : (Jvm.Cond.fieldLink "PassagePapers$Places" (9 : Nat) "PassagePapers$Places" "at" "[I") ∈ lw_all := lw_g (lw_at lw_m2 26 rfl) rfl
theorem q356 : (Jvm.Cond.fieldLink "PassagePapers$Places" (15 : Nat) "PassagePapers$Places" "best" "[I") ∈ lw_all := lw_g (lw_at lw_m2 27 rfl) rfl
theorem q358 : (Jvm.Cond.fieldLink "PassagePapers$Places" (18 : Nat) "PassagePapers$Places" "room" "[I") ∈ lw_all := lw_g (lw_at lw_m2 29 rfl) rfl
theorem q359 : (Jvm.Cond.fieldLink "PassagePapers$Places" (21 : Nat) "PassagePapers$Places" "most" "[I") ∈ lw_all := lw_g (lw_at lw_m2 30 rfl) rfl
theorem q360 : (Jvm.Cond.fieldLink "PassagePapers$Places" (24 : Nat) "PassagePapers$Places" "state" "LPassagePapers$State;") ∈ lw_all := lw_g (lw_at lw_m2 31 rfl) rfl
theorem q361 : (Jvm.Cond.fieldLink "PassagePapers$Places" (28 : Nat) "PassagePapers$Places" "top" "I") ∈ lw_all := lw_g (lw_at lw_m2 32 rfl) rfl
theorem q363 : (Jvm.Cond.laysFinal "PassagePapers$Places" "PassagePapers$Places" "at" "[I") ∈ lw_all := lw_g (lw_at lw_m2 34 rfl) rfl
theorem q364 : (Jvm.Cond.soleField "PassagePapers$Places" "at") ∈ lw_all := lw_g (lw_at lw_m2 35 rfl) rfl
theorem q365 : (Jvm.Cond.laysFinal "PassagePapers$Places" "PassagePapers$Places" "best" "[I") ∈ lw_all := lw_g (lw_at lw_m2 36 rfl) rfl
theorem q366 : (Jvm.Cond.soleField "PassagePapers$Places" "best") ∈ lw_all := lw_g (lw_at lw_m2 37 rfl) rfl
theorem q367 : (Jvm.Cond.laysFinal "PassagePapers$Places" "PassagePapers$Places" "room" "[I") ∈ lw_all := lw_g (lw_at lw_m2 38 rfl) rfl
theorem q368 : (Jvm.Cond.soleField "PassagePapers$Places" "room") ∈ lw_all := lw_g (lw_at lw_m2 39 rfl) rfl
theorem q369 : (Jvm.Cond.laysFinal "PassagePapers$Places" "PassagePapers$Places" "most" "[I") ∈ lw_all := lw_g (lw_at lw_m2 40 rfl) rfl
theorem q370 : (Jvm.Cond.soleField "PassagePapers$Places" "most") ∈ lw_all := lw_g (lw_at lw_m2 41 rfl) rfl
theorem q371 : (Jvm.Cond.lays "PassagePapers$Places" "PassagePapers$Places" "state" "LPassagePapers$State;") ∈ lw_all := lw_g (lw_at lw_m2 42 rfl) rfl
theorem q372 : (Jvm.Cond.soleField "PassagePapers$Places" "state") ∈ lw_all := lw_g (lw_at lw_m2 43 rfl) rfl
theorem q373 : (Jvm.Cond.lays "PassagePapers$Places" "PassagePapers$Places" "top" "I") ∈ lw_all := lw_g (lw_at lw_m2 44 rfl) rfl
theorem q374 : (Jvm.Cond.soleField "PassagePapers$Places" "top") ∈ lw_all := lw_g (lw_at lw_m2 45 rfl) rfl
theorem q375 : (Jvm.Cond.superclass "PassagePapers$Places" "java/lang/Object") ∈ lw_all := lw_g (lw_at lw_m2 46 rfl) rfl
theorem q1345 : (Jvm.Cond.instanceMethod ({ cls := "PassagePapers$Places", name := "finds", desc := "(LPassagePapers$State;)V" } : Jvm.MethodName)) ∈ lw_all := lw_g (lw_at lw_m6 56 rfl) rfl
theorem q1346 : (Jvm.Cond.selects "PassagePapers$Places" ({ cls := "PassagePapers$Places", name := "finds", desc := "(LPassagePapers$State;)V" } : Jvm.MethodName) ({ cls := "PassagePapers$Places", name := "finds", desc := "(LPassagePapers$State;)V" } : Jvm.MethodName)) ∈ lw_all := lw_g (lw_at lw_m6 57 rfl) rfl
theorem q1347 : (Jvm.Cond.code ({ cls := "PassagePapers$Places", name := "finds", desc := "(LPassagePapers$State;)V" } : Jvm.MethodName) prog_11_method_2_code (4 : Nat) (Option.none : Option Jvm.ClassFile.FieldType)) ∈ lw_all := lw_g (lw_at lw_m6 58 rfl) rfl
theorem q1348 : (Jvm.Cond.methodLink "PassagePapers$Places" (44 : Nat) ({ cls := "PassagePapers$State", name := "boundTo", desc := "(I)I" } : Jvm.MethodName)) ∈ lw_all := lw_g (lw_at lw_m6 59 rfl) rfl
theorem q1349 : (Jvm.Cond.methodLink "PassagePapers$Places" (51 : Nat) ({ cls := "PassagePapers$Places", name := "mostOf", desc := "(I)I" } : Jvm.MethodName)) ∈ lw_all := lw_g (lw_at lw_m6 60 rfl) rfl
theorem q1350 : (Jvm.Cond.privateMethod ({ cls := "PassagePapers$Places", name := "mostOf", desc := "(I)I" } : Jvm.MethodName)) ∈ lw_tbl := lw_at lw_m6 61 rfl
theorem q1351 : (Jvm.Cond.instanceMethod ({ cls := "PassagePapers$Places", name := "mostOf", desc := "(I)I" } : Jvm.MethodName)) ∈ lw_all := lw_g (lw_at lw_m6 62 rfl) rfl
theorem q1352 : (Jvm.Cond.code ({ cls := "PassagePapers$Places", name := "mostOf", desc := "(I)I" } : Jvm.MethodName) prog_11_method_3_code (4 : Nat) (Option.some Jvm.ClassFile.FieldType.int)) ∈ lw_all := lw_g (lw_at lw_m6 63 rfl) rfl
theorem q1353 : (Jvm.Cond.methodLink "PassagePapers$Places" (61 : Nat) ({ cls := "PassagePapers$State", name := "gives", desc := "(II)I" } : Jvm.MethodName)) ∈ lw_all := lw_g (lw_at lw_m6 64 rfl) rfl
theorem q1354 : (Jvm.Cond.methodLink "PassagePapers$Places" (65 : Nat) ({ cls := "java/lang/Math", name := "max", desc := "(II)I" } : Jvm.MethodName)) ∈ lw_all := lw_g (lw_at lw_m6 65 rfl) rfl
theorem q1355 : (Jvm.Cond.methodLink "PassagePapers$Places" (54 : Nat) ({ cls := "PassagePapers$Places", name := "tries", desc := "(II)V" } : Jvm.MethodName)) ∈ lw_all := lw_g (lw_at lw_m6 66 rfl) rfl
theorem q1356 : (Jvm.Cond.privateMethod ({ cls := "PassagePapers$Places", name := "tries", desc := "(II)V" } : Jvm.MethodName)) ∈ lw_tbl := lw_at lw_m6 67 rfl
theorem q1357 : (Jvm.Cond.instanceMethod ({ cls := "PassagePapers$Places", name := "tries", desc := "(II)V" } : Jvm.MethodName)) ∈ lw_all := lw_g (lw_at lw_m6 68 rfl) rfl
theorem q1358 : (Jvm.Cond.code ({ cls := "PassagePapers$Places", name := "tries", desc := "(II)V" } : Jvm.MethodName) prog_11_method_5_code (5 : Nat) (Option.none : Option Jvm.ClassFile.FieldType)) ∈ lw_all := lw_g (lw_at lw_m6 69 rfl) rfl
theorem q1359 : (Jvm.Cond.methodLink "PassagePapers$Places" (73 : Nat) ({ cls := "java/lang/System", name := "arraycopy", desc := "(Ljava/lang/Object;ILjava/lang/Object;II)V" } : Jvm.MethodName)) ∈ lw_all := lw_g (lw_at lw_m6 70 rfl) rfl
theorem q1360 : (Jvm.Cond.methodLink "PassagePapers$Places" (79 : Nat) ({ cls := "PassagePapers$Places", name := "kinAt", desc := "(I)I" } : Jvm.MethodName)) ∈ lw_all := lw_g (lw_at lw_m6 71 rfl) rfl
theorem q1361 : (Jvm.Cond.privateMethod ({ cls := "PassagePapers$Places", name := "kinAt", desc := "(I)I" } : Jvm.MethodName)) ∈ lw_tbl := lw_at lw_m6 72 rfl
theorem q1362 : (Jvm.Cond.instanceMethod ({ cls := "PassagePapers$Places", name := "kinAt", desc := "(I)I" } : Jvm.MethodName)) ∈ lw_all := lw_g (lw_at lw_m6 73 rfl) rfl
theorem q1363 : (Jvm.Cond.code ({ cls := "PassagePapers$Places", name := "kinAt", desc := "(I)I" } : Jvm.MethodName) prog_11_method_4_code (4 : Nat) (Option.some Jvm.ClassFile.FieldType.int)) ∈ lw_all := lw_g (lw_at lw_m6 74 rfl) rfl
theorem q1364 : (Jvm.Cond.methodLink "PassagePapers$Places" (70 : Nat) ({ cls := "PassagePapers$Register", name := "kinOf", desc := "(I)I" } : Jvm.MethodName)) ∈ lw_all := lw_g (lw_at lw_m6 75 rfl) rfl
theorem q1366 : (Jvm.Cond.instanceMethod ({ cls := "PassagePapers$Places", name := "placed", desc := "()I" } : Jvm.MethodName)) ∈ lw_all := lw_g (lw_at lw_m6 77 rfl) rfl
theorem q1367 : (Jvm.Cond.selects "PassagePapers$Places" ({ cls := "PassagePapers$Places", name := "placed", desc := "()I" } : Jvm.MethodName) ({ cls := "PassagePapers$Places", name := "placed", desc := "()I" } : Jvm.MethodName)) ∈ lw_all := lw_g (lw_at lw_m6 78 rfl) rfl
theorem q1368 : (Jvm.Cond.code ({ cls := "PassagePapers$Places", name := "placed", desc := "()I" } : Jvm.MethodName) prog_11_method_6_code (3 : Nat) (Option.some Jvm.ClassFile.FieldType.int)) ∈ lw_all := lw_g (lw_at lw_m6 79 rfl) rfl
theorem q2200 : (Jvm.Cond.castable "PassagePapers$Places" "java/lang/Object") ∈ lw_tbl := lw_at lw_m9 191 rfl
theorem in_X7 : ∀ w ∈ wsX70, w ∈ lw_all := lw_in wsX70 [363, 365, 367, 369, 371, 373] (by decide +kernel) (by decide +kernel)
