/-! PassagePapers$RegisterReader -/
set_option maxRecDepth 100000
def RX9 : String := "PassagePapers$RegisterReader"
def TX9 : u_T := fun k => match k with
  | 0 => ("PassagePapers$RegisterReader", "words", "[Ljava/lang/String;", true)
  | 1 => ("PassagePapers$RegisterReader", "in", "LPassagePapers$Reader;", true)
  | 2 => ("PassagePapers$RegisterReader", "register", "LPassagePapers$Register;", true)
  | _ => ("PassagePapers$RegisterReader", "clauses", "I", false)
def tyX9 : Nat → FieldType := fun k => match k with
  | 0 => .array (.object "java/lang/String")
  | 1 => .object "PassagePapers$Reader"
  | 2 => .object "PassagePapers$Register"
  | _ => .int
abbrev wsX90 : List Cond := u_ws RX9 TX9 4
theorem nmX9 : ∀ a, a < 4 → ∀ b, b < 4 → a ≠ b → (TX9 a).2.1 ≠ (TX9 b).2.1 := by decide +kernel
theorem tyX9_ok : ∀ k, k < 4 → parseFieldDescriptor (TX9 k).2.2.1 = some (tyX9 k) := by decide +kernel
abbrev cX9_init : ByteArray := prog_14_method_1_code
def yX9_init : MethodName := ⟨RX9, "<init>", "(LPassagePapers$Reader;)V"⟩
def dkwX9_init_2 : List UInt8 := [42, 43, 181, 0, 34, 177]
abbrev dktX9_init_2 : List UInt8 := dkwX9_init_2 ++ []
def dkwX9_init_1 : List UInt8 := [89, 6, 18, 17, 83, 89, 7, 18, 19, 83, 181, 0, 21, 42, 187, 0, 27, 89, 183, 0, 29, 181, 0, 30]
abbrev dktX9_init_1 : List UInt8 := dkwX9_init_1 ++ dktX9_init_2
def dkwX9_init_0 : List UInt8 := [42, 183, 0, 3, 42, 8, 189, 0, 9, 89, 3, 18, 11, 83, 89, 4, 18, 13, 83, 89, 5, 18, 15, 83]
abbrev dktX9_init_0 : List UInt8 := dkwX9_init_0 ++ dktX9_init_1
theorem dksX9_init_0 : cX9_init.data.toList.drop 0 = dktX9_init_0 := by decide +kernel
theorem dksX9_init_1 : cX9_init.data.toList.drop 24 = dktX9_init_1 := dk_seg dksX9_init_0 24 rfl rfl
theorem dksX9_init_2 : cX9_init.data.toList.drop 48 = dktX9_init_2 := dk_seg dksX9_init_1 24 rfl rfl
theorem dX9_init_0 : decode cX9_init 0 = .ok (.aload_n 0, 1) := dk_42 (dk_at dksX9_init_0 0 rfl rfl)
theorem dX9_init_1 : decode cX9_init 1 = .ok (.invokespecial 3, 3) := dk_183 0 3 (dk_at dksX9_init_0 1 rfl rfl)
theorem dX9_init_4 : decode cX9_init 4 = .ok (.aload_n 0, 1) := dk_42 (dk_at dksX9_init_0 4 rfl rfl)
theorem dX9_init_5 : decode cX9_init 5 = .ok (.iconst 5, 1) := dk_8 (dk_at dksX9_init_0 5 rfl rfl)
theorem dX9_init_6 : decode cX9_init 6 = .ok (.anewarray 9, 3) := dk_189 0 9 (dk_at dksX9_init_0 6 rfl rfl)
theorem dX9_init_9 : decode cX9_init 9 = .ok (.dup, 1) := dk_89 (dk_at dksX9_init_0 9 rfl rfl)
theorem dX9_init_10 : decode cX9_init 10 = .ok (.iconst 0, 1) := dk_3 (dk_at dksX9_init_0 10 rfl rfl)
theorem dX9_init_11 : decode cX9_init 11 = .ok (.ldc 11, 2) := dk_18 11 (dk_at dksX9_init_0 11 rfl rfl)
theorem dX9_init_13 : decode cX9_init 13 = .ok (.aastore, 1) := dk_83 (dk_at dksX9_init_0 13 rfl rfl)
theorem dX9_init_14 : decode cX9_init 14 = .ok (.dup, 1) := dk_89 (dk_at dksX9_init_0 14 rfl rfl)
theorem dX9_init_15 : decode cX9_init 15 = .ok (.iconst 1, 1) := dk_4 (dk_at dksX9_init_0 15 rfl rfl)
theorem dX9_init_16 : decode cX9_init 16 = .ok (.ldc 13, 2) := dk_18 13 (dk_at dksX9_init_0 16 rfl rfl)
theorem dX9_init_18 : decode cX9_init 18 = .ok (.aastore, 1) := dk_83 (dk_at dksX9_init_0 18 rfl rfl)
theorem dX9_init_19 : decode cX9_init 19 = .ok (.dup, 1) := dk_89 (dk_at dksX9_init_0 19 rfl rfl)
theorem dX9_init_20 : decode cX9_init 20 = .ok (.iconst 2, 1) := dk_5 (dk_at dksX9_init_0 20 rfl rfl)
theorem dX9_init_21 : decode cX9_init 21 = .ok (.ldc 15, 2) := dk_18 15 (dk_at dksX9_init_0 21 rfl rfl)
theorem dX9_init_23 : decode cX9_init 23 = .ok (.aastore, 1) := dk_83 (dk_at dksX9_init_0 23 rfl rfl)
theorem dX9_init_24 : decode cX9_init 24 = .ok (.dup, 1) := dk_89 (dk_at dksX9_init_1 0 rfl rfl)
theorem dX9_init_25 : decode cX9_init 25 = .ok (.iconst 3, 1) := dk_6 (dk_at dksX9_init_1 1 rfl rfl)
theorem dX9_init_26 : decode cX9_init 26 = .ok (.ldc 17, 2) := dk_18 17 (dk_at dksX9_init_1 2 rfl rfl)
theorem dX9_init_28 : decode cX9_init 28 = .ok (.aastore, 1) := dk_83 (dk_at dksX9_init_1 4 rfl rfl)
theorem dX9_init_29 : decode cX9_init 29 = .ok (.dup, 1) := dk_89 (dk_at dksX9_init_1 5 rfl rfl)
theorem dX9_init_30 : decode cX9_init 30 = .ok (.iconst 4, 1) := dk_7 (dk_at dksX9_init_1 6 rfl rfl)
theorem dX9_init_31 : decode cX9_init 31 = .ok (.ldc 19, 2) := dk_18 19 (dk_at dksX9_init_1 7 rfl rfl)
theorem dX9_init_33 : decode cX9_init 33 = .ok (.aastore, 1) := dk_83 (dk_at dksX9_init_1 9 rfl rfl)
theorem dX9_init_34 : decode cX9_init 34 = .ok (.putfield 21, 3) := dk_181 0 21 (dk_at dksX9_init_1 10 rfl rfl)
theorem dX9_init_37 : decode cX9_init 37 = .ok (.aload_n 0, 1) := dk_42 (dk_at dksX9_init_1 13 rfl rfl)
theorem dX9_init_38 : decode cX9_init 38 = .ok (.new 27, 3) := dk_187 0 27 (dk_at dksX9_init_1 14 rfl rfl)
theorem dX9_init_41 : decode cX9_init 41 = .ok (.dup, 1) := dk_89 (dk_at dksX9_init_1 17 rfl rfl)
theorem dX9_init_42 : decode cX9_init 42 = .ok (.invokespecial 29, 3) := dk_183 0 29 (dk_at dksX9_init_1 18 rfl rfl)
theorem dX9_init_45 : decode cX9_init 45 = .ok (.putfield 30, 3) := dk_181 0 30 (dk_at dksX9_init_1 21 rfl rfl)
theorem dX9_init_48 : decode cX9_init 48 = .ok (.aload_n 0, 1) := dk_42 (dk_at dksX9_init_2 0 rfl rfl)
theorem dX9_init_49 : decode cX9_init 49 = .ok (.aload_n 1, 1) := dk_43 (dk_at dksX9_init_2 1 rfl rfl)
theorem dX9_init_50 : decode cX9_init 50 = .ok (.putfield 34, 3) := dk_181 0 34 (dk_at dksX9_init_2 2 rfl rfl)
theorem dX9_init_53 : decode cX9_init 53 = .ok (.return_, 1) := dk_177 (dk_at dksX9_init_2 5 rfl rfl)
abbrev cX9_reads : ByteArray := prog_14_method_2_code
def yX9_reads : MethodName := ⟨RX9, "reads", "()LPassagePapers$Register;"⟩
def dkwX9_reads_0 : List UInt8 := [42, 180, 0, 34, 182, 0, 38, 2, 159, 0, 10, 42, 182, 0, 44, 167, 255, 241, 42, 180, 0, 30, 176]
abbrev dktX9_reads_0 : List UInt8 := dkwX9_reads_0 ++ []
theorem dksX9_reads_0 : cX9_reads.data.toList.drop 0 = dktX9_reads_0 := by decide +kernel
theorem dX9_reads_0 : decode cX9_reads 0 = .ok (.aload_n 0, 1) := dk_42 (dk_at dksX9_reads_0 0 rfl rfl)
theorem dX9_reads_1 : decode cX9_reads 1 = .ok (.getfield 34, 3) := dk_180 0 34 (dk_at dksX9_reads_0 1 rfl rfl)
theorem dX9_reads_4 : decode cX9_reads 4 = .ok (.invokevirtual 38, 3) := dk_182 0 38 (dk_at dksX9_reads_0 4 rfl rfl)
theorem dX9_reads_7 : decode cX9_reads 7 = .ok (.iconst (-1), 1) := dk_2 (dk_at dksX9_reads_0 7 rfl rfl)
theorem dX9_reads_8 : decode cX9_reads 8 = .ok (.if_icmp .eq 10, 3) := dk_159 0 10 (dk_at dksX9_reads_0 8 rfl rfl)
theorem dX9_reads_11 : decode cX9_reads 11 = .ok (.aload_n 0, 1) := dk_42 (dk_at dksX9_reads_0 11 rfl rfl)
theorem dX9_reads_12 : decode cX9_reads 12 = .ok (.invokevirtual 44, 3) := dk_182 0 44 (dk_at dksX9_reads_0 12 rfl rfl)
theorem dX9_reads_15 : decode cX9_reads 15 = .ok (.goto (-15), 3) := dk_167 255 241 (dk_at dksX9_reads_0 15 rfl rfl)
theorem dX9_reads_18 : decode cX9_reads 18 = .ok (.aload_n 0, 1) := dk_42 (dk_at dksX9_reads_0 18 rfl rfl)
theorem dX9_reads_19 : decode cX9_reads 19 = .ok (.getfield 30, 3) := dk_180 0 30 (dk_at dksX9_reads_0 19 rfl rfl)
theorem dX9_reads_22 : decode cX9_reads 22 = .ok (.areturn, 1) := dk_176 (dk_at dksX9_reads_0 22 rfl rfl)
abbrev cX9_clause : ByteArray := prog_14_method_3_code
def yX9_clause : MethodName := ⟨RX9, "clause", "()V"⟩
def dkwX9_clause_10 : List UInt8 := [42, 180, 0, 34, 3, 16, 20, 182, 0, 77, 181, 0, 87, 42, 180, 0, 34, 16, 59, 182, 0, 89, 177]
abbrev dktX9_clause_10 : List UInt8 := dkwX9_clause_10 ++ []
def dkwX9_clause_9 : List UInt8 := [180, 0, 30, 42, 180, 0, 34, 3, 17, 1, 144, 182, 0, 77, 181, 0, 85, 167, 0, 20, 42, 180, 0, 30]
abbrev dktX9_clause_9 : List UInt8 := dkwX9_clause_9 ++ dktX9_clause_10
def dkwX9_clause_8 : List UInt8 := [42, 180, 0, 30, 180, 0, 81, 29, 42, 180, 0, 34, 3, 17, 3, 231, 182, 0, 77, 79, 167, 0, 41, 42]
abbrev dktX9_clause_8 : List UInt8 := dkwX9_clause_8 ++ dktX9_clause_9
def dkwX9_clause_7 : List UInt8 := [182, 0, 75, 167, 0, 82, 42, 180, 0, 34, 3, 42, 180, 0, 30, 180, 0, 63, 4, 100, 182, 0, 77, 62]
abbrev dktX9_clause_7 : List UInt8 := dkwX9_clause_7 ++ dktX9_clause_8
def dkwX9_clause_6 : List UInt8 := [42, 42, 180, 0, 30, 180, 0, 63, 182, 0, 72, 167, 0, 96, 42, 42, 180, 0, 30, 180, 0, 66]
abbrev dktX9_clause_6 : List UInt8 := dkwX9_clause_6 ++ dktX9_clause_7
def dkwX9_clause_5 : List UInt8 := [170, 0, 0, 0, 0, 0, 0, 122, 0, 0, 0, 0, 0, 0, 0, 3, 0, 0, 0, 32, 0, 0, 0, 46, 0, 0, 0, 60, 0, 0, 0, 101]
abbrev dktX9_clause_5 : List UInt8 := dkwX9_clause_5 ++ dktX9_clause_6
def dkwX9_clause_4 : List UInt8 := [42, 89, 180, 0, 59, 4, 96, 181, 0, 59, 28]
abbrev dktX9_clause_4 : List UInt8 := dkwX9_clause_4 ++ dktX9_clause_5
def dkwX9_clause_3 : List UInt8 := [180, 0, 66, 8, 160, 0, 13, 187, 0, 54, 89, 6, 27, 183, 0, 56, 191, 42, 180, 0, 34, 182, 0, 69]
abbrev dktX9_clause_3 : List UInt8 := dkwX9_clause_3 ++ dktX9_clause_4
def dkwX9_clause_2 : List UInt8 := [154, 0, 15, 42, 180, 0, 30, 180, 0, 63, 16, 8, 159, 0, 19, 28, 4, 160, 0, 24, 42, 180, 0, 30]
abbrev dktX9_clause_2 : List UInt8 := dkwX9_clause_2 ++ dktX9_clause_3
def dkwX9_clause_1 : List UInt8 := [160, 0, 13, 187, 0, 54, 89, 4, 27, 183, 0, 56, 191, 42, 180, 0, 59, 16, 60, 159, 0, 35, 28]
abbrev dktX9_clause_1 : List UInt8 := dkwX9_clause_1 ++ dktX9_clause_2
def dkwX9_clause_0 : List UInt8 := [42, 180, 0, 34, 182, 0, 47, 60, 42, 180, 0, 34, 42, 180, 0, 21, 182, 0, 50, 61, 28, 2]
abbrev dktX9_clause_0 : List UInt8 := dkwX9_clause_0 ++ dktX9_clause_1
theorem dksX9_clause_0 : cX9_clause.data.toList.drop 0 = dktX9_clause_0 := by decide +kernel
theorem dksX9_clause_1 : cX9_clause.data.toList.drop 22 = dktX9_clause_1 := dk_seg dksX9_clause_0 22 rfl rfl
theorem dksX9_clause_2 : cX9_clause.data.toList.drop 45 = dktX9_clause_2 := dk_seg dksX9_clause_1 23 rfl rfl
theorem dksX9_clause_3 : cX9_clause.data.toList.drop 69 = dktX9_clause_3 := dk_seg dksX9_clause_2 24 rfl rfl
theorem dksX9_clause_4 : cX9_clause.data.toList.drop 93 = dktX9_clause_4 := dk_seg dksX9_clause_3 24 rfl rfl
theorem dksX9_clause_5 : cX9_clause.data.toList.drop 104 = dktX9_clause_5 := dk_seg dksX9_clause_4 11 rfl rfl
theorem dksX9_clause_6 : cX9_clause.data.toList.drop 136 = dktX9_clause_6 := dk_seg dksX9_clause_5 32 rfl rfl
theorem dksX9_clause_7 : cX9_clause.data.toList.drop 158 = dktX9_clause_7 := dk_seg dksX9_clause_6 22 rfl rfl
theorem dksX9_clause_8 : cX9_clause.data.toList.drop 182 = dktX9_clause_8 := dk_seg dksX9_clause_7 24 rfl rfl
theorem dksX9_clause_9 : cX9_clause.data.toList.drop 206 = dktX9_clause_9 := dk_seg dksX9_clause_8 24 rfl rfl
theorem dksX9_clause_10 : cX9_clause.data.toList.drop 230 = dktX9_clause_10 := dk_seg dksX9_clause_9 24 rfl rfl
theorem dX9_clause_0 : decode cX9_clause 0 = .ok (.aload_n 0, 1) := dk_42 (dk_at dksX9_clause_0 0 rfl rfl)
theorem dX9_clause_1 : decode cX9_clause 1 = .ok (.getfield 34, 3) := dk_180 0 34 (dk_at dksX9_clause_0 1 rfl rfl)
theorem dX9_clause_4 : decode cX9_clause 4 = .ok (.invokevirtual 47, 3) := dk_182 0 47 (dk_at dksX9_clause_0 4 rfl rfl)
theorem dX9_clause_7 : decode cX9_clause 7 = .ok (.istore_n 1, 1) := dk_60 (dk_at dksX9_clause_0 7 rfl rfl)
theorem dX9_clause_8 : decode cX9_clause 8 = .ok (.aload_n 0, 1) := dk_42 (dk_at dksX9_clause_0 8 rfl rfl)
theorem dX9_clause_9 : decode cX9_clause 9 = .ok (.getfield 34, 3) := dk_180 0 34 (dk_at dksX9_clause_0 9 rfl rfl)
theorem dX9_clause_12 : decode cX9_clause 12 = .ok (.aload_n 0, 1) := dk_42 (dk_at dksX9_clause_0 12 rfl rfl)
theorem dX9_clause_13 : decode cX9_clause 13 = .ok (.getfield 21, 3) := dk_180 0 21 (dk_at dksX9_clause_0 13 rfl rfl)
theorem dX9_clause_16 : decode cX9_clause 16 = .ok (.invokevirtual 50, 3) := dk_182 0 50 (dk_at dksX9_clause_0 16 rfl rfl)
theorem dX9_clause_19 : decode cX9_clause 19 = .ok (.istore_n 2, 1) := dk_61 (dk_at dksX9_clause_0 19 rfl rfl)
theorem dX9_clause_20 : decode cX9_clause 20 = .ok (.iload_n 2, 1) := dk_28 (dk_at dksX9_clause_0 20 rfl rfl)
theorem dX9_clause_21 : decode cX9_clause 21 = .ok (.iconst (-1), 1) := dk_2 (dk_at dksX9_clause_0 21 rfl rfl)
theorem dX9_clause_22 : decode cX9_clause 22 = .ok (.if_icmp .ne 13, 3) := dk_160 0 13 (dk_at dksX9_clause_1 0 rfl rfl)
theorem dX9_clause_25 : decode cX9_clause 25 = .ok (.new 54, 3) := dk_187 0 54 (dk_at dksX9_clause_1 3 rfl rfl)
theorem dX9_clause_28 : decode cX9_clause 28 = .ok (.dup, 1) := dk_89 (dk_at dksX9_clause_1 6 rfl rfl)
theorem dX9_clause_29 : decode cX9_clause 29 = .ok (.iconst 1, 1) := dk_4 (dk_at dksX9_clause_1 7 rfl rfl)
theorem dX9_clause_30 : decode cX9_clause 30 = .ok (.iload_n 1, 1) := dk_27 (dk_at dksX9_clause_1 8 rfl rfl)
theorem dX9_clause_31 : decode cX9_clause 31 = .ok (.invokespecial 56, 3) := dk_183 0 56 (dk_at dksX9_clause_1 9 rfl rfl)
theorem dX9_clause_34 : decode cX9_clause 34 = .ok (.athrow, 1) := dk_191 (dk_at dksX9_clause_1 12 rfl rfl)
theorem dX9_clause_35 : decode cX9_clause 35 = .ok (.aload_n 0, 1) := dk_42 (dk_at dksX9_clause_1 13 rfl rfl)
theorem dX9_clause_36 : decode cX9_clause 36 = .ok (.getfield 59, 3) := dk_180 0 59 (dk_at dksX9_clause_1 14 rfl rfl)
theorem dX9_clause_39 : decode cX9_clause 39 = .ok (.bipush 60, 2) := dk_16 60 (dk_at dksX9_clause_1 17 rfl rfl)
theorem dX9_clause_41 : decode cX9_clause 41 = .ok (.if_icmp .eq 35, 3) := dk_159 0 35 (dk_at dksX9_clause_1 19 rfl rfl)
theorem dX9_clause_44 : decode cX9_clause 44 = .ok (.iload_n 2, 1) := dk_28 (dk_at dksX9_clause_1 22 rfl rfl)
theorem dX9_clause_45 : decode cX9_clause 45 = .ok (.ifCond .ne 15, 3) := dk_154 0 15 (dk_at dksX9_clause_2 0 rfl rfl)
theorem dX9_clause_48 : decode cX9_clause 48 = .ok (.aload_n 0, 1) := dk_42 (dk_at dksX9_clause_2 3 rfl rfl)
theorem dX9_clause_49 : decode cX9_clause 49 = .ok (.getfield 30, 3) := dk_180 0 30 (dk_at dksX9_clause_2 4 rfl rfl)
theorem dX9_clause_52 : decode cX9_clause 52 = .ok (.getfield 63, 3) := dk_180 0 63 (dk_at dksX9_clause_2 7 rfl rfl)
theorem dX9_clause_55 : decode cX9_clause 55 = .ok (.bipush 8, 2) := dk_16 8 (dk_at dksX9_clause_2 10 rfl rfl)
theorem dX9_clause_57 : decode cX9_clause 57 = .ok (.if_icmp .eq 19, 3) := dk_159 0 19 (dk_at dksX9_clause_2 12 rfl rfl)
theorem dX9_clause_60 : decode cX9_clause 60 = .ok (.iload_n 2, 1) := dk_28 (dk_at dksX9_clause_2 15 rfl rfl)
theorem dX9_clause_61 : decode cX9_clause 61 = .ok (.iconst 1, 1) := dk_4 (dk_at dksX9_clause_2 16 rfl rfl)
theorem dX9_clause_62 : decode cX9_clause 62 = .ok (.if_icmp .ne 24, 3) := dk_160 0 24 (dk_at dksX9_clause_2 17 rfl rfl)
theorem dX9_clause_65 : decode cX9_clause 65 = .ok (.aload_n 0, 1) := dk_42 (dk_at dksX9_clause_2 20 rfl rfl)
theorem dX9_clause_66 : decode cX9_clause 66 = .ok (.getfield 30, 3) := dk_180 0 30 (dk_at dksX9_clause_2 21 rfl rfl)
theorem dX9_clause_69 : decode cX9_clause 69 = .ok (.getfield 66, 3) := dk_180 0 66 (dk_at dksX9_clause_3 0 rfl rfl)
theorem dX9_clause_72 : decode cX9_clause 72 = .ok (.iconst 5, 1) := dk_8 (dk_at dksX9_clause_3 3 rfl rfl)
theorem dX9_clause_73 : decode cX9_clause 73 = .ok (.if_icmp .ne 13, 3) := dk_160 0 13 (dk_at dksX9_clause_3 4 rfl rfl)
theorem dX9_clause_76 : decode cX9_clause 76 = .ok (.new 54, 3) := dk_187 0 54 (dk_at dksX9_clause_3 7 rfl rfl)
theorem dX9_clause_79 : decode cX9_clause 79 = .ok (.dup, 1) := dk_89 (dk_at dksX9_clause_3 10 rfl rfl)
theorem dX9_clause_80 : decode cX9_clause 80 = .ok (.iconst 3, 1) := dk_6 (dk_at dksX9_clause_3 11 rfl rfl)
theorem dX9_clause_81 : decode cX9_clause 81 = .ok (.iload_n 1, 1) := dk_27 (dk_at dksX9_clause_3 12 rfl rfl)
theorem dX9_clause_82 : decode cX9_clause 82 = .ok (.invokespecial 56, 3) := dk_183 0 56 (dk_at dksX9_clause_3 13 rfl rfl)
theorem dX9_clause_85 : decode cX9_clause 85 = .ok (.athrow, 1) := dk_191 (dk_at dksX9_clause_3 16 rfl rfl)
theorem dX9_clause_86 : decode cX9_clause 86 = .ok (.aload_n 0, 1) := dk_42 (dk_at dksX9_clause_3 17 rfl rfl)
theorem dX9_clause_87 : decode cX9_clause 87 = .ok (.getfield 34, 3) := dk_180 0 34 (dk_at dksX9_clause_3 18 rfl rfl)
theorem dX9_clause_90 : decode cX9_clause 90 = .ok (.invokevirtual 69, 3) := dk_182 0 69 (dk_at dksX9_clause_3 21 rfl rfl)
theorem dX9_clause_93 : decode cX9_clause 93 = .ok (.aload_n 0, 1) := dk_42 (dk_at dksX9_clause_4 0 rfl rfl)
theorem dX9_clause_94 : decode cX9_clause 94 = .ok (.dup, 1) := dk_89 (dk_at dksX9_clause_4 1 rfl rfl)
theorem dX9_clause_95 : decode cX9_clause 95 = .ok (.getfield 59, 3) := dk_180 0 59 (dk_at dksX9_clause_4 2 rfl rfl)
theorem dX9_clause_98 : decode cX9_clause 98 = .ok (.iconst 1, 1) := dk_4 (dk_at dksX9_clause_4 5 rfl rfl)
theorem dX9_clause_99 : decode cX9_clause 99 = .ok (.iadd, 1) := dk_96 (dk_at dksX9_clause_4 6 rfl rfl)
theorem dX9_clause_100 : decode cX9_clause 100 = .ok (.putfield 59, 3) := dk_181 0 59 (dk_at dksX9_clause_4 7 rfl rfl)
theorem dX9_clause_103 : decode cX9_clause 103 = .ok (.iload_n 2, 1) := dk_28 (dk_at dksX9_clause_4 10 rfl rfl)
theorem dX9_clause_104 : decode cX9_clause 104 = .ok (.tableswitch 122 0 3 #[32, 46, 60, 101], 32) := by decide +kernel
theorem dX9_clause_136 : decode cX9_clause 136 = .ok (.aload_n 0, 1) := dk_42 (dk_at dksX9_clause_6 0 rfl rfl)
theorem dX9_clause_137 : decode cX9_clause 137 = .ok (.aload_n 0, 1) := dk_42 (dk_at dksX9_clause_6 1 rfl rfl)
theorem dX9_clause_138 : decode cX9_clause 138 = .ok (.getfield 30, 3) := dk_180 0 30 (dk_at dksX9_clause_6 2 rfl rfl)
theorem dX9_clause_141 : decode cX9_clause 141 = .ok (.getfield 63, 3) := dk_180 0 63 (dk_at dksX9_clause_6 5 rfl rfl)
theorem dX9_clause_144 : decode cX9_clause 144 = .ok (.invokevirtual 72, 3) := dk_182 0 72 (dk_at dksX9_clause_6 8 rfl rfl)
theorem dX9_clause_147 : decode cX9_clause 147 = .ok (.goto 96, 3) := dk_167 0 96 (dk_at dksX9_clause_6 11 rfl rfl)
theorem dX9_clause_150 : decode cX9_clause 150 = .ok (.aload_n 0, 1) := dk_42 (dk_at dksX9_clause_6 14 rfl rfl)
theorem dX9_clause_151 : decode cX9_clause 151 = .ok (.aload_n 0, 1) := dk_42 (dk_at dksX9_clause_6 15 rfl rfl)
theorem dX9_clause_152 : decode cX9_clause 152 = .ok (.getfield 30, 3) := dk_180 0 30 (dk_at dksX9_clause_6 16 rfl rfl)
theorem dX9_clause_155 : decode cX9_clause 155 = .ok (.getfield 66, 3) := dk_180 0 66 (dk_at dksX9_clause_6 19 rfl rfl)
theorem dX9_clause_158 : decode cX9_clause 158 = .ok (.invokevirtual 75, 3) := dk_182 0 75 (dk_at dksX9_clause_7 0 rfl rfl)
theorem dX9_clause_161 : decode cX9_clause 161 = .ok (.goto 82, 3) := dk_167 0 82 (dk_at dksX9_clause_7 3 rfl rfl)
theorem dX9_clause_164 : decode cX9_clause 164 = .ok (.aload_n 0, 1) := dk_42 (dk_at dksX9_clause_7 6 rfl rfl)
theorem dX9_clause_165 : decode cX9_clause 165 = .ok (.getfield 34, 3) := dk_180 0 34 (dk_at dksX9_clause_7 7 rfl rfl)
theorem dX9_clause_168 : decode cX9_clause 168 = .ok (.iconst 0, 1) := dk_3 (dk_at dksX9_clause_7 10 rfl rfl)
theorem dX9_clause_169 : decode cX9_clause 169 = .ok (.aload_n 0, 1) := dk_42 (dk_at dksX9_clause_7 11 rfl rfl)
theorem dX9_clause_170 : decode cX9_clause 170 = .ok (.getfield 30, 3) := dk_180 0 30 (dk_at dksX9_clause_7 12 rfl rfl)
theorem dX9_clause_173 : decode cX9_clause 173 = .ok (.getfield 63, 3) := dk_180 0 63 (dk_at dksX9_clause_7 15 rfl rfl)
theorem dX9_clause_176 : decode cX9_clause 176 = .ok (.iconst 1, 1) := dk_4 (dk_at dksX9_clause_7 18 rfl rfl)
theorem dX9_clause_177 : decode cX9_clause 177 = .ok (.isub, 1) := dk_100 (dk_at dksX9_clause_7 19 rfl rfl)
theorem dX9_clause_178 : decode cX9_clause 178 = .ok (.invokevirtual 77, 3) := dk_182 0 77 (dk_at dksX9_clause_7 20 rfl rfl)
theorem dX9_clause_181 : decode cX9_clause 181 = .ok (.istore_n 3, 1) := dk_62 (dk_at dksX9_clause_7 23 rfl rfl)
theorem dX9_clause_182 : decode cX9_clause 182 = .ok (.aload_n 0, 1) := dk_42 (dk_at dksX9_clause_8 0 rfl rfl)
theorem dX9_clause_183 : decode cX9_clause 183 = .ok (.getfield 30, 3) := dk_180 0 30 (dk_at dksX9_clause_8 1 rfl rfl)
theorem dX9_clause_186 : decode cX9_clause 186 = .ok (.getfield 81, 3) := dk_180 0 81 (dk_at dksX9_clause_8 4 rfl rfl)
theorem dX9_clause_189 : decode cX9_clause 189 = .ok (.iload_n 3, 1) := dk_29 (dk_at dksX9_clause_8 7 rfl rfl)
theorem dX9_clause_190 : decode cX9_clause 190 = .ok (.aload_n 0, 1) := dk_42 (dk_at dksX9_clause_8 8 rfl rfl)
theorem dX9_clause_191 : decode cX9_clause 191 = .ok (.getfield 34, 3) := dk_180 0 34 (dk_at dksX9_clause_8 9 rfl rfl)
theorem dX9_clause_194 : decode cX9_clause 194 = .ok (.iconst 0, 1) := dk_3 (dk_at dksX9_clause_8 12 rfl rfl)
theorem dX9_clause_195 : decode cX9_clause 195 = .ok (.sipush 999, 3) := dk_17 3 231 (dk_at dksX9_clause_8 13 rfl rfl)
theorem dX9_clause_198 : decode cX9_clause 198 = .ok (.invokevirtual 77, 3) := dk_182 0 77 (dk_at dksX9_clause_8 16 rfl rfl)
theorem dX9_clause_201 : decode cX9_clause 201 = .ok (.iastore, 1) := dk_79 (dk_at dksX9_clause_8 19 rfl rfl)
theorem dX9_clause_202 : decode cX9_clause 202 = .ok (.goto 41, 3) := dk_167 0 41 (dk_at dksX9_clause_8 20 rfl rfl)
theorem dX9_clause_205 : decode cX9_clause 205 = .ok (.aload_n 0, 1) := dk_42 (dk_at dksX9_clause_8 23 rfl rfl)
theorem dX9_clause_206 : decode cX9_clause 206 = .ok (.getfield 30, 3) := dk_180 0 30 (dk_at dksX9_clause_9 0 rfl rfl)
theorem dX9_clause_209 : decode cX9_clause 209 = .ok (.aload_n 0, 1) := dk_42 (dk_at dksX9_clause_9 3 rfl rfl)
theorem dX9_clause_210 : decode cX9_clause 210 = .ok (.getfield 34, 3) := dk_180 0 34 (dk_at dksX9_clause_9 4 rfl rfl)
theorem dX9_clause_213 : decode cX9_clause 213 = .ok (.iconst 0, 1) := dk_3 (dk_at dksX9_clause_9 7 rfl rfl)
theorem dX9_clause_214 : decode cX9_clause 214 = .ok (.sipush 400, 3) := dk_17 1 144 (dk_at dksX9_clause_9 8 rfl rfl)
theorem dX9_clause_217 : decode cX9_clause 217 = .ok (.invokevirtual 77, 3) := dk_182 0 77 (dk_at dksX9_clause_9 11 rfl rfl)
theorem dX9_clause_220 : decode cX9_clause 220 = .ok (.putfield 85, 3) := dk_181 0 85 (dk_at dksX9_clause_9 14 rfl rfl)
theorem dX9_clause_223 : decode cX9_clause 223 = .ok (.goto 20, 3) := dk_167 0 20 (dk_at dksX9_clause_9 17 rfl rfl)
theorem dX9_clause_226 : decode cX9_clause 226 = .ok (.aload_n 0, 1) := dk_42 (dk_at dksX9_clause_9 20 rfl rfl)
theorem dX9_clause_227 : decode cX9_clause 227 = .ok (.getfield 30, 3) := dk_180 0 30 (dk_at dksX9_clause_9 21 rfl rfl)
theorem dX9_clause_230 : decode cX9_clause 230 = .ok (.aload_n 0, 1) := dk_42 (dk_at dksX9_clause_10 0 rfl rfl)
theorem dX9_clause_231 : decode cX9_clause 231 = .ok (.getfield 34, 3) := dk_180 0 34 (dk_at dksX9_clause_10 1 rfl rfl)
theorem dX9_clause_234 : decode cX9_clause 234 = .ok (.iconst 0, 1) := dk_3 (dk_at dksX9_clause_10 4 rfl rfl)
theorem dX9_clause_235 : decode cX9_clause 235 = .ok (.bipush 20, 2) := dk_16 20 (dk_at dksX9_clause_10 5 rfl rfl)
theorem dX9_clause_237 : decode cX9_clause 237 = .ok (.invokevirtual 77, 3) := dk_182 0 77 (dk_at dksX9_clause_10 7 rfl rfl)
theorem dX9_clause_240 : decode cX9_clause 240 = .ok (.putfield 87, 3) := dk_181 0 87 (dk_at dksX9_clause_10 10 rfl rfl)
theorem dX9_clause_243 : decode cX9_clause 243 = .ok (.aload_n 0, 1) := dk_42 (dk_at dksX9_clause_10 13 rfl rfl)
theorem dX9_clause_244 : decode cX9_clause 244 = .ok (.getfield 34, 3) := dk_180 0 34 (dk_at dksX9_clause_10 14 rfl rfl)
theorem dX9_clause_247 : decode cX9_clause 247 = .ok (.bipush 59, 2) := dk_16 59 (dk_at dksX9_clause_10 17 rfl rfl)
theorem dX9_clause_249 : decode cX9_clause 249 = .ok (.invokevirtual 89, 3) := dk_182 0 89 (dk_at dksX9_clause_10 19 rfl rfl)
theorem dX9_clause_252 : decode cX9_clause 252 = .ok (.return_, 1) := dk_177 (dk_at dksX9_clause_10 22 rfl rfl)
abbrev cX9_signer : ByteArray := prog_14_method_4_code
def yX9_signer : MethodName := ⟨RX9, "signer", "(I)V"⟩
def dkwX9_signer_2 : List UInt8 := [180, 0, 34, 3, 7, 182, 0, 77, 79, 42, 180, 0, 30, 89, 180, 0, 63, 4, 96, 181, 0, 63, 177]
abbrev dktX9_signer_2 : List UInt8 := dkwX9_signer_2 ++ []
def dkwX9_signer_1 : List UInt8 := [180, 0, 96, 27, 42, 180, 0, 34, 3, 8, 182, 0, 77, 79, 42, 180, 0, 30, 180, 0, 99, 27, 42]
abbrev dktX9_signer_1 : List UInt8 := dkwX9_signer_1 ++ dktX9_signer_2
def dkwX9_signer_0 : List UInt8 := [42, 180, 0, 30, 180, 0, 93, 27, 42, 180, 0, 34, 4, 16, 9, 182, 0, 77, 79, 42, 180, 0, 30]
abbrev dktX9_signer_0 : List UInt8 := dkwX9_signer_0 ++ dktX9_signer_1
theorem dksX9_signer_0 : cX9_signer.data.toList.drop 0 = dktX9_signer_0 := by decide +kernel
theorem dksX9_signer_1 : cX9_signer.data.toList.drop 23 = dktX9_signer_1 := dk_seg dksX9_signer_0 23 rfl rfl
theorem dksX9_signer_2 : cX9_signer.data.toList.drop 46 = dktX9_signer_2 := dk_seg dksX9_signer_1 23 rfl rfl
theorem dX9_signer_0 : decode cX9_signer 0 = .ok (.aload_n 0, 1) := dk_42 (dk_at dksX9_signer_0 0 rfl rfl)
theorem dX9_signer_1 : decode cX9_signer 1 = .ok (.getfield 30, 3) := dk_180 0 30 (dk_at dksX9_signer_0 1 rfl rfl)
theorem dX9_signer_4 : decode cX9_signer 4 = .ok (.getfield 93, 3) := dk_180 0 93 (dk_at dksX9_signer_0 4 rfl rfl)
theorem dX9_signer_7 : decode cX9_signer 7 = .ok (.iload_n 1, 1) := dk_27 (dk_at dksX9_signer_0 7 rfl rfl)
theorem dX9_signer_8 : decode cX9_signer 8 = .ok (.aload_n 0, 1) := dk_42 (dk_at dksX9_signer_0 8 rfl rfl)
theorem dX9_signer_9 : decode cX9_signer 9 = .ok (.getfield 34, 3) := dk_180 0 34 (dk_at dksX9_signer_0 9 rfl rfl)
theorem dX9_signer_12 : decode cX9_signer 12 = .ok (.iconst 1, 1) := dk_4 (dk_at dksX9_signer_0 12 rfl rfl)
theorem dX9_signer_13 : decode cX9_signer 13 = .ok (.bipush 9, 2) := dk_16 9 (dk_at dksX9_signer_0 13 rfl rfl)
theorem dX9_signer_15 : decode cX9_signer 15 = .ok (.invokevirtual 77, 3) := dk_182 0 77 (dk_at dksX9_signer_0 15 rfl rfl)
theorem dX9_signer_18 : decode cX9_signer 18 = .ok (.iastore, 1) := dk_79 (dk_at dksX9_signer_0 18 rfl rfl)
theorem dX9_signer_19 : decode cX9_signer 19 = .ok (.aload_n 0, 1) := dk_42 (dk_at dksX9_signer_0 19 rfl rfl)
theorem dX9_signer_20 : decode cX9_signer 20 = .ok (.getfield 30, 3) := dk_180 0 30 (dk_at dksX9_signer_0 20 rfl rfl)
theorem dX9_signer_23 : decode cX9_signer 23 = .ok (.getfield 96, 3) := dk_180 0 96 (dk_at dksX9_signer_1 0 rfl rfl)
theorem dX9_signer_26 : decode cX9_signer 26 = .ok (.iload_n 1, 1) := dk_27 (dk_at dksX9_signer_1 3 rfl rfl)
theorem dX9_signer_27 : decode cX9_signer 27 = .ok (.aload_n 0, 1) := dk_42 (dk_at dksX9_signer_1 4 rfl rfl)
theorem dX9_signer_28 : decode cX9_signer 28 = .ok (.getfield 34, 3) := dk_180 0 34 (dk_at dksX9_signer_1 5 rfl rfl)
theorem dX9_signer_31 : decode cX9_signer 31 = .ok (.iconst 0, 1) := dk_3 (dk_at dksX9_signer_1 8 rfl rfl)
theorem dX9_signer_32 : decode cX9_signer 32 = .ok (.iconst 5, 1) := dk_8 (dk_at dksX9_signer_1 9 rfl rfl)
theorem dX9_signer_33 : decode cX9_signer 33 = .ok (.invokevirtual 77, 3) := dk_182 0 77 (dk_at dksX9_signer_1 10 rfl rfl)
theorem dX9_signer_36 : decode cX9_signer 36 = .ok (.iastore, 1) := dk_79 (dk_at dksX9_signer_1 13 rfl rfl)
theorem dX9_signer_37 : decode cX9_signer 37 = .ok (.aload_n 0, 1) := dk_42 (dk_at dksX9_signer_1 14 rfl rfl)
theorem dX9_signer_38 : decode cX9_signer 38 = .ok (.getfield 30, 3) := dk_180 0 30 (dk_at dksX9_signer_1 15 rfl rfl)
theorem dX9_signer_41 : decode cX9_signer 41 = .ok (.getfield 99, 3) := dk_180 0 99 (dk_at dksX9_signer_1 18 rfl rfl)
theorem dX9_signer_44 : decode cX9_signer 44 = .ok (.iload_n 1, 1) := dk_27 (dk_at dksX9_signer_1 21 rfl rfl)
theorem dX9_signer_45 : decode cX9_signer 45 = .ok (.aload_n 0, 1) := dk_42 (dk_at dksX9_signer_1 22 rfl rfl)
theorem dX9_signer_46 : decode cX9_signer 46 = .ok (.getfield 34, 3) := dk_180 0 34 (dk_at dksX9_signer_2 0 rfl rfl)
theorem dX9_signer_49 : decode cX9_signer 49 = .ok (.iconst 0, 1) := dk_3 (dk_at dksX9_signer_2 3 rfl rfl)
theorem dX9_signer_50 : decode cX9_signer 50 = .ok (.iconst 4, 1) := dk_7 (dk_at dksX9_signer_2 4 rfl rfl)
theorem dX9_signer_51 : decode cX9_signer 51 = .ok (.invokevirtual 77, 3) := dk_182 0 77 (dk_at dksX9_signer_2 5 rfl rfl)
theorem dX9_signer_54 : decode cX9_signer 54 = .ok (.iastore, 1) := dk_79 (dk_at dksX9_signer_2 8 rfl rfl)
theorem dX9_signer_55 : decode cX9_signer 55 = .ok (.aload_n 0, 1) := dk_42 (dk_at dksX9_signer_2 9 rfl rfl)
theorem dX9_signer_56 : decode cX9_signer 56 = .ok (.getfield 30, 3) := dk_180 0 30 (dk_at dksX9_signer_2 10 rfl rfl)
theorem dX9_signer_59 : decode cX9_signer 59 = .ok (.dup, 1) := dk_89 (dk_at dksX9_signer_2 13 rfl rfl)
theorem dX9_signer_60 : decode cX9_signer 60 = .ok (.getfield 63, 3) := dk_180 0 63 (dk_at dksX9_signer_2 14 rfl rfl)
theorem dX9_signer_63 : decode cX9_signer 63 = .ok (.iconst 1, 1) := dk_4 (dk_at dksX9_signer_2 17 rfl rfl)
theorem dX9_signer_64 : decode cX9_signer 64 = .ok (.iadd, 1) := dk_96 (dk_at dksX9_signer_2 18 rfl rfl)
theorem dX9_signer_65 : decode cX9_signer 65 = .ok (.putfield 63, 3) := dk_181 0 63 (dk_at dksX9_signer_2 19 rfl rfl)
theorem dX9_signer_68 : decode cX9_signer 68 = .ok (.return_, 1) := dk_177 (dk_at dksX9_signer_2 22 rfl rfl)
abbrev cX9_taker : ByteArray := prog_14_method_5_code
def yX9_taker : MethodName := ⟨RX9, "taker", "(I)V"⟩
def dkwX9_taker_2 : List UInt8 := [180, 0, 34, 4, 7, 182, 0, 77, 79, 42, 180, 0, 30, 89, 180, 0, 66, 4, 96, 181, 0, 66, 177]
abbrev dktX9_taker_2 : List UInt8 := dkwX9_taker_2 ++ []
def dkwX9_taker_1 : List UInt8 := [180, 0, 105, 27, 42, 180, 0, 34, 4, 16, 40, 182, 0, 77, 79, 42, 180, 0, 30, 180, 0, 108, 27, 42]
abbrev dktX9_taker_1 : List UInt8 := dkwX9_taker_1 ++ dktX9_taker_2
def dkwX9_taker_0 : List UInt8 := [42, 180, 0, 30, 180, 0, 102, 27, 42, 180, 0, 34, 3, 8, 182, 0, 77, 79, 42, 180, 0, 30]
abbrev dktX9_taker_0 : List UInt8 := dkwX9_taker_0 ++ dktX9_taker_1
theorem dksX9_taker_0 : cX9_taker.data.toList.drop 0 = dktX9_taker_0 := by decide +kernel
theorem dksX9_taker_1 : cX9_taker.data.toList.drop 22 = dktX9_taker_1 := dk_seg dksX9_taker_0 22 rfl rfl
theorem dksX9_taker_2 : cX9_taker.data.toList.drop 46 = dktX9_taker_2 := dk_seg dksX9_taker_1 24 rfl rfl
theorem dX9_taker_0 : decode cX9_taker 0 = .ok (.aload_n 0, 1) := dk_42 (dk_at dksX9_taker_0 0 rfl rfl)
theorem dX9_taker_1 : decode cX9_taker 1 = .ok (.getfield 30, 3) := dk_180 0 30 (dk_at dksX9_taker_0 1 rfl rfl)
theorem dX9_taker_4 : decode cX9_taker 4 = .ok (.getfield 102, 3) := dk_180 0 102 (dk_at dksX9_taker_0 4 rfl rfl)
theorem dX9_taker_7 : decode cX9_taker 7 = .ok (.iload_n 1, 1) := dk_27 (dk_at dksX9_taker_0 7 rfl rfl)
theorem dX9_taker_8 : decode cX9_taker 8 = .ok (.aload_n 0, 1) := dk_42 (dk_at dksX9_taker_0 8 rfl rfl)
theorem dX9_taker_9 : decode cX9_taker 9 = .ok (.getfield 34, 3) := dk_180 0 34 (dk_at dksX9_taker_0 9 rfl rfl)
theorem dX9_taker_12 : decode cX9_taker 12 = .ok (.iconst 0, 1) := dk_3 (dk_at dksX9_taker_0 12 rfl rfl)
theorem dX9_taker_13 : decode cX9_taker 13 = .ok (.iconst 5, 1) := dk_8 (dk_at dksX9_taker_0 13 rfl rfl)
theorem dX9_taker_14 : decode cX9_taker 14 = .ok (.invokevirtual 77, 3) := dk_182 0 77 (dk_at dksX9_taker_0 14 rfl rfl)
theorem dX9_taker_17 : decode cX9_taker 17 = .ok (.iastore, 1) := dk_79 (dk_at dksX9_taker_0 17 rfl rfl)
theorem dX9_taker_18 : decode cX9_taker 18 = .ok (.aload_n 0, 1) := dk_42 (dk_at dksX9_taker_0 18 rfl rfl)
theorem dX9_taker_19 : decode cX9_taker 19 = .ok (.getfield 30, 3) := dk_180 0 30 (dk_at dksX9_taker_0 19 rfl rfl)
theorem dX9_taker_22 : decode cX9_taker 22 = .ok (.getfield 105, 3) := dk_180 0 105 (dk_at dksX9_taker_1 0 rfl rfl)
theorem dX9_taker_25 : decode cX9_taker 25 = .ok (.iload_n 1, 1) := dk_27 (dk_at dksX9_taker_1 3 rfl rfl)
theorem dX9_taker_26 : decode cX9_taker 26 = .ok (.aload_n 0, 1) := dk_42 (dk_at dksX9_taker_1 4 rfl rfl)
theorem dX9_taker_27 : decode cX9_taker 27 = .ok (.getfield 34, 3) := dk_180 0 34 (dk_at dksX9_taker_1 5 rfl rfl)
theorem dX9_taker_30 : decode cX9_taker 30 = .ok (.iconst 1, 1) := dk_4 (dk_at dksX9_taker_1 8 rfl rfl)
theorem dX9_taker_31 : decode cX9_taker 31 = .ok (.bipush 40, 2) := dk_16 40 (dk_at dksX9_taker_1 9 rfl rfl)
theorem dX9_taker_33 : decode cX9_taker 33 = .ok (.invokevirtual 77, 3) := dk_182 0 77 (dk_at dksX9_taker_1 11 rfl rfl)
theorem dX9_taker_36 : decode cX9_taker 36 = .ok (.iastore, 1) := dk_79 (dk_at dksX9_taker_1 14 rfl rfl)
theorem dX9_taker_37 : decode cX9_taker 37 = .ok (.aload_n 0, 1) := dk_42 (dk_at dksX9_taker_1 15 rfl rfl)
theorem dX9_taker_38 : decode cX9_taker 38 = .ok (.getfield 30, 3) := dk_180 0 30 (dk_at dksX9_taker_1 16 rfl rfl)
theorem dX9_taker_41 : decode cX9_taker 41 = .ok (.getfield 108, 3) := dk_180 0 108 (dk_at dksX9_taker_1 19 rfl rfl)
theorem dX9_taker_44 : decode cX9_taker 44 = .ok (.iload_n 1, 1) := dk_27 (dk_at dksX9_taker_1 22 rfl rfl)
theorem dX9_taker_45 : decode cX9_taker 45 = .ok (.aload_n 0, 1) := dk_42 (dk_at dksX9_taker_1 23 rfl rfl)
theorem dX9_taker_46 : decode cX9_taker 46 = .ok (.getfield 34, 3) := dk_180 0 34 (dk_at dksX9_taker_2 0 rfl rfl)
theorem dX9_taker_49 : decode cX9_taker 49 = .ok (.iconst 1, 1) := dk_4 (dk_at dksX9_taker_2 3 rfl rfl)
theorem dX9_taker_50 : decode cX9_taker 50 = .ok (.iconst 4, 1) := dk_7 (dk_at dksX9_taker_2 4 rfl rfl)
theorem dX9_taker_51 : decode cX9_taker 51 = .ok (.invokevirtual 77, 3) := dk_182 0 77 (dk_at dksX9_taker_2 5 rfl rfl)
theorem dX9_taker_54 : decode cX9_taker 54 = .ok (.iastore, 1) := dk_79 (dk_at dksX9_taker_2 8 rfl rfl)
theorem dX9_taker_55 : decode cX9_taker 55 = .ok (.aload_n 0, 1) := dk_42 (dk_at dksX9_taker_2 9 rfl rfl)
theorem dX9_taker_56 : decode cX9_taker 56 = .ok (.getfield 30, 3) := dk_180 0 30 (dk_at dksX9_taker_2 10 rfl rfl)
theorem dX9_taker_59 : decode cX9_taker 59 = .ok (.dup, 1) := dk_89 (dk_at dksX9_taker_2 13 rfl rfl)
theorem dX9_taker_60 : decode cX9_taker 60 = .ok (.getfield 66, 3) := dk_180 0 66 (dk_at dksX9_taker_2 14 rfl rfl)
theorem dX9_taker_63 : decode cX9_taker 63 = .ok (.iconst 1, 1) := dk_4 (dk_at dksX9_taker_2 17 rfl rfl)
theorem dX9_taker_64 : decode cX9_taker 64 = .ok (.iadd, 1) := dk_96 (dk_at dksX9_taker_2 18 rfl rfl)
theorem dX9_taker_65 : decode cX9_taker 65 = .ok (.putfield 66, 3) := dk_181 0 66 (dk_at dksX9_taker_2 19 rfl rfl)
theorem dX9_taker_68 : decode cX9_taker 68 = .ok (.return_, 1) := dk_177 (dk_at dksX9_taker_2 22 rfl rfl)
theorem q102 : (Jvm.Cond.initialized "PassagePapers$RegisterReader") ∈ lw_all := lw_g (lw_at lw_m1 13 rfl) rfl
theorem q217 : (Jvm.Cond.fieldLinkNest "PassagePapers$RegisterReader" (93 : Nat) "PassagePapers$Register" "years" "[I" "PassagePapers") ∈ lw_tbl := lw_at lw_m1 128 rfl
theorem q221 : (Jvm.Cond.fieldLinkNest "PassagePapers$RegisterReader" (96 : Nat) "PassagePapers$Register" "trade" "[I" "PassagePapers") ∈ lw_tbl := lw_at lw_m1 132 rfl
theorem q225 : (Jvm.Cond.fieldLinkNest "PassagePapers$RegisterReader" (99 : Nat) "PassagePapers$Register" "kin" "[I" "PassagePapers") ∈ lw_tbl := lw_at lw_m1 136 rfl
theorem q229 : (Jvm.Cond.fieldLinkNest "PassagePapers$RegisterReader" (81 : Nat) "PassagePapers$Register" "coins" "[I" "PassagePapers") ∈ lw_tbl := lw_at lw_m1 140 rfl
theorem q231 : (Jvm.Cond.fieldLinkNest "PassagePapers$RegisterReader" (102 : Nat) "PassagePapers$Register" "wants" "[I" "PassagePapers") ∈ lw_tbl := lw_at lw_m1 142 rfl
theorem q235 : (Jvm.Cond.fieldLinkNest "PassagePapers$RegisterReader" (105 : Nat) "PassagePapers$Register" "pays" "[I" "PassagePapers") ∈ lw_tbl := lw_at lw_m1 146 rfl
theorem q240 : (Jvm.Cond.fieldLinkNest "PassagePapers$RegisterReader" (108 : Nat) "PassagePapers$Register" "room" "[I" "PassagePapers") ∈ lw_tbl := lw_at lw_m1 151 rfl
theorem q247 : (Jvm.Cond.fieldLinkNest "PassagePapers$RegisterReader" (63 : Nat) "PassagePapers$Register" "signers" "I" "PassagePapers") ∈ lw_tbl := lw_at lw_m1 158 rfl
theorem q251 : (Jvm.Cond.fieldLinkNest "PassagePapers$RegisterReader" (66 : Nat) "PassagePapers$Register" "takers" "I" "PassagePapers") ∈ lw_tbl := lw_at lw_m1 162 rfl
theorem q255 : (Jvm.Cond.fieldLinkNest "PassagePapers$RegisterReader" (85 : Nat) "PassagePapers$Register" "stores" "I" "PassagePapers") ∈ lw_tbl := lw_at lw_m1 166 rfl
theorem q257 : (Jvm.Cond.fieldLinkNest "PassagePapers$RegisterReader" (87 : Nat) "PassagePapers$Register" "voyage" "I" "PassagePapers") ∈ lw_tbl := lw_at lw_m1 168 rfl
theorem q650 : (Jvm.Cond.instantiable "PassagePapers$RegisterReader" (4 : Nat)) ∈ lw_all := lw_g (lw_at lw_m3 81 rfl) rfl
theorem q675 : (Jvm.Cond.instanceMethod ({ cls := "PassagePapers$RegisterReader", name := "<init>", desc := "(LPassagePapers$Reader;)V" } : Jvm.MethodName)) ∈ lw_all := lw_g (lw_at lw_m3 106 rfl) rfl
theorem q676 : (Jvm.Cond.code ({ cls := "PassagePapers$RegisterReader", name := "<init>", desc := "(LPassagePapers$Reader;)V" } : Jvm.MethodName) prog_14_method_1_code (2 : Nat) (Option.none : Option Jvm.ClassFile.FieldType)) ∈ lw_all := lw_g (lw_at lw_m3 107 rfl) rfl
theorem q677 : (Jvm.Cond.methodLink "PassagePapers$RegisterReader" (3 : Nat) ({ cls := "java/lang/Object", name := "<init>", desc := "()V" } : Jvm.MethodName)) ∈ lw_all := lw_g (lw_at lw_m3 108 rfl) rfl
theorem q678 : (Jvm.Cond.classLink "PassagePapers$RegisterReader" (9 : Nat) "java/lang/String") ∈ lw_all := lw_g (lw_at lw_m3 109 rfl) rfl
theorem q680 : (Jvm.Cond.stringRef "PassagePapers$RegisterReader" (11 : Nat) "signer") ∈ lw_tbl := lw_at lw_m3 111 rfl
theorem q681 : (Jvm.Cond.stringRef "PassagePapers$RegisterReader" (13 : Nat) "taker") ∈ lw_tbl := lw_at lw_m3 112 rfl
theorem q682 : (Jvm.Cond.stringRef "PassagePapers$RegisterReader" (15 : Nat) "kinsman") ∈ lw_tbl := lw_at lw_m3 113 rfl
theorem q683 : (Jvm.Cond.stringRef "PassagePapers$RegisterReader" (17 : Nat) "stores") ∈ lw_tbl := lw_at lw_m3 114 rfl
theorem q684 : (Jvm.Cond.stringRef "PassagePapers$RegisterReader" (19 : Nat) "voyage") ∈ lw_tbl := lw_at lw_m3 115 rfl
theorem q685 : (Jvm.Cond.classLink "PassagePapers$RegisterReader" (27 : Nat) "PassagePapers$Register") ∈ lw_all := lw_g (lw_at lw_m3 116 rfl) rfl
theorem q686 : (Jvm.Cond.methodLinkNest "PassagePapers$RegisterReader" (29 : Nat) ({ cls := "PassagePapers$Register", name := "<init>", desc := "()V" } : Jvm.MethodName) "PassagePapers") ∈ lw_tbl := lw_at lw_m3 117 rfl
theorem q687 : (Jvm.Cond.fieldLink "PassagePapers$RegisterReader" (21 : Nat) "PassagePapers$RegisterReader" "words" "[Ljava/lang/String;") ∈ lw_all := lw_g (lw_at lw_m3 118 rfl) rfl
theorem q688 : (Jvm.Cond.fieldLink "PassagePapers$RegisterReader" (34 : Nat) "PassagePapers$RegisterReader" "in" "LPassagePapers$Reader;") ∈ lw_all := lw_g (lw_at lw_m3 119 rfl) rfl
theorem q689 : (Jvm.Cond.fieldLink "PassagePapers$RegisterReader" (30 : Nat) "PassagePapers$RegisterReader" "register" "LPassagePapers$Register;") ∈ lw_all := lw_g (lw_at lw_m3 120 rfl) rfl
theorem q690 : (Jvm.Cond.fieldLink "PassagePapers$RegisterReader" (59 : Nat) "PassagePapers$RegisterReader" "clauses" "I") ∈ lw_all := lw_g (lw_at lw_m3 121 rfl) rfl
theorem q691 : (Jvm.Cond.laysFinal "PassagePapers$RegisterReader" "PassagePapers$RegisterReader" "words" "[Ljava/lang/String;") ∈ lw_all := lw_g (lw_at lw_m3 122 rfl) rfl
theorem q692 : (Jvm.Cond.soleField "PassagePapers$RegisterReader" "words") ∈ lw_all := lw_g (lw_at lw_m3 123 rfl) rfl
theorem q693 : (Jvm.Cond.laysFinal "PassagePapers$RegisterReader" "PassagePapers$RegisterReader" "in" "LPassagePapers$Reader;") ∈ lw_all := lw_g (lw_at lw_m3 124 rfl) rfl
theorem q694 : (Jvm.Cond.soleField "PassagePapers$RegisterReader" "in") ∈ lw_all := lw_g (lw_at lw_m3 125 rfl) rfl
theorem q695 : (Jvm.Cond.laysFinal "PassagePapers$RegisterReader" "PassagePapers$RegisterReader" "register" "LPassagePapers$Register;") ∈ lw_all := lw_g (lw_at lw_m3 126 rfl) rfl
theorem q696 : (Jvm.Cond.soleField "PassagePapers$RegisterReader" "register") ∈ lw_all := lw_g (lw_at lw_m3 127 rfl) rfl
theorem q697 : (Jvm.Cond.lays "PassagePapers$RegisterReader" "PassagePapers$RegisterReader" "clauses" "I") ∈ lw_all := lw_g (lw_at lw_m3 128 rfl) rfl
theorem q698 : (Jvm.Cond.soleField "PassagePapers$RegisterReader" "clauses") ∈ lw_all := lw_g (lw_at lw_m3 129 rfl) rfl
theorem q699 : (Jvm.Cond.superclass "PassagePapers$RegisterReader" "java/lang/Object") ∈ lw_all := lw_g (lw_at lw_m3 130 rfl) rfl
theorem q701 : (Jvm.Cond.instanceMethod ({ cls := "PassagePapers$RegisterReader", name := "reads", desc := "()LPassagePapers$Register;" } : Jvm.MethodName)) ∈ lw_all := lw_g (lw_at lw_m3 132 rfl) rfl
theorem q702 : (Jvm.Cond.selects "PassagePapers$RegisterReader" ({ cls := "PassagePapers$RegisterReader", name := "reads", desc := "()LPassagePapers$Register;" } : Jvm.MethodName) ({ cls := "PassagePapers$RegisterReader", name := "reads", desc := "()LPassagePapers$Register;" } : Jvm.MethodName)) ∈ lw_all := lw_g (lw_at lw_m3 133 rfl) rfl
theorem q703 : (Jvm.Cond.code ({ cls := "PassagePapers$RegisterReader", name := "reads", desc := "()LPassagePapers$Register;" } : Jvm.MethodName) prog_14_method_2_code (1 : Nat) (Option.some (Jvm.ClassFile.FieldType.object "PassagePapers$Register"))) ∈ lw_all := lw_g (lw_at lw_m3 134 rfl) rfl
theorem q704 : (Jvm.Cond.methodLink "PassagePapers$RegisterReader" (38 : Nat) ({ cls := "PassagePapers$Reader", name := "now", desc := "()I" } : Jvm.MethodName)) ∈ lw_all := lw_g (lw_at lw_m3 135 rfl) rfl
theorem q712 : (Jvm.Cond.methodLink "PassagePapers$RegisterReader" (44 : Nat) ({ cls := "PassagePapers$RegisterReader", name := "clause", desc := "()V" } : Jvm.MethodName)) ∈ lw_all := lw_g (lw_at lw_m3 143 rfl) rfl
theorem q713 : (Jvm.Cond.privateMethod ({ cls := "PassagePapers$RegisterReader", name := "clause", desc := "()V" } : Jvm.MethodName)) ∈ lw_tbl := lw_at lw_m3 144 rfl
theorem q714 : (Jvm.Cond.instanceMethod ({ cls := "PassagePapers$RegisterReader", name := "clause", desc := "()V" } : Jvm.MethodName)) ∈ lw_all := lw_g (lw_at lw_m3 145 rfl) rfl
theorem q715 : (Jvm.Cond.code ({ cls := "PassagePapers$RegisterReader", name := "clause", desc := "()V" } : Jvm.MethodName) prog_14_method_3_code (4 : Nat) (Option.none : Option Jvm.ClassFile.FieldType)) ∈ lw_all := lw_g (lw_at lw_m3 146 rfl) rfl
theorem q716 : (Jvm.Cond.methodLink "PassagePapers$RegisterReader" (47 : Nat) ({ cls := "PassagePapers$Reader", name := "place", desc := "()I" } : Jvm.MethodName)) ∈ lw_all := lw_g (lw_at lw_m3 147 rfl) rfl
theorem q721 : (Jvm.Cond.methodLink "PassagePapers$RegisterReader" (50 : Nat) ({ cls := "PassagePapers$Reader", name := "which", desc := "([Ljava/lang/String;)I" } : Jvm.MethodName)) ∈ lw_all := lw_g (lw_at lw_m3 152 rfl) rfl
theorem q781 : (Jvm.Cond.classLink "PassagePapers$RegisterReader" (54 : Nat) "PassagePapers$Wrong") ∈ lw_all := lw_g (lw_at lw_m3 212 rfl) rfl
theorem q790 : (Jvm.Cond.methodLink "PassagePapers$RegisterReader" (56 : Nat) ({ cls := "PassagePapers$Wrong", name := "<init>", desc := "(II)V" } : Jvm.MethodName)) ∈ lw_all := lw_g (lw_at lw_m3 221 rfl) rfl
theorem q809 : (Jvm.Cond.methodLink "PassagePapers$RegisterReader" (69 : Nat) ({ cls := "PassagePapers$Reader", name := "skipsWord", desc := "()V" } : Jvm.MethodName)) ∈ lw_all := lw_g (lw_at lw_m4 0 rfl) rfl
theorem q813 : (Jvm.Cond.methodLink "PassagePapers$RegisterReader" (72 : Nat) ({ cls := "PassagePapers$RegisterReader", name := "signer", desc := "(I)V" } : Jvm.MethodName)) ∈ lw_all := lw_g (lw_at lw_m4 4 rfl) rfl
theorem q814 : (Jvm.Cond.privateMethod ({ cls := "PassagePapers$RegisterReader", name := "signer", desc := "(I)V" } : Jvm.MethodName)) ∈ lw_tbl := lw_at lw_m4 5 rfl
theorem q815 : (Jvm.Cond.instanceMethod ({ cls := "PassagePapers$RegisterReader", name := "signer", desc := "(I)V" } : Jvm.MethodName)) ∈ lw_all := lw_g (lw_at lw_m4 6 rfl) rfl
theorem q816 : (Jvm.Cond.code ({ cls := "PassagePapers$RegisterReader", name := "signer", desc := "(I)V" } : Jvm.MethodName) prog_14_method_4_code (2 : Nat) (Option.none : Option Jvm.ClassFile.FieldType)) ∈ lw_all := lw_g (lw_at lw_m4 7 rfl) rfl
theorem q817 : (Jvm.Cond.methodLink "PassagePapers$RegisterReader" (77 : Nat) ({ cls := "PassagePapers$Reader", name := "number", desc := "(II)I" } : Jvm.MethodName)) ∈ lw_all := lw_g (lw_at lw_m4 8 rfl) rfl
theorem q828 : (Jvm.Cond.methodLink "PassagePapers$RegisterReader" (75 : Nat) ({ cls := "PassagePapers$RegisterReader", name := "taker", desc := "(I)V" } : Jvm.MethodName)) ∈ lw_all := lw_g (lw_at lw_m4 19 rfl) rfl
theorem q829 : (Jvm.Cond.privateMethod ({ cls := "PassagePapers$RegisterReader", name := "taker", desc := "(I)V" } : Jvm.MethodName)) ∈ lw_tbl := lw_at lw_m4 20 rfl
theorem q830 : (Jvm.Cond.instanceMethod ({ cls := "PassagePapers$RegisterReader", name := "taker", desc := "(I)V" } : Jvm.MethodName)) ∈ lw_all := lw_g (lw_at lw_m4 21 rfl) rfl
theorem q831 : (Jvm.Cond.code ({ cls := "PassagePapers$RegisterReader", name := "taker", desc := "(I)V" } : Jvm.MethodName) prog_14_method_5_code (2 : Nat) (Option.none : Option Jvm.ClassFile.FieldType)) ∈ lw_all := lw_g (lw_at lw_m4 22 rfl) rfl
theorem q832 : (Jvm.Cond.methodLink "PassagePapers$RegisterReader" (89 : Nat) ({ cls := "PassagePapers$Reader", name := "sign", desc := "(C)V" } : Jvm.MethodName)) ∈ lw_all := lw_g (lw_at lw_m4 23 rfl) rfl
theorem q2203 : (Jvm.Cond.castable "PassagePapers$RegisterReader" "java/lang/Object") ∈ lw_tbl := lw_at lw_m9 194 rfl
theorem in_X9 : ∀ w ∈ wsX90, w ∈ lw_all := lw_in wsX90 [691, 693, 695, 697] (by decide +kernel) (by decide +kernel)
/-! PassagePapers$Reader -/
set_option maxRecDepth 100000
def RX10 : String := "PassagePapers$Reader"
def TX10 : u_T := fun k => match k with
  | 0 => ("PassagePapers$Reader", "bytes", "[B", true)
  | 1 => ("PassagePapers$Reader", "end", "I", true)
  | 2 => ("PassagePapers$Reader", "at", "I", false)
  | _ => ("PassagePapers$Reader", "open", "I", false)
def tyX10 : Nat → FieldType := fun k => match k with
  | 0 => .array .byte
  | 1 => .int
  | 2 => .int
  | _ => .int
abbrev wsX100 : List Cond := u_ws RX10 TX10 4
theorem nmX10 : ∀ a, a < 4 → ∀ b, b < 4 → a ≠ b → (TX10 a).2.1 ≠ (TX10 b).2.1 := by decide +kernel
theorem tyX10_ok : ∀ k, k < 4 → parseFieldDescriptor (TX10 k).2.2.1 = some (tyX10 k) := by decide +kernel
abbrev cX10_init : ByteArray := prog_12_method_1_code
def yX10_init : MethodName := ⟨RX10, "<init>", "([BI)V"⟩
def dkwX10_init_0 : List UInt8 := [42, 183, 0, 3, 42, 43, 181, 0, 9, 42, 28, 181, 0, 15, 177]
abbrev dktX10_init_0 : List UInt8 := dkwX10_init_0 ++ []
theorem dksX10_init_0 : cX10_init.data.toList.drop 0 = dktX10_init_0 := by decide +kernel
theorem dX10_init_0 : decode cX10_init 0 = .ok (.aload_n 0, 1) := dk_42 (dk_at dksX10_init_0 0 rfl rfl)
theorem dX10_init_1 : decode cX10_init 1 = .ok (.invokespecial 3, 3) := dk_183 0 3 (dk_at dksX10_init_0 1 rfl rfl)
theorem dX10_init_4 : decode cX10_init 4 = .ok (.aload_n 0, 1) := dk_42 (dk_at dksX10_init_0 4 rfl rfl)
theorem dX10_init_5 : decode cX10_init 5 = .ok (.aload_n 1, 1) := dk_43 (dk_at dksX10_init_0 5 rfl rfl)
theorem dX10_init_6 : decode cX10_init 6 = .ok (.putfield 9, 3) := dk_181 0 9 (dk_at dksX10_init_0 6 rfl rfl)
theorem dX10_init_9 : decode cX10_init 9 = .ok (.aload_n 0, 1) := dk_42 (dk_at dksX10_init_0 9 rfl rfl)
theorem dX10_init_10 : decode cX10_init 10 = .ok (.iload_n 2, 1) := dk_28 (dk_at dksX10_init_0 10 rfl rfl)
theorem dX10_init_11 : decode cX10_init 11 = .ok (.putfield 15, 3) := dk_181 0 15 (dk_at dksX10_init_0 11 rfl rfl)
theorem dX10_init_14 : decode cX10_init 14 = .ok (.return_, 1) := dk_177 (dk_at dksX10_init_0 14 rfl rfl)
abbrev cX10_now : ByteArray := prog_12_method_3_code
def yX10_now : MethodName := ⟨RX10, "now", "()I"⟩
def dkwX10_now_1 : List UInt8 := [167, 255, 233, 42, 42, 180, 0, 19, 182, 0, 22, 172]
abbrev dktX10_now_1 : List UInt8 := dkwX10_now_1 ++ []
def dkwX10_now_0 : List UInt8 := [42, 42, 180, 0, 19, 182, 0, 22, 16, 32, 160, 0, 16, 42, 89, 180, 0, 19, 4, 96, 181, 0, 19]
abbrev dktX10_now_0 : List UInt8 := dkwX10_now_0 ++ dktX10_now_1
theorem dksX10_now_0 : cX10_now.data.toList.drop 0 = dktX10_now_0 := by decide +kernel
theorem dksX10_now_1 : cX10_now.data.toList.drop 23 = dktX10_now_1 := dk_seg dksX10_now_0 23 rfl rfl
theorem dX10_now_0 : decode cX10_now 0 = .ok (.aload_n 0, 1) := dk_42 (dk_at dksX10_now_0 0 rfl rfl)
theorem dX10_now_1 : decode cX10_now 1 = .ok (.aload_n 0, 1) := dk_42 (dk_at dksX10_now_0 1 rfl rfl)
theorem dX10_now_2 : decode cX10_now 2 = .ok (.getfield 19, 3) := dk_180 0 19 (dk_at dksX10_now_0 2 rfl rfl)
theorem dX10_now_5 : decode cX10_now 5 = .ok (.invokevirtual 22, 3) := dk_182 0 22 (dk_at dksX10_now_0 5 rfl rfl)
theorem dX10_now_8 : decode cX10_now 8 = .ok (.bipush 32, 2) := dk_16 32 (dk_at dksX10_now_0 8 rfl rfl)
theorem dX10_now_10 : decode cX10_now 10 = .ok (.if_icmp .ne 16, 3) := dk_160 0 16 (dk_at dksX10_now_0 10 rfl rfl)
theorem dX10_now_13 : decode cX10_now 13 = .ok (.aload_n 0, 1) := dk_42 (dk_at dksX10_now_0 13 rfl rfl)
theorem dX10_now_14 : decode cX10_now 14 = .ok (.dup, 1) := dk_89 (dk_at dksX10_now_0 14 rfl rfl)
theorem dX10_now_15 : decode cX10_now 15 = .ok (.getfield 19, 3) := dk_180 0 19 (dk_at dksX10_now_0 15 rfl rfl)
theorem dX10_now_18 : decode cX10_now 18 = .ok (.iconst 1, 1) := dk_4 (dk_at dksX10_now_0 18 rfl rfl)
theorem dX10_now_19 : decode cX10_now 19 = .ok (.iadd, 1) := dk_96 (dk_at dksX10_now_0 19 rfl rfl)
theorem dX10_now_20 : decode cX10_now 20 = .ok (.putfield 19, 3) := dk_181 0 19 (dk_at dksX10_now_0 20 rfl rfl)
theorem dX10_now_23 : decode cX10_now 23 = .ok (.goto (-23), 3) := dk_167 255 233 (dk_at dksX10_now_1 0 rfl rfl)
theorem dX10_now_26 : decode cX10_now 26 = .ok (.aload_n 0, 1) := dk_42 (dk_at dksX10_now_1 3 rfl rfl)
theorem dX10_now_27 : decode cX10_now 27 = .ok (.aload_n 0, 1) := dk_42 (dk_at dksX10_now_1 4 rfl rfl)
theorem dX10_now_28 : decode cX10_now 28 = .ok (.getfield 19, 3) := dk_180 0 19 (dk_at dksX10_now_1 5 rfl rfl)
theorem dX10_now_31 : decode cX10_now 31 = .ok (.invokevirtual 22, 3) := dk_182 0 22 (dk_at dksX10_now_1 8 rfl rfl)
theorem dX10_now_34 : decode cX10_now 34 = .ok (.ireturn, 1) := dk_172 (dk_at dksX10_now_1 11 rfl rfl)
abbrev cX10_byteAt : ByteArray := prog_12_method_2_code
def yX10_byteAt : MethodName := ⟨RX10, "byteAt", "(I)I"⟩
def dkwX10_byteAt_0 : List UInt8 := [27, 42, 180, 0, 15, 162, 0, 16, 42, 180, 0, 9, 27, 51, 17, 0, 255, 126, 167, 0, 4, 2, 172]
abbrev dktX10_byteAt_0 : List UInt8 := dkwX10_byteAt_0 ++ []
theorem dksX10_byteAt_0 : cX10_byteAt.data.toList.drop 0 = dktX10_byteAt_0 := by decide +kernel
theorem dX10_byteAt_0 : decode cX10_byteAt 0 = .ok (.iload_n 1, 1) := dk_27 (dk_at dksX10_byteAt_0 0 rfl rfl)
theorem dX10_byteAt_1 : decode cX10_byteAt 1 = .ok (.aload_n 0, 1) := dk_42 (dk_at dksX10_byteAt_0 1 rfl rfl)
theorem dX10_byteAt_2 : decode cX10_byteAt 2 = .ok (.getfield 15, 3) := dk_180 0 15 (dk_at dksX10_byteAt_0 2 rfl rfl)
theorem dX10_byteAt_5 : decode cX10_byteAt 5 = .ok (.if_icmp .ge 16, 3) := dk_162 0 16 (dk_at dksX10_byteAt_0 5 rfl rfl)
theorem dX10_byteAt_8 : decode cX10_byteAt 8 = .ok (.aload_n 0, 1) := dk_42 (dk_at dksX10_byteAt_0 8 rfl rfl)
theorem dX10_byteAt_9 : decode cX10_byteAt 9 = .ok (.getfield 9, 3) := dk_180 0 9 (dk_at dksX10_byteAt_0 9 rfl rfl)
theorem dX10_byteAt_12 : decode cX10_byteAt 12 = .ok (.iload_n 1, 1) := dk_27 (dk_at dksX10_byteAt_0 12 rfl rfl)
theorem dX10_byteAt_13 : decode cX10_byteAt 13 = .ok (.baload, 1) := dk_51 (dk_at dksX10_byteAt_0 13 rfl rfl)
theorem dX10_byteAt_14 : decode cX10_byteAt 14 = .ok (.sipush 255, 3) := dk_17 0 255 (dk_at dksX10_byteAt_0 14 rfl rfl)
theorem dX10_byteAt_17 : decode cX10_byteAt 17 = .ok (.iand, 1) := dk_126 (dk_at dksX10_byteAt_0 17 rfl rfl)
theorem dX10_byteAt_18 : decode cX10_byteAt 18 = .ok (.goto 4, 3) := dk_167 0 4 (dk_at dksX10_byteAt_0 18 rfl rfl)
theorem dX10_byteAt_21 : decode cX10_byteAt 21 = .ok (.iconst (-1), 1) := dk_2 (dk_at dksX10_byteAt_0 21 rfl rfl)
theorem dX10_byteAt_22 : decode cX10_byteAt 22 = .ok (.ireturn, 1) := dk_172 (dk_at dksX10_byteAt_0 22 rfl rfl)
abbrev cX10_place : ByteArray := prog_12_method_4_code
def yX10_place : MethodName := ⟨RX10, "place", "()I"⟩
def dkwX10_place_0 : List UInt8 := [42, 182, 0, 26, 87, 42, 180, 0, 19, 172]
abbrev dktX10_place_0 : List UInt8 := dkwX10_place_0 ++ []
theorem dksX10_place_0 : cX10_place.data.toList.drop 0 = dktX10_place_0 := by decide +kernel
theorem dX10_place_0 : decode cX10_place 0 = .ok (.aload_n 0, 1) := dk_42 (dk_at dksX10_place_0 0 rfl rfl)
theorem dX10_place_1 : decode cX10_place 1 = .ok (.invokevirtual 26, 3) := dk_182 0 26 (dk_at dksX10_place_0 1 rfl rfl)
theorem dX10_place_4 : decode cX10_place 4 = .ok (.pop, 1) := dk_87 (dk_at dksX10_place_0 4 rfl rfl)
theorem dX10_place_5 : decode cX10_place 5 = .ok (.aload_n 0, 1) := dk_42 (dk_at dksX10_place_0 5 rfl rfl)
theorem dX10_place_6 : decode cX10_place 6 = .ok (.getfield 19, 3) := dk_180 0 19 (dk_at dksX10_place_0 6 rfl rfl)
theorem dX10_place_9 : decode cX10_place 9 = .ok (.ireturn, 1) := dk_172 (dk_at dksX10_place_0 9 rfl rfl)
abbrev cX10_which : ByteArray := prog_12_method_8_code
def yX10_which : MethodName := ⟨RX10, "which", "([Ljava/lang/String;)I"⟩
def dkwX10_which_1 : List UInt8 := [167, 255, 235, 2, 172]
abbrev dktX10_which_1 : List UInt8 := dkwX10_which_1 ++ []
def dkwX10_which_0 : List UInt8 := [3, 61, 28, 43, 190, 162, 0, 21, 42, 43, 28, 50, 182, 0, 46, 153, 0, 5, 28, 172, 132, 2, 1]
abbrev dktX10_which_0 : List UInt8 := dkwX10_which_0 ++ dktX10_which_1
theorem dksX10_which_0 : cX10_which.data.toList.drop 0 = dktX10_which_0 := by decide +kernel
theorem dksX10_which_1 : cX10_which.data.toList.drop 23 = dktX10_which_1 := dk_seg dksX10_which_0 23 rfl rfl
theorem dX10_which_0 : decode cX10_which 0 = .ok (.iconst 0, 1) := dk_3 (dk_at dksX10_which_0 0 rfl rfl)
theorem dX10_which_1 : decode cX10_which 1 = .ok (.istore_n 2, 1) := dk_61 (dk_at dksX10_which_0 1 rfl rfl)
theorem dX10_which_2 : decode cX10_which 2 = .ok (.iload_n 2, 1) := dk_28 (dk_at dksX10_which_0 2 rfl rfl)
theorem dX10_which_3 : decode cX10_which 3 = .ok (.aload_n 1, 1) := dk_43 (dk_at dksX10_which_0 3 rfl rfl)
theorem dX10_which_4 : decode cX10_which 4 = .ok (.arraylength, 1) := dk_190 (dk_at dksX10_which_0 4 rfl rfl)
theorem dX10_which_5 : decode cX10_which 5 = .ok (.if_icmp .ge 21, 3) := dk_162 0 21 (dk_at dksX10_which_0 5 rfl rfl)
theorem dX10_which_8 : decode cX10_which 8 = .ok (.aload_n 0, 1) := dk_42 (dk_at dksX10_which_0 8 rfl rfl)
theorem dX10_which_9 : decode cX10_which 9 = .ok (.aload_n 1, 1) := dk_43 (dk_at dksX10_which_0 9 rfl rfl)
theorem dX10_which_10 : decode cX10_which 10 = .ok (.iload_n 2, 1) := dk_28 (dk_at dksX10_which_0 10 rfl rfl)
theorem dX10_which_11 : decode cX10_which 11 = .ok (.aaload, 1) := dk_50 (dk_at dksX10_which_0 11 rfl rfl)
theorem dX10_which_12 : decode cX10_which 12 = .ok (.invokevirtual 46, 3) := dk_182 0 46 (dk_at dksX10_which_0 12 rfl rfl)
theorem dX10_which_15 : decode cX10_which 15 = .ok (.ifCond .eq 5, 3) := dk_153 0 5 (dk_at dksX10_which_0 15 rfl rfl)
theorem dX10_which_18 : decode cX10_which 18 = .ok (.iload_n 2, 1) := dk_28 (dk_at dksX10_which_0 18 rfl rfl)
theorem dX10_which_19 : decode cX10_which 19 = .ok (.ireturn, 1) := dk_172 (dk_at dksX10_which_0 19 rfl rfl)
theorem dX10_which_20 : decode cX10_which 20 = .ok (.iinc 2 1, 3) := dk_132 2 1 (dk_at dksX10_which_0 20 rfl rfl)
theorem dX10_which_23 : decode cX10_which 23 = .ok (.goto (-21), 3) := dk_167 255 235 (dk_at dksX10_which_1 0 rfl rfl)
theorem dX10_which_26 : decode cX10_which 26 = .ok (.iconst (-1), 1) := dk_2 (dk_at dksX10_which_1 3 rfl rfl)
theorem dX10_which_27 : decode cX10_which 27 = .ok (.ireturn, 1) := dk_172 (dk_at dksX10_which_1 4 rfl rfl)
abbrev cX10_isWord : ByteArray := prog_12_method_7_code
def yX10_isWord : MethodName := ⟨RX10, "isWord", "(Ljava/lang/String;)Z"⟩
def dkwX10_isWord_3 : List UInt8 := [172]
abbrev dktX10_isWord_3 : List UInt8 := dkwX10_isWord_3 ++ []
def dkwX10_isWord_2 : List UInt8 := [21, 4, 96, 182, 0, 22, 43, 21, 4, 182, 0, 42, 159, 0, 5, 3, 172, 132, 4, 1, 167, 255, 228, 4]
abbrev dktX10_isWord_2 : List UInt8 := dkwX10_isWord_2 ++ dktX10_isWord_3
def dkwX10_isWord_1 : List UInt8 := [167, 255, 240, 29, 43, 182, 0, 37, 159, 0, 5, 3, 172, 3, 54, 4, 21, 4, 29, 162, 0, 28, 42, 28]
abbrev dktX10_isWord_1 : List UInt8 := dkwX10_isWord_1 ++ dktX10_isWord_2
def dkwX10_isWord_0 : List UInt8 := [42, 182, 0, 30, 61, 3, 62, 42, 28, 29, 96, 182, 0, 22, 184, 0, 33, 153, 0, 9, 132, 3, 1]
abbrev dktX10_isWord_0 : List UInt8 := dkwX10_isWord_0 ++ dktX10_isWord_1
theorem dksX10_isWord_0 : cX10_isWord.data.toList.drop 0 = dktX10_isWord_0 := by decide +kernel
theorem dksX10_isWord_1 : cX10_isWord.data.toList.drop 23 = dktX10_isWord_1 := dk_seg dksX10_isWord_0 23 rfl rfl
theorem dksX10_isWord_2 : cX10_isWord.data.toList.drop 47 = dktX10_isWord_2 := dk_seg dksX10_isWord_1 24 rfl rfl
theorem dksX10_isWord_3 : cX10_isWord.data.toList.drop 71 = dktX10_isWord_3 := dk_seg dksX10_isWord_2 24 rfl rfl
theorem dX10_isWord_0 : decode cX10_isWord 0 = .ok (.aload_n 0, 1) := dk_42 (dk_at dksX10_isWord_0 0 rfl rfl)
theorem dX10_isWord_1 : decode cX10_isWord 1 = .ok (.invokevirtual 30, 3) := dk_182 0 30 (dk_at dksX10_isWord_0 1 rfl rfl)
theorem dX10_isWord_4 : decode cX10_isWord 4 = .ok (.istore_n 2, 1) := dk_61 (dk_at dksX10_isWord_0 4 rfl rfl)
theorem dX10_isWord_5 : decode cX10_isWord 5 = .ok (.iconst 0, 1) := dk_3 (dk_at dksX10_isWord_0 5 rfl rfl)
theorem dX10_isWord_6 : decode cX10_isWord 6 = .ok (.istore_n 3, 1) := dk_62 (dk_at dksX10_isWord_0 6 rfl rfl)
theorem dX10_isWord_7 : decode cX10_isWord 7 = .ok (.aload_n 0, 1) := dk_42 (dk_at dksX10_isWord_0 7 rfl rfl)
theorem dX10_isWord_8 : decode cX10_isWord 8 = .ok (.iload_n 2, 1) := dk_28 (dk_at dksX10_isWord_0 8 rfl rfl)
theorem dX10_isWord_9 : decode cX10_isWord 9 = .ok (.iload_n 3, 1) := dk_29 (dk_at dksX10_isWord_0 9 rfl rfl)
theorem dX10_isWord_10 : decode cX10_isWord 10 = .ok (.iadd, 1) := dk_96 (dk_at dksX10_isWord_0 10 rfl rfl)
theorem dX10_isWord_11 : decode cX10_isWord 11 = .ok (.invokevirtual 22, 3) := dk_182 0 22 (dk_at dksX10_isWord_0 11 rfl rfl)
theorem dX10_isWord_14 : decode cX10_isWord 14 = .ok (.invokestatic 33, 3) := dk_184 0 33 (dk_at dksX10_isWord_0 14 rfl rfl)
theorem dX10_isWord_17 : decode cX10_isWord 17 = .ok (.ifCond .eq 9, 3) := dk_153 0 9 (dk_at dksX10_isWord_0 17 rfl rfl)
theorem dX10_isWord_20 : decode cX10_isWord 20 = .ok (.iinc 3 1, 3) := dk_132 3 1 (dk_at dksX10_isWord_0 20 rfl rfl)
theorem dX10_isWord_23 : decode cX10_isWord 23 = .ok (.goto (-16), 3) := dk_167 255 240 (dk_at dksX10_isWord_1 0 rfl rfl)
theorem dX10_isWord_26 : decode cX10_isWord 26 = .ok (.iload_n 3, 1) := dk_29 (dk_at dksX10_isWord_1 3 rfl rfl)
theorem dX10_isWord_27 : decode cX10_isWord 27 = .ok (.aload_n 1, 1) := dk_43 (dk_at dksX10_isWord_1 4 rfl rfl)
theorem dX10_isWord_28 : decode cX10_isWord 28 = .ok (.invokevirtual 37, 3) := dk_182 0 37 (dk_at dksX10_isWord_1 5 rfl rfl)
theorem dX10_isWord_31 : decode cX10_isWord 31 = .ok (.if_icmp .eq 5, 3) := dk_159 0 5 (dk_at dksX10_isWord_1 8 rfl rfl)
theorem dX10_isWord_34 : decode cX10_isWord 34 = .ok (.iconst 0, 1) := dk_3 (dk_at dksX10_isWord_1 11 rfl rfl)
theorem dX10_isWord_35 : decode cX10_isWord 35 = .ok (.ireturn, 1) := dk_172 (dk_at dksX10_isWord_1 12 rfl rfl)
theorem dX10_isWord_36 : decode cX10_isWord 36 = .ok (.iconst 0, 1) := dk_3 (dk_at dksX10_isWord_1 13 rfl rfl)
theorem dX10_isWord_37 : decode cX10_isWord 37 = .ok (.istore 4, 2) := dk_54 4 (dk_at dksX10_isWord_1 14 rfl rfl)
theorem dX10_isWord_39 : decode cX10_isWord 39 = .ok (.iload 4, 2) := dk_21 4 (dk_at dksX10_isWord_1 16 rfl rfl)
theorem dX10_isWord_41 : decode cX10_isWord 41 = .ok (.iload_n 3, 1) := dk_29 (dk_at dksX10_isWord_1 18 rfl rfl)
theorem dX10_isWord_42 : decode cX10_isWord 42 = .ok (.if_icmp .ge 28, 3) := dk_162 0 28 (dk_at dksX10_isWord_1 19 rfl rfl)
theorem dX10_isWord_45 : decode cX10_isWord 45 = .ok (.aload_n 0, 1) := dk_42 (dk_at dksX10_isWord_1 22 rfl rfl)
theorem dX10_isWord_46 : decode cX10_isWord 46 = .ok (.iload_n 2, 1) := dk_28 (dk_at dksX10_isWord_1 23 rfl rfl)
theorem dX10_isWord_47 : decode cX10_isWord 47 = .ok (.iload 4, 2) := dk_21 4 (dk_at dksX10_isWord_2 0 rfl rfl)
theorem dX10_isWord_49 : decode cX10_isWord 49 = .ok (.iadd, 1) := dk_96 (dk_at dksX10_isWord_2 2 rfl rfl)
theorem dX10_isWord_50 : decode cX10_isWord 50 = .ok (.invokevirtual 22, 3) := dk_182 0 22 (dk_at dksX10_isWord_2 3 rfl rfl)
theorem dX10_isWord_53 : decode cX10_isWord 53 = .ok (.aload_n 1, 1) := dk_43 (dk_at dksX10_isWord_2 6 rfl rfl)
theorem dX10_isWord_54 : decode cX10_isWord 54 = .ok (.iload 4, 2) := dk_21 4 (dk_at dksX10_isWord_2 7 rfl rfl)
theorem dX10_isWord_56 : decode cX10_isWord 56 = .ok (.invokevirtual 42, 3) := dk_182 0 42 (dk_at dksX10_isWord_2 9 rfl rfl)
theorem dX10_isWord_59 : decode cX10_isWord 59 = .ok (.if_icmp .eq 5, 3) := dk_159 0 5 (dk_at dksX10_isWord_2 12 rfl rfl)
theorem dX10_isWord_62 : decode cX10_isWord 62 = .ok (.iconst 0, 1) := dk_3 (dk_at dksX10_isWord_2 15 rfl rfl)
theorem dX10_isWord_63 : decode cX10_isWord 63 = .ok (.ireturn, 1) := dk_172 (dk_at dksX10_isWord_2 16 rfl rfl)
theorem dX10_isWord_64 : decode cX10_isWord 64 = .ok (.iinc 4 1, 3) := dk_132 4 1 (dk_at dksX10_isWord_2 17 rfl rfl)
theorem dX10_isWord_67 : decode cX10_isWord 67 = .ok (.goto (-28), 3) := dk_167 255 228 (dk_at dksX10_isWord_2 20 rfl rfl)
theorem dX10_isWord_70 : decode cX10_isWord 70 = .ok (.iconst 1, 1) := dk_4 (dk_at dksX10_isWord_2 23 rfl rfl)
theorem dX10_isWord_71 : decode cX10_isWord 71 = .ok (.ireturn, 1) := dk_172 (dk_at dksX10_isWord_3 0 rfl rfl)
abbrev cX10_isSmall : ByteArray := prog_12_method_5_code
def yX10_isSmall : MethodName := ⟨RX10, "isSmall", "(I)Z"⟩
def dkwX10_isSmall_0 : List UInt8 := [26, 16, 97, 161, 0, 13, 26, 16, 122, 163, 0, 7, 4, 167, 0, 4, 3, 172]
abbrev dktX10_isSmall_0 : List UInt8 := dkwX10_isSmall_0 ++ []
theorem dksX10_isSmall_0 : cX10_isSmall.data.toList.drop 0 = dktX10_isSmall_0 := by decide +kernel
theorem dX10_isSmall_0 : decode cX10_isSmall 0 = .ok (.iload_n 0, 1) := dk_26 (dk_at dksX10_isSmall_0 0 rfl rfl)
theorem dX10_isSmall_1 : decode cX10_isSmall 1 = .ok (.bipush 97, 2) := dk_16 97 (dk_at dksX10_isSmall_0 1 rfl rfl)
theorem dX10_isSmall_3 : decode cX10_isSmall 3 = .ok (.if_icmp .lt 13, 3) := dk_161 0 13 (dk_at dksX10_isSmall_0 3 rfl rfl)
theorem dX10_isSmall_6 : decode cX10_isSmall 6 = .ok (.iload_n 0, 1) := dk_26 (dk_at dksX10_isSmall_0 6 rfl rfl)
theorem dX10_isSmall_7 : decode cX10_isSmall 7 = .ok (.bipush 122, 2) := dk_16 122 (dk_at dksX10_isSmall_0 7 rfl rfl)
theorem dX10_isSmall_9 : decode cX10_isSmall 9 = .ok (.if_icmp .gt 7, 3) := dk_163 0 7 (dk_at dksX10_isSmall_0 9 rfl rfl)
theorem dX10_isSmall_12 : decode cX10_isSmall 12 = .ok (.iconst 1, 1) := dk_4 (dk_at dksX10_isSmall_0 12 rfl rfl)
theorem dX10_isSmall_13 : decode cX10_isSmall 13 = .ok (.goto 4, 3) := dk_167 0 4 (dk_at dksX10_isSmall_0 13 rfl rfl)
theorem dX10_isSmall_16 : decode cX10_isSmall 16 = .ok (.iconst 0, 1) := dk_3 (dk_at dksX10_isSmall_0 16 rfl rfl)
theorem dX10_isSmall_17 : decode cX10_isSmall 17 = .ok (.ireturn, 1) := dk_172 (dk_at dksX10_isSmall_0 17 rfl rfl)
abbrev cX10_skipsWord : ByteArray := prog_12_method_9_code
def yX10_skipsWord : MethodName := ⟨RX10, "skipsWord", "()V"⟩
def dkwX10_skipsWord_1 : List UInt8 := [167, 255, 232, 177]
abbrev dktX10_skipsWord_1 : List UInt8 := dkwX10_skipsWord_1 ++ []
def dkwX10_skipsWord_0 : List UInt8 := [42, 42, 180, 0, 19, 182, 0, 22, 184, 0, 33, 153, 0, 16, 42, 89, 180, 0, 19, 4, 96, 181, 0, 19]
abbrev dktX10_skipsWord_0 : List UInt8 := dkwX10_skipsWord_0 ++ dktX10_skipsWord_1
theorem dksX10_skipsWord_0 : cX10_skipsWord.data.toList.drop 0 = dktX10_skipsWord_0 := by decide +kernel
theorem dksX10_skipsWord_1 : cX10_skipsWord.data.toList.drop 24 = dktX10_skipsWord_1 := dk_seg dksX10_skipsWord_0 24 rfl rfl
theorem dX10_skipsWord_0 : decode cX10_skipsWord 0 = .ok (.aload_n 0, 1) := dk_42 (dk_at dksX10_skipsWord_0 0 rfl rfl)
theorem dX10_skipsWord_1 : decode cX10_skipsWord 1 = .ok (.aload_n 0, 1) := dk_42 (dk_at dksX10_skipsWord_0 1 rfl rfl)
theorem dX10_skipsWord_2 : decode cX10_skipsWord 2 = .ok (.getfield 19, 3) := dk_180 0 19 (dk_at dksX10_skipsWord_0 2 rfl rfl)
theorem dX10_skipsWord_5 : decode cX10_skipsWord 5 = .ok (.invokevirtual 22, 3) := dk_182 0 22 (dk_at dksX10_skipsWord_0 5 rfl rfl)
theorem dX10_skipsWord_8 : decode cX10_skipsWord 8 = .ok (.invokestatic 33, 3) := dk_184 0 33 (dk_at dksX10_skipsWord_0 8 rfl rfl)
theorem dX10_skipsWord_11 : decode cX10_skipsWord 11 = .ok (.ifCond .eq 16, 3) := dk_153 0 16 (dk_at dksX10_skipsWord_0 11 rfl rfl)
theorem dX10_skipsWord_14 : decode cX10_skipsWord 14 = .ok (.aload_n 0, 1) := dk_42 (dk_at dksX10_skipsWord_0 14 rfl rfl)
theorem dX10_skipsWord_15 : decode cX10_skipsWord 15 = .ok (.dup, 1) := dk_89 (dk_at dksX10_skipsWord_0 15 rfl rfl)
theorem dX10_skipsWord_16 : decode cX10_skipsWord 16 = .ok (.getfield 19, 3) := dk_180 0 19 (dk_at dksX10_skipsWord_0 16 rfl rfl)
theorem dX10_skipsWord_19 : decode cX10_skipsWord 19 = .ok (.iconst 1, 1) := dk_4 (dk_at dksX10_skipsWord_0 19 rfl rfl)
theorem dX10_skipsWord_20 : decode cX10_skipsWord 20 = .ok (.iadd, 1) := dk_96 (dk_at dksX10_skipsWord_0 20 rfl rfl)
theorem dX10_skipsWord_21 : decode cX10_skipsWord 21 = .ok (.putfield 19, 3) := dk_181 0 19 (dk_at dksX10_skipsWord_0 21 rfl rfl)
theorem dX10_skipsWord_24 : decode cX10_skipsWord 24 = .ok (.goto (-24), 3) := dk_167 255 232 (dk_at dksX10_skipsWord_1 0 rfl rfl)
theorem dX10_skipsWord_27 : decode cX10_skipsWord 27 = .ok (.return_, 1) := dk_177 (dk_at dksX10_skipsWord_1 3 rfl rfl)
abbrev cX10_number : ByteArray := prog_12_method_10_code
def yX10_number : MethodName := ⟨RX10, "number", "(II)I"⟩
def dkwX10_number_4 : List UInt8 := [21, 4, 28, 164, 0, 13, 187, 0, 53, 89, 5, 29, 183, 0, 55, 191, 21, 4, 172]
abbrev dktX10_number_4 : List UInt8 := dkwX10_number_4 ++ []
def dkwX10_number_3 : List UInt8 := [184, 0, 59, 54, 4, 42, 89, 180, 0, 19, 4, 96, 181, 0, 19, 167, 255, 208, 21, 4, 27, 161, 0, 9]
abbrev dktX10_number_3 : List UInt8 := dkwX10_number_3 ++ dktX10_number_4
def dkwX10_number_2 : List UInt8 := [153, 0, 40, 16, 10, 21, 4, 104, 42, 42, 180, 0, 19, 182, 0, 22, 96, 16, 48, 100, 18, 58]
abbrev dktX10_number_2 : List UInt8 := dkwX10_number_2 ++ dktX10_number_3
def dkwX10_number_1 : List UInt8 := [187, 0, 53, 89, 4, 42, 180, 0, 19, 183, 0, 55, 191, 42, 42, 180, 0, 19, 182, 0, 22, 184, 0, 50]
abbrev dktX10_number_1 : List UInt8 := dkwX10_number_1 ++ dktX10_number_2
def dkwX10_number_0 : List UInt8 := [42, 182, 0, 30, 62, 3, 54, 4, 42, 42, 180, 0, 19, 182, 0, 22, 184, 0, 50, 154, 0, 16]
abbrev dktX10_number_0 : List UInt8 := dkwX10_number_0 ++ dktX10_number_1
theorem dksX10_number_0 : cX10_number.data.toList.drop 0 = dktX10_number_0 := by decide +kernel
theorem dksX10_number_1 : cX10_number.data.toList.drop 22 = dktX10_number_1 := dk_seg dksX10_number_0 22 rfl rfl
theorem dksX10_number_2 : cX10_number.data.toList.drop 46 = dktX10_number_2 := dk_seg dksX10_number_1 24 rfl rfl
theorem dksX10_number_3 : cX10_number.data.toList.drop 68 = dktX10_number_3 := dk_seg dksX10_number_2 22 rfl rfl
theorem dksX10_number_4 : cX10_number.data.toList.drop 92 = dktX10_number_4 := dk_seg dksX10_number_3 24 rfl rfl
theorem dX10_number_0 : decode cX10_number 0 = .ok (.aload_n 0, 1) := dk_42 (dk_at dksX10_number_0 0 rfl rfl)
theorem dX10_number_1 : decode cX10_number 1 = .ok (.invokevirtual 30, 3) := dk_182 0 30 (dk_at dksX10_number_0 1 rfl rfl)
theorem dX10_number_4 : decode cX10_number 4 = .ok (.istore_n 3, 1) := dk_62 (dk_at dksX10_number_0 4 rfl rfl)
theorem dX10_number_5 : decode cX10_number 5 = .ok (.iconst 0, 1) := dk_3 (dk_at dksX10_number_0 5 rfl rfl)
theorem dX10_number_6 : decode cX10_number 6 = .ok (.istore 4, 2) := dk_54 4 (dk_at dksX10_number_0 6 rfl rfl)
theorem dX10_number_8 : decode cX10_number 8 = .ok (.aload_n 0, 1) := dk_42 (dk_at dksX10_number_0 8 rfl rfl)
theorem dX10_number_9 : decode cX10_number 9 = .ok (.aload_n 0, 1) := dk_42 (dk_at dksX10_number_0 9 rfl rfl)
theorem dX10_number_10 : decode cX10_number 10 = .ok (.getfield 19, 3) := dk_180 0 19 (dk_at dksX10_number_0 10 rfl rfl)
theorem dX10_number_13 : decode cX10_number 13 = .ok (.invokevirtual 22, 3) := dk_182 0 22 (dk_at dksX10_number_0 13 rfl rfl)
theorem dX10_number_16 : decode cX10_number 16 = .ok (.invokestatic 50, 3) := dk_184 0 50 (dk_at dksX10_number_0 16 rfl rfl)
theorem dX10_number_19 : decode cX10_number 19 = .ok (.ifCond .ne 16, 3) := dk_154 0 16 (dk_at dksX10_number_0 19 rfl rfl)
theorem dX10_number_22 : decode cX10_number 22 = .ok (.new 53, 3) := dk_187 0 53 (dk_at dksX10_number_1 0 rfl rfl)
theorem dX10_number_25 : decode cX10_number 25 = .ok (.dup, 1) := dk_89 (dk_at dksX10_number_1 3 rfl rfl)
theorem dX10_number_26 : decode cX10_number 26 = .ok (.iconst 1, 1) := dk_4 (dk_at dksX10_number_1 4 rfl rfl)
theorem dX10_number_27 : decode cX10_number 27 = .ok (.aload_n 0, 1) := dk_42 (dk_at dksX10_number_1 5 rfl rfl)
theorem dX10_number_28 : decode cX10_number 28 = .ok (.getfield 19, 3) := dk_180 0 19 (dk_at dksX10_number_1 6 rfl rfl)
theorem dX10_number_31 : decode cX10_number 31 = .ok (.invokespecial 55, 3) := dk_183 0 55 (dk_at dksX10_number_1 9 rfl rfl)
theorem dX10_number_34 : decode cX10_number 34 = .ok (.athrow, 1) := dk_191 (dk_at dksX10_number_1 12 rfl rfl)
theorem dX10_number_35 : decode cX10_number 35 = .ok (.aload_n 0, 1) := dk_42 (dk_at dksX10_number_1 13 rfl rfl)
theorem dX10_number_36 : decode cX10_number 36 = .ok (.aload_n 0, 1) := dk_42 (dk_at dksX10_number_1 14 rfl rfl)
theorem dX10_number_37 : decode cX10_number 37 = .ok (.getfield 19, 3) := dk_180 0 19 (dk_at dksX10_number_1 15 rfl rfl)
theorem dX10_number_40 : decode cX10_number 40 = .ok (.invokevirtual 22, 3) := dk_182 0 22 (dk_at dksX10_number_1 18 rfl rfl)
theorem dX10_number_43 : decode cX10_number 43 = .ok (.invokestatic 50, 3) := dk_184 0 50 (dk_at dksX10_number_1 21 rfl rfl)
theorem dX10_number_46 : decode cX10_number 46 = .ok (.ifCond .eq 40, 3) := dk_153 0 40 (dk_at dksX10_number_2 0 rfl rfl)
theorem dX10_number_49 : decode cX10_number 49 = .ok (.bipush 10, 2) := dk_16 10 (dk_at dksX10_number_2 3 rfl rfl)
theorem dX10_number_51 : decode cX10_number 51 = .ok (.iload 4, 2) := dk_21 4 (dk_at dksX10_number_2 5 rfl rfl)
theorem dX10_number_53 : decode cX10_number 53 = .ok (.imul, 1) := dk_104 (dk_at dksX10_number_2 7 rfl rfl)
theorem dX10_number_54 : decode cX10_number 54 = .ok (.aload_n 0, 1) := dk_42 (dk_at dksX10_number_2 8 rfl rfl)
theorem dX10_number_55 : decode cX10_number 55 = .ok (.aload_n 0, 1) := dk_42 (dk_at dksX10_number_2 9 rfl rfl)
theorem dX10_number_56 : decode cX10_number 56 = .ok (.getfield 19, 3) := dk_180 0 19 (dk_at dksX10_number_2 10 rfl rfl)
theorem dX10_number_59 : decode cX10_number 59 = .ok (.invokevirtual 22, 3) := dk_182 0 22 (dk_at dksX10_number_2 13 rfl rfl)
theorem dX10_number_62 : decode cX10_number 62 = .ok (.iadd, 1) := dk_96 (dk_at dksX10_number_2 16 rfl rfl)
theorem dX10_number_63 : decode cX10_number 63 = .ok (.bipush 48, 2) := dk_16 48 (dk_at dksX10_number_2 17 rfl rfl)
theorem dX10_number_65 : decode cX10_number 65 = .ok (.isub, 1) := dk_100 (dk_at dksX10_number_2 19 rfl rfl)
theorem dX10_number_66 : decode cX10_number 66 = .ok (.ldc 58, 2) := dk_18 58 (dk_at dksX10_number_2 20 rfl rfl)
theorem dX10_number_68 : decode cX10_number 68 = .ok (.invokestatic 59, 3) := dk_184 0 59 (dk_at dksX10_number_3 0 rfl rfl)
theorem dX10_number_71 : decode cX10_number 71 = .ok (.istore 4, 2) := dk_54 4 (dk_at dksX10_number_3 3 rfl rfl)
theorem dX10_number_73 : decode cX10_number 73 = .ok (.aload_n 0, 1) := dk_42 (dk_at dksX10_number_3 5 rfl rfl)
theorem dX10_number_74 : decode cX10_number 74 = .ok (.dup, 1) := dk_89 (dk_at dksX10_number_3 6 rfl rfl)
theorem dX10_number_75 : decode cX10_number 75 = .ok (.getfield 19, 3) := dk_180 0 19 (dk_at dksX10_number_3 7 rfl rfl)
theorem dX10_number_78 : decode cX10_number 78 = .ok (.iconst 1, 1) := dk_4 (dk_at dksX10_number_3 10 rfl rfl)
theorem dX10_number_79 : decode cX10_number 79 = .ok (.iadd, 1) := dk_96 (dk_at dksX10_number_3 11 rfl rfl)
theorem dX10_number_80 : decode cX10_number 80 = .ok (.putfield 19, 3) := dk_181 0 19 (dk_at dksX10_number_3 12 rfl rfl)
theorem dX10_number_83 : decode cX10_number 83 = .ok (.goto (-48), 3) := dk_167 255 208 (dk_at dksX10_number_3 15 rfl rfl)
theorem dX10_number_86 : decode cX10_number 86 = .ok (.iload 4, 2) := dk_21 4 (dk_at dksX10_number_3 18 rfl rfl)
theorem dX10_number_88 : decode cX10_number 88 = .ok (.iload_n 1, 1) := dk_27 (dk_at dksX10_number_3 20 rfl rfl)
theorem dX10_number_89 : decode cX10_number 89 = .ok (.if_icmp .lt 9, 3) := dk_161 0 9 (dk_at dksX10_number_3 21 rfl rfl)
theorem dX10_number_92 : decode cX10_number 92 = .ok (.iload 4, 2) := dk_21 4 (dk_at dksX10_number_4 0 rfl rfl)
theorem dX10_number_94 : decode cX10_number 94 = .ok (.iload_n 2, 1) := dk_28 (dk_at dksX10_number_4 2 rfl rfl)
theorem dX10_number_95 : decode cX10_number 95 = .ok (.if_icmp .le 13, 3) := dk_164 0 13 (dk_at dksX10_number_4 3 rfl rfl)
theorem dX10_number_98 : decode cX10_number 98 = .ok (.new 53, 3) := dk_187 0 53 (dk_at dksX10_number_4 6 rfl rfl)
theorem dX10_number_101 : decode cX10_number 101 = .ok (.dup, 1) := dk_89 (dk_at dksX10_number_4 9 rfl rfl)
theorem dX10_number_102 : decode cX10_number 102 = .ok (.iconst 2, 1) := dk_5 (dk_at dksX10_number_4 10 rfl rfl)
theorem dX10_number_103 : decode cX10_number 103 = .ok (.iload_n 3, 1) := dk_29 (dk_at dksX10_number_4 11 rfl rfl)
theorem dX10_number_104 : decode cX10_number 104 = .ok (.invokespecial 55, 3) := dk_183 0 55 (dk_at dksX10_number_4 12 rfl rfl)
theorem dX10_number_107 : decode cX10_number 107 = .ok (.athrow, 1) := dk_191 (dk_at dksX10_number_4 15 rfl rfl)
theorem dX10_number_108 : decode cX10_number 108 = .ok (.iload 4, 2) := dk_21 4 (dk_at dksX10_number_4 16 rfl rfl)
theorem dX10_number_110 : decode cX10_number 110 = .ok (.ireturn, 1) := dk_172 (dk_at dksX10_number_4 18 rfl rfl)
abbrev cX10_isDigit : ByteArray := prog_12_method_6_code
def yX10_isDigit : MethodName := ⟨RX10, "isDigit", "(I)Z"⟩
def dkwX10_isDigit_0 : List UInt8 := [26, 16, 48, 161, 0, 13, 26, 16, 57, 163, 0, 7, 4, 167, 0, 4, 3, 172]
abbrev dktX10_isDigit_0 : List UInt8 := dkwX10_isDigit_0 ++ []
theorem dksX10_isDigit_0 : cX10_isDigit.data.toList.drop 0 = dktX10_isDigit_0 := by decide +kernel
theorem dX10_isDigit_0 : decode cX10_isDigit 0 = .ok (.iload_n 0, 1) := dk_26 (dk_at dksX10_isDigit_0 0 rfl rfl)
theorem dX10_isDigit_1 : decode cX10_isDigit 1 = .ok (.bipush 48, 2) := dk_16 48 (dk_at dksX10_isDigit_0 1 rfl rfl)
theorem dX10_isDigit_3 : decode cX10_isDigit 3 = .ok (.if_icmp .lt 13, 3) := dk_161 0 13 (dk_at dksX10_isDigit_0 3 rfl rfl)
theorem dX10_isDigit_6 : decode cX10_isDigit 6 = .ok (.iload_n 0, 1) := dk_26 (dk_at dksX10_isDigit_0 6 rfl rfl)
theorem dX10_isDigit_7 : decode cX10_isDigit 7 = .ok (.bipush 57, 2) := dk_16 57 (dk_at dksX10_isDigit_0 7 rfl rfl)
theorem dX10_isDigit_9 : decode cX10_isDigit 9 = .ok (.if_icmp .gt 7, 3) := dk_163 0 7 (dk_at dksX10_isDigit_0 9 rfl rfl)
theorem dX10_isDigit_12 : decode cX10_isDigit 12 = .ok (.iconst 1, 1) := dk_4 (dk_at dksX10_isDigit_0 12 rfl rfl)
theorem dX10_isDigit_13 : decode cX10_isDigit 13 = .ok (.goto 4, 3) := dk_167 0 4 (dk_at dksX10_isDigit_0 13 rfl rfl)
theorem dX10_isDigit_16 : decode cX10_isDigit 16 = .ok (.iconst 0, 1) := dk_3 (dk_at dksX10_isDigit_0 16 rfl rfl)
theorem dX10_isDigit_17 : decode cX10_isDigit 17 = .ok (.ireturn, 1) := dk_172 (dk_at dksX10_isDigit_0 17 rfl rfl)
abbrev cX10_sign : ByteArray := prog_12_method_11_code
def yX10_sign : MethodName := ⟨RX10, "sign", "(C)V"⟩
def dkwX10_sign_1 : List UInt8 := [180, 0, 19, 4, 96, 181, 0, 19, 177]
abbrev dktX10_sign_1 : List UInt8 := dkwX10_sign_1 ++ []
def dkwX10_sign_0 : List UInt8 := [42, 182, 0, 26, 27, 159, 0, 16, 187, 0, 53, 89, 4, 42, 180, 0, 19, 183, 0, 55, 191, 42, 89]
abbrev dktX10_sign_0 : List UInt8 := dkwX10_sign_0 ++ dktX10_sign_1
theorem dksX10_sign_0 : cX10_sign.data.toList.drop 0 = dktX10_sign_0 := by decide +kernel
theorem dksX10_sign_1 : cX10_sign.data.toList.drop 23 = dktX10_sign_1 := dk_seg dksX10_sign_0 23 rfl rfl
theorem dX10_sign_0 : decode cX10_sign 0 = .ok (.aload_n 0, 1) := dk_42 (dk_at dksX10_sign_0 0 rfl rfl)
theorem dX10_sign_1 : decode cX10_sign 1 = .ok (.invokevirtual 26, 3) := dk_182 0 26 (dk_at dksX10_sign_0 1 rfl rfl)
theorem dX10_sign_4 : decode cX10_sign 4 = .ok (.iload_n 1, 1) := dk_27 (dk_at dksX10_sign_0 4 rfl rfl)
theorem dX10_sign_5 : decode cX10_sign 5 = .ok (.if_icmp .eq 16, 3) := dk_159 0 16 (dk_at dksX10_sign_0 5 rfl rfl)
theorem dX10_sign_8 : decode cX10_sign 8 = .ok (.new 53, 3) := dk_187 0 53 (dk_at dksX10_sign_0 8 rfl rfl)
theorem dX10_sign_11 : decode cX10_sign 11 = .ok (.dup, 1) := dk_89 (dk_at dksX10_sign_0 11 rfl rfl)
theorem dX10_sign_12 : decode cX10_sign 12 = .ok (.iconst 1, 1) := dk_4 (dk_at dksX10_sign_0 12 rfl rfl)
theorem dX10_sign_13 : decode cX10_sign 13 = .ok (.aload_n 0, 1) := dk_42 (dk_at dksX10_sign_0 13 rfl rfl)
theorem dX10_sign_14 : decode cX10_sign 14 = .ok (.getfield 19, 3) := dk_180 0 19 (dk_at dksX10_sign_0 14 rfl rfl)
theorem dX10_sign_17 : decode cX10_sign 17 = .ok (.invokespecial 55, 3) := dk_183 0 55 (dk_at dksX10_sign_0 17 rfl rfl)
theorem dX10_sign_20 : decode cX10_sign 20 = .ok (.athrow, 1) := dk_191 (dk_at dksX10_sign_0 20 rfl rfl)
theorem dX10_sign_21 : decode cX10_sign 21 = .ok (.aload_n 0, 1) := dk_42 (dk_at dksX10_sign_0 21 rfl rfl)
theorem dX10_sign_22 : decode cX10_sign 22 = .ok (.dup, 1) := dk_89 (dk_at dksX10_sign_0 22 rfl rfl)
theorem dX10_sign_23 : decode cX10_sign 23 = .ok (.getfield 19, 3) := dk_180 0 19 (dk_at dksX10_sign_1 0 rfl rfl)
theorem dX10_sign_26 : decode cX10_sign 26 = .ok (.iconst 1, 1) := dk_4 (dk_at dksX10_sign_1 3 rfl rfl)
theorem dX10_sign_27 : decode cX10_sign 27 = .ok (.iadd, 1) := dk_96 (dk_at dksX10_sign_1 4 rfl rfl)
theorem dX10_sign_28 : decode cX10_sign 28 = .ok (.putfield 19, 3) := dk_181 0 19 (dk_at dksX10_sign_1 5 rfl rfl)
theorem dX10_sign_31 : decode cX10_sign 31 = .ok (.return_, 1) := dk_177 (dk_at dksX10_sign_1 8 rfl rfl)
abbrev cX10_opens : ByteArray := prog_12_method_13_code
def yX10_opens : MethodName := ⟨RX10, "opens", "()V"⟩
def dkwX10_opens_1 : List UInt8 := [180, 0, 65, 4, 96, 181, 0, 65, 177]
abbrev dktX10_opens_1 : List UInt8 := dkwX10_opens_1 ++ []
def dkwX10_opens_0 : List UInt8 := [42, 180, 0, 65, 16, 6, 160, 0, 16, 187, 0, 53, 89, 6, 42, 182, 0, 30, 183, 0, 55, 191, 42, 89]
abbrev dktX10_opens_0 : List UInt8 := dkwX10_opens_0 ++ dktX10_opens_1
theorem dksX10_opens_0 : cX10_opens.data.toList.drop 0 = dktX10_opens_0 := by decide +kernel
theorem dksX10_opens_1 : cX10_opens.data.toList.drop 24 = dktX10_opens_1 := dk_seg dksX10_opens_0 24 rfl rfl
theorem dX10_opens_0 : decode cX10_opens 0 = .ok (.aload_n 0, 1) := dk_42 (dk_at dksX10_opens_0 0 rfl rfl)
theorem dX10_opens_1 : decode cX10_opens 1 = .ok (.getfield 65, 3) := dk_180 0 65 (dk_at dksX10_opens_0 1 rfl rfl)
theorem dX10_opens_4 : decode cX10_opens 4 = .ok (.bipush 6, 2) := dk_16 6 (dk_at dksX10_opens_0 4 rfl rfl)
theorem dX10_opens_6 : decode cX10_opens 6 = .ok (.if_icmp .ne 16, 3) := dk_160 0 16 (dk_at dksX10_opens_0 6 rfl rfl)
theorem dX10_opens_9 : decode cX10_opens 9 = .ok (.new 53, 3) := dk_187 0 53 (dk_at dksX10_opens_0 9 rfl rfl)
theorem dX10_opens_12 : decode cX10_opens 12 = .ok (.dup, 1) := dk_89 (dk_at dksX10_opens_0 12 rfl rfl)
theorem dX10_opens_13 : decode cX10_opens 13 = .ok (.iconst 3, 1) := dk_6 (dk_at dksX10_opens_0 13 rfl rfl)
theorem dX10_opens_14 : decode cX10_opens 14 = .ok (.aload_n 0, 1) := dk_42 (dk_at dksX10_opens_0 14 rfl rfl)
theorem dX10_opens_15 : decode cX10_opens 15 = .ok (.invokevirtual 30, 3) := dk_182 0 30 (dk_at dksX10_opens_0 15 rfl rfl)
theorem dX10_opens_18 : decode cX10_opens 18 = .ok (.invokespecial 55, 3) := dk_183 0 55 (dk_at dksX10_opens_0 18 rfl rfl)
theorem dX10_opens_21 : decode cX10_opens 21 = .ok (.athrow, 1) := dk_191 (dk_at dksX10_opens_0 21 rfl rfl)
theorem dX10_opens_22 : decode cX10_opens 22 = .ok (.aload_n 0, 1) := dk_42 (dk_at dksX10_opens_0 22 rfl rfl)
theorem dX10_opens_23 : decode cX10_opens 23 = .ok (.dup, 1) := dk_89 (dk_at dksX10_opens_0 23 rfl rfl)
theorem dX10_opens_24 : decode cX10_opens 24 = .ok (.getfield 65, 3) := dk_180 0 65 (dk_at dksX10_opens_1 0 rfl rfl)
theorem dX10_opens_27 : decode cX10_opens 27 = .ok (.iconst 1, 1) := dk_4 (dk_at dksX10_opens_1 3 rfl rfl)
theorem dX10_opens_28 : decode cX10_opens 28 = .ok (.iadd, 1) := dk_96 (dk_at dksX10_opens_1 4 rfl rfl)
theorem dX10_opens_29 : decode cX10_opens 29 = .ok (.putfield 65, 3) := dk_181 0 65 (dk_at dksX10_opens_1 5 rfl rfl)
theorem dX10_opens_32 : decode cX10_opens 32 = .ok (.return_, 1) := dk_177 (dk_at dksX10_opens_1 8 rfl rfl)
abbrev cX10_closes : ByteArray := prog_12_method_14_code
def yX10_closes : MethodName := ⟨RX10, "closes", "()V"⟩
def dkwX10_closes_0 : List UInt8 := [42, 89, 180, 0, 65, 4, 100, 181, 0, 65, 177]
abbrev dktX10_closes_0 : List UInt8 := dkwX10_closes_0 ++ []
theorem dksX10_closes_0 : cX10_closes.data.toList.drop 0 = dktX10_closes_0 := by decide +kernel
theorem dX10_closes_0 : decode cX10_closes 0 = .ok (.aload_n 0, 1) := dk_42 (dk_at dksX10_closes_0 0 rfl rfl)
theorem dX10_closes_1 : decode cX10_closes 1 = .ok (.dup, 1) := dk_89 (dk_at dksX10_closes_0 1 rfl rfl)
theorem dX10_closes_2 : decode cX10_closes 2 = .ok (.getfield 65, 3) := dk_180 0 65 (dk_at dksX10_closes_0 2 rfl rfl)
theorem dX10_closes_5 : decode cX10_closes 5 = .ok (.iconst 1, 1) := dk_4 (dk_at dksX10_closes_0 5 rfl rfl)
theorem dX10_closes_6 : decode cX10_closes 6 = .ok (.isub, 1) := dk_100 (dk_at dksX10_closes_0 6 rfl rfl)
theorem dX10_closes_7 : decode cX10_closes 7 = .ok (.putfield 65, 3) := dk_181 0 65 (dk_at dksX10_closes_0 7 rfl rfl)
theorem dX10_closes_10 : decode cX10_closes 10 = .ok (.return_, 1) := dk_177 (dk_at dksX10_closes_0 10 rfl rfl)
abbrev cX10_takesSign : ByteArray := prog_12_method_12_code
def yX10_takesSign : MethodName := ⟨RX10, "takesSign", "(C)Z"⟩
def dkwX10_takesSign_1 : List UInt8 := [96, 181, 0, 19, 28, 172]
abbrev dktX10_takesSign_1 : List UInt8 := dkwX10_takesSign_1 ++ []
def dkwX10_takesSign_0 : List UInt8 := [42, 182, 0, 26, 27, 160, 0, 7, 4, 167, 0, 4, 3, 61, 28, 153, 0, 13, 42, 89, 180, 0, 19, 4]
abbrev dktX10_takesSign_0 : List UInt8 := dkwX10_takesSign_0 ++ dktX10_takesSign_1
theorem dksX10_takesSign_0 : cX10_takesSign.data.toList.drop 0 = dktX10_takesSign_0 := by decide +kernel
theorem dksX10_takesSign_1 : cX10_takesSign.data.toList.drop 24 = dktX10_takesSign_1 := dk_seg dksX10_takesSign_0 24 rfl rfl
theorem dX10_takesSign_0 : decode cX10_takesSign 0 = .ok (.aload_n 0, 1) := dk_42 (dk_at dksX10_takesSign_0 0 rfl rfl)
theorem dX10_takesSign_1 : decode cX10_takesSign 1 = .ok (.invokevirtual 26, 3) := dk_182 0 26 (dk_at dksX10_takesSign_0 1 rfl rfl)
theorem dX10_takesSign_4 : decode cX10_takesSign 4 = .ok (.iload_n 1, 1) := dk_27 (dk_at dksX10_takesSign_0 4 rfl rfl)
theorem dX10_takesSign_5 : decode cX10_takesSign 5 = .ok (.if_icmp .ne 7, 3) := dk_160 0 7 (dk_at dksX10_takesSign_0 5 rfl rfl)
theorem dX10_takesSign_8 : decode cX10_takesSign 8 = .ok (.iconst 1, 1) := dk_4 (dk_at dksX10_takesSign_0 8 rfl rfl)
theorem dX10_takesSign_9 : decode cX10_takesSign 9 = .ok (.goto 4, 3) := dk_167 0 4 (dk_at dksX10_takesSign_0 9 rfl rfl)
theorem dX10_takesSign_12 : decode cX10_takesSign 12 = .ok (.iconst 0, 1) := dk_3 (dk_at dksX10_takesSign_0 12 rfl rfl)
theorem dX10_takesSign_13 : decode cX10_takesSign 13 = .ok (.istore_n 2, 1) := dk_61 (dk_at dksX10_takesSign_0 13 rfl rfl)
theorem dX10_takesSign_14 : decode cX10_takesSign 14 = .ok (.iload_n 2, 1) := dk_28 (dk_at dksX10_takesSign_0 14 rfl rfl)
theorem dX10_takesSign_15 : decode cX10_takesSign 15 = .ok (.ifCond .eq 13, 3) := dk_153 0 13 (dk_at dksX10_takesSign_0 15 rfl rfl)
theorem dX10_takesSign_18 : decode cX10_takesSign 18 = .ok (.aload_n 0, 1) := dk_42 (dk_at dksX10_takesSign_0 18 rfl rfl)
theorem dX10_takesSign_19 : decode cX10_takesSign 19 = .ok (.dup, 1) := dk_89 (dk_at dksX10_takesSign_0 19 rfl rfl)
theorem dX10_takesSign_20 : decode cX10_takesSign 20 = .ok (.getfield 19, 3) := dk_180 0 19 (dk_at dksX10_takesSign_0 20 rfl rfl)
theorem dX10_takesSign_23 : decode cX10_takesSign 23 = .ok (.iconst 1, 1) := dk_4 (dk_at dksX10_takesSign_0 23 rfl rfl)
theorem dX10_takesSign_24 : decode cX10_takesSign 24 = .ok (.iadd, 1) := dk_96 (dk_at dksX10_takesSign_1 0 rfl rfl)
theorem dX10_takesSign_25 : decode cX10_takesSign 25 = .ok (.putfield 19, 3) := dk_181 0 19 (dk_at dksX10_takesSign_1 1 rfl rfl)
theorem dX10_takesSign_28 : decode cX10_takesSign 28 = .ok (.iload_n 2, 1) := dk_28 (dk_at dksX10_takesSign_1 4 rfl rfl)
theorem dX10_takesSign_29 : decode cX10_takesSign 29 = .ok (.ireturn, 1) := dk_172 (dk_at dksX10_takesSign_1 5 rfl rfl)
abbrev cX10_ends : ByteArray := prog_12_method_15_code
def yX10_ends : MethodName := ⟨RX10, "ends", "()V"⟩
def dkwX10_ends_0 : List UInt8 := [42, 182, 0, 26, 2, 159, 0, 16, 187, 0, 53, 89, 4, 42, 180, 0, 19, 183, 0, 55, 191, 177]
abbrev dktX10_ends_0 : List UInt8 := dkwX10_ends_0 ++ []
theorem dksX10_ends_0 : cX10_ends.data.toList.drop 0 = dktX10_ends_0 := by decide +kernel
theorem dX10_ends_0 : decode cX10_ends 0 = .ok (.aload_n 0, 1) := dk_42 (dk_at dksX10_ends_0 0 rfl rfl)
theorem dX10_ends_1 : decode cX10_ends 1 = .ok (.invokevirtual 26, 3) := dk_182 0 26 (dk_at dksX10_ends_0 1 rfl rfl)
theorem dX10_ends_4 : decode cX10_ends 4 = .ok (.iconst (-1), 1) := dk_2 (dk_at dksX10_ends_0 4 rfl rfl)
theorem dX10_ends_5 : decode cX10_ends 5 = .ok (.if_icmp .eq 16, 3) := dk_159 0 16 (dk_at dksX10_ends_0 5 rfl rfl)
theorem dX10_ends_8 : decode cX10_ends 8 = .ok (.new 53, 3) := dk_187 0 53 (dk_at dksX10_ends_0 8 rfl rfl)
theorem dX10_ends_11 : decode cX10_ends 11 = .ok (.dup, 1) := dk_89 (dk_at dksX10_ends_0 11 rfl rfl)
theorem dX10_ends_12 : decode cX10_ends 12 = .ok (.iconst 1, 1) := dk_4 (dk_at dksX10_ends_0 12 rfl rfl)
theorem dX10_ends_13 : decode cX10_ends 13 = .ok (.aload_n 0, 1) := dk_42 (dk_at dksX10_ends_0 13 rfl rfl)
theorem dX10_ends_14 : decode cX10_ends 14 = .ok (.getfield 19, 3) := dk_180 0 19 (dk_at dksX10_ends_0 14 rfl rfl)
theorem dX10_ends_17 : decode cX10_ends 17 = .ok (.invokespecial 55, 3) := dk_183 0 55 (dk_at dksX10_ends_0 17 rfl rfl)
theorem dX10_ends_20 : decode cX10_ends 20 = .ok (.athrow, 1) := dk_191 (dk_at dksX10_ends_0 20 rfl rfl)
theorem dX10_ends_21 : decode cX10_ends 21 = .ok (.return_, 1) := dk_177 (dk_at dksX10_ends_0 21 rfl rfl)
theorem q103 : (Jvm.Cond.initialized "PassagePapers$Reader") ∈ lw_all := lw_g (lw_at lw_m1 14 rfl) rfl
theorem q656 : (Jvm.Cond.instantiable "PassagePapers$Reader" (4 : Nat)) ∈ lw_all := lw_g (lw_at lw_m3 87 rfl) rfl
theorem q658 : (Jvm.Cond.instanceMethod ({ cls := "PassagePapers$Reader", name := "<init>", desc := "([BI)V" } : Jvm.MethodName)) ∈ lw_all := lw_g (lw_at lw_m3 89 rfl) rfl
theorem q659 : (Jvm.Cond.code ({ cls := "PassagePapers$Reader", name := "<init>", desc := "([BI)V" } : Jvm.MethodName) prog_12_method_1_code (3 : Nat) (Option.none : Option Jvm.ClassFile.FieldType)) ∈ lw_all := lw_g (lw_at lw_m3 90 rfl) rfl
theorem q660 : (Jvm.Cond.methodLink "PassagePapers$Reader" (3 : Nat) ({ cls := "java/lang/Object", name := "<init>", desc := "()V" } : Jvm.MethodName)) ∈ lw_all := lw_g (lw_at lw_m3 91 rfl) rfl
theorem q661 : (Jvm.Cond.fieldLink "PassagePapers$Reader" (9 : Nat) "PassagePapers$Reader" "bytes" "[B") ∈ lw_all := lw_g (lw_at lw_m3 92 rfl) rfl
theorem q662 : (Jvm.Cond.fieldLink "PassagePapers$Reader" (15 : Nat) "PassagePapers$Reader" "end" "I") ∈ lw_all := lw_g (lw_at lw_m3 93 rfl) rfl
theorem q663 : (Jvm.Cond.fieldLink "PassagePapers$Reader" (19 : Nat) "PassagePapers$Reader" "at" "I") ∈ lw_all := lw_g (lw_at lw_m3 94 rfl) rfl
theorem q664 : (Jvm.Cond.fieldLink "PassagePapers$Reader" (65 : Nat) "PassagePapers$Reader" "open" "I") ∈ lw_all := lw_g (lw_at lw_m3 95 rfl) rfl
theorem q665 : (Jvm.Cond.laysFinal "PassagePapers$Reader" "PassagePapers$Reader" "bytes" "[B") ∈ lw_all := lw_g (lw_at lw_m3 96 rfl) rfl
theorem q666 : (Jvm.Cond.soleField "PassagePapers$Reader" "bytes") ∈ lw_all := lw_g (lw_at lw_m3 97 rfl) rfl
theorem q667 : (Jvm.Cond.laysFinal "PassagePapers$Reader" "PassagePapers$Reader" "end" "I") ∈ lw_all := lw_g (lw_at lw_m3 98 rfl) rfl
theorem q668 : (Jvm.Cond.soleField "PassagePapers$Reader" "end") ∈ lw_all := lw_g (lw_at lw_m3 99 rfl) rfl
theorem q669 : (Jvm.Cond.lays "PassagePapers$Reader" "PassagePapers$Reader" "at" "I") ∈ lw_all := lw_g (lw_at lw_m3 100 rfl) rfl
theorem q670 : (Jvm.Cond.soleField "PassagePapers$Reader" "at") ∈ lw_all := lw_g (lw_at lw_m3 101 rfl) rfl
theorem q671 : (Jvm.Cond.lays "PassagePapers$Reader" "PassagePapers$Reader" "open" "I") ∈ lw_all := lw_g (lw_at lw_m3 102 rfl) rfl
theorem q672 : (Jvm.Cond.soleField "PassagePapers$Reader" "open") ∈ lw_all := lw_g (lw_at lw_m3 103 rfl) rfl
theorem q673 : (Jvm.Cond.superclass "PassagePapers$Reader" "java/lang/Object") ∈ lw_all := lw_g (lw_at lw_m3 104 rfl) rfl
theorem q705 : (Jvm.Cond.instanceMethod ({ cls := "PassagePapers$Reader", name := "now", desc := "()I" } : Jvm.MethodName)) ∈ lw_all := lw_g (lw_at lw_m3 136 rfl) rfl
theorem q706 : (Jvm.Cond.selects "PassagePapers$Reader" ({ cls := "PassagePapers$Reader", name := "now", desc := "()I" } : Jvm.MethodName) ({ cls := "PassagePapers$Reader", name := "now", desc := "()I" } : Jvm.MethodName)) ∈ lw_all := lw_g (lw_at lw_m3 137 rfl) rfl
theorem q707 : (Jvm.Cond.code ({ cls := "PassagePapers$Reader", name := "now", desc := "()I" } : Jvm.MethodName) prog_12_method_3_code (1 : Nat) (Option.some Jvm.ClassFile.FieldType.int)) ∈ lw_all := lw_g (lw_at lw_m3 138 rfl) rfl
theorem q708 : (Jvm.Cond.methodLink "PassagePapers$Reader" (22 : Nat) ({ cls := "PassagePapers$Reader", name := "byteAt", desc := "(I)I" } : Jvm.MethodName)) ∈ lw_all := lw_g (lw_at lw_m3 139 rfl) rfl
theorem q709 : (Jvm.Cond.privateMethod ({ cls := "PassagePapers$Reader", name := "byteAt", desc := "(I)I" } : Jvm.MethodName)) ∈ lw_tbl := lw_at lw_m3 140 rfl
theorem q710 : (Jvm.Cond.instanceMethod ({ cls := "PassagePapers$Reader", name := "byteAt", desc := "(I)I" } : Jvm.MethodName)) ∈ lw_all := lw_g (lw_at lw_m3 141 rfl) rfl
theorem q711 : (Jvm.Cond.code ({ cls := "PassagePapers$Reader", name := "byteAt", desc := "(I)I" } : Jvm.MethodName) prog_12_method_2_code (2 : Nat) (Option.some Jvm.ClassFile.FieldType.int)) ∈ lw_all := lw_g (lw_at lw_m3 142 rfl) rfl
theorem q717 : (Jvm.Cond.instanceMethod ({ cls := "PassagePapers$Reader", name := "place", desc := "()I" } : Jvm.MethodName)) ∈ lw_all := lw_g (lw_at lw_m3 148 rfl) rfl
theorem q718 : (Jvm.Cond.selects "PassagePapers$Reader" ({ cls := "PassagePapers$Reader", name := "place", desc := "()I" } : Jvm.MethodName) ({ cls := "PassagePapers$Reader", name := "place", desc := "()I" } : Jvm.MethodName)) ∈ lw_all := lw_g (lw_at lw_m3 149 rfl) rfl
theorem q719 : (Jvm.Cond.code ({ cls := "PassagePapers$Reader", name := "place", desc := "()I" } : Jvm.MethodName) prog_12_method_4_code (1 : Nat) (Option.some Jvm.ClassFile.FieldType.int)) ∈ lw_all := lw_g (lw_at lw_m3 150 rfl) rfl
theorem q720 : (Jvm.Cond.methodLink "PassagePapers$Reader" (26 : Nat) ({ cls := "PassagePapers$Reader", name := "now", desc := "()I" } : Jvm.MethodName)) ∈ lw_all := lw_g (lw_at lw_m3 151 rfl) rfl
theorem q722 : (Jvm.Cond.instanceMethod ({ cls := "PassagePapers$Reader", name := "which", desc := "([Ljava/lang/String;)I" } : Jvm.MethodName)) ∈ lw_all := lw_g (lw_at lw_m3 153 rfl) rfl
theorem q723 : (Jvm.Cond.selects "PassagePapers$Reader" ({ cls := "PassagePapers$Reader", name := "which", desc := "([Ljava/lang/String;)I" } : Jvm.MethodName) ({ cls := "PassagePapers$Reader", name := "which", desc := "([Ljava/lang/String;)I" } : Jvm.MethodName)) ∈ lw_all := lw_g (lw_at lw_m3 154 rfl) rfl
theorem q724 : (Jvm.Cond.code ({ cls := "PassagePapers$Reader", name := "which", desc := "([Ljava/lang/String;)I" } : Jvm.MethodName) prog_12_method_8_code (3 : Nat) (Option.some Jvm.ClassFile.FieldType.int)) ∈ lw_all := lw_g (lw_at lw_m3 155 rfl) rfl
theorem q725 : (Jvm.Cond.methodLink "PassagePapers$Reader" (46 : Nat) ({ cls := "PassagePapers$Reader", name := "isWord", desc := "(Ljava/lang/String;)Z" } : Jvm.MethodName)) ∈ lw_all := lw_g (lw_at lw_m3 156 rfl) rfl
theorem q726 : (Jvm.Cond.instanceMethod ({ cls := "PassagePapers$Reader", name := "isWord", desc := "(Ljava/lang/String;)Z" } : Jvm.MethodName)) ∈ lw_all := lw_g (lw_at lw_m3 157 rfl) rfl
theorem q727 : (Jvm.Cond.selects "PassagePapers$Reader" ({ cls := "PassagePapers$Reader", name := "isWord", desc := "(Ljava/lang/String;)Z" } : Jvm.MethodName) ({ cls := "PassagePapers$Reader", name := "isWord", desc := "(Ljava/lang/String;)Z" } : Jvm.MethodName)) ∈ lw_all := lw_g (lw_at lw_m3 158 rfl) rfl
theorem q728 : (Jvm.Cond.code ({ cls := "PassagePapers$Reader", name := "isWord", desc := "(Ljava/lang/String;)Z" } : Jvm.MethodName) prog_12_method_7_code (5 : Nat) (Option.some Jvm.ClassFile.FieldType.boolean)) ∈ lw_all := lw_g (lw_at lw_m3 159 rfl) rfl
theorem q729 : (Jvm.Cond.methodLink "PassagePapers$Reader" (30 : Nat) ({ cls := "PassagePapers$Reader", name := "place", desc := "()I" } : Jvm.MethodName)) ∈ lw_all := lw_g (lw_at lw_m3 160 rfl) rfl
theorem q730 : (Jvm.Cond.methodLink "PassagePapers$Reader" (33 : Nat) ({ cls := "PassagePapers$Reader", name := "isSmall", desc := "(I)Z" } : Jvm.MethodName)) ∈ lw_all := lw_g (lw_at lw_m3 161 rfl) rfl
theorem q731 : (Jvm.Cond.static ({ cls := "PassagePapers$Reader", name := "isSmall", desc := "(I)Z" } : Jvm.MethodName)) ∈ lw_all := lw_g (lw_at lw_m3 162 rfl) rfl
theorem q732 : (Jvm.Cond.code ({ cls := "PassagePapers$Reader", name := "isSmall", desc := "(I)Z" } : Jvm.MethodName) prog_12_method_5_code (1 : Nat) (Option.some Jvm.ClassFile.FieldType.boolean)) ∈ lw_all := lw_g (lw_at lw_m3 163 rfl) rfl
theorem q733 : (Jvm.Cond.methodLink "PassagePapers$Reader" (37 : Nat) ({ cls := "java/lang/String", name := "length", desc := "()I" } : Jvm.MethodName)) ∈ lw_all := lw_g (lw_at lw_m3 164 rfl) rfl
theorem q743 : (Jvm.Cond.methodLink "PassagePapers$Reader" (42 : Nat) ({ cls := "java/lang/String", name := "charAt", desc := "(I)C" } : Jvm.MethodName)) ∈ lw_all := lw_g (lw_at lw_m3 174 rfl) rfl
theorem q810 : (Jvm.Cond.instanceMethod ({ cls := "PassagePapers$Reader", name := "skipsWord", desc := "()V" } : Jvm.MethodName)) ∈ lw_all := lw_g (lw_at lw_m4 1 rfl) rfl
theorem q811 : (Jvm.Cond.selects "PassagePapers$Reader" ({ cls := "PassagePapers$Reader", name := "skipsWord", desc := "()V" } : Jvm.MethodName) ({ cls := "PassagePapers$Reader", name := "skipsWord", desc := "()V" } : Jvm.MethodName)) ∈ lw_all := lw_g (lw_at lw_m4 2 rfl) rfl
theorem q812 : (Jvm.Cond.code ({ cls := "PassagePapers$Reader", name := "skipsWord", desc := "()V" } : Jvm.MethodName) prog_12_method_9_code (1 : Nat) (Option.none : Option Jvm.ClassFile.FieldType)) ∈ lw_all := lw_g (lw_at lw_m4 3 rfl) rfl
theorem q818 : (Jvm.Cond.instanceMethod ({ cls := "PassagePapers$Reader", name := "number", desc := "(II)I" } : Jvm.MethodName)) ∈ lw_all := lw_g (lw_at lw_m4 9 rfl) rfl
theorem q819 : (Jvm.Cond.selects "PassagePapers$Reader" ({ cls := "PassagePapers$Reader", name := "number", desc := "(II)I" } : Jvm.MethodName) ({ cls := "PassagePapers$Reader", name := "number", desc := "(II)I" } : Jvm.MethodName)) ∈ lw_all := lw_g (lw_at lw_m4 10 rfl) rfl
theorem q820 : (Jvm.Cond.code ({ cls := "PassagePapers$Reader", name := "number", desc := "(II)I" } : Jvm.MethodName) prog_12_method_10_code (5 : Nat) (Option.some Jvm.ClassFile.FieldType.int)) ∈ lw_all := lw_g (lw_at lw_m4 11 rfl) rfl
theorem q821 : (Jvm.Cond.methodLink "PassagePapers$Reader" (50 : Nat) ({ cls := "PassagePapers$Reader", name := "isDigit", desc := "(I)Z" } : Jvm.MethodName)) ∈ lw_all := lw_g (lw_at lw_m4 12 rfl) rfl
theorem q822 : (Jvm.Cond.static ({ cls := "PassagePapers$Reader", name := "isDigit", desc := "(I)Z" } : Jvm.MethodName)) ∈ lw_all := lw_g (lw_at lw_m4 13 rfl) rfl
theorem q823 : (Jvm.Cond.code ({ cls := "PassagePapers$Reader", name := "isDigit", desc := "(I)Z" } : Jvm.MethodName) prog_12_method_6_code (1 : Nat) (Option.some Jvm.ClassFile.FieldType.boolean)) ∈ lw_all := lw_g (lw_at lw_m4 14 rfl) rfl
theorem q824 : (Jvm.Cond.classLink "PassagePapers$Reader" (53 : Nat) "PassagePapers$Wrong") ∈ lw_all := lw_g (lw_at lw_m4 15 rfl) rfl
theorem q825 : (Jvm.Cond.methodLink "PassagePapers$Reader" (55 : Nat) ({ cls := "PassagePapers$Wrong", name := "<init>", desc := "(II)V" } : Jvm.MethodName)) ∈ lw_all := lw_g (lw_at lw_m4 16 rfl) rfl
theorem q826 : (Jvm.Cond.constant "PassagePapers$Reader" (58 : Nat) (1000000 : Int32)) ∈ lw_all := lw_g (lw_at lw_m4 17 rfl) rfl
theorem q827 : (Jvm.Cond.methodLink "PassagePapers$Reader" (59 : Nat) ({ cls := "java/lang/Math", name := "min", desc := "(II)I" } : Jvm.MethodName)) ∈ lw_all := lw_g (lw_at lw_m4 18 rfl) rfl
theorem q833 : (Jvm.Cond.instanceMethod ({ cls := "PassagePapers$Reader", name := "sign", desc := "(C)V" } : Jvm.MethodName)) ∈ lw_all := lw_g (lw_at lw_m4 24 rfl) rfl
theorem q834 : (Jvm.Cond.selects "PassagePapers$Reader" ({ cls := "PassagePapers$Reader", name := "sign", desc := "(C)V" } : Jvm.MethodName) ({ cls := "PassagePapers$Reader", name := "sign", desc := "(C)V" } : Jvm.MethodName)) ∈ lw_all := lw_g (lw_at lw_m4 25 rfl) rfl
theorem q835 : (Jvm.Cond.code ({ cls := "PassagePapers$Reader", name := "sign", desc := "(C)V" } : Jvm.MethodName) prog_12_method_11_code (2 : Nat) (Option.none : Option Jvm.ClassFile.FieldType)) ∈ lw_all := lw_g (lw_at lw_m4 26 rfl) rfl
theorem q890 : (Jvm.Cond.instanceMethod ({ cls := "PassagePapers$Reader", name := "opens", desc := "()V" } : Jvm.MethodName)) ∈ lw_all := lw_g (lw_at lw_m4 81 rfl) rfl
theorem q891 : (Jvm.Cond.selects "PassagePapers$Reader" ({ cls := "PassagePapers$Reader", name := "opens", desc := "()V" } : Jvm.MethodName) ({ cls := "PassagePapers$Reader", name := "opens", desc := "()V" } : Jvm.MethodName)) ∈ lw_all := lw_g (lw_at lw_m4 82 rfl) rfl
theorem q892 : (Jvm.Cond.code ({ cls := "PassagePapers$Reader", name := "opens", desc := "()V" } : Jvm.MethodName) prog_12_method_13_code (1 : Nat) (Option.none : Option Jvm.ClassFile.FieldType)) ∈ lw_all := lw_g (lw_at lw_m4 83 rfl) rfl
theorem q896 : (Jvm.Cond.instanceMethod ({ cls := "PassagePapers$Reader", name := "closes", desc := "()V" } : Jvm.MethodName)) ∈ lw_all := lw_g (lw_at lw_m4 87 rfl) rfl
theorem q897 : (Jvm.Cond.selects "PassagePapers$Reader" ({ cls := "PassagePapers$Reader", name := "closes", desc := "()V" } : Jvm.MethodName) ({ cls := "PassagePapers$Reader", name := "closes", desc := "()V" } : Jvm.MethodName)) ∈ lw_all := lw_g (lw_at lw_m4 88 rfl) rfl
theorem q898 : (Jvm.Cond.code ({ cls := "PassagePapers$Reader", name := "closes", desc := "()V" } : Jvm.MethodName) prog_12_method_14_code (1 : Nat) (Option.none : Option Jvm.ClassFile.FieldType)) ∈ lw_all := lw_g (lw_at lw_m4 89 rfl) rfl
theorem q939 : (Jvm.Cond.instanceMethod ({ cls := "PassagePapers$Reader", name := "takesSign", desc := "(C)Z" } : Jvm.MethodName)) ∈ lw_all := lw_g (lw_at lw_m4 130 rfl) rfl
theorem q940 : (Jvm.Cond.selects "PassagePapers$Reader" ({ cls := "PassagePapers$Reader", name := "takesSign", desc := "(C)Z" } : Jvm.MethodName) ({ cls := "PassagePapers$Reader", name := "takesSign", desc := "(C)Z" } : Jvm.MethodName)) ∈ lw_all := lw_g (lw_at lw_m4 131 rfl) rfl
theorem q941 : (Jvm.Cond.code ({ cls := "PassagePapers$Reader", name := "takesSign", desc := "(C)Z" } : Jvm.MethodName) prog_12_method_12_code (3 : Nat) (Option.some Jvm.ClassFile.FieldType.boolean)) ∈ lw_all := lw_g (lw_at lw_m4 132 rfl) rfl
theorem q943 : (Jvm.Cond.instanceMethod ({ cls := "PassagePapers$Reader", name := "ends", desc := "()V" } : Jvm.MethodName)) ∈ lw_all := lw_g (lw_at lw_m4 134 rfl) rfl
theorem q944 : (Jvm.Cond.selects "PassagePapers$Reader" ({ cls := "PassagePapers$Reader", name := "ends", desc := "()V" } : Jvm.MethodName) ({ cls := "PassagePapers$Reader", name := "ends", desc := "()V" } : Jvm.MethodName)) ∈ lw_all := lw_g (lw_at lw_m4 135 rfl) rfl
theorem q945 : (Jvm.Cond.code ({ cls := "PassagePapers$Reader", name := "ends", desc := "()V" } : Jvm.MethodName) prog_12_method_15_code (1 : Nat) (Option.none : Option Jvm.ClassFile.FieldType)) ∈ lw_all := lw_g (lw_at lw_m4 136 rfl) rfl
theorem q2204 : (Jvm.Cond.castable "PassagePapers$Reader" "java/lang/Object") ∈ lw_tbl := lw_at lw_m9 195 rfl
theorem in_X10 : ∀ w ∈ wsX100, w ∈ lw_all := lw_in wsX100 [665, 667, 669, 671] (by decide +kernel) (by decide +kernel)
/-! PassagePapers$Wrong -/
set_option maxRecDepth 100000
def RX11 : String := "PassagePapers$Wrong"
def TX11 : u_T := fun k => match k with
  | 0 => ("java/lang/Throwable", "cause", "Ljava/lang/Throwable;", false)
  | 1 => ("java/lang/Throwable", "stackTrace", "[Ljava/lang/StackTraceElement;", false)
  | 2 => ("java/lang/Throwable", "suppressedExceptions", "Ljava/util/List;", false)
  | 3 => ("java/lang/Throwable", "detailMessage", "Ljava/lang/String;", false)
  | 4 => ("java/lang/Throwable", "backtrace", "Ljava/lang/Object;", false)
  | 5 => ("java/lang/Throwable", "depth", "I", false)
  | 6 => ("PassagePapers$Wrong", "why", "I", true)
  | _ => ("PassagePapers$Wrong", "where", "I", true)
def tyX11 : Nat → FieldType := fun k => match k with
  | 0 => .object "java/lang/Throwable"
  | 1 => .array (.object "java/lang/StackTraceElement")
  | 2 => .object "java/util/List"
  | 3 => .object "java/lang/String"
  | 4 => .object "java/lang/Object"
  | 5 => .int
  | 6 => .int
  | _ => .int
abbrev wsX110 : List Cond := u_ws RX11 TX11 8
theorem nmX11 : ∀ a, a < 8 → ∀ b, b < 8 → a ≠ b → (TX11 a).2.1 ≠ (TX11 b).2.1 := by decide +kernel
theorem tyX11_ok : ∀ k, k < 8 → parseFieldDescriptor (TX11 k).2.2.1 = some (tyX11 k) := by decide +kernel
abbrev cX11_init : ByteArray := prog_24_method_1_code
def yX11_init : MethodName := ⟨RX11, "<init>", "(II)V"⟩
def dkwX11_init_0 : List UInt8 := [42, 1, 1, 3, 3, 183, 0, 1, 42, 27, 181, 0, 7, 42, 28, 181, 0, 13, 177]
abbrev dktX11_init_0 : List UInt8 := dkwX11_init_0 ++ []
theorem dksX11_init_0 : cX11_init.data.toList.drop 0 = dktX11_init_0 := by decide +kernel
theorem dX11_init_0 : decode cX11_init 0 = .ok (.aload_n 0, 1) := dk_42 (dk_at dksX11_init_0 0 rfl rfl)
theorem dX11_init_1 : decode cX11_init 1 = .ok (.aconst_null, 1) := dk_1 (dk_at dksX11_init_0 1 rfl rfl)
theorem dX11_init_2 : decode cX11_init 2 = .ok (.aconst_null, 1) := dk_1 (dk_at dksX11_init_0 2 rfl rfl)
theorem dX11_init_3 : decode cX11_init 3 = .ok (.iconst 0, 1) := dk_3 (dk_at dksX11_init_0 3 rfl rfl)
theorem dX11_init_4 : decode cX11_init 4 = .ok (.iconst 0, 1) := dk_3 (dk_at dksX11_init_0 4 rfl rfl)
theorem dX11_init_5 : decode cX11_init 5 = .ok (.invokespecial 1, 3) := dk_183 0 1 (dk_at dksX11_init_0 5 rfl rfl)
theorem dX11_init_8 : decode cX11_init 8 = .ok (.aload_n 0, 1) := dk_42 (dk_at dksX11_init_0 8 rfl rfl)
theorem dX11_init_9 : decode cX11_init 9 = .ok (.iload_n 1, 1) := dk_27 (dk_at dksX11_init_0 9 rfl rfl)
theorem dX11_init_10 : decode cX11_init 10 = .ok (.putfield 7, 3) := dk_181 0 7 (dk_at dksX11_init_0 10 rfl rfl)
theorem dX11_init_13 : decode cX11_init 13 = .ok (.aload_n 0, 1) := dk_42 (dk_at dksX11_init_0 13 rfl rfl)
theorem dX11_init_14 : decode cX11_init 14 = .ok (.iload_n 2, 1) := dk_28 (dk_at dksX11_init_0 14 rfl rfl)
theorem dX11_init_15 : decode cX11_init 15 = .ok (.putfield 13, 3) := dk_181 0 13 (dk_at dksX11_init_0 15 rfl rfl)
theorem dX11_init_18 : decode cX11_init 18 = .ok (.return_, 1) := dk_177 (dk_at dksX11_init_0 18 rfl rfl)
theorem q108 : (Jvm.Cond.initialized "PassagePapers$Wrong") ∈ lw_all := lw_g (lw_at lw_m1 19 rfl) rfl
theorem q618 : (Jvm.Cond.selects "PassagePapers$Wrong" ({ cls := "java/lang/Throwable", name := "fillInStackTrace", desc := "()Ljava/lang/Throwable;" } : Jvm.MethodName) ({ cls := "java/lang/Throwable", name := "fillInStackTrace", desc := "()Ljava/lang/Throwable;" } : Jvm.MethodName)) ∈ lw_all := lw_g (lw_at lw_m3 49 rfl) rfl
theorem q782 : (Jvm.Cond.instantiable "PassagePapers$Wrong" (8 : Nat)) ∈ lw_all := lw_g (lw_at lw_m3 213 rfl) rfl
theorem q783 : (Jvm.Cond.castable "PassagePapers$Wrong" "PassagePapers$Wrong") ∈ lw_tbl := lw_at lw_m3 214 rfl
theorem q784 : (Jvm.Cond.selects "PassagePapers$Wrong" ({ cls := "java/lang/Throwable", name := "fillInStackTrace", desc := "(I)Ljava/lang/Throwable;" } : Jvm.MethodName) ({ cls := "java/lang/Throwable", name := "fillInStackTrace", desc := "(I)Ljava/lang/Throwable;" } : Jvm.MethodName)) ∈ lw_all := lw_g (lw_at lw_m3 215 rfl) rfl
theorem q785 : (Jvm.Cond.lays "PassagePapers$Wrong" "java/lang/Throwable" "cause" "Ljava/lang/Throwable;") ∈ lw_all := lw_g (lw_at lw_m3 216 rfl) rfl
theorem q786 : (Jvm.Cond.lays "PassagePapers$Wrong" "java/lang/Throwable" "stackTrace" "[Ljava/lang/StackTraceElement;") ∈ lw_all := lw_g (lw_at lw_m3 217 rfl) rfl
theorem q787 : (Jvm.Cond.lays "PassagePapers$Wrong" "java/lang/Throwable" "suppressedExceptions" "Ljava/util/List;") ∈ lw_all := lw_g (lw_at lw_m3 218 rfl) rfl
theorem q788 : (Jvm.Cond.lays "PassagePapers$Wrong" "java/lang/Throwable" "detailMessage" "Ljava/lang/String;") ∈ lw_all := lw_g (lw_at lw_m3 219 rfl) rfl
theorem q789 : (Jvm.Cond.lays "PassagePapers$Wrong" "java/lang/Throwable" "backtrace" "Ljava/lang/Object;") ∈ lw_all := lw_g (lw_at lw_m3 220 rfl) rfl
theorem q791 : (Jvm.Cond.instanceMethod ({ cls := "PassagePapers$Wrong", name := "<init>", desc := "(II)V" } : Jvm.MethodName)) ∈ lw_all := lw_g (lw_at lw_m3 222 rfl) rfl
theorem q792 : (Jvm.Cond.code ({ cls := "PassagePapers$Wrong", name := "<init>", desc := "(II)V" } : Jvm.MethodName) prog_24_method_1_code (3 : Nat) (Option.none : Option Jvm.ClassFile.FieldType)) ∈ lw_all := lw_g (lw_at lw_m3 223 rfl) rfl
theorem q793 : (Jvm.Cond.methodLink "PassagePapers$Wrong" (1 : Nat) ({ cls := "java/lang/Exception", name := "<init>", desc := "(Ljava/lang/String;Ljava/lang/Throwable;ZZ)V" } : Jvm.MethodName)) ∈ lw_all := lw_g (lw_at lw_m3 224 rfl) rfl
theorem q799 : (Jvm.Cond.fieldLink "PassagePapers$Wrong" (7 : Nat) "PassagePapers$Wrong" "why" "I") ∈ lw_all := lw_g (lw_at lw_m3 230 rfl) rfl
theorem q801 : (Jvm.Cond.fieldLink "PassagePapers$Wrong" (13 : Nat) "PassagePapers$Wrong" "where" "I") ∈ lw_all := lw_g (lw_at lw_m3 232 rfl) rfl
theorem q803 : (Jvm.Cond.laysFinal "PassagePapers$Wrong" "PassagePapers$Wrong" "why" "I") ∈ lw_all := lw_g (lw_at lw_m3 234 rfl) rfl
theorem q804 : (Jvm.Cond.soleField "PassagePapers$Wrong" "why") ∈ lw_all := lw_g (lw_at lw_m3 235 rfl) rfl
theorem q805 : (Jvm.Cond.laysFinal "PassagePapers$Wrong" "PassagePapers$Wrong" "where" "I") ∈ lw_all := lw_g (lw_at lw_m3 236 rfl) rfl
theorem q806 : (Jvm.Cond.soleField "PassagePapers$Wrong" "where") ∈ lw_all := lw_g (lw_at lw_m3 237 rfl) rfl
theorem q807 : (Jvm.Cond.lays "PassagePapers$Wrong" "java/lang/Throwable" "depth" "I") ∈ lw_all := lw_g (lw_at lw_m3 238 rfl) rfl
theorem q808 : (Jvm.Cond.superclass "PassagePapers$Wrong" "java/lang/Exception") ∈ lw_all := lw_g (lw_at lw_m3 239 rfl) rfl
theorem q2205 : (Jvm.Cond.castable "PassagePapers$Wrong" "java/lang/Object") ∈ lw_tbl := lw_at lw_m9 196 rfl
theorem in_X11 : ∀ w ∈ wsX110, w ∈ lw_all := lw_in wsX110 [785, 786, 787, 788, 789, 807, 803, 805] (by decide +kernel) (by decide +kernel)
/-! PassagePapers$LawReader -/
set_option maxRecDepth 100000
def RX12 : String := "PassagePapers$LawReader"
def TX12 : u_T := fun k => match k with
  | 0 => ("PassagePapers$LawReader", "words", "[Ljava/lang/String;", true)
  | _ => ("PassagePapers$LawReader", "in", "LPassagePapers$Reader;", true)
def tyX12 : Nat → FieldType := fun k => match k with
  | 0 => .array (.object "java/lang/String")
  | _ => .object "PassagePapers$Reader"
abbrev wsX120 : List Cond := u_ws RX12 TX12 2
theorem nmX12 : ∀ a, a < 2 → ∀ b, b < 2 → a ≠ b → (TX12 a).2.1 ≠ (TX12 b).2.1 := by decide +kernel
theorem tyX12_ok : ∀ k, k < 2 → parseFieldDescriptor (TX12 k).2.2.1 = some (tyX12 k) := by decide +kernel
abbrev cX12_init : ByteArray := prog_8_method_1_code
def yX12_init : MethodName := ⟨RX12, "<init>", "(LPassagePapers$Reader;)V"⟩
def dkwX12_init_2 : List UInt8 := [16, 7, 18, 25, 83, 181, 0, 27, 42, 43, 181, 0, 33, 177]
abbrev dktX12_init_2 : List UInt8 := dkwX12_init_2 ++ []
def dkwX12_init_1 : List UInt8 := [83, 89, 6, 18, 17, 83, 89, 7, 18, 19, 83, 89, 8, 18, 21, 83, 89, 16, 6, 18, 23, 83, 89]
abbrev dktX12_init_1 : List UInt8 := dkwX12_init_1 ++ dktX12_init_2
def dkwX12_init_0 : List UInt8 := [42, 183, 0, 3, 42, 16, 8, 189, 0, 9, 89, 3, 18, 11, 83, 89, 4, 18, 13, 83, 89, 5, 18, 15]
abbrev dktX12_init_0 : List UInt8 := dkwX12_init_0 ++ dktX12_init_1
theorem dksX12_init_0 : cX12_init.data.toList.drop 0 = dktX12_init_0 := by decide +kernel
theorem dksX12_init_1 : cX12_init.data.toList.drop 24 = dktX12_init_1 := dk_seg dksX12_init_0 24 rfl rfl
theorem dksX12_init_2 : cX12_init.data.toList.drop 47 = dktX12_init_2 := dk_seg dksX12_init_1 23 rfl rfl
theorem dX12_init_0 : decode cX12_init 0 = .ok (.aload_n 0, 1) := dk_42 (dk_at dksX12_init_0 0 rfl rfl)
theorem dX12_init_1 : decode cX12_init 1 = .ok (.invokespecial 3, 3) := dk_183 0 3 (dk_at dksX12_init_0 1 rfl rfl)
theorem dX12_init_4 : decode cX12_init 4 = .ok (.aload_n 0, 1) := dk_42 (dk_at dksX12_init_0 4 rfl rfl)
theorem dX12_init_5 : decode cX12_init 5 = .ok (.bipush 8, 2) := dk_16 8 (dk_at dksX12_init_0 5 rfl rfl)
theorem dX12_init_7 : decode cX12_init 7 = .ok (.anewarray 9, 3) := dk_189 0 9 (dk_at dksX12_init_0 7 rfl rfl)
theorem dX12_init_10 : decode cX12_init 10 = .ok (.dup, 1) := dk_89 (dk_at dksX12_init_0 10 rfl rfl)
theorem dX12_init_11 : decode cX12_init 11 = .ok (.iconst 0, 1) := dk_3 (dk_at dksX12_init_0 11 rfl rfl)
theorem dX12_init_12 : decode cX12_init 12 = .ok (.ldc 11, 2) := dk_18 11 (dk_at dksX12_init_0 12 rfl rfl)
theorem dX12_init_14 : decode cX12_init 14 = .ok (.aastore, 1) := dk_83 (dk_at dksX12_init_0 14 rfl rfl)
theorem dX12_init_15 : decode cX12_init 15 = .ok (.dup, 1) := dk_89 (dk_at dksX12_init_0 15 rfl rfl)
theorem dX12_init_16 : decode cX12_init 16 = .ok (.iconst 1, 1) := dk_4 (dk_at dksX12_init_0 16 rfl rfl)
theorem dX12_init_17 : decode cX12_init 17 = .ok (.ldc 13, 2) := dk_18 13 (dk_at dksX12_init_0 17 rfl rfl)
theorem dX12_init_19 : decode cX12_init 19 = .ok (.aastore, 1) := dk_83 (dk_at dksX12_init_0 19 rfl rfl)
theorem dX12_init_20 : decode cX12_init 20 = .ok (.dup, 1) := dk_89 (dk_at dksX12_init_0 20 rfl rfl)
theorem dX12_init_21 : decode cX12_init 21 = .ok (.iconst 2, 1) := dk_5 (dk_at dksX12_init_0 21 rfl rfl)
theorem dX12_init_22 : decode cX12_init 22 = .ok (.ldc 15, 2) := dk_18 15 (dk_at dksX12_init_0 22 rfl rfl)
theorem dX12_init_24 : decode cX12_init 24 = .ok (.aastore, 1) := dk_83 (dk_at dksX12_init_1 0 rfl rfl)
theorem dX12_init_25 : decode cX12_init 25 = .ok (.dup, 1) := dk_89 (dk_at dksX12_init_1 1 rfl rfl)
theorem dX12_init_26 : decode cX12_init 26 = .ok (.iconst 3, 1) := dk_6 (dk_at dksX12_init_1 2 rfl rfl)
theorem dX12_init_27 : decode cX12_init 27 = .ok (.ldc 17, 2) := dk_18 17 (dk_at dksX12_init_1 3 rfl rfl)
theorem dX12_init_29 : decode cX12_init 29 = .ok (.aastore, 1) := dk_83 (dk_at dksX12_init_1 5 rfl rfl)
theorem dX12_init_30 : decode cX12_init 30 = .ok (.dup, 1) := dk_89 (dk_at dksX12_init_1 6 rfl rfl)
theorem dX12_init_31 : decode cX12_init 31 = .ok (.iconst 4, 1) := dk_7 (dk_at dksX12_init_1 7 rfl rfl)
theorem dX12_init_32 : decode cX12_init 32 = .ok (.ldc 19, 2) := dk_18 19 (dk_at dksX12_init_1 8 rfl rfl)
theorem dX12_init_34 : decode cX12_init 34 = .ok (.aastore, 1) := dk_83 (dk_at dksX12_init_1 10 rfl rfl)
theorem dX12_init_35 : decode cX12_init 35 = .ok (.dup, 1) := dk_89 (dk_at dksX12_init_1 11 rfl rfl)
theorem dX12_init_36 : decode cX12_init 36 = .ok (.iconst 5, 1) := dk_8 (dk_at dksX12_init_1 12 rfl rfl)
theorem dX12_init_37 : decode cX12_init 37 = .ok (.ldc 21, 2) := dk_18 21 (dk_at dksX12_init_1 13 rfl rfl)
theorem dX12_init_39 : decode cX12_init 39 = .ok (.aastore, 1) := dk_83 (dk_at dksX12_init_1 15 rfl rfl)
theorem dX12_init_40 : decode cX12_init 40 = .ok (.dup, 1) := dk_89 (dk_at dksX12_init_1 16 rfl rfl)
theorem dX12_init_41 : decode cX12_init 41 = .ok (.bipush 6, 2) := dk_16 6 (dk_at dksX12_init_1 17 rfl rfl)
theorem dX12_init_43 : decode cX12_init 43 = .ok (.ldc 23, 2) := dk_18 23 (dk_at dksX12_init_1 19 rfl rfl)
theorem dX12_init_45 : decode cX12_init 45 = .ok (.aastore, 1) := dk_83 (dk_at dksX12_init_1 21 rfl rfl)
theorem dX12_init_46 : decode cX12_init 46 = .ok (.dup, 1) := dk_89 (dk_at dksX12_init_1 22 rfl rfl)
theorem dX12_init_47 : decode cX12_init 47 = .ok (.bipush 7, 2) := dk_16 7 (dk_at dksX12_init_2 0 rfl rfl)
theorem dX12_init_49 : decode cX12_init 49 = .ok (.ldc 25, 2) := dk_18 25 (dk_at dksX12_init_2 2 rfl rfl)
theorem dX12_init_51 : decode cX12_init 51 = .ok (.aastore, 1) := dk_83 (dk_at dksX12_init_2 4 rfl rfl)
theorem dX12_init_52 : decode cX12_init 52 = .ok (.putfield 27, 3) := dk_181 0 27 (dk_at dksX12_init_2 5 rfl rfl)
theorem dX12_init_55 : decode cX12_init 55 = .ok (.aload_n 0, 1) := dk_42 (dk_at dksX12_init_2 8 rfl rfl)
theorem dX12_init_56 : decode cX12_init 56 = .ok (.aload_n 1, 1) := dk_43 (dk_at dksX12_init_2 9 rfl rfl)
theorem dX12_init_57 : decode cX12_init 57 = .ok (.putfield 33, 3) := dk_181 0 33 (dk_at dksX12_init_2 10 rfl rfl)
theorem dX12_init_60 : decode cX12_init 60 = .ok (.return_, 1) := dk_177 (dk_at dksX12_init_2 13 rfl rfl)
abbrev cX12_reads : ByteArray := prog_8_method_2_code
def yX12_reads : MethodName := ⟨RX12, "reads", "()LPassagePapers$Term;"⟩
def dkwX12_reads_0 : List UInt8 := [42, 182, 0, 37, 76, 42, 180, 0, 33, 182, 0, 41, 43, 176]
abbrev dktX12_reads_0 : List UInt8 := dkwX12_reads_0 ++ []
theorem dksX12_reads_0 : cX12_reads.data.toList.drop 0 = dktX12_reads_0 := by decide +kernel
theorem dX12_reads_0 : decode cX12_reads 0 = .ok (.aload_n 0, 1) := dk_42 (dk_at dksX12_reads_0 0 rfl rfl)
theorem dX12_reads_1 : decode cX12_reads 1 = .ok (.invokevirtual 37, 3) := dk_182 0 37 (dk_at dksX12_reads_0 1 rfl rfl)
theorem dX12_reads_4 : decode cX12_reads 4 = .ok (.astore_n 1, 1) := dk_76 (dk_at dksX12_reads_0 4 rfl rfl)
theorem dX12_reads_5 : decode cX12_reads 5 = .ok (.aload_n 0, 1) := dk_42 (dk_at dksX12_reads_0 5 rfl rfl)
theorem dX12_reads_6 : decode cX12_reads 6 = .ok (.getfield 33, 3) := dk_180 0 33 (dk_at dksX12_reads_0 6 rfl rfl)
theorem dX12_reads_9 : decode cX12_reads 9 = .ok (.invokevirtual 41, 3) := dk_182 0 41 (dk_at dksX12_reads_0 9 rfl rfl)
theorem dX12_reads_12 : decode cX12_reads 12 = .ok (.aload_n 1, 1) := dk_43 (dk_at dksX12_reads_0 12 rfl rfl)
theorem dX12_reads_13 : decode cX12_reads 13 = .ok (.areturn, 1) := dk_176 (dk_at dksX12_reads_0 13 rfl rfl)
abbrev cX12_sum : ByteArray := prog_8_method_3_code
def yX12_sum : MethodName := ⟨RX12, "sum", "()LPassagePapers$Term;"⟩
def dkwX12_sum_2 : List UInt8 := [187, 0, 53, 89, 16, 45, 43, 42, 182, 0, 46, 183, 0, 55, 76, 167, 255, 199, 43, 176]
abbrev dktX12_sum_2 : List UInt8 := dkwX12_sum_2 ++ []
def dkwX12_sum_1 : List UInt8 := [42, 182, 0, 46, 183, 0, 55, 76, 167, 255, 229, 42, 180, 0, 33, 16, 45, 182, 0, 49, 153, 0, 21]
abbrev dktX12_sum_1 : List UInt8 := dkwX12_sum_1 ++ dktX12_sum_2
def dkwX12_sum_0 : List UInt8 := [42, 182, 0, 46, 76, 42, 180, 0, 33, 16, 43, 182, 0, 49, 153, 0, 21, 187, 0, 53, 89, 16, 43, 43]
abbrev dktX12_sum_0 : List UInt8 := dkwX12_sum_0 ++ dktX12_sum_1
theorem dksX12_sum_0 : cX12_sum.data.toList.drop 0 = dktX12_sum_0 := by decide +kernel
theorem dksX12_sum_1 : cX12_sum.data.toList.drop 24 = dktX12_sum_1 := dk_seg dksX12_sum_0 24 rfl rfl
theorem dksX12_sum_2 : cX12_sum.data.toList.drop 47 = dktX12_sum_2 := dk_seg dksX12_sum_1 23 rfl rfl
theorem dX12_sum_0 : decode cX12_sum 0 = .ok (.aload_n 0, 1) := dk_42 (dk_at dksX12_sum_0 0 rfl rfl)
theorem dX12_sum_1 : decode cX12_sum 1 = .ok (.invokevirtual 46, 3) := dk_182 0 46 (dk_at dksX12_sum_0 1 rfl rfl)
theorem dX12_sum_4 : decode cX12_sum 4 = .ok (.astore_n 1, 1) := dk_76 (dk_at dksX12_sum_0 4 rfl rfl)
theorem dX12_sum_5 : decode cX12_sum 5 = .ok (.aload_n 0, 1) := dk_42 (dk_at dksX12_sum_0 5 rfl rfl)
theorem dX12_sum_6 : decode cX12_sum 6 = .ok (.getfield 33, 3) := dk_180 0 33 (dk_at dksX12_sum_0 6 rfl rfl)
theorem dX12_sum_9 : decode cX12_sum 9 = .ok (.bipush 43, 2) := dk_16 43 (dk_at dksX12_sum_0 9 rfl rfl)
theorem dX12_sum_11 : decode cX12_sum 11 = .ok (.invokevirtual 49, 3) := dk_182 0 49 (dk_at dksX12_sum_0 11 rfl rfl)
theorem dX12_sum_14 : decode cX12_sum 14 = .ok (.ifCond .eq 21, 3) := dk_153 0 21 (dk_at dksX12_sum_0 14 rfl rfl)
theorem dX12_sum_17 : decode cX12_sum 17 = .ok (.new 53, 3) := dk_187 0 53 (dk_at dksX12_sum_0 17 rfl rfl)
theorem dX12_sum_20 : decode cX12_sum 20 = .ok (.dup, 1) := dk_89 (dk_at dksX12_sum_0 20 rfl rfl)
theorem dX12_sum_21 : decode cX12_sum 21 = .ok (.bipush 43, 2) := dk_16 43 (dk_at dksX12_sum_0 21 rfl rfl)
theorem dX12_sum_23 : decode cX12_sum 23 = .ok (.aload_n 1, 1) := dk_43 (dk_at dksX12_sum_0 23 rfl rfl)
theorem dX12_sum_24 : decode cX12_sum 24 = .ok (.aload_n 0, 1) := dk_42 (dk_at dksX12_sum_1 0 rfl rfl)
theorem dX12_sum_25 : decode cX12_sum 25 = .ok (.invokevirtual 46, 3) := dk_182 0 46 (dk_at dksX12_sum_1 1 rfl rfl)
theorem dX12_sum_28 : decode cX12_sum 28 = .ok (.invokespecial 55, 3) := dk_183 0 55 (dk_at dksX12_sum_1 4 rfl rfl)
theorem dX12_sum_31 : decode cX12_sum 31 = .ok (.astore_n 1, 1) := dk_76 (dk_at dksX12_sum_1 7 rfl rfl)
theorem dX12_sum_32 : decode cX12_sum 32 = .ok (.goto (-27), 3) := dk_167 255 229 (dk_at dksX12_sum_1 8 rfl rfl)
theorem dX12_sum_35 : decode cX12_sum 35 = .ok (.aload_n 0, 1) := dk_42 (dk_at dksX12_sum_1 11 rfl rfl)
theorem dX12_sum_36 : decode cX12_sum 36 = .ok (.getfield 33, 3) := dk_180 0 33 (dk_at dksX12_sum_1 12 rfl rfl)
theorem dX12_sum_39 : decode cX12_sum 39 = .ok (.bipush 45, 2) := dk_16 45 (dk_at dksX12_sum_1 15 rfl rfl)
theorem dX12_sum_41 : decode cX12_sum 41 = .ok (.invokevirtual 49, 3) := dk_182 0 49 (dk_at dksX12_sum_1 17 rfl rfl)
theorem dX12_sum_44 : decode cX12_sum 44 = .ok (.ifCond .eq 21, 3) := dk_153 0 21 (dk_at dksX12_sum_1 20 rfl rfl)
theorem dX12_sum_47 : decode cX12_sum 47 = .ok (.new 53, 3) := dk_187 0 53 (dk_at dksX12_sum_2 0 rfl rfl)
theorem dX12_sum_50 : decode cX12_sum 50 = .ok (.dup, 1) := dk_89 (dk_at dksX12_sum_2 3 rfl rfl)
theorem dX12_sum_51 : decode cX12_sum 51 = .ok (.bipush 45, 2) := dk_16 45 (dk_at dksX12_sum_2 4 rfl rfl)
theorem dX12_sum_53 : decode cX12_sum 53 = .ok (.aload_n 1, 1) := dk_43 (dk_at dksX12_sum_2 6 rfl rfl)
theorem dX12_sum_54 : decode cX12_sum 54 = .ok (.aload_n 0, 1) := dk_42 (dk_at dksX12_sum_2 7 rfl rfl)
theorem dX12_sum_55 : decode cX12_sum 55 = .ok (.invokevirtual 46, 3) := dk_182 0 46 (dk_at dksX12_sum_2 8 rfl rfl)
theorem dX12_sum_58 : decode cX12_sum 58 = .ok (.invokespecial 55, 3) := dk_183 0 55 (dk_at dksX12_sum_2 11 rfl rfl)
theorem dX12_sum_61 : decode cX12_sum 61 = .ok (.astore_n 1, 1) := dk_76 (dk_at dksX12_sum_2 14 rfl rfl)
theorem dX12_sum_62 : decode cX12_sum 62 = .ok (.goto (-57), 3) := dk_167 255 199 (dk_at dksX12_sum_2 15 rfl rfl)
theorem dX12_sum_65 : decode cX12_sum 65 = .ok (.aload_n 1, 1) := dk_43 (dk_at dksX12_sum_2 18 rfl rfl)
theorem dX12_sum_66 : decode cX12_sum 66 = .ok (.areturn, 1) := dk_176 (dk_at dksX12_sum_2 19 rfl rfl)
abbrev cX12_product : ByteArray := prog_8_method_4_code
def yX12_product : MethodName := ⟨RX12, "product", "()LPassagePapers$Term;"⟩
def dkwX12_product_2 : List UInt8 := [187, 0, 53, 89, 16, 47, 43, 42, 182, 0, 58, 183, 0, 55, 76, 167, 255, 199, 43, 176]
abbrev dktX12_product_2 : List UInt8 := dkwX12_product_2 ++ []
def dkwX12_product_1 : List UInt8 := [42, 182, 0, 58, 183, 0, 55, 76, 167, 255, 229, 42, 180, 0, 33, 16, 47, 182, 0, 49, 153, 0, 21]
abbrev dktX12_product_1 : List UInt8 := dkwX12_product_1 ++ dktX12_product_2
def dkwX12_product_0 : List UInt8 := [42, 182, 0, 58, 76, 42, 180, 0, 33, 16, 42, 182, 0, 49, 153, 0, 21, 187, 0, 53, 89, 16, 42, 43]
abbrev dktX12_product_0 : List UInt8 := dkwX12_product_0 ++ dktX12_product_1
theorem dksX12_product_0 : cX12_product.data.toList.drop 0 = dktX12_product_0 := by decide +kernel
theorem dksX12_product_1 : cX12_product.data.toList.drop 24 = dktX12_product_1 := dk_seg dksX12_product_0 24 rfl rfl
theorem dksX12_product_2 : cX12_product.data.toList.drop 47 = dktX12_product_2 := dk_seg dksX12_product_1 23 rfl rfl
theorem dX12_product_0 : decode cX12_product 0 = .ok (.aload_n 0, 1) := dk_42 (dk_at dksX12_product_0 0 rfl rfl)
theorem dX12_product_1 : decode cX12_product 1 = .ok (.invokevirtual 58, 3) := dk_182 0 58 (dk_at dksX12_product_0 1 rfl rfl)
theorem dX12_product_4 : decode cX12_product 4 = .ok (.astore_n 1, 1) := dk_76 (dk_at dksX12_product_0 4 rfl rfl)
theorem dX12_product_5 : decode cX12_product 5 = .ok (.aload_n 0, 1) := dk_42 (dk_at dksX12_product_0 5 rfl rfl)
theorem dX12_product_6 : decode cX12_product 6 = .ok (.getfield 33, 3) := dk_180 0 33 (dk_at dksX12_product_0 6 rfl rfl)
theorem dX12_product_9 : decode cX12_product 9 = .ok (.bipush 42, 2) := dk_16 42 (dk_at dksX12_product_0 9 rfl rfl)
theorem dX12_product_11 : decode cX12_product 11 = .ok (.invokevirtual 49, 3) := dk_182 0 49 (dk_at dksX12_product_0 11 rfl rfl)
theorem dX12_product_14 : decode cX12_product 14 = .ok (.ifCond .eq 21, 3) := dk_153 0 21 (dk_at dksX12_product_0 14 rfl rfl)
theorem dX12_product_17 : decode cX12_product 17 = .ok (.new 53, 3) := dk_187 0 53 (dk_at dksX12_product_0 17 rfl rfl)
theorem dX12_product_20 : decode cX12_product 20 = .ok (.dup, 1) := dk_89 (dk_at dksX12_product_0 20 rfl rfl)
theorem dX12_product_21 : decode cX12_product 21 = .ok (.bipush 42, 2) := dk_16 42 (dk_at dksX12_product_0 21 rfl rfl)
theorem dX12_product_23 : decode cX12_product 23 = .ok (.aload_n 1, 1) := dk_43 (dk_at dksX12_product_0 23 rfl rfl)
theorem dX12_product_24 : decode cX12_product 24 = .ok (.aload_n 0, 1) := dk_42 (dk_at dksX12_product_1 0 rfl rfl)
theorem dX12_product_25 : decode cX12_product 25 = .ok (.invokevirtual 58, 3) := dk_182 0 58 (dk_at dksX12_product_1 1 rfl rfl)
theorem dX12_product_28 : decode cX12_product 28 = .ok (.invokespecial 55, 3) := dk_183 0 55 (dk_at dksX12_product_1 4 rfl rfl)
theorem dX12_product_31 : decode cX12_product 31 = .ok (.astore_n 1, 1) := dk_76 (dk_at dksX12_product_1 7 rfl rfl)
theorem dX12_product_32 : decode cX12_product 32 = .ok (.goto (-27), 3) := dk_167 255 229 (dk_at dksX12_product_1 8 rfl rfl)
theorem dX12_product_35 : decode cX12_product 35 = .ok (.aload_n 0, 1) := dk_42 (dk_at dksX12_product_1 11 rfl rfl)
theorem dX12_product_36 : decode cX12_product 36 = .ok (.getfield 33, 3) := dk_180 0 33 (dk_at dksX12_product_1 12 rfl rfl)
theorem dX12_product_39 : decode cX12_product 39 = .ok (.bipush 47, 2) := dk_16 47 (dk_at dksX12_product_1 15 rfl rfl)
theorem dX12_product_41 : decode cX12_product 41 = .ok (.invokevirtual 49, 3) := dk_182 0 49 (dk_at dksX12_product_1 17 rfl rfl)
theorem dX12_product_44 : decode cX12_product 44 = .ok (.ifCond .eq 21, 3) := dk_153 0 21 (dk_at dksX12_product_1 20 rfl rfl)
theorem dX12_product_47 : decode cX12_product 47 = .ok (.new 53, 3) := dk_187 0 53 (dk_at dksX12_product_2 0 rfl rfl)
theorem dX12_product_50 : decode cX12_product 50 = .ok (.dup, 1) := dk_89 (dk_at dksX12_product_2 3 rfl rfl)
theorem dX12_product_51 : decode cX12_product 51 = .ok (.bipush 47, 2) := dk_16 47 (dk_at dksX12_product_2 4 rfl rfl)
theorem dX12_product_53 : decode cX12_product 53 = .ok (.aload_n 1, 1) := dk_43 (dk_at dksX12_product_2 6 rfl rfl)
theorem dX12_product_54 : decode cX12_product 54 = .ok (.aload_n 0, 1) := dk_42 (dk_at dksX12_product_2 7 rfl rfl)
theorem dX12_product_55 : decode cX12_product 55 = .ok (.invokevirtual 58, 3) := dk_182 0 58 (dk_at dksX12_product_2 8 rfl rfl)
theorem dX12_product_58 : decode cX12_product 58 = .ok (.invokespecial 55, 3) := dk_183 0 55 (dk_at dksX12_product_2 11 rfl rfl)
theorem dX12_product_61 : decode cX12_product 61 = .ok (.astore_n 1, 1) := dk_76 (dk_at dksX12_product_2 14 rfl rfl)
theorem dX12_product_62 : decode cX12_product 62 = .ok (.goto (-57), 3) := dk_167 255 199 (dk_at dksX12_product_2 15 rfl rfl)
theorem dX12_product_65 : decode cX12_product 65 = .ok (.aload_n 1, 1) := dk_43 (dk_at dksX12_product_2 18 rfl rfl)
theorem dX12_product_66 : decode cX12_product 66 = .ok (.areturn, 1) := dk_176 (dk_at dksX12_product_2 19 rfl rfl)
abbrev cX12_value : ByteArray := prog_8_method_5_code
def yX12_value : MethodName := ⟨RX12, "value", "()LPassagePapers$Term;"⟩
def dkwX12_value_8 : List UInt8 := [182, 0, 92, 183, 0, 96, 176, 42, 180, 0, 33, 182, 0, 72, 187, 0, 99, 89, 28, 183, 0, 101, 176]
abbrev dktX12_value_8 : List UInt8 := dkwX12_value_8 ++ []
def dkwX12_value_7 : List UInt8 := [180, 0, 27, 182, 0, 86, 61, 28, 2, 160, 0, 22, 187, 0, 90, 89, 42, 180, 0, 33, 3, 17, 3, 231]
abbrev dktX12_value_7 : List UInt8 := dkwX12_value_7 ++ dktX12_value_8
def dkwX12_value_6 : List UInt8 := [42, 180, 0, 33, 16, 41, 182, 0, 75, 42, 180, 0, 33, 182, 0, 79, 44, 176, 42, 180, 0, 33, 42]
abbrev dktX12_value_6 : List UInt8 := dkwX12_value_6 ++ dktX12_value_7
def dkwX12_value_5 : List UInt8 := [160, 0, 42, 42, 180, 0, 33, 182, 0, 69, 42, 180, 0, 33, 16, 40, 182, 0, 75, 42, 182, 0, 37, 77]
abbrev dktX12_value_5 : List UInt8 := dkwX12_value_5 ++ dktX12_value_6
def dkwX12_value_4 : List UInt8 := [16, 91, 167, 0, 5, 16, 93, 44, 45, 183, 0, 55, 176, 42, 180, 0, 33, 182, 0, 82, 16, 40]
abbrev dktX12_value_4 : List UInt8 := dkwX12_value_4 ++ dktX12_value_5
def dkwX12_value_3 : List UInt8 := [180, 0, 33, 16, 93, 182, 0, 75, 42, 180, 0, 33, 182, 0, 79, 187, 0, 53, 89, 27, 153, 0, 8]
abbrev dktX12_value_3 : List UInt8 := dkwX12_value_3 ++ dktX12_value_4
def dkwX12_value_2 : List UInt8 := [182, 0, 75, 42, 182, 0, 37, 77, 42, 180, 0, 33, 16, 44, 182, 0, 75, 42, 182, 0, 37, 78, 42]
abbrev dktX12_value_2 : List UInt8 := dkwX12_value_2 ++ dktX12_value_3
def dkwX12_value_1 : List UInt8 := [153, 0, 82, 42, 180, 0, 33, 182, 0, 69, 42, 180, 0, 33, 182, 0, 72, 42, 180, 0, 33, 16, 91]
abbrev dktX12_value_1 : List UInt8 := dkwX12_value_1 ++ dktX12_value_2
def dkwX12_value_0 : List UInt8 := [42, 180, 0, 33, 18, 61, 182, 0, 63, 60, 27, 154, 0, 15, 42, 180, 0, 33, 18, 67, 182, 0, 63]
abbrev dktX12_value_0 : List UInt8 := dkwX12_value_0 ++ dktX12_value_1
theorem dksX12_value_0 : cX12_value.data.toList.drop 0 = dktX12_value_0 := by decide +kernel
theorem dksX12_value_1 : cX12_value.data.toList.drop 23 = dktX12_value_1 := dk_seg dksX12_value_0 23 rfl rfl
theorem dksX12_value_2 : cX12_value.data.toList.drop 46 = dktX12_value_2 := dk_seg dksX12_value_1 23 rfl rfl
theorem dksX12_value_3 : cX12_value.data.toList.drop 69 = dktX12_value_3 := dk_seg dksX12_value_2 23 rfl rfl
theorem dksX12_value_4 : cX12_value.data.toList.drop 92 = dktX12_value_4 := dk_seg dksX12_value_3 23 rfl rfl
theorem dksX12_value_5 : cX12_value.data.toList.drop 114 = dktX12_value_5 := dk_seg dksX12_value_4 22 rfl rfl
theorem dksX12_value_6 : cX12_value.data.toList.drop 138 = dktX12_value_6 := dk_seg dksX12_value_5 24 rfl rfl
theorem dksX12_value_7 : cX12_value.data.toList.drop 161 = dktX12_value_7 := dk_seg dksX12_value_6 23 rfl rfl
theorem dksX12_value_8 : cX12_value.data.toList.drop 185 = dktX12_value_8 := dk_seg dksX12_value_7 24 rfl rfl
theorem dX12_value_0 : decode cX12_value 0 = .ok (.aload_n 0, 1) := dk_42 (dk_at dksX12_value_0 0 rfl rfl)
theorem dX12_value_1 : decode cX12_value 1 = .ok (.getfield 33, 3) := dk_180 0 33 (dk_at dksX12_value_0 1 rfl rfl)
theorem dX12_value_4 : decode cX12_value 4 = .ok (.ldc 61, 2) := dk_18 61 (dk_at dksX12_value_0 4 rfl rfl)
theorem dX12_value_6 : decode cX12_value 6 = .ok (.invokevirtual 63, 3) := dk_182 0 63 (dk_at dksX12_value_0 6 rfl rfl)
theorem dX12_value_9 : decode cX12_value 9 = .ok (.istore_n 1, 1) := dk_60 (dk_at dksX12_value_0 9 rfl rfl)
theorem dX12_value_10 : decode cX12_value 10 = .ok (.iload_n 1, 1) := dk_27 (dk_at dksX12_value_0 10 rfl rfl)
theorem dX12_value_11 : decode cX12_value 11 = .ok (.ifCond .ne 15, 3) := dk_154 0 15 (dk_at dksX12_value_0 11 rfl rfl)
theorem dX12_value_14 : decode cX12_value 14 = .ok (.aload_n 0, 1) := dk_42 (dk_at dksX12_value_0 14 rfl rfl)
theorem dX12_value_15 : decode cX12_value 15 = .ok (.getfield 33, 3) := dk_180 0 33 (dk_at dksX12_value_0 15 rfl rfl)
theorem dX12_value_18 : decode cX12_value 18 = .ok (.ldc 67, 2) := dk_18 67 (dk_at dksX12_value_0 18 rfl rfl)
theorem dX12_value_20 : decode cX12_value 20 = .ok (.invokevirtual 63, 3) := dk_182 0 63 (dk_at dksX12_value_0 20 rfl rfl)
theorem dX12_value_23 : decode cX12_value 23 = .ok (.ifCond .eq 82, 3) := dk_153 0 82 (dk_at dksX12_value_1 0 rfl rfl)
theorem dX12_value_26 : decode cX12_value 26 = .ok (.aload_n 0, 1) := dk_42 (dk_at dksX12_value_1 3 rfl rfl)
theorem dX12_value_27 : decode cX12_value 27 = .ok (.getfield 33, 3) := dk_180 0 33 (dk_at dksX12_value_1 4 rfl rfl)
theorem dX12_value_30 : decode cX12_value 30 = .ok (.invokevirtual 69, 3) := dk_182 0 69 (dk_at dksX12_value_1 7 rfl rfl)
theorem dX12_value_33 : decode cX12_value 33 = .ok (.aload_n 0, 1) := dk_42 (dk_at dksX12_value_1 10 rfl rfl)
theorem dX12_value_34 : decode cX12_value 34 = .ok (.getfield 33, 3) := dk_180 0 33 (dk_at dksX12_value_1 11 rfl rfl)
theorem dX12_value_37 : decode cX12_value 37 = .ok (.invokevirtual 72, 3) := dk_182 0 72 (dk_at dksX12_value_1 14 rfl rfl)
theorem dX12_value_40 : decode cX12_value 40 = .ok (.aload_n 0, 1) := dk_42 (dk_at dksX12_value_1 17 rfl rfl)
theorem dX12_value_41 : decode cX12_value 41 = .ok (.getfield 33, 3) := dk_180 0 33 (dk_at dksX12_value_1 18 rfl rfl)
theorem dX12_value_44 : decode cX12_value 44 = .ok (.bipush 91, 2) := dk_16 91 (dk_at dksX12_value_1 21 rfl rfl)
theorem dX12_value_46 : decode cX12_value 46 = .ok (.invokevirtual 75, 3) := dk_182 0 75 (dk_at dksX12_value_2 0 rfl rfl)
theorem dX12_value_49 : decode cX12_value 49 = .ok (.aload_n 0, 1) := dk_42 (dk_at dksX12_value_2 3 rfl rfl)
theorem dX12_value_50 : decode cX12_value 50 = .ok (.invokevirtual 37, 3) := dk_182 0 37 (dk_at dksX12_value_2 4 rfl rfl)
theorem dX12_value_53 : decode cX12_value 53 = .ok (.astore_n 2, 1) := dk_77 (dk_at dksX12_value_2 7 rfl rfl)
theorem dX12_value_54 : decode cX12_value 54 = .ok (.aload_n 0, 1) := dk_42 (dk_at dksX12_value_2 8 rfl rfl)
theorem dX12_value_55 : decode cX12_value 55 = .ok (.getfield 33, 3) := dk_180 0 33 (dk_at dksX12_value_2 9 rfl rfl)
theorem dX12_value_58 : decode cX12_value 58 = .ok (.bipush 44, 2) := dk_16 44 (dk_at dksX12_value_2 12 rfl rfl)
theorem dX12_value_60 : decode cX12_value 60 = .ok (.invokevirtual 75, 3) := dk_182 0 75 (dk_at dksX12_value_2 14 rfl rfl)
theorem dX12_value_63 : decode cX12_value 63 = .ok (.aload_n 0, 1) := dk_42 (dk_at dksX12_value_2 17 rfl rfl)
theorem dX12_value_64 : decode cX12_value 64 = .ok (.invokevirtual 37, 3) := dk_182 0 37 (dk_at dksX12_value_2 18 rfl rfl)
theorem dX12_value_67 : decode cX12_value 67 = .ok (.astore_n 3, 1) := dk_78 (dk_at dksX12_value_2 21 rfl rfl)
theorem dX12_value_68 : decode cX12_value 68 = .ok (.aload_n 0, 1) := dk_42 (dk_at dksX12_value_2 22 rfl rfl)
theorem dX12_value_69 : decode cX12_value 69 = .ok (.getfield 33, 3) := dk_180 0 33 (dk_at dksX12_value_3 0 rfl rfl)
theorem dX12_value_72 : decode cX12_value 72 = .ok (.bipush 93, 2) := dk_16 93 (dk_at dksX12_value_3 3 rfl rfl)
theorem dX12_value_74 : decode cX12_value 74 = .ok (.invokevirtual 75, 3) := dk_182 0 75 (dk_at dksX12_value_3 5 rfl rfl)
theorem dX12_value_77 : decode cX12_value 77 = .ok (.aload_n 0, 1) := dk_42 (dk_at dksX12_value_3 8 rfl rfl)
theorem dX12_value_78 : decode cX12_value 78 = .ok (.getfield 33, 3) := dk_180 0 33 (dk_at dksX12_value_3 9 rfl rfl)
theorem dX12_value_81 : decode cX12_value 81 = .ok (.invokevirtual 79, 3) := dk_182 0 79 (dk_at dksX12_value_3 12 rfl rfl)
theorem dX12_value_84 : decode cX12_value 84 = .ok (.new 53, 3) := dk_187 0 53 (dk_at dksX12_value_3 15 rfl rfl)
theorem dX12_value_87 : decode cX12_value 87 = .ok (.dup, 1) := dk_89 (dk_at dksX12_value_3 18 rfl rfl)
theorem dX12_value_88 : decode cX12_value 88 = .ok (.iload_n 1, 1) := dk_27 (dk_at dksX12_value_3 19 rfl rfl)
theorem dX12_value_89 : decode cX12_value 89 = .ok (.ifCond .eq 8, 3) := dk_153 0 8 (dk_at dksX12_value_3 20 rfl rfl)
theorem dX12_value_92 : decode cX12_value 92 = .ok (.bipush 91, 2) := dk_16 91 (dk_at dksX12_value_4 0 rfl rfl)
theorem dX12_value_94 : decode cX12_value 94 = .ok (.goto 5, 3) := dk_167 0 5 (dk_at dksX12_value_4 2 rfl rfl)
theorem dX12_value_97 : decode cX12_value 97 = .ok (.bipush 93, 2) := dk_16 93 (dk_at dksX12_value_4 5 rfl rfl)
theorem dX12_value_99 : decode cX12_value 99 = .ok (.aload_n 2, 1) := dk_44 (dk_at dksX12_value_4 7 rfl rfl)
theorem dX12_value_100 : decode cX12_value 100 = .ok (.aload_n 3, 1) := dk_45 (dk_at dksX12_value_4 8 rfl rfl)
theorem dX12_value_101 : decode cX12_value 101 = .ok (.invokespecial 55, 3) := dk_183 0 55 (dk_at dksX12_value_4 9 rfl rfl)
theorem dX12_value_104 : decode cX12_value 104 = .ok (.areturn, 1) := dk_176 (dk_at dksX12_value_4 12 rfl rfl)
theorem dX12_value_105 : decode cX12_value 105 = .ok (.aload_n 0, 1) := dk_42 (dk_at dksX12_value_4 13 rfl rfl)
theorem dX12_value_106 : decode cX12_value 106 = .ok (.getfield 33, 3) := dk_180 0 33 (dk_at dksX12_value_4 14 rfl rfl)
theorem dX12_value_109 : decode cX12_value 109 = .ok (.invokevirtual 82, 3) := dk_182 0 82 (dk_at dksX12_value_4 17 rfl rfl)
theorem dX12_value_112 : decode cX12_value 112 = .ok (.bipush 40, 2) := dk_16 40 (dk_at dksX12_value_4 20 rfl rfl)
theorem dX12_value_114 : decode cX12_value 114 = .ok (.if_icmp .ne 42, 3) := dk_160 0 42 (dk_at dksX12_value_5 0 rfl rfl)
theorem dX12_value_117 : decode cX12_value 117 = .ok (.aload_n 0, 1) := dk_42 (dk_at dksX12_value_5 3 rfl rfl)
theorem dX12_value_118 : decode cX12_value 118 = .ok (.getfield 33, 3) := dk_180 0 33 (dk_at dksX12_value_5 4 rfl rfl)
theorem dX12_value_121 : decode cX12_value 121 = .ok (.invokevirtual 69, 3) := dk_182 0 69 (dk_at dksX12_value_5 7 rfl rfl)
theorem dX12_value_124 : decode cX12_value 124 = .ok (.aload_n 0, 1) := dk_42 (dk_at dksX12_value_5 10 rfl rfl)
theorem dX12_value_125 : decode cX12_value 125 = .ok (.getfield 33, 3) := dk_180 0 33 (dk_at dksX12_value_5 11 rfl rfl)
theorem dX12_value_128 : decode cX12_value 128 = .ok (.bipush 40, 2) := dk_16 40 (dk_at dksX12_value_5 14 rfl rfl)
theorem dX12_value_130 : decode cX12_value 130 = .ok (.invokevirtual 75, 3) := dk_182 0 75 (dk_at dksX12_value_5 16 rfl rfl)
theorem dX12_value_133 : decode cX12_value 133 = .ok (.aload_n 0, 1) := dk_42 (dk_at dksX12_value_5 19 rfl rfl)
theorem dX12_value_134 : decode cX12_value 134 = .ok (.invokevirtual 37, 3) := dk_182 0 37 (dk_at dksX12_value_5 20 rfl rfl)
theorem dX12_value_137 : decode cX12_value 137 = .ok (.astore_n 2, 1) := dk_77 (dk_at dksX12_value_5 23 rfl rfl)
theorem dX12_value_138 : decode cX12_value 138 = .ok (.aload_n 0, 1) := dk_42 (dk_at dksX12_value_6 0 rfl rfl)
theorem dX12_value_139 : decode cX12_value 139 = .ok (.getfield 33, 3) := dk_180 0 33 (dk_at dksX12_value_6 1 rfl rfl)
theorem dX12_value_142 : decode cX12_value 142 = .ok (.bipush 41, 2) := dk_16 41 (dk_at dksX12_value_6 4 rfl rfl)
theorem dX12_value_144 : decode cX12_value 144 = .ok (.invokevirtual 75, 3) := dk_182 0 75 (dk_at dksX12_value_6 6 rfl rfl)
theorem dX12_value_147 : decode cX12_value 147 = .ok (.aload_n 0, 1) := dk_42 (dk_at dksX12_value_6 9 rfl rfl)
theorem dX12_value_148 : decode cX12_value 148 = .ok (.getfield 33, 3) := dk_180 0 33 (dk_at dksX12_value_6 10 rfl rfl)
theorem dX12_value_151 : decode cX12_value 151 = .ok (.invokevirtual 79, 3) := dk_182 0 79 (dk_at dksX12_value_6 13 rfl rfl)
theorem dX12_value_154 : decode cX12_value 154 = .ok (.aload_n 2, 1) := dk_44 (dk_at dksX12_value_6 16 rfl rfl)
theorem dX12_value_155 : decode cX12_value 155 = .ok (.areturn, 1) := dk_176 (dk_at dksX12_value_6 17 rfl rfl)
theorem dX12_value_156 : decode cX12_value 156 = .ok (.aload_n 0, 1) := dk_42 (dk_at dksX12_value_6 18 rfl rfl)
theorem dX12_value_157 : decode cX12_value 157 = .ok (.getfield 33, 3) := dk_180 0 33 (dk_at dksX12_value_6 19 rfl rfl)
theorem dX12_value_160 : decode cX12_value 160 = .ok (.aload_n 0, 1) := dk_42 (dk_at dksX12_value_6 22 rfl rfl)
theorem dX12_value_161 : decode cX12_value 161 = .ok (.getfield 27, 3) := dk_180 0 27 (dk_at dksX12_value_7 0 rfl rfl)
theorem dX12_value_164 : decode cX12_value 164 = .ok (.invokevirtual 86, 3) := dk_182 0 86 (dk_at dksX12_value_7 3 rfl rfl)
theorem dX12_value_167 : decode cX12_value 167 = .ok (.istore_n 2, 1) := dk_61 (dk_at dksX12_value_7 6 rfl rfl)
theorem dX12_value_168 : decode cX12_value 168 = .ok (.iload_n 2, 1) := dk_28 (dk_at dksX12_value_7 7 rfl rfl)
theorem dX12_value_169 : decode cX12_value 169 = .ok (.iconst (-1), 1) := dk_2 (dk_at dksX12_value_7 8 rfl rfl)
theorem dX12_value_170 : decode cX12_value 170 = .ok (.if_icmp .ne 22, 3) := dk_160 0 22 (dk_at dksX12_value_7 9 rfl rfl)
theorem dX12_value_173 : decode cX12_value 173 = .ok (.new 90, 3) := dk_187 0 90 (dk_at dksX12_value_7 12 rfl rfl)
theorem dX12_value_176 : decode cX12_value 176 = .ok (.dup, 1) := dk_89 (dk_at dksX12_value_7 15 rfl rfl)
theorem dX12_value_177 : decode cX12_value 177 = .ok (.aload_n 0, 1) := dk_42 (dk_at dksX12_value_7 16 rfl rfl)
theorem dX12_value_178 : decode cX12_value 178 = .ok (.getfield 33, 3) := dk_180 0 33 (dk_at dksX12_value_7 17 rfl rfl)
theorem dX12_value_181 : decode cX12_value 181 = .ok (.iconst 0, 1) := dk_3 (dk_at dksX12_value_7 20 rfl rfl)
theorem dX12_value_182 : decode cX12_value 182 = .ok (.sipush 999, 3) := dk_17 3 231 (dk_at dksX12_value_7 21 rfl rfl)
theorem dX12_value_185 : decode cX12_value 185 = .ok (.invokevirtual 92, 3) := dk_182 0 92 (dk_at dksX12_value_8 0 rfl rfl)
theorem dX12_value_188 : decode cX12_value 188 = .ok (.invokespecial 96, 3) := dk_183 0 96 (dk_at dksX12_value_8 3 rfl rfl)
theorem dX12_value_191 : decode cX12_value 191 = .ok (.areturn, 1) := dk_176 (dk_at dksX12_value_8 6 rfl rfl)
theorem dX12_value_192 : decode cX12_value 192 = .ok (.aload_n 0, 1) := dk_42 (dk_at dksX12_value_8 7 rfl rfl)
theorem dX12_value_193 : decode cX12_value 193 = .ok (.getfield 33, 3) := dk_180 0 33 (dk_at dksX12_value_8 8 rfl rfl)
theorem dX12_value_196 : decode cX12_value 196 = .ok (.invokevirtual 72, 3) := dk_182 0 72 (dk_at dksX12_value_8 11 rfl rfl)
theorem dX12_value_199 : decode cX12_value 199 = .ok (.new 99, 3) := dk_187 0 99 (dk_at dksX12_value_8 14 rfl rfl)
theorem dX12_value_202 : decode cX12_value 202 = .ok (.dup, 1) := dk_89 (dk_at dksX12_value_8 17 rfl rfl)
theorem dX12_value_203 : decode cX12_value 203 = .ok (.iload_n 2, 1) := dk_28 (dk_at dksX12_value_8 18 rfl rfl)
theorem dX12_value_204 : decode cX12_value 204 = .ok (.invokespecial 101, 3) := dk_183 0 101 (dk_at dksX12_value_8 19 rfl rfl)
theorem dX12_value_207 : decode cX12_value 207 = .ok (.areturn, 1) := dk_176 (dk_at dksX12_value_8 22 rfl rfl)
theorem q110 : (Jvm.Cond.initialized "PassagePapers$LawReader") ∈ lw_all := lw_g (lw_at lw_m1 21 rfl) rfl
theorem q849 : (Jvm.Cond.instantiable "PassagePapers$LawReader" (2 : Nat)) ∈ lw_all := lw_g (lw_at lw_m4 40 rfl) rfl
theorem q851 : (Jvm.Cond.instanceMethod ({ cls := "PassagePapers$LawReader", name := "<init>", desc := "(LPassagePapers$Reader;)V" } : Jvm.MethodName)) ∈ lw_all := lw_g (lw_at lw_m4 42 rfl) rfl
theorem q852 : (Jvm.Cond.code ({ cls := "PassagePapers$LawReader", name := "<init>", desc := "(LPassagePapers$Reader;)V" } : Jvm.MethodName) prog_8_method_1_code (2 : Nat) (Option.none : Option Jvm.ClassFile.FieldType)) ∈ lw_all := lw_g (lw_at lw_m4 43 rfl) rfl
theorem q853 : (Jvm.Cond.methodLink "PassagePapers$LawReader" (3 : Nat) ({ cls := "java/lang/Object", name := "<init>", desc := "()V" } : Jvm.MethodName)) ∈ lw_all := lw_g (lw_at lw_m4 44 rfl) rfl
theorem q854 : (Jvm.Cond.classLink "PassagePapers$LawReader" (9 : Nat) "java/lang/String") ∈ lw_all := lw_g (lw_at lw_m4 45 rfl) rfl
theorem q855 : (Jvm.Cond.stringRef "PassagePapers$LawReader" (11 : Nat) "years") ∈ lw_tbl := lw_at lw_m4 46 rfl
theorem q856 : (Jvm.Cond.stringRef "PassagePapers$LawReader" (13 : Nat) "added") ∈ lw_tbl := lw_at lw_m4 47 rfl
theorem q857 : (Jvm.Cond.stringRef "PassagePapers$LawReader" (15 : Nat) "trade") ∈ lw_tbl := lw_at lw_m4 48 rfl
theorem q858 : (Jvm.Cond.stringRef "PassagePapers$LawReader" (17 : Nat) "hungry") ∈ lw_tbl := lw_at lw_m4 49 rfl
theorem q859 : (Jvm.Cond.stringRef "PassagePapers$LawReader" (19 : Nat) "kin") ∈ lw_tbl := lw_at lw_m4 50 rfl
theorem q860 : (Jvm.Cond.stringRef "PassagePapers$LawReader" (21 : Nat) "lost") ∈ lw_tbl := lw_at lw_m4 51 rfl
theorem q861 : (Jvm.Cond.stringRef "PassagePapers$LawReader" (23 : Nat) "placed") ∈ lw_tbl := lw_at lw_m4 52 rfl
theorem q862 : (Jvm.Cond.stringRef "PassagePapers$LawReader" (25 : Nat) "week") ∈ lw_tbl := lw_at lw_m4 53 rfl
theorem q863 : (Jvm.Cond.fieldLink "PassagePapers$LawReader" (27 : Nat) "PassagePapers$LawReader" "words" "[Ljava/lang/String;") ∈ lw_all := lw_g (lw_at lw_m4 54 rfl) rfl
theorem q864 : (Jvm.Cond.fieldLink "PassagePapers$LawReader" (33 : Nat) "PassagePapers$LawReader" "in" "LPassagePapers$Reader;") ∈ lw_all := lw_g (lw_at lw_m4 55 rfl) rfl
theorem q865 : (Jvm.Cond.laysFinal "PassagePapers$LawReader" "PassagePapers$LawReader" "words" "[Ljava/lang/String;") ∈ lw_all := lw_g (lw_at lw_m4 56 rfl) rfl
theorem q866 : (Jvm.Cond.soleField "PassagePapers$LawReader" "words") ∈ lw_all := lw_g (lw_at lw_m4 57 rfl) rfl
theorem q867 : (Jvm.Cond.laysFinal "PassagePapers$LawReader" "PassagePapers$LawReader" "in" "LPassagePapers$Reader;") ∈ lw_all := lw_g (lw_at lw_m4 58 rfl) rfl
theorem q868 : (Jvm.Cond.soleField "PassagePapers$LawReader" "in") ∈ lw_all := lw_g (lw_at lw_m4 59 rfl) rfl
theorem q869 : (Jvm.Cond.superclass "PassagePapers$LawReader" "java/lang/Object") ∈ lw_all := lw_g (lw_at lw_m4 60 rfl) rfl
theorem q871 : (Jvm.Cond.instanceMethod ({ cls := "PassagePapers$LawReader", name := "reads", desc := "()LPassagePapers$Term;" } : Jvm.MethodName)) ∈ lw_all := lw_g (lw_at lw_m4 62 rfl) rfl
theorem q872 : (Jvm.Cond.selects "PassagePapers$LawReader" ({ cls := "PassagePapers$LawReader", name := "reads", desc := "()LPassagePapers$Term;" } : Jvm.MethodName) ({ cls := "PassagePapers$LawReader", name := "reads", desc := "()LPassagePapers$Term;" } : Jvm.MethodName)) ∈ lw_all := lw_g (lw_at lw_m4 63 rfl) rfl
theorem q873 : (Jvm.Cond.code ({ cls := "PassagePapers$LawReader", name := "reads", desc := "()LPassagePapers$Term;" } : Jvm.MethodName) prog_8_method_2_code (2 : Nat) (Option.some (Jvm.ClassFile.FieldType.object "PassagePapers$Term"))) ∈ lw_all := lw_g (lw_at lw_m4 64 rfl) rfl
theorem q874 : (Jvm.Cond.methodLink "PassagePapers$LawReader" (37 : Nat) ({ cls := "PassagePapers$LawReader", name := "sum", desc := "()LPassagePapers$Term;" } : Jvm.MethodName)) ∈ lw_all := lw_g (lw_at lw_m4 65 rfl) rfl
theorem q875 : (Jvm.Cond.privateMethod ({ cls := "PassagePapers$LawReader", name := "sum", desc := "()LPassagePapers$Term;" } : Jvm.MethodName)) ∈ lw_tbl := lw_at lw_m4 66 rfl
theorem q876 : (Jvm.Cond.instanceMethod ({ cls := "PassagePapers$LawReader", name := "sum", desc := "()LPassagePapers$Term;" } : Jvm.MethodName)) ∈ lw_all := lw_g (lw_at lw_m4 67 rfl) rfl
theorem q877 : (Jvm.Cond.code ({ cls := "PassagePapers$LawReader", name := "sum", desc := "()LPassagePapers$Term;" } : Jvm.MethodName) prog_8_method_3_code (2 : Nat) (Option.some (Jvm.ClassFile.FieldType.object "PassagePapers$Term"))) ∈ lw_all := lw_g (lw_at lw_m4 68 rfl) rfl
theorem q878 : (Jvm.Cond.methodLink "PassagePapers$LawReader" (46 : Nat) ({ cls := "PassagePapers$LawReader", name := "product", desc := "()LPassagePapers$Term;" } : Jvm.MethodName)) ∈ lw_all := lw_g (lw_at lw_m4 69 rfl) rfl
theorem q879 : (Jvm.Cond.privateMethod ({ cls := "PassagePapers$LawReader", name := "product", desc := "()LPassagePapers$Term;" } : Jvm.MethodName)) ∈ lw_tbl := lw_at lw_m4 70 rfl
theorem q880 : (Jvm.Cond.instanceMethod ({ cls := "PassagePapers$LawReader", name := "product", desc := "()LPassagePapers$Term;" } : Jvm.MethodName)) ∈ lw_all := lw_g (lw_at lw_m4 71 rfl) rfl
theorem q881 : (Jvm.Cond.code ({ cls := "PassagePapers$LawReader", name := "product", desc := "()LPassagePapers$Term;" } : Jvm.MethodName) prog_8_method_4_code (2 : Nat) (Option.some (Jvm.ClassFile.FieldType.object "PassagePapers$Term"))) ∈ lw_all := lw_g (lw_at lw_m4 72 rfl) rfl
theorem q882 : (Jvm.Cond.methodLink "PassagePapers$LawReader" (58 : Nat) ({ cls := "PassagePapers$LawReader", name := "value", desc := "()LPassagePapers$Term;" } : Jvm.MethodName)) ∈ lw_all := lw_g (lw_at lw_m4 73 rfl) rfl
theorem q883 : (Jvm.Cond.privateMethod ({ cls := "PassagePapers$LawReader", name := "value", desc := "()LPassagePapers$Term;" } : Jvm.MethodName)) ∈ lw_tbl := lw_at lw_m4 74 rfl
theorem q884 : (Jvm.Cond.instanceMethod ({ cls := "PassagePapers$LawReader", name := "value", desc := "()LPassagePapers$Term;" } : Jvm.MethodName)) ∈ lw_all := lw_g (lw_at lw_m4 75 rfl) rfl
theorem q885 : (Jvm.Cond.code ({ cls := "PassagePapers$LawReader", name := "value", desc := "()LPassagePapers$Term;" } : Jvm.MethodName) prog_8_method_5_code (4 : Nat) (Option.some (Jvm.ClassFile.FieldType.object "PassagePapers$Term"))) ∈ lw_all := lw_g (lw_at lw_m4 76 rfl) rfl
theorem q886 : (Jvm.Cond.stringRef "PassagePapers$LawReader" (61 : Nat) "least") ∈ lw_tbl := lw_at lw_m4 77 rfl
theorem q887 : (Jvm.Cond.methodLink "PassagePapers$LawReader" (63 : Nat) ({ cls := "PassagePapers$Reader", name := "isWord", desc := "(Ljava/lang/String;)Z" } : Jvm.MethodName)) ∈ lw_all := lw_g (lw_at lw_m4 78 rfl) rfl
theorem q888 : (Jvm.Cond.stringRef "PassagePapers$LawReader" (67 : Nat) "most") ∈ lw_tbl := lw_at lw_m4 79 rfl
theorem q889 : (Jvm.Cond.methodLink "PassagePapers$LawReader" (69 : Nat) ({ cls := "PassagePapers$Reader", name := "opens", desc := "()V" } : Jvm.MethodName)) ∈ lw_all := lw_g (lw_at lw_m4 80 rfl) rfl
theorem q893 : (Jvm.Cond.methodLink "PassagePapers$LawReader" (72 : Nat) ({ cls := "PassagePapers$Reader", name := "skipsWord", desc := "()V" } : Jvm.MethodName)) ∈ lw_all := lw_g (lw_at lw_m4 84 rfl) rfl
theorem q894 : (Jvm.Cond.methodLink "PassagePapers$LawReader" (75 : Nat) ({ cls := "PassagePapers$Reader", name := "sign", desc := "(C)V" } : Jvm.MethodName)) ∈ lw_all := lw_g (lw_at lw_m4 85 rfl) rfl
theorem q895 : (Jvm.Cond.methodLink "PassagePapers$LawReader" (79 : Nat) ({ cls := "PassagePapers$Reader", name := "closes", desc := "()V" } : Jvm.MethodName)) ∈ lw_all := lw_g (lw_at lw_m4 86 rfl) rfl
theorem q899 : (Jvm.Cond.classLink "PassagePapers$LawReader" (53 : Nat) "PassagePapers$Two") ∈ lw_all := lw_g (lw_at lw_m4 90 rfl) rfl
theorem q901 : (Jvm.Cond.methodLink "PassagePapers$LawReader" (55 : Nat) ({ cls := "PassagePapers$Two", name := "<init>", desc := "(CLPassagePapers$Term;LPassagePapers$Term;)V" } : Jvm.MethodName)) ∈ lw_all := lw_g (lw_at lw_m4 92 rfl) rfl
theorem q915 : (Jvm.Cond.methodLink "PassagePapers$LawReader" (82 : Nat) ({ cls := "PassagePapers$Reader", name := "now", desc := "()I" } : Jvm.MethodName)) ∈ lw_all := lw_g (lw_at lw_m4 106 rfl) rfl
theorem q916 : (Jvm.Cond.methodLink "PassagePapers$LawReader" (86 : Nat) ({ cls := "PassagePapers$Reader", name := "which", desc := "([Ljava/lang/String;)I" } : Jvm.MethodName)) ∈ lw_all := lw_g (lw_at lw_m4 107 rfl) rfl
theorem q917 : (Jvm.Cond.classLink "PassagePapers$LawReader" (90 : Nat) "PassagePapers$Amount") ∈ lw_all := lw_g (lw_at lw_m4 108 rfl) rfl
theorem q919 : (Jvm.Cond.methodLink "PassagePapers$LawReader" (92 : Nat) ({ cls := "PassagePapers$Reader", name := "number", desc := "(II)I" } : Jvm.MethodName)) ∈ lw_all := lw_g (lw_at lw_m4 110 rfl) rfl
theorem q920 : (Jvm.Cond.methodLink "PassagePapers$LawReader" (96 : Nat) ({ cls := "PassagePapers$Amount", name := "<init>", desc := "(I)V" } : Jvm.MethodName)) ∈ lw_all := lw_g (lw_at lw_m4 111 rfl) rfl
theorem q928 : (Jvm.Cond.classLink "PassagePapers$LawReader" (99 : Nat) "PassagePapers$Known") ∈ lw_all := lw_g (lw_at lw_m4 119 rfl) rfl
theorem q930 : (Jvm.Cond.methodLink "PassagePapers$LawReader" (101 : Nat) ({ cls := "PassagePapers$Known", name := "<init>", desc := "(I)V" } : Jvm.MethodName)) ∈ lw_all := lw_g (lw_at lw_m4 121 rfl) rfl
theorem q938 : (Jvm.Cond.methodLink "PassagePapers$LawReader" (49 : Nat) ({ cls := "PassagePapers$Reader", name := "takesSign", desc := "(C)Z" } : Jvm.MethodName)) ∈ lw_all := lw_g (lw_at lw_m4 129 rfl) rfl
theorem q942 : (Jvm.Cond.methodLink "PassagePapers$LawReader" (41 : Nat) ({ cls := "PassagePapers$Reader", name := "ends", desc := "()V" } : Jvm.MethodName)) ∈ lw_all := lw_g (lw_at lw_m4 133 rfl) rfl
theorem q2206 : (Jvm.Cond.castable "PassagePapers$LawReader" "java/lang/Object") ∈ lw_tbl := lw_at lw_m9 197 rfl
theorem in_X12 : ∀ w ∈ wsX120, w ∈ lw_all := lw_in wsX120 [865, 867] (by decide +kernel) (by decide +kernel)
/-! PassagePapers$Two -/
set_option maxRecDepth 100000
def RX13 : String := "PassagePapers$Two"
def TX13 : u_T := fun k => match k with
  | 0 => ("PassagePapers$Two", "sign", "C", true)
  | 1 => ("PassagePapers$Two", "one", "LPassagePapers$Term;", true)
  | _ => ("PassagePapers$Two", "other", "LPassagePapers$Term;", true)
def tyX13 : Nat → FieldType := fun k => match k with
  | 0 => .char
  | 1 => .object "PassagePapers$Term"
  | _ => .object "PassagePapers$Term"
abbrev wsX130 : List Cond := u_ws RX13 TX13 3
theorem nmX13 : ∀ a, a < 3 → ∀ b, b < 3 → a ≠ b → (TX13 a).2.1 ≠ (TX13 b).2.1 := by decide +kernel
theorem tyX13_ok : ∀ k, k < 3 → parseFieldDescriptor (TX13 k).2.2.1 = some (tyX13 k) := by decide +kernel
abbrev cX13_on : ByteArray := prog_21_method_2_code
def yX13_on : MethodName := ⟨RX13, "on", "(LPassagePapers$Sight;)I"⟩
def dkwX13_on_4 : List UInt8 := [28, 29, 184, 0, 26, 172, 28, 29, 184, 0, 32, 172]
abbrev dktX13_on_4 : List UInt8 := dkwX13_on_4 ++ []
def dkwX13_on_3 : List UInt8 := [28, 29, 96, 172, 28, 29, 100, 172, 28, 29, 104, 172, 29, 154, 0, 7, 3, 167, 0, 6, 28, 29, 108, 172]
abbrev dktX13_on_3 : List UInt8 := dkwX13_on_3 ++ dktX13_on_4
def dkwX13_on_2 : List UInt8 := [171, 0, 0, 0, 0, 80, 0, 0, 0, 5, 0, 0, 0, 42, 0, 0, 0, 58, 0, 0, 0, 43, 0, 0, 0, 50, 0, 0, 0, 45, 0, 0, 0, 54, 0, 0, 0, 47, 0, 0, 0, 62, 0, 0, 0, 91, 0, 0, 0, 74]
abbrev dktX13_on_2 : List UInt8 := dkwX13_on_2 ++ dktX13_on_3
def dkwX13_on_1 : List UInt8 := [180, 0, 7]
abbrev dktX13_on_1 : List UInt8 := dkwX13_on_1 ++ dktX13_on_2
def dkwX13_on_0 : List UInt8 := [42, 180, 0, 13, 43, 185, 0, 20, 2, 0, 61, 42, 180, 0, 17, 43, 185, 0, 20, 2, 0, 62, 42]
abbrev dktX13_on_0 : List UInt8 := dkwX13_on_0 ++ dktX13_on_1
theorem dksX13_on_0 : cX13_on.data.toList.drop 0 = dktX13_on_0 := by decide +kernel
theorem dksX13_on_1 : cX13_on.data.toList.drop 23 = dktX13_on_1 := dk_seg dksX13_on_0 23 rfl rfl
theorem dksX13_on_2 : cX13_on.data.toList.drop 26 = dktX13_on_2 := dk_seg dksX13_on_1 3 rfl rfl
theorem dksX13_on_3 : cX13_on.data.toList.drop 76 = dktX13_on_3 := dk_seg dksX13_on_2 50 rfl rfl
theorem dksX13_on_4 : cX13_on.data.toList.drop 100 = dktX13_on_4 := dk_seg dksX13_on_3 24 rfl rfl
theorem dX13_on_0 : decode cX13_on 0 = .ok (.aload_n 0, 1) := dk_42 (dk_at dksX13_on_0 0 rfl rfl)
theorem dX13_on_1 : decode cX13_on 1 = .ok (.getfield 13, 3) := dk_180 0 13 (dk_at dksX13_on_0 1 rfl rfl)
theorem dX13_on_4 : decode cX13_on 4 = .ok (.aload_n 1, 1) := dk_43 (dk_at dksX13_on_0 4 rfl rfl)
theorem dX13_on_5 : decode cX13_on 5 = .ok (.invokeinterface 20 2, 5) := by decide +kernel
theorem dX13_on_10 : decode cX13_on 10 = .ok (.istore_n 2, 1) := dk_61 (dk_at dksX13_on_0 10 rfl rfl)
theorem dX13_on_11 : decode cX13_on 11 = .ok (.aload_n 0, 1) := dk_42 (dk_at dksX13_on_0 11 rfl rfl)
theorem dX13_on_12 : decode cX13_on 12 = .ok (.getfield 17, 3) := dk_180 0 17 (dk_at dksX13_on_0 12 rfl rfl)
theorem dX13_on_15 : decode cX13_on 15 = .ok (.aload_n 1, 1) := dk_43 (dk_at dksX13_on_0 15 rfl rfl)
theorem dX13_on_16 : decode cX13_on 16 = .ok (.invokeinterface 20 2, 5) := by decide +kernel
theorem dX13_on_21 : decode cX13_on 21 = .ok (.istore_n 3, 1) := dk_62 (dk_at dksX13_on_0 21 rfl rfl)
theorem dX13_on_22 : decode cX13_on 22 = .ok (.aload_n 0, 1) := dk_42 (dk_at dksX13_on_0 22 rfl rfl)
theorem dX13_on_23 : decode cX13_on 23 = .ok (.getfield 7, 3) := dk_180 0 7 (dk_at dksX13_on_1 0 rfl rfl)
theorem dX13_on_26 : decode cX13_on 26 = .ok (.lookupswitch 80 #[(42, 58), (43, 50), (45, 54), (47, 62), (91, 74)], 50) := by decide +kernel
theorem dX13_on_76 : decode cX13_on 76 = .ok (.iload_n 2, 1) := dk_28 (dk_at dksX13_on_3 0 rfl rfl)
theorem dX13_on_77 : decode cX13_on 77 = .ok (.iload_n 3, 1) := dk_29 (dk_at dksX13_on_3 1 rfl rfl)
theorem dX13_on_78 : decode cX13_on 78 = .ok (.iadd, 1) := dk_96 (dk_at dksX13_on_3 2 rfl rfl)
theorem dX13_on_79 : decode cX13_on 79 = .ok (.ireturn, 1) := dk_172 (dk_at dksX13_on_3 3 rfl rfl)
theorem dX13_on_80 : decode cX13_on 80 = .ok (.iload_n 2, 1) := dk_28 (dk_at dksX13_on_3 4 rfl rfl)
theorem dX13_on_81 : decode cX13_on 81 = .ok (.iload_n 3, 1) := dk_29 (dk_at dksX13_on_3 5 rfl rfl)
theorem dX13_on_82 : decode cX13_on 82 = .ok (.isub, 1) := dk_100 (dk_at dksX13_on_3 6 rfl rfl)
theorem dX13_on_83 : decode cX13_on 83 = .ok (.ireturn, 1) := dk_172 (dk_at dksX13_on_3 7 rfl rfl)
theorem dX13_on_84 : decode cX13_on 84 = .ok (.iload_n 2, 1) := dk_28 (dk_at dksX13_on_3 8 rfl rfl)
theorem dX13_on_85 : decode cX13_on 85 = .ok (.iload_n 3, 1) := dk_29 (dk_at dksX13_on_3 9 rfl rfl)
theorem dX13_on_86 : decode cX13_on 86 = .ok (.imul, 1) := dk_104 (dk_at dksX13_on_3 10 rfl rfl)
theorem dX13_on_87 : decode cX13_on 87 = .ok (.ireturn, 1) := dk_172 (dk_at dksX13_on_3 11 rfl rfl)
theorem dX13_on_88 : decode cX13_on 88 = .ok (.iload_n 3, 1) := dk_29 (dk_at dksX13_on_3 12 rfl rfl)
theorem dX13_on_89 : decode cX13_on 89 = .ok (.ifCond .ne 7, 3) := dk_154 0 7 (dk_at dksX13_on_3 13 rfl rfl)
theorem dX13_on_92 : decode cX13_on 92 = .ok (.iconst 0, 1) := dk_3 (dk_at dksX13_on_3 16 rfl rfl)
theorem dX13_on_93 : decode cX13_on 93 = .ok (.goto 6, 3) := dk_167 0 6 (dk_at dksX13_on_3 17 rfl rfl)
theorem dX13_on_96 : decode cX13_on 96 = .ok (.iload_n 2, 1) := dk_28 (dk_at dksX13_on_3 20 rfl rfl)
theorem dX13_on_97 : decode cX13_on 97 = .ok (.iload_n 3, 1) := dk_29 (dk_at dksX13_on_3 21 rfl rfl)
theorem dX13_on_98 : decode cX13_on 98 = .ok (.idiv, 1) := dk_108 (dk_at dksX13_on_3 22 rfl rfl)
theorem dX13_on_99 : decode cX13_on 99 = .ok (.ireturn, 1) := dk_172 (dk_at dksX13_on_3 23 rfl rfl)
theorem dX13_on_100 : decode cX13_on 100 = .ok (.iload_n 2, 1) := dk_28 (dk_at dksX13_on_4 0 rfl rfl)
theorem dX13_on_101 : decode cX13_on 101 = .ok (.iload_n 3, 1) := dk_29 (dk_at dksX13_on_4 1 rfl rfl)
theorem dX13_on_102 : decode cX13_on 102 = .ok (.invokestatic 26, 3) := dk_184 0 26 (dk_at dksX13_on_4 2 rfl rfl)
theorem dX13_on_105 : decode cX13_on 105 = .ok (.ireturn, 1) := dk_172 (dk_at dksX13_on_4 5 rfl rfl)
theorem dX13_on_106 : decode cX13_on 106 = .ok (.iload_n 2, 1) := dk_28 (dk_at dksX13_on_4 6 rfl rfl)
theorem dX13_on_107 : decode cX13_on 107 = .ok (.iload_n 3, 1) := dk_29 (dk_at dksX13_on_4 7 rfl rfl)
theorem dX13_on_108 : decode cX13_on 108 = .ok (.invokestatic 32, 3) := dk_184 0 32 (dk_at dksX13_on_4 8 rfl rfl)
theorem dX13_on_111 : decode cX13_on 111 = .ok (.ireturn, 1) := dk_172 (dk_at dksX13_on_4 11 rfl rfl)
abbrev cX13_init : ByteArray := prog_21_method_1_code
def yX13_init : MethodName := ⟨RX13, "<init>", "(CLPassagePapers$Term;LPassagePapers$Term;)V"⟩
def dkwX13_init_0 : List UInt8 := [42, 183, 0, 1, 42, 27, 181, 0, 7, 42, 44, 181, 0, 13, 42, 45, 181, 0, 17, 177]
abbrev dktX13_init_0 : List UInt8 := dkwX13_init_0 ++ []
theorem dksX13_init_0 : cX13_init.data.toList.drop 0 = dktX13_init_0 := by decide +kernel
theorem dX13_init_0 : decode cX13_init 0 = .ok (.aload_n 0, 1) := dk_42 (dk_at dksX13_init_0 0 rfl rfl)
theorem dX13_init_1 : decode cX13_init 1 = .ok (.invokespecial 1, 3) := dk_183 0 1 (dk_at dksX13_init_0 1 rfl rfl)
theorem dX13_init_4 : decode cX13_init 4 = .ok (.aload_n 0, 1) := dk_42 (dk_at dksX13_init_0 4 rfl rfl)
theorem dX13_init_5 : decode cX13_init 5 = .ok (.iload_n 1, 1) := dk_27 (dk_at dksX13_init_0 5 rfl rfl)
theorem dX13_init_6 : decode cX13_init 6 = .ok (.putfield 7, 3) := dk_181 0 7 (dk_at dksX13_init_0 6 rfl rfl)
theorem dX13_init_9 : decode cX13_init 9 = .ok (.aload_n 0, 1) := dk_42 (dk_at dksX13_init_0 9 rfl rfl)
theorem dX13_init_10 : decode cX13_init 10 = .ok (.aload_n 2, 1) := dk_44 (dk_at dksX13_init_0 10 rfl rfl)
theorem dX13_init_11 : decode cX13_init 11 = .ok (.putfield 13, 3) := dk_181 0 13 (dk_at dksX13_init_0 11 rfl rfl)
theorem dX13_init_14 : decode cX13_init 14 = .ok (.aload_n 0, 1) := dk_42 (dk_at dksX13_init_0 14 rfl rfl)
theorem dX13_init_15 : decode cX13_init 15 = .ok (.aload_n 3, 1) := dk_45 (dk_at dksX13_init_0 15 rfl rfl)
theorem dX13_init_16 : decode cX13_init 16 = .ok (.putfield 17, 3) := dk_181 0 17 (dk_at dksX13_init_0 16 rfl rfl)
theorem dX13_init_19 : decode cX13_init 19 = .ok (.return_, 1) := dk_177 (dk_at dksX13_init_0 19 rfl rfl)
theorem q111 : (Jvm.Cond.initialized "PassagePapers$Two") ∈ lw_all := lw_g (lw_at lw_m1 22 rfl) rfl
theorem q512 : (Jvm.Cond.castable "PassagePapers$Two" "PassagePapers$Term") ∈ lw_tbl := lw_at lw_m2 183 rfl
theorem q513 : (Jvm.Cond.selects "PassagePapers$Two" ({ cls := "PassagePapers$Term", name := "on", desc := "(LPassagePapers$Sight;)I" } : Jvm.MethodName) ({ cls := "PassagePapers$Two", name := "on", desc := "(LPassagePapers$Sight;)I" } : Jvm.MethodName)) ∈ lw_all := lw_g (lw_at lw_m2 184 rfl) rfl
theorem q514 : (Jvm.Cond.unhidden "PassagePapers$Two" "on" "(LPassagePapers$Sight;)I") ∈ lw_tbl := lw_at lw_m2 185 rfl
theorem q515 : (Jvm.Cond.instanceMethod ({ cls := "PassagePapers$Two", name := "on", desc := "(LPassagePapers$Sight;)I" } : Jvm.MethodName)) ∈ lw_all := lw_g (lw_at lw_m2 186 rfl) rfl
theorem q516 : (Jvm.Cond.publicMethod ({ cls := "PassagePapers$Two", name := "on", desc := "(LPassagePapers$Sight;)I" } : Jvm.MethodName)) ∈ lw_tbl := lw_at lw_m2 187 rfl
theorem q517 : (Jvm.Cond.code ({ cls := "PassagePapers$Two", name := "on", desc := "(LPassagePapers$Sight;)I" } : Jvm.MethodName) prog_21_method_2_code (4 : Nat) (Option.some Jvm.ClassFile.FieldType.int)) ∈ lw_all := lw_g (lw_at lw_m2 188 rfl) rfl
theorem q518 : (Jvm.Cond.interfaceEntry "PassagePapers$Two" (20 : Nat)) ∈ lw_tbl := lw_at lw_m2 189 rfl
theorem q519 : (Jvm.Cond.methodLink "PassagePapers$Two" (20 : Nat) ({ cls := "PassagePapers$Term", name := "on", desc := "(LPassagePapers$Sight;)I" } : Jvm.MethodName)) ∈ lw_all := lw_g (lw_at lw_m2 190 rfl) rfl
theorem q520 : (Jvm.Cond.methodLink "PassagePapers$Two" (26 : Nat) ({ cls := "java/lang/Math", name := "min", desc := "(II)I" } : Jvm.MethodName)) ∈ lw_all := lw_g (lw_at lw_m2 191 rfl) rfl
theorem q523 : (Jvm.Cond.methodLink "PassagePapers$Two" (32 : Nat) ({ cls := "java/lang/Math", name := "max", desc := "(II)I" } : Jvm.MethodName)) ∈ lw_all := lw_g (lw_at lw_m2 194 rfl) rfl
theorem q900 : (Jvm.Cond.instantiable "PassagePapers$Two" (3 : Nat)) ∈ lw_all := lw_g (lw_at lw_m4 91 rfl) rfl
theorem q902 : (Jvm.Cond.instanceMethod ({ cls := "PassagePapers$Two", name := "<init>", desc := "(CLPassagePapers$Term;LPassagePapers$Term;)V" } : Jvm.MethodName)) ∈ lw_all := lw_g (lw_at lw_m4 93 rfl) rfl
theorem q903 : (Jvm.Cond.code ({ cls := "PassagePapers$Two", name := "<init>", desc := "(CLPassagePapers$Term;LPassagePapers$Term;)V" } : Jvm.MethodName) prog_21_method_1_code (4 : Nat) (Option.none : Option Jvm.ClassFile.FieldType)) ∈ lw_all := lw_g (lw_at lw_m4 94 rfl) rfl
theorem q904 : (Jvm.Cond.methodLink "PassagePapers$Two" (1 : Nat) ({ cls := "java/lang/Object", name := "<init>", desc := "()V" } : Jvm.MethodName)) ∈ lw_all := lw_g (lw_at lw_m4 95 rfl) rfl
theorem q905 : (Jvm.Cond.fieldLink "PassagePapers$Two" (7 : Nat) "PassagePapers$Two" "sign" "C") ∈ lw_all := lw_g (lw_at lw_m4 96 rfl) rfl
theorem q906 : (Jvm.Cond.fieldLink "PassagePapers$Two" (13 : Nat) "PassagePapers$Two" "one" "LPassagePapers$Term;") ∈ lw_all := lw_g (lw_at lw_m4 97 rfl) rfl
theorem q907 : (Jvm.Cond.fieldLink "PassagePapers$Two" (17 : Nat) "PassagePapers$Two" "other" "LPassagePapers$Term;") ∈ lw_all := lw_g (lw_at lw_m4 98 rfl) rfl
theorem q908 : (Jvm.Cond.laysFinal "PassagePapers$Two" "PassagePapers$Two" "sign" "C") ∈ lw_all := lw_g (lw_at lw_m4 99 rfl) rfl
theorem q909 : (Jvm.Cond.soleField "PassagePapers$Two" "sign") ∈ lw_all := lw_g (lw_at lw_m4 100 rfl) rfl
theorem q910 : (Jvm.Cond.laysFinal "PassagePapers$Two" "PassagePapers$Two" "one" "LPassagePapers$Term;") ∈ lw_all := lw_g (lw_at lw_m4 101 rfl) rfl
theorem q911 : (Jvm.Cond.soleField "PassagePapers$Two" "one") ∈ lw_all := lw_g (lw_at lw_m4 102 rfl) rfl
theorem q912 : (Jvm.Cond.laysFinal "PassagePapers$Two" "PassagePapers$Two" "other" "LPassagePapers$Term;") ∈ lw_all := lw_g (lw_at lw_m4 103 rfl) rfl
theorem q913 : (Jvm.Cond.soleField "PassagePapers$Two" "other") ∈ lw_all := lw_g (lw_at lw_m4 104 rfl) rfl
theorem q914 : (Jvm.Cond.superclass "PassagePapers$Two" "java/lang/Object") ∈ lw_all := lw_g (lw_at lw_m4 105 rfl) rfl
theorem q2207 : (Jvm.Cond.castable "PassagePapers$Two" "java/lang/Object") ∈ lw_tbl := lw_at lw_m9 198 rfl
theorem in_X13 : ∀ w ∈ wsX130, w ∈ lw_all := lw_in wsX130 [908, 910, 912] (by decide +kernel) (by decide +kernel)
/-! PassagePapers$Amount -/
set_option maxRecDepth 100000
def RX14 : String := "PassagePapers$Amount"
def TX14 : u_T := fun k => match k with
  | _ => ("PassagePapers$Amount", "number", "I", true)
def tyX14 : Nat → FieldType := fun k => match k with
  | _ => .int
abbrev wsX140 : List Cond := u_ws RX14 TX14 1
theorem nmX14 : ∀ a, a < 1 → ∀ b, b < 1 → a ≠ b → (TX14 a).2.1 ≠ (TX14 b).2.1 := by decide +kernel
theorem tyX14_ok : ∀ k, k < 1 → parseFieldDescriptor (TX14 k).2.2.1 = some (tyX14 k) := by decide +kernel
abbrev cX14_on : ByteArray := prog_4_method_2_code
def yX14_on : MethodName := ⟨RX14, "on", "(LPassagePapers$Sight;)I"⟩
theorem dX14_on_0 : decode cX14_on 0 = .ok (.aload_n 0, 1) := by decide +kernel
theorem dX14_on_1 : decode cX14_on 1 = .ok (.getfield 7, 3) := by decide +kernel
theorem dX14_on_4 : decode cX14_on 4 = .ok (.ireturn, 1) := by decide +kernel
abbrev cX14_init : ByteArray := prog_4_method_1_code
def yX14_init : MethodName := ⟨RX14, "<init>", "(I)V"⟩
def dkwX14_init_0 : List UInt8 := [42, 183, 0, 1, 42, 27, 181, 0, 7, 177]
abbrev dktX14_init_0 : List UInt8 := dkwX14_init_0 ++ []
theorem dksX14_init_0 : cX14_init.data.toList.drop 0 = dktX14_init_0 := by decide +kernel
theorem dX14_init_0 : decode cX14_init 0 = .ok (.aload_n 0, 1) := dk_42 (dk_at dksX14_init_0 0 rfl rfl)
theorem dX14_init_1 : decode cX14_init 1 = .ok (.invokespecial 1, 3) := dk_183 0 1 (dk_at dksX14_init_0 1 rfl rfl)
theorem dX14_init_4 : decode cX14_init 4 = .ok (.aload_n 0, 1) := dk_42 (dk_at dksX14_init_0 4 rfl rfl)
theorem dX14_init_5 : decode cX14_init 5 = .ok (.iload_n 1, 1) := dk_27 (dk_at dksX14_init_0 5 rfl rfl)
theorem dX14_init_6 : decode cX14_init 6 = .ok (.putfield 7, 3) := dk_181 0 7 (dk_at dksX14_init_0 6 rfl rfl)
theorem dX14_init_9 : decode cX14_init 9 = .ok (.return_, 1) := dk_177 (dk_at dksX14_init_0 9 rfl rfl)
theorem q112 : (Jvm.Cond.initialized "PassagePapers$Amount") ∈ lw_all := lw_g (lw_at lw_m1 23 rfl) rfl
theorem q496 : (Jvm.Cond.castable "PassagePapers$Amount" "PassagePapers$Term") ∈ lw_tbl := lw_at lw_m2 167 rfl
theorem q497 : (Jvm.Cond.selects "PassagePapers$Amount" ({ cls := "PassagePapers$Term", name := "on", desc := "(LPassagePapers$Sight;)I" } : Jvm.MethodName) ({ cls := "PassagePapers$Amount", name := "on", desc := "(LPassagePapers$Sight;)I" } : Jvm.MethodName)) ∈ lw_all := lw_g (lw_at lw_m2 168 rfl) rfl
theorem q498 : (Jvm.Cond.unhidden "PassagePapers$Amount" "on" "(LPassagePapers$Sight;)I") ∈ lw_tbl := lw_at lw_m2 169 rfl
theorem q499 : (Jvm.Cond.instanceMethod ({ cls := "PassagePapers$Amount", name := "on", desc := "(LPassagePapers$Sight;)I" } : Jvm.MethodName)) ∈ lw_all := lw_g (lw_at lw_m2 170 rfl) rfl
theorem q500 : (Jvm.Cond.publicMethod ({ cls := "PassagePapers$Amount", name := "on", desc := "(LPassagePapers$Sight;)I" } : Jvm.MethodName)) ∈ lw_tbl := lw_at lw_m2 171 rfl
theorem q501 : (Jvm.Cond.code ({ cls := "PassagePapers$Amount", name := "on", desc := "(LPassagePapers$Sight;)I" } : Jvm.MethodName) prog_4_method_2_code (2 : Nat) (Option.some Jvm.ClassFile.FieldType.int)) ∈ lw_all := lw_g (lw_at lw_m2 172 rfl) rfl
theorem q918 : (Jvm.Cond.instantiable "PassagePapers$Amount" (1 : Nat)) ∈ lw_all := lw_g (lw_at lw_m4 109 rfl) rfl
theorem q921 : (Jvm.Cond.instanceMethod ({ cls := "PassagePapers$Amount", name := "<init>", desc := "(I)V" } : Jvm.MethodName)) ∈ lw_all := lw_g (lw_at lw_m4 112 rfl) rfl
theorem q922 : (Jvm.Cond.code ({ cls := "PassagePapers$Amount", name := "<init>", desc := "(I)V" } : Jvm.MethodName) prog_4_method_1_code (2 : Nat) (Option.none : Option Jvm.ClassFile.FieldType)) ∈ lw_all := lw_g (lw_at lw_m4 113 rfl) rfl
theorem q923 : (Jvm.Cond.methodLink "PassagePapers$Amount" (1 : Nat) ({ cls := "java/lang/Object", name := "<init>", desc := "()V" } : Jvm.MethodName)) ∈ lw_all := lw_g (lw_at lw_m4 114 rfl) rfl
theorem q924 : (Jvm.Cond.fieldLink "PassagePapers$Amount" (7 : Nat) "PassagePapers$Amount" "number" "I") ∈ lw_all := lw_g (lw_at lw_m4 115 rfl) rfl
theorem q925 : (Jvm.Cond.laysFinal "PassagePapers$Amount" "PassagePapers$Amount" "number" "I") ∈ lw_all := lw_g (lw_at lw_m4 116 rfl) rfl
theorem q926 : (Jvm.Cond.soleField "PassagePapers$Amount" "number") ∈ lw_all := lw_g (lw_at lw_m4 117 rfl) rfl
theorem q927 : (Jvm.Cond.superclass "PassagePapers$Amount" "java/lang/Object") ∈ lw_all := lw_g (lw_at lw_m4 118 rfl) rfl
theorem q2208 : (Jvm.Cond.castable "PassagePapers$Amount" "java/lang/Object") ∈ lw_tbl := lw_at lw_m9 199 rfl
theorem in_X14 : ∀ w ∈ wsX140, w ∈ lw_all := lw_in wsX140 [925] (by decide +kernel) (by decide +kernel)
/-! PassagePapers$Known -/
set_option maxRecDepth 100000
def RX15 : String := "PassagePapers$Known"
def TX15 : u_T := fun k => match k with
  | _ => ("PassagePapers$Known", "which", "I", true)
def tyX15 : Nat → FieldType := fun k => match k with
  | _ => .int
abbrev wsX150 : List Cond := u_ws RX15 TX15 1
theorem nmX15 : ∀ a, a < 1 → ∀ b, b < 1 → a ≠ b → (TX15 a).2.1 ≠ (TX15 b).2.1 := by decide +kernel
theorem tyX15_ok : ∀ k, k < 1 → parseFieldDescriptor (TX15 k).2.2.1 = some (tyX15 k) := by decide +kernel
abbrev cX15_on : ByteArray := prog_6_method_2_code
def yX15_on : MethodName := ⟨RX15, "on", "(LPassagePapers$Sight;)I"⟩
def dkwX15_on_0 : List UInt8 := [43, 42, 180, 0, 7, 182, 0, 13, 172]
abbrev dktX15_on_0 : List UInt8 := dkwX15_on_0 ++ []
theorem dksX15_on_0 : cX15_on.data.toList.drop 0 = dktX15_on_0 := by decide +kernel
theorem dX15_on_0 : decode cX15_on 0 = .ok (.aload_n 1, 1) := dk_43 (dk_at dksX15_on_0 0 rfl rfl)
theorem dX15_on_1 : decode cX15_on 1 = .ok (.aload_n 0, 1) := dk_42 (dk_at dksX15_on_0 1 rfl rfl)
theorem dX15_on_2 : decode cX15_on 2 = .ok (.getfield 7, 3) := dk_180 0 7 (dk_at dksX15_on_0 2 rfl rfl)
theorem dX15_on_5 : decode cX15_on 5 = .ok (.invokevirtual 13, 3) := dk_182 0 13 (dk_at dksX15_on_0 5 rfl rfl)
theorem dX15_on_8 : decode cX15_on 8 = .ok (.ireturn, 1) := dk_172 (dk_at dksX15_on_0 8 rfl rfl)
abbrev cX15_init : ByteArray := prog_6_method_1_code
def yX15_init : MethodName := ⟨RX15, "<init>", "(I)V"⟩
def dkwX15_init_0 : List UInt8 := [42, 183, 0, 1, 42, 27, 181, 0, 7, 177]
abbrev dktX15_init_0 : List UInt8 := dkwX15_init_0 ++ []
theorem dksX15_init_0 : cX15_init.data.toList.drop 0 = dktX15_init_0 := by decide +kernel
theorem dX15_init_0 : decode cX15_init 0 = .ok (.aload_n 0, 1) := dk_42 (dk_at dksX15_init_0 0 rfl rfl)
theorem dX15_init_1 : decode cX15_init 1 = .ok (.invokespecial 1, 3) := dk_183 0 1 (dk_at dksX15_init_0 1 rfl rfl)
theorem dX15_init_4 : decode cX15_init 4 = .ok (.aload_n 0, 1) := dk_42 (dk_at dksX15_init_0 4 rfl rfl)
theorem dX15_init_5 : decode cX15_init 5 = .ok (.iload_n 1, 1) := dk_27 (dk_at dksX15_init_0 5 rfl rfl)
theorem dX15_init_6 : decode cX15_init 6 = .ok (.putfield 7, 3) := dk_181 0 7 (dk_at dksX15_init_0 6 rfl rfl)
theorem dX15_init_9 : decode cX15_init 9 = .ok (.return_, 1) := dk_177 (dk_at dksX15_init_0 9 rfl rfl)
theorem q113 : (Jvm.Cond.initialized "PassagePapers$Known") ∈ lw_all := lw_g (lw_at lw_m1 24 rfl) rfl
theorem q502 : (Jvm.Cond.castable "PassagePapers$Known" "PassagePapers$Term") ∈ lw_tbl := lw_at lw_m2 173 rfl
theorem q503 : (Jvm.Cond.selects "PassagePapers$Known" ({ cls := "PassagePapers$Term", name := "on", desc := "(LPassagePapers$Sight;)I" } : Jvm.MethodName) ({ cls := "PassagePapers$Known", name := "on", desc := "(LPassagePapers$Sight;)I" } : Jvm.MethodName)) ∈ lw_all := lw_g (lw_at lw_m2 174 rfl) rfl
theorem q504 : (Jvm.Cond.unhidden "PassagePapers$Known" "on" "(LPassagePapers$Sight;)I") ∈ lw_tbl := lw_at lw_m2 175 rfl
theorem q505 : (Jvm.Cond.instanceMethod ({ cls := "PassagePapers$Known", name := "on", desc := "(LPassagePapers$Sight;)I" } : Jvm.MethodName)) ∈ lw_all := lw_g (lw_at lw_m2 176 rfl) rfl
theorem q506 : (Jvm.Cond.publicMethod ({ cls := "PassagePapers$Known", name := "on", desc := "(LPassagePapers$Sight;)I" } : Jvm.MethodName)) ∈ lw_tbl := lw_at lw_m2 177 rfl
theorem q507 : (Jvm.Cond.code ({ cls := "PassagePapers$Known", name := "on", desc := "(LPassagePapers$Sight;)I" } : Jvm.MethodName) prog_6_method_2_code (2 : Nat) (Option.some Jvm.ClassFile.FieldType.int)) ∈ lw_all := lw_g (lw_at lw_m2 178 rfl) rfl
theorem q508 : (Jvm.Cond.methodLink "PassagePapers$Known" (13 : Nat) ({ cls := "PassagePapers$Sight", name := "known", desc := "(I)I" } : Jvm.MethodName)) ∈ lw_all := lw_g (lw_at lw_m2 179 rfl) rfl
theorem q929 : (Jvm.Cond.instantiable "PassagePapers$Known" (1 : Nat)) ∈ lw_all := lw_g (lw_at lw_m4 120 rfl) rfl
theorem q931 : (Jvm.Cond.instanceMethod ({ cls := "PassagePapers$Known", name := "<init>", desc := "(I)V" } : Jvm.MethodName)) ∈ lw_all := lw_g (lw_at lw_m4 122 rfl) rfl
theorem q932 : (Jvm.Cond.code ({ cls := "PassagePapers$Known", name := "<init>", desc := "(I)V" } : Jvm.MethodName) prog_6_method_1_code (2 : Nat) (Option.none : Option Jvm.ClassFile.FieldType)) ∈ lw_all := lw_g (lw_at lw_m4 123 rfl) rfl
theorem q933 : (Jvm.Cond.methodLink "PassagePapers$Known" (1 : Nat) ({ cls := "java/lang/Object", name := "<init>", desc := "()V" } : Jvm.MethodName)) ∈ lw_all := lw_g (lw_at lw_m4 124 rfl) rfl
theorem q934 : (Jvm.Cond.fieldLink "PassagePapers$Known" (7 : Nat) "PassagePapers$Known" "which" "I") ∈ lw_all := lw_g (lw_at lw_m4 125 rfl) rfl
theorem q935 : (Jvm.Cond.laysFinal "PassagePapers$Known" "PassagePapers$Known" "which" "I") ∈ lw_all := lw_g (lw_at lw_m4 126 rfl) rfl
theorem q936 : (Jvm.Cond.soleField "PassagePapers$Known" "which") ∈ lw_all := lw_g (lw_at lw_m4 127 rfl) rfl
theorem q937 : (Jvm.Cond.superclass "PassagePapers$Known" "java/lang/Object") ∈ lw_all := lw_g (lw_at lw_m4 128 rfl) rfl
theorem q2209 : (Jvm.Cond.castable "PassagePapers$Known" "java/lang/Object") ∈ lw_tbl := lw_at lw_m9 200 rfl
theorem in_X15 : ∀ w ∈ wsX150, w ∈ lw_all := lw_in wsX150 [935] (by decide +kernel) (by decide +kernel)
/-! PassagePapers$WorkReader -/
set_option maxRecDepth 100000
def RX16 : String := "PassagePapers$WorkReader"
def TX16 : u_T := fun k => match k with
  | 0 => ("PassagePapers$WorkReader", "words", "[Ljava/lang/String;", true)
  | 1 => ("PassagePapers$WorkReader", "in", "LPassagePapers$Reader;", true)
  | _ => ("PassagePapers$WorkReader", "register", "LPassagePapers$Register;", true)
def tyX16 : Nat → FieldType := fun k => match k with
  | 0 => .array (.object "java/lang/String")
  | 1 => .object "PassagePapers$Reader"
  | _ => .object "PassagePapers$Register"
abbrev wsX160 : List Cond := u_ws RX16 TX16 3
theorem nmX16 : ∀ a, a < 3 → ∀ b, b < 3 → a ≠ b → (TX16 a).2.1 ≠ (TX16 b).2.1 := by decide +kernel
theorem tyX16_ok : ∀ k, k < 3 → parseFieldDescriptor (TX16 k).2.2.1 = some (tyX16 k) := by decide +kernel
abbrev cX16_init : ByteArray := prog_23_method_1_code
def yX16_init : MethodName := ⟨RX16, "<init>", "(LPassagePapers$Reader;LPassagePapers$Register;)V"⟩
def dkwX16_init_3 : List UInt8 := [177]
abbrev dktX16_init_3 : List UInt8 := dkwX16_init_3 ++ []
def dkwX16_init_2 : List UInt8 := [16, 7, 18, 25, 83, 89, 16, 8, 18, 27, 83, 181, 0, 29, 42, 43, 181, 0, 35, 42, 44, 181, 0, 39]
abbrev dktX16_init_2 : List UInt8 := dkwX16_init_2 ++ dktX16_init_3
def dkwX16_init_1 : List UInt8 := [83, 89, 6, 18, 17, 83, 89, 7, 18, 19, 83, 89, 8, 18, 21, 83, 89, 16, 6, 18, 23, 83, 89]
abbrev dktX16_init_1 : List UInt8 := dkwX16_init_1 ++ dktX16_init_2
def dkwX16_init_0 : List UInt8 := [42, 183, 0, 3, 42, 16, 9, 189, 0, 9, 89, 3, 18, 11, 83, 89, 4, 18, 13, 83, 89, 5, 18, 15]
abbrev dktX16_init_0 : List UInt8 := dkwX16_init_0 ++ dktX16_init_1
theorem dksX16_init_0 : cX16_init.data.toList.drop 0 = dktX16_init_0 := by decide +kernel
theorem dksX16_init_1 : cX16_init.data.toList.drop 24 = dktX16_init_1 := dk_seg dksX16_init_0 24 rfl rfl
theorem dksX16_init_2 : cX16_init.data.toList.drop 47 = dktX16_init_2 := dk_seg dksX16_init_1 23 rfl rfl
theorem dksX16_init_3 : cX16_init.data.toList.drop 71 = dktX16_init_3 := dk_seg dksX16_init_2 24 rfl rfl
theorem dX16_init_0 : decode cX16_init 0 = .ok (.aload_n 0, 1) := dk_42 (dk_at dksX16_init_0 0 rfl rfl)
theorem dX16_init_1 : decode cX16_init 1 = .ok (.invokespecial 3, 3) := dk_183 0 3 (dk_at dksX16_init_0 1 rfl rfl)
theorem dX16_init_4 : decode cX16_init 4 = .ok (.aload_n 0, 1) := dk_42 (dk_at dksX16_init_0 4 rfl rfl)
theorem dX16_init_5 : decode cX16_init 5 = .ok (.bipush 9, 2) := dk_16 9 (dk_at dksX16_init_0 5 rfl rfl)
theorem dX16_init_7 : decode cX16_init 7 = .ok (.anewarray 9, 3) := dk_189 0 9 (dk_at dksX16_init_0 7 rfl rfl)
theorem dX16_init_10 : decode cX16_init 10 = .ok (.dup, 1) := dk_89 (dk_at dksX16_init_0 10 rfl rfl)
theorem dX16_init_11 : decode cX16_init 11 = .ok (.iconst 0, 1) := dk_3 (dk_at dksX16_init_0 11 rfl rfl)
theorem dX16_init_12 : decode cX16_init 12 = .ok (.ldc 11, 2) := dk_18 11 (dk_at dksX16_init_0 12 rfl rfl)
theorem dX16_init_14 : decode cX16_init 14 = .ok (.aastore, 1) := dk_83 (dk_at dksX16_init_0 14 rfl rfl)
theorem dX16_init_15 : decode cX16_init 15 = .ok (.dup, 1) := dk_89 (dk_at dksX16_init_0 15 rfl rfl)
theorem dX16_init_16 : decode cX16_init 16 = .ok (.iconst 1, 1) := dk_4 (dk_at dksX16_init_0 16 rfl rfl)
theorem dX16_init_17 : decode cX16_init 17 = .ok (.ldc 13, 2) := dk_18 13 (dk_at dksX16_init_0 17 rfl rfl)
theorem dX16_init_19 : decode cX16_init 19 = .ok (.aastore, 1) := dk_83 (dk_at dksX16_init_0 19 rfl rfl)
theorem dX16_init_20 : decode cX16_init 20 = .ok (.dup, 1) := dk_89 (dk_at dksX16_init_0 20 rfl rfl)
theorem dX16_init_21 : decode cX16_init 21 = .ok (.iconst 2, 1) := dk_5 (dk_at dksX16_init_0 21 rfl rfl)
theorem dX16_init_22 : decode cX16_init 22 = .ok (.ldc 15, 2) := dk_18 15 (dk_at dksX16_init_0 22 rfl rfl)
theorem dX16_init_24 : decode cX16_init 24 = .ok (.aastore, 1) := dk_83 (dk_at dksX16_init_1 0 rfl rfl)
theorem dX16_init_25 : decode cX16_init 25 = .ok (.dup, 1) := dk_89 (dk_at dksX16_init_1 1 rfl rfl)
theorem dX16_init_26 : decode cX16_init 26 = .ok (.iconst 3, 1) := dk_6 (dk_at dksX16_init_1 2 rfl rfl)
theorem dX16_init_27 : decode cX16_init 27 = .ok (.ldc 17, 2) := dk_18 17 (dk_at dksX16_init_1 3 rfl rfl)
theorem dX16_init_29 : decode cX16_init 29 = .ok (.aastore, 1) := dk_83 (dk_at dksX16_init_1 5 rfl rfl)
theorem dX16_init_30 : decode cX16_init 30 = .ok (.dup, 1) := dk_89 (dk_at dksX16_init_1 6 rfl rfl)
theorem dX16_init_31 : decode cX16_init 31 = .ok (.iconst 4, 1) := dk_7 (dk_at dksX16_init_1 7 rfl rfl)
theorem dX16_init_32 : decode cX16_init 32 = .ok (.ldc 19, 2) := dk_18 19 (dk_at dksX16_init_1 8 rfl rfl)
theorem dX16_init_34 : decode cX16_init 34 = .ok (.aastore, 1) := dk_83 (dk_at dksX16_init_1 10 rfl rfl)
theorem dX16_init_35 : decode cX16_init 35 = .ok (.dup, 1) := dk_89 (dk_at dksX16_init_1 11 rfl rfl)
theorem dX16_init_36 : decode cX16_init 36 = .ok (.iconst 5, 1) := dk_8 (dk_at dksX16_init_1 12 rfl rfl)
theorem dX16_init_37 : decode cX16_init 37 = .ok (.ldc 21, 2) := dk_18 21 (dk_at dksX16_init_1 13 rfl rfl)
theorem dX16_init_39 : decode cX16_init 39 = .ok (.aastore, 1) := dk_83 (dk_at dksX16_init_1 15 rfl rfl)
theorem dX16_init_40 : decode cX16_init 40 = .ok (.dup, 1) := dk_89 (dk_at dksX16_init_1 16 rfl rfl)
theorem dX16_init_41 : decode cX16_init 41 = .ok (.bipush 6, 2) := dk_16 6 (dk_at dksX16_init_1 17 rfl rfl)
theorem dX16_init_43 : decode cX16_init 43 = .ok (.ldc 23, 2) := dk_18 23 (dk_at dksX16_init_1 19 rfl rfl)
theorem dX16_init_45 : decode cX16_init 45 = .ok (.aastore, 1) := dk_83 (dk_at dksX16_init_1 21 rfl rfl)
theorem dX16_init_46 : decode cX16_init 46 = .ok (.dup, 1) := dk_89 (dk_at dksX16_init_1 22 rfl rfl)
theorem dX16_init_47 : decode cX16_init 47 = .ok (.bipush 7, 2) := dk_16 7 (dk_at dksX16_init_2 0 rfl rfl)
theorem dX16_init_49 : decode cX16_init 49 = .ok (.ldc 25, 2) := dk_18 25 (dk_at dksX16_init_2 2 rfl rfl)
theorem dX16_init_51 : decode cX16_init 51 = .ok (.aastore, 1) := dk_83 (dk_at dksX16_init_2 4 rfl rfl)
theorem dX16_init_52 : decode cX16_init 52 = .ok (.dup, 1) := dk_89 (dk_at dksX16_init_2 5 rfl rfl)
theorem dX16_init_53 : decode cX16_init 53 = .ok (.bipush 8, 2) := dk_16 8 (dk_at dksX16_init_2 6 rfl rfl)
theorem dX16_init_55 : decode cX16_init 55 = .ok (.ldc 27, 2) := dk_18 27 (dk_at dksX16_init_2 8 rfl rfl)
theorem dX16_init_57 : decode cX16_init 57 = .ok (.aastore, 1) := dk_83 (dk_at dksX16_init_2 10 rfl rfl)
theorem dX16_init_58 : decode cX16_init 58 = .ok (.putfield 29, 3) := dk_181 0 29 (dk_at dksX16_init_2 11 rfl rfl)
theorem dX16_init_61 : decode cX16_init 61 = .ok (.aload_n 0, 1) := dk_42 (dk_at dksX16_init_2 14 rfl rfl)
theorem dX16_init_62 : decode cX16_init 62 = .ok (.aload_n 1, 1) := dk_43 (dk_at dksX16_init_2 15 rfl rfl)
theorem dX16_init_63 : decode cX16_init 63 = .ok (.putfield 35, 3) := dk_181 0 35 (dk_at dksX16_init_2 16 rfl rfl)
theorem dX16_init_66 : decode cX16_init 66 = .ok (.aload_n 0, 1) := dk_42 (dk_at dksX16_init_2 19 rfl rfl)
theorem dX16_init_67 : decode cX16_init 67 = .ok (.aload_n 2, 1) := dk_44 (dk_at dksX16_init_2 20 rfl rfl)
theorem dX16_init_68 : decode cX16_init 68 = .ok (.putfield 39, 3) := dk_181 0 39 (dk_at dksX16_init_2 21 rfl rfl)
theorem dX16_init_71 : decode cX16_init 71 = .ok (.return_, 1) := dk_177 (dk_at dksX16_init_3 0 rfl rfl)
abbrev cX16_reads : ByteArray := prog_23_method_2_code
def yX16_reads : MethodName := ⟨RX16, "reads", "()LPassagePapers$Row;"⟩
def dkwX16_reads_1 : List UInt8 := [182, 0, 54, 182, 0, 58, 167, 255, 237, 43, 176]
abbrev dktX16_reads_1 : List UInt8 := dkwX16_reads_1 ++ []
def dkwX16_reads_0 : List UInt8 := [187, 0, 43, 89, 4, 183, 0, 45, 76, 42, 180, 0, 35, 182, 0, 48, 2, 159, 0, 14, 43, 42]
abbrev dktX16_reads_0 : List UInt8 := dkwX16_reads_0 ++ dktX16_reads_1
theorem dksX16_reads_0 : cX16_reads.data.toList.drop 0 = dktX16_reads_0 := by decide +kernel
theorem dksX16_reads_1 : cX16_reads.data.toList.drop 22 = dktX16_reads_1 := dk_seg dksX16_reads_0 22 rfl rfl
theorem dX16_reads_0 : decode cX16_reads 0 = .ok (.new 43, 3) := dk_187 0 43 (dk_at dksX16_reads_0 0 rfl rfl)
theorem dX16_reads_3 : decode cX16_reads 3 = .ok (.dup, 1) := dk_89 (dk_at dksX16_reads_0 3 rfl rfl)
theorem dX16_reads_4 : decode cX16_reads 4 = .ok (.iconst 1, 1) := dk_4 (dk_at dksX16_reads_0 4 rfl rfl)
theorem dX16_reads_5 : decode cX16_reads 5 = .ok (.invokespecial 45, 3) := dk_183 0 45 (dk_at dksX16_reads_0 5 rfl rfl)
theorem dX16_reads_8 : decode cX16_reads 8 = .ok (.astore_n 1, 1) := dk_76 (dk_at dksX16_reads_0 8 rfl rfl)
theorem dX16_reads_9 : decode cX16_reads 9 = .ok (.aload_n 0, 1) := dk_42 (dk_at dksX16_reads_0 9 rfl rfl)
theorem dX16_reads_10 : decode cX16_reads 10 = .ok (.getfield 35, 3) := dk_180 0 35 (dk_at dksX16_reads_0 10 rfl rfl)
theorem dX16_reads_13 : decode cX16_reads 13 = .ok (.invokevirtual 48, 3) := dk_182 0 48 (dk_at dksX16_reads_0 13 rfl rfl)
theorem dX16_reads_16 : decode cX16_reads 16 = .ok (.iconst (-1), 1) := dk_2 (dk_at dksX16_reads_0 16 rfl rfl)
theorem dX16_reads_17 : decode cX16_reads 17 = .ok (.if_icmp .eq 14, 3) := dk_159 0 14 (dk_at dksX16_reads_0 17 rfl rfl)
theorem dX16_reads_20 : decode cX16_reads 20 = .ok (.aload_n 1, 1) := dk_43 (dk_at dksX16_reads_0 20 rfl rfl)
theorem dX16_reads_21 : decode cX16_reads 21 = .ok (.aload_n 0, 1) := dk_42 (dk_at dksX16_reads_0 21 rfl rfl)
theorem dX16_reads_22 : decode cX16_reads 22 = .ok (.invokevirtual 54, 3) := dk_182 0 54 (dk_at dksX16_reads_1 0 rfl rfl)
theorem dX16_reads_25 : decode cX16_reads 25 = .ok (.invokevirtual 58, 3) := dk_182 0 58 (dk_at dksX16_reads_1 3 rfl rfl)
theorem dX16_reads_28 : decode cX16_reads 28 = .ok (.goto (-19), 3) := dk_167 255 237 (dk_at dksX16_reads_1 6 rfl rfl)
theorem dX16_reads_31 : decode cX16_reads 31 = .ok (.aload_n 1, 1) := dk_43 (dk_at dksX16_reads_1 9 rfl rfl)
theorem dX16_reads_32 : decode cX16_reads 32 = .ok (.areturn, 1) := dk_176 (dk_at dksX16_reads_1 10 rfl rfl)
abbrev cX16_step : ByteArray := prog_23_method_4_code
def yX16_step : MethodName := ⟨RX16, "step", "()LPassagePapers$Step;"⟩
def dkwX16_step_8 : List UInt8 := [42, 182, 0, 91, 183, 0, 112, 77, 42, 180, 0, 35, 16, 59, 182, 0, 113, 44, 176]
abbrev dktX16_step_8 : List UInt8 := dkwX16_step_8 ++ []
def dkwX16_step_7 : List UInt8 := [187, 0, 104, 89, 183, 0, 106, 77, 167, 0, 24, 42, 182, 0, 107, 77, 167, 0, 16, 187, 0, 110, 89, 27]
abbrev dktX16_step_7 : List UInt8 := dkwX16_step_7 ++ dktX16_step_8
def dkwX16_step_6 : List UInt8 := [16, 24, 182, 0, 68, 183, 0, 100, 77, 167, 0, 46, 187, 0, 101, 89, 183, 0, 103, 77, 167, 0, 35]
abbrev dktX16_step_6 : List UInt8 := dkwX16_step_6 ++ dktX16_step_7
def dkwX16_step_5 : List UInt8 := [182, 0, 68, 183, 0, 97, 77, 167, 0, 71, 187, 0, 98, 89, 42, 182, 0, 91, 42, 180, 0, 35, 4]
abbrev dktX16_step_5 : List UInt8 := dkwX16_step_5 ++ dktX16_step_6
def dkwX16_step_4 : List UInt8 := [187, 0, 89, 89, 42, 182, 0, 91, 42, 180, 0, 35, 3, 42, 180, 0, 39, 180, 0, 94, 4, 100]
abbrev dktX16_step_4 : List UInt8 := dkwX16_step_4 ++ dktX16_step_5
def dkwX16_step_3 : List UInt8 := [170, 0, 0, 0, 0, 0, 0, 123, 0, 0, 0, 4, 0, 0, 0, 8, 0, 0, 0, 36, 0, 0, 0, 68, 0, 0, 0, 93, 0, 0, 0, 104, 0, 0, 0, 115]
abbrev dktX16_step_3 : List UInt8 := dkwX16_step_3 ++ dktX16_step_4
def dkwX16_step_2 : List UInt8 := [180, 0, 35, 182, 0, 86, 1, 77, 27]
abbrev dktX16_step_2 : List UInt8 := dkwX16_step_2 ++ dktX16_step_3
def dkwX16_step_1 : List UInt8 := [180, 0, 35, 182, 0, 78, 183, 0, 80, 191, 27, 16, 8, 160, 0, 10, 42, 180, 0, 35, 182, 0, 83, 42]
abbrev dktX16_step_1 : List UInt8 := dkwX16_step_1 ++ dktX16_step_2
def dkwX16_step_0 : List UInt8 := [42, 180, 0, 35, 42, 180, 0, 29, 182, 0, 72, 60, 27, 2, 160, 0, 19, 187, 0, 76, 89, 4, 42]
abbrev dktX16_step_0 : List UInt8 := dkwX16_step_0 ++ dktX16_step_1
theorem dksX16_step_0 : cX16_step.data.toList.drop 0 = dktX16_step_0 := by decide +kernel
theorem dksX16_step_1 : cX16_step.data.toList.drop 23 = dktX16_step_1 := dk_seg dksX16_step_0 23 rfl rfl
theorem dksX16_step_2 : cX16_step.data.toList.drop 47 = dktX16_step_2 := dk_seg dksX16_step_1 24 rfl rfl
theorem dksX16_step_3 : cX16_step.data.toList.drop 56 = dktX16_step_3 := dk_seg dksX16_step_2 9 rfl rfl
theorem dksX16_step_4 : cX16_step.data.toList.drop 92 = dktX16_step_4 := dk_seg dksX16_step_3 36 rfl rfl
theorem dksX16_step_5 : cX16_step.data.toList.drop 114 = dktX16_step_5 := dk_seg dksX16_step_4 22 rfl rfl
theorem dksX16_step_6 : cX16_step.data.toList.drop 137 = dktX16_step_6 := dk_seg dksX16_step_5 23 rfl rfl
theorem dksX16_step_7 : cX16_step.data.toList.drop 160 = dktX16_step_7 := dk_seg dksX16_step_6 23 rfl rfl
theorem dksX16_step_8 : cX16_step.data.toList.drop 184 = dktX16_step_8 := dk_seg dksX16_step_7 24 rfl rfl
theorem dX16_step_0 : decode cX16_step 0 = .ok (.aload_n 0, 1) := dk_42 (dk_at dksX16_step_0 0 rfl rfl)
theorem dX16_step_1 : decode cX16_step 1 = .ok (.getfield 35, 3) := dk_180 0 35 (dk_at dksX16_step_0 1 rfl rfl)
theorem dX16_step_4 : decode cX16_step 4 = .ok (.aload_n 0, 1) := dk_42 (dk_at dksX16_step_0 4 rfl rfl)
theorem dX16_step_5 : decode cX16_step 5 = .ok (.getfield 29, 3) := dk_180 0 29 (dk_at dksX16_step_0 5 rfl rfl)
theorem dX16_step_8 : decode cX16_step 8 = .ok (.invokevirtual 72, 3) := dk_182 0 72 (dk_at dksX16_step_0 8 rfl rfl)
theorem dX16_step_11 : decode cX16_step 11 = .ok (.istore_n 1, 1) := dk_60 (dk_at dksX16_step_0 11 rfl rfl)
theorem dX16_step_12 : decode cX16_step 12 = .ok (.iload_n 1, 1) := dk_27 (dk_at dksX16_step_0 12 rfl rfl)
theorem dX16_step_13 : decode cX16_step 13 = .ok (.iconst (-1), 1) := dk_2 (dk_at dksX16_step_0 13 rfl rfl)
theorem dX16_step_14 : decode cX16_step 14 = .ok (.if_icmp .ne 19, 3) := dk_160 0 19 (dk_at dksX16_step_0 14 rfl rfl)
theorem dX16_step_17 : decode cX16_step 17 = .ok (.new 76, 3) := dk_187 0 76 (dk_at dksX16_step_0 17 rfl rfl)
theorem dX16_step_20 : decode cX16_step 20 = .ok (.dup, 1) := dk_89 (dk_at dksX16_step_0 20 rfl rfl)
theorem dX16_step_21 : decode cX16_step 21 = .ok (.iconst 1, 1) := dk_4 (dk_at dksX16_step_0 21 rfl rfl)
theorem dX16_step_22 : decode cX16_step 22 = .ok (.aload_n 0, 1) := dk_42 (dk_at dksX16_step_0 22 rfl rfl)
theorem dX16_step_23 : decode cX16_step 23 = .ok (.getfield 35, 3) := dk_180 0 35 (dk_at dksX16_step_1 0 rfl rfl)
theorem dX16_step_26 : decode cX16_step 26 = .ok (.invokevirtual 78, 3) := dk_182 0 78 (dk_at dksX16_step_1 3 rfl rfl)
theorem dX16_step_29 : decode cX16_step 29 = .ok (.invokespecial 80, 3) := dk_183 0 80 (dk_at dksX16_step_1 6 rfl rfl)
theorem dX16_step_32 : decode cX16_step 32 = .ok (.athrow, 1) := dk_191 (dk_at dksX16_step_1 9 rfl rfl)
theorem dX16_step_33 : decode cX16_step 33 = .ok (.iload_n 1, 1) := dk_27 (dk_at dksX16_step_1 10 rfl rfl)
theorem dX16_step_34 : decode cX16_step 34 = .ok (.bipush 8, 2) := dk_16 8 (dk_at dksX16_step_1 11 rfl rfl)
theorem dX16_step_36 : decode cX16_step 36 = .ok (.if_icmp .ne 10, 3) := dk_160 0 10 (dk_at dksX16_step_1 13 rfl rfl)
theorem dX16_step_39 : decode cX16_step 39 = .ok (.aload_n 0, 1) := dk_42 (dk_at dksX16_step_1 16 rfl rfl)
theorem dX16_step_40 : decode cX16_step 40 = .ok (.getfield 35, 3) := dk_180 0 35 (dk_at dksX16_step_1 17 rfl rfl)
theorem dX16_step_43 : decode cX16_step 43 = .ok (.invokevirtual 83, 3) := dk_182 0 83 (dk_at dksX16_step_1 20 rfl rfl)
theorem dX16_step_46 : decode cX16_step 46 = .ok (.aload_n 0, 1) := dk_42 (dk_at dksX16_step_1 23 rfl rfl)
theorem dX16_step_47 : decode cX16_step 47 = .ok (.getfield 35, 3) := dk_180 0 35 (dk_at dksX16_step_2 0 rfl rfl)
theorem dX16_step_50 : decode cX16_step 50 = .ok (.invokevirtual 86, 3) := dk_182 0 86 (dk_at dksX16_step_2 3 rfl rfl)
theorem dX16_step_53 : decode cX16_step 53 = .ok (.aconst_null, 1) := dk_1 (dk_at dksX16_step_2 6 rfl rfl)
theorem dX16_step_54 : decode cX16_step 54 = .ok (.astore_n 2, 1) := dk_77 (dk_at dksX16_step_2 7 rfl rfl)
theorem dX16_step_55 : decode cX16_step 55 = .ok (.iload_n 1, 1) := dk_27 (dk_at dksX16_step_2 8 rfl rfl)
theorem dX16_step_56 : decode cX16_step 56 = .ok (.tableswitch 123 4 8 #[36, 68, 93, 104, 115], 36) := by decide +kernel
theorem dX16_step_92 : decode cX16_step 92 = .ok (.new 89, 3) := dk_187 0 89 (dk_at dksX16_step_4 0 rfl rfl)
theorem dX16_step_95 : decode cX16_step 95 = .ok (.dup, 1) := dk_89 (dk_at dksX16_step_4 3 rfl rfl)
theorem dX16_step_96 : decode cX16_step 96 = .ok (.aload_n 0, 1) := dk_42 (dk_at dksX16_step_4 4 rfl rfl)
theorem dX16_step_97 : decode cX16_step 97 = .ok (.invokevirtual 91, 3) := dk_182 0 91 (dk_at dksX16_step_4 5 rfl rfl)
theorem dX16_step_100 : decode cX16_step 100 = .ok (.aload_n 0, 1) := dk_42 (dk_at dksX16_step_4 8 rfl rfl)
theorem dX16_step_101 : decode cX16_step 101 = .ok (.getfield 35, 3) := dk_180 0 35 (dk_at dksX16_step_4 9 rfl rfl)
theorem dX16_step_104 : decode cX16_step 104 = .ok (.iconst 0, 1) := dk_3 (dk_at dksX16_step_4 12 rfl rfl)
theorem dX16_step_105 : decode cX16_step 105 = .ok (.aload_n 0, 1) := dk_42 (dk_at dksX16_step_4 13 rfl rfl)
theorem dX16_step_106 : decode cX16_step 106 = .ok (.getfield 39, 3) := dk_180 0 39 (dk_at dksX16_step_4 14 rfl rfl)
theorem dX16_step_109 : decode cX16_step 109 = .ok (.getfield 94, 3) := dk_180 0 94 (dk_at dksX16_step_4 17 rfl rfl)
theorem dX16_step_112 : decode cX16_step 112 = .ok (.iconst 1, 1) := dk_4 (dk_at dksX16_step_4 20 rfl rfl)
theorem dX16_step_113 : decode cX16_step 113 = .ok (.isub, 1) := dk_100 (dk_at dksX16_step_4 21 rfl rfl)
theorem dX16_step_114 : decode cX16_step 114 = .ok (.invokevirtual 68, 3) := dk_182 0 68 (dk_at dksX16_step_5 0 rfl rfl)
theorem dX16_step_117 : decode cX16_step 117 = .ok (.invokespecial 97, 3) := dk_183 0 97 (dk_at dksX16_step_5 3 rfl rfl)
theorem dX16_step_120 : decode cX16_step 120 = .ok (.astore_n 2, 1) := dk_77 (dk_at dksX16_step_5 6 rfl rfl)
theorem dX16_step_121 : decode cX16_step 121 = .ok (.goto 71, 3) := dk_167 0 71 (dk_at dksX16_step_5 7 rfl rfl)
theorem dX16_step_124 : decode cX16_step 124 = .ok (.new 98, 3) := dk_187 0 98 (dk_at dksX16_step_5 10 rfl rfl)
theorem dX16_step_127 : decode cX16_step 127 = .ok (.dup, 1) := dk_89 (dk_at dksX16_step_5 13 rfl rfl)
theorem dX16_step_128 : decode cX16_step 128 = .ok (.aload_n 0, 1) := dk_42 (dk_at dksX16_step_5 14 rfl rfl)
theorem dX16_step_129 : decode cX16_step 129 = .ok (.invokevirtual 91, 3) := dk_182 0 91 (dk_at dksX16_step_5 15 rfl rfl)
theorem dX16_step_132 : decode cX16_step 132 = .ok (.aload_n 0, 1) := dk_42 (dk_at dksX16_step_5 18 rfl rfl)
theorem dX16_step_133 : decode cX16_step 133 = .ok (.getfield 35, 3) := dk_180 0 35 (dk_at dksX16_step_5 19 rfl rfl)
theorem dX16_step_136 : decode cX16_step 136 = .ok (.iconst 1, 1) := dk_4 (dk_at dksX16_step_5 22 rfl rfl)
theorem dX16_step_137 : decode cX16_step 137 = .ok (.bipush 24, 2) := dk_16 24 (dk_at dksX16_step_6 0 rfl rfl)
theorem dX16_step_139 : decode cX16_step 139 = .ok (.invokevirtual 68, 3) := dk_182 0 68 (dk_at dksX16_step_6 2 rfl rfl)
theorem dX16_step_142 : decode cX16_step 142 = .ok (.invokespecial 100, 3) := dk_183 0 100 (dk_at dksX16_step_6 5 rfl rfl)
theorem dX16_step_145 : decode cX16_step 145 = .ok (.astore_n 2, 1) := dk_77 (dk_at dksX16_step_6 8 rfl rfl)
theorem dX16_step_146 : decode cX16_step 146 = .ok (.goto 46, 3) := dk_167 0 46 (dk_at dksX16_step_6 9 rfl rfl)
theorem dX16_step_149 : decode cX16_step 149 = .ok (.new 101, 3) := dk_187 0 101 (dk_at dksX16_step_6 12 rfl rfl)
theorem dX16_step_152 : decode cX16_step 152 = .ok (.dup, 1) := dk_89 (dk_at dksX16_step_6 15 rfl rfl)
theorem dX16_step_153 : decode cX16_step 153 = .ok (.invokespecial 103, 3) := dk_183 0 103 (dk_at dksX16_step_6 16 rfl rfl)
theorem dX16_step_156 : decode cX16_step 156 = .ok (.astore_n 2, 1) := dk_77 (dk_at dksX16_step_6 19 rfl rfl)
theorem dX16_step_157 : decode cX16_step 157 = .ok (.goto 35, 3) := dk_167 0 35 (dk_at dksX16_step_6 20 rfl rfl)
theorem dX16_step_160 : decode cX16_step 160 = .ok (.new 104, 3) := dk_187 0 104 (dk_at dksX16_step_7 0 rfl rfl)
theorem dX16_step_163 : decode cX16_step 163 = .ok (.dup, 1) := dk_89 (dk_at dksX16_step_7 3 rfl rfl)
theorem dX16_step_164 : decode cX16_step 164 = .ok (.invokespecial 106, 3) := dk_183 0 106 (dk_at dksX16_step_7 4 rfl rfl)
theorem dX16_step_167 : decode cX16_step 167 = .ok (.astore_n 2, 1) := dk_77 (dk_at dksX16_step_7 7 rfl rfl)
theorem dX16_step_168 : decode cX16_step 168 = .ok (.goto 24, 3) := dk_167 0 24 (dk_at dksX16_step_7 8 rfl rfl)
theorem dX16_step_171 : decode cX16_step 171 = .ok (.aload_n 0, 1) := dk_42 (dk_at dksX16_step_7 11 rfl rfl)
theorem dX16_step_172 : decode cX16_step 172 = .ok (.invokevirtual 107, 3) := dk_182 0 107 (dk_at dksX16_step_7 12 rfl rfl)
theorem dX16_step_175 : decode cX16_step 175 = .ok (.astore_n 2, 1) := dk_77 (dk_at dksX16_step_7 15 rfl rfl)
theorem dX16_step_176 : decode cX16_step 176 = .ok (.goto 16, 3) := dk_167 0 16 (dk_at dksX16_step_7 16 rfl rfl)
theorem dX16_step_179 : decode cX16_step 179 = .ok (.new 110, 3) := dk_187 0 110 (dk_at dksX16_step_7 19 rfl rfl)
theorem dX16_step_182 : decode cX16_step 182 = .ok (.dup, 1) := dk_89 (dk_at dksX16_step_7 22 rfl rfl)
theorem dX16_step_183 : decode cX16_step 183 = .ok (.iload_n 1, 1) := dk_27 (dk_at dksX16_step_7 23 rfl rfl)
theorem dX16_step_184 : decode cX16_step 184 = .ok (.aload_n 0, 1) := dk_42 (dk_at dksX16_step_8 0 rfl rfl)
theorem dX16_step_185 : decode cX16_step 185 = .ok (.invokevirtual 91, 3) := dk_182 0 91 (dk_at dksX16_step_8 1 rfl rfl)
theorem dX16_step_188 : decode cX16_step 188 = .ok (.invokespecial 112, 3) := dk_183 0 112 (dk_at dksX16_step_8 4 rfl rfl)
theorem dX16_step_191 : decode cX16_step 191 = .ok (.astore_n 2, 1) := dk_77 (dk_at dksX16_step_8 7 rfl rfl)
theorem dX16_step_192 : decode cX16_step 192 = .ok (.aload_n 0, 1) := dk_42 (dk_at dksX16_step_8 8 rfl rfl)
theorem dX16_step_193 : decode cX16_step 193 = .ok (.getfield 35, 3) := dk_180 0 35 (dk_at dksX16_step_8 9 rfl rfl)
theorem dX16_step_196 : decode cX16_step 196 = .ok (.bipush 59, 2) := dk_16 59 (dk_at dksX16_step_8 12 rfl rfl)
theorem dX16_step_198 : decode cX16_step 198 = .ok (.invokevirtual 113, 3) := dk_182 0 113 (dk_at dksX16_step_8 14 rfl rfl)
theorem dX16_step_201 : decode cX16_step 201 = .ok (.aload_n 2, 1) := dk_44 (dk_at dksX16_step_8 17 rfl rfl)
theorem dX16_step_202 : decode cX16_step 202 = .ok (.areturn, 1) := dk_176 (dk_at dksX16_step_8 18 rfl rfl)
abbrev cX16_signer : ByteArray := prog_23_method_3_code
def yX16_signer : MethodName := ⟨RX16, "signer", "()I"⟩
def dkwX16_signer_0 : List UInt8 := [42, 180, 0, 35, 3, 42, 180, 0, 39, 180, 0, 62, 4, 100, 182, 0, 68, 172]
abbrev dktX16_signer_0 : List UInt8 := dkwX16_signer_0 ++ []
theorem dksX16_signer_0 : cX16_signer.data.toList.drop 0 = dktX16_signer_0 := by decide +kernel
theorem dX16_signer_0 : decode cX16_signer 0 = .ok (.aload_n 0, 1) := dk_42 (dk_at dksX16_signer_0 0 rfl rfl)
theorem dX16_signer_1 : decode cX16_signer 1 = .ok (.getfield 35, 3) := dk_180 0 35 (dk_at dksX16_signer_0 1 rfl rfl)
theorem dX16_signer_4 : decode cX16_signer 4 = .ok (.iconst 0, 1) := dk_3 (dk_at dksX16_signer_0 4 rfl rfl)
theorem dX16_signer_5 : decode cX16_signer 5 = .ok (.aload_n 0, 1) := dk_42 (dk_at dksX16_signer_0 5 rfl rfl)
theorem dX16_signer_6 : decode cX16_signer 6 = .ok (.getfield 39, 3) := dk_180 0 39 (dk_at dksX16_signer_0 6 rfl rfl)
theorem dX16_signer_9 : decode cX16_signer 9 = .ok (.getfield 62, 3) := dk_180 0 62 (dk_at dksX16_signer_0 9 rfl rfl)
theorem dX16_signer_12 : decode cX16_signer 12 = .ok (.iconst 1, 1) := dk_4 (dk_at dksX16_signer_0 12 rfl rfl)
theorem dX16_signer_13 : decode cX16_signer 13 = .ok (.isub, 1) := dk_100 (dk_at dksX16_signer_0 13 rfl rfl)
theorem dX16_signer_14 : decode cX16_signer 14 = .ok (.invokevirtual 68, 3) := dk_182 0 68 (dk_at dksX16_signer_0 14 rfl rfl)
theorem dX16_signer_17 : decode cX16_signer 17 = .ok (.ireturn, 1) := dk_172 (dk_at dksX16_signer_0 17 rfl rfl)
abbrev cX16_again : ByteArray := prog_23_method_5_code
def yX16_again : MethodName := ⟨RX16, "again", "()LPassagePapers$Row;"⟩
def dkwX16_again_2 : List UInt8 := [167, 255, 236, 42, 180, 0, 35, 182, 0, 121, 43, 176]
abbrev dktX16_again_2 : List UInt8 := dkwX16_again_2 ++ []
def dkwX16_again_1 : List UInt8 := [182, 0, 113, 42, 180, 0, 35, 16, 93, 182, 0, 117, 154, 0, 14, 43, 42, 182, 0, 54, 182, 0, 58]
abbrev dktX16_again_1 : List UInt8 := dkwX16_again_1 ++ dktX16_again_2
def dkwX16_again_0 : List UInt8 := [187, 0, 43, 89, 42, 180, 0, 35, 3, 16, 60, 182, 0, 68, 183, 0, 45, 76, 42, 180, 0, 35, 16, 91]
abbrev dktX16_again_0 : List UInt8 := dkwX16_again_0 ++ dktX16_again_1
theorem dksX16_again_0 : cX16_again.data.toList.drop 0 = dktX16_again_0 := by decide +kernel
theorem dksX16_again_1 : cX16_again.data.toList.drop 24 = dktX16_again_1 := dk_seg dksX16_again_0 24 rfl rfl
theorem dksX16_again_2 : cX16_again.data.toList.drop 47 = dktX16_again_2 := dk_seg dksX16_again_1 23 rfl rfl
theorem dX16_again_0 : decode cX16_again 0 = .ok (.new 43, 3) := dk_187 0 43 (dk_at dksX16_again_0 0 rfl rfl)
theorem dX16_again_3 : decode cX16_again 3 = .ok (.dup, 1) := dk_89 (dk_at dksX16_again_0 3 rfl rfl)
theorem dX16_again_4 : decode cX16_again 4 = .ok (.aload_n 0, 1) := dk_42 (dk_at dksX16_again_0 4 rfl rfl)
theorem dX16_again_5 : decode cX16_again 5 = .ok (.getfield 35, 3) := dk_180 0 35 (dk_at dksX16_again_0 5 rfl rfl)
theorem dX16_again_8 : decode cX16_again 8 = .ok (.iconst 0, 1) := dk_3 (dk_at dksX16_again_0 8 rfl rfl)
theorem dX16_again_9 : decode cX16_again 9 = .ok (.bipush 60, 2) := dk_16 60 (dk_at dksX16_again_0 9 rfl rfl)
theorem dX16_again_11 : decode cX16_again 11 = .ok (.invokevirtual 68, 3) := dk_182 0 68 (dk_at dksX16_again_0 11 rfl rfl)
theorem dX16_again_14 : decode cX16_again 14 = .ok (.invokespecial 45, 3) := dk_183 0 45 (dk_at dksX16_again_0 14 rfl rfl)
theorem dX16_again_17 : decode cX16_again 17 = .ok (.astore_n 1, 1) := dk_76 (dk_at dksX16_again_0 17 rfl rfl)
theorem dX16_again_18 : decode cX16_again 18 = .ok (.aload_n 0, 1) := dk_42 (dk_at dksX16_again_0 18 rfl rfl)
theorem dX16_again_19 : decode cX16_again 19 = .ok (.getfield 35, 3) := dk_180 0 35 (dk_at dksX16_again_0 19 rfl rfl)
theorem dX16_again_22 : decode cX16_again 22 = .ok (.bipush 91, 2) := dk_16 91 (dk_at dksX16_again_0 22 rfl rfl)
theorem dX16_again_24 : decode cX16_again 24 = .ok (.invokevirtual 113, 3) := dk_182 0 113 (dk_at dksX16_again_1 0 rfl rfl)
theorem dX16_again_27 : decode cX16_again 27 = .ok (.aload_n 0, 1) := dk_42 (dk_at dksX16_again_1 3 rfl rfl)
theorem dX16_again_28 : decode cX16_again 28 = .ok (.getfield 35, 3) := dk_180 0 35 (dk_at dksX16_again_1 4 rfl rfl)
theorem dX16_again_31 : decode cX16_again 31 = .ok (.bipush 93, 2) := dk_16 93 (dk_at dksX16_again_1 7 rfl rfl)
theorem dX16_again_33 : decode cX16_again 33 = .ok (.invokevirtual 117, 3) := dk_182 0 117 (dk_at dksX16_again_1 9 rfl rfl)
theorem dX16_again_36 : decode cX16_again 36 = .ok (.ifCond .ne 14, 3) := dk_154 0 14 (dk_at dksX16_again_1 12 rfl rfl)
theorem dX16_again_39 : decode cX16_again 39 = .ok (.aload_n 1, 1) := dk_43 (dk_at dksX16_again_1 15 rfl rfl)
theorem dX16_again_40 : decode cX16_again 40 = .ok (.aload_n 0, 1) := dk_42 (dk_at dksX16_again_1 16 rfl rfl)
theorem dX16_again_41 : decode cX16_again 41 = .ok (.invokevirtual 54, 3) := dk_182 0 54 (dk_at dksX16_again_1 17 rfl rfl)
theorem dX16_again_44 : decode cX16_again 44 = .ok (.invokevirtual 58, 3) := dk_182 0 58 (dk_at dksX16_again_1 20 rfl rfl)
theorem dX16_again_47 : decode cX16_again 47 = .ok (.goto (-20), 3) := dk_167 255 236 (dk_at dksX16_again_2 0 rfl rfl)
theorem dX16_again_50 : decode cX16_again 50 = .ok (.aload_n 0, 1) := dk_42 (dk_at dksX16_again_2 3 rfl rfl)
theorem dX16_again_51 : decode cX16_again 51 = .ok (.getfield 35, 3) := dk_180 0 35 (dk_at dksX16_again_2 4 rfl rfl)
theorem dX16_again_54 : decode cX16_again 54 = .ok (.invokevirtual 121, 3) := dk_182 0 121 (dk_at dksX16_again_2 7 rfl rfl)
theorem dX16_again_57 : decode cX16_again 57 = .ok (.aload_n 1, 1) := dk_43 (dk_at dksX16_again_2 10 rfl rfl)
theorem dX16_again_58 : decode cX16_again 58 = .ok (.areturn, 1) := dk_176 (dk_at dksX16_again_2 11 rfl rfl)
theorem q114 : (Jvm.Cond.initialized "PassagePapers$WorkReader") ∈ lw_all := lw_g (lw_at lw_m1 25 rfl) rfl
theorem q246 : (Jvm.Cond.fieldLinkNest "PassagePapers$WorkReader" (62 : Nat) "PassagePapers$Register" "signers" "I" "PassagePapers") ∈ lw_tbl := lw_at lw_m1 157 rfl
theorem q252 : (Jvm.Cond.fieldLinkNest "PassagePapers$WorkReader" (94 : Nat) "PassagePapers$Register" "takers" "I" "PassagePapers") ∈ lw_tbl := lw_at lw_m1 163 rfl
theorem q954 : (Jvm.Cond.instantiable "PassagePapers$WorkReader" (3 : Nat)) ∈ lw_all := lw_g (lw_at lw_m4 145 rfl) rfl
theorem q956 : (Jvm.Cond.instanceMethod ({ cls := "PassagePapers$WorkReader", name := "<init>", desc := "(LPassagePapers$Reader;LPassagePapers$Register;)V" } : Jvm.MethodName)) ∈ lw_all := lw_g (lw_at lw_m4 147 rfl) rfl
theorem q957 : (Jvm.Cond.code ({ cls := "PassagePapers$WorkReader", name := "<init>", desc := "(LPassagePapers$Reader;LPassagePapers$Register;)V" } : Jvm.MethodName) prog_23_method_1_code (3 : Nat) (Option.none : Option Jvm.ClassFile.FieldType)) ∈ lw_all := lw_g (lw_at lw_m4 148 rfl) rfl
theorem q958 : (Jvm.Cond.methodLink "PassagePapers$WorkReader" (3 : Nat) ({ cls := "java/lang/Object", name := "<init>", desc := "()V" } : Jvm.MethodName)) ∈ lw_all := lw_g (lw_at lw_m4 149 rfl) rfl
theorem q959 : (Jvm.Cond.classLink "PassagePapers$WorkReader" (9 : Nat) "java/lang/String") ∈ lw_all := lw_g (lw_at lw_m4 150 rfl) rfl
theorem q960 : (Jvm.Cond.stringRef "PassagePapers$WorkReader" (11 : Nat) "strike") ∈ lw_tbl := lw_at lw_m4 151 rfl
theorem q961 : (Jvm.Cond.stringRef "PassagePapers$WorkReader" (13 : Nat) "lose") ∈ lw_tbl := lw_at lw_m4 152 rfl
theorem q962 : (Jvm.Cond.stringRef "PassagePapers$WorkReader" (15 : Nat) "copy") ∈ lw_tbl := lw_at lw_m4 153 rfl
theorem q963 : (Jvm.Cond.stringRef "PassagePapers$WorkReader" (17 : Nat) "pay") ∈ lw_tbl := lw_at lw_m4 154 rfl
theorem q964 : (Jvm.Cond.stringRef "PassagePapers$WorkReader" (19 : Nat) "place") ∈ lw_tbl := lw_at lw_m4 155 rfl
theorem q965 : (Jvm.Cond.stringRef "PassagePapers$WorkReader" (21 : Nat) "add") ∈ lw_tbl := lw_at lw_m4 156 rfl
theorem q966 : (Jvm.Cond.stringRef "PassagePapers$WorkReader" (23 : Nat) "land") ∈ lw_tbl := lw_at lw_m4 157 rfl
theorem q967 : (Jvm.Cond.stringRef "PassagePapers$WorkReader" (25 : Nat) "week") ∈ lw_tbl := lw_at lw_m4 158 rfl
theorem q968 : (Jvm.Cond.stringRef "PassagePapers$WorkReader" (27 : Nat) "again") ∈ lw_tbl := lw_at lw_m4 159 rfl
theorem q969 : (Jvm.Cond.fieldLink "PassagePapers$WorkReader" (29 : Nat) "PassagePapers$WorkReader" "words" "[Ljava/lang/String;") ∈ lw_all := lw_g (lw_at lw_m4 160 rfl) rfl
theorem q970 : (Jvm.Cond.fieldLink "PassagePapers$WorkReader" (35 : Nat) "PassagePapers$WorkReader" "in" "LPassagePapers$Reader;") ∈ lw_all := lw_g (lw_at lw_m4 161 rfl) rfl
theorem q971 : (Jvm.Cond.fieldLink "PassagePapers$WorkReader" (39 : Nat) "PassagePapers$WorkReader" "register" "LPassagePapers$Register;") ∈ lw_all := lw_g (lw_at lw_m4 162 rfl) rfl
theorem q972 : (Jvm.Cond.laysFinal "PassagePapers$WorkReader" "PassagePapers$WorkReader" "words" "[Ljava/lang/String;") ∈ lw_all := lw_g (lw_at lw_m4 163 rfl) rfl
theorem q973 : (Jvm.Cond.soleField "PassagePapers$WorkReader" "words") ∈ lw_all := lw_g (lw_at lw_m4 164 rfl) rfl
theorem q974 : (Jvm.Cond.laysFinal "PassagePapers$WorkReader" "PassagePapers$WorkReader" "in" "LPassagePapers$Reader;") ∈ lw_all := lw_g (lw_at lw_m4 165 rfl) rfl
theorem q975 : (Jvm.Cond.soleField "PassagePapers$WorkReader" "in") ∈ lw_all := lw_g (lw_at lw_m4 166 rfl) rfl
theorem q976 : (Jvm.Cond.laysFinal "PassagePapers$WorkReader" "PassagePapers$WorkReader" "register" "LPassagePapers$Register;") ∈ lw_all := lw_g (lw_at lw_m4 167 rfl) rfl
theorem q977 : (Jvm.Cond.soleField "PassagePapers$WorkReader" "register") ∈ lw_all := lw_g (lw_at lw_m4 168 rfl) rfl
theorem q978 : (Jvm.Cond.superclass "PassagePapers$WorkReader" "java/lang/Object") ∈ lw_all := lw_g (lw_at lw_m4 169 rfl) rfl
theorem q980 : (Jvm.Cond.instanceMethod ({ cls := "PassagePapers$WorkReader", name := "reads", desc := "()LPassagePapers$Row;" } : Jvm.MethodName)) ∈ lw_all := lw_g (lw_at lw_m4 171 rfl) rfl
theorem q981 : (Jvm.Cond.selects "PassagePapers$WorkReader" ({ cls := "PassagePapers$WorkReader", name := "reads", desc := "()LPassagePapers$Row;" } : Jvm.MethodName) ({ cls := "PassagePapers$WorkReader", name := "reads", desc := "()LPassagePapers$Row;" } : Jvm.MethodName)) ∈ lw_all := lw_g (lw_at lw_m4 172 rfl) rfl
theorem q982 : (Jvm.Cond.code ({ cls := "PassagePapers$WorkReader", name := "reads", desc := "()LPassagePapers$Row;" } : Jvm.MethodName) prog_23_method_2_code (2 : Nat) (Option.some (Jvm.ClassFile.FieldType.object "PassagePapers$Row"))) ∈ lw_all := lw_g (lw_at lw_m4 173 rfl) rfl
theorem q983 : (Jvm.Cond.classLink "PassagePapers$WorkReader" (43 : Nat) "PassagePapers$Row") ∈ lw_all := lw_g (lw_at lw_m4 174 rfl) rfl
theorem q985 : (Jvm.Cond.methodLink "PassagePapers$WorkReader" (45 : Nat) ({ cls := "PassagePapers$Row", name := "<init>", desc := "(I)V" } : Jvm.MethodName)) ∈ lw_all := lw_g (lw_at lw_m4 176 rfl) rfl
theorem q1004 : (Jvm.Cond.methodLink "PassagePapers$WorkReader" (48 : Nat) ({ cls := "PassagePapers$Reader", name := "now", desc := "()I" } : Jvm.MethodName)) ∈ lw_all := lw_g (lw_at lw_m4 195 rfl) rfl
theorem q1005 : (Jvm.Cond.methodLink "PassagePapers$WorkReader" (54 : Nat) ({ cls := "PassagePapers$WorkReader", name := "step", desc := "()LPassagePapers$Step;" } : Jvm.MethodName)) ∈ lw_all := lw_g (lw_at lw_m4 196 rfl) rfl
theorem q1006 : (Jvm.Cond.privateMethod ({ cls := "PassagePapers$WorkReader", name := "step", desc := "()LPassagePapers$Step;" } : Jvm.MethodName)) ∈ lw_tbl := lw_at lw_m4 197 rfl
theorem q1007 : (Jvm.Cond.instanceMethod ({ cls := "PassagePapers$WorkReader", name := "step", desc := "()LPassagePapers$Step;" } : Jvm.MethodName)) ∈ lw_all := lw_g (lw_at lw_m4 198 rfl) rfl
theorem q1008 : (Jvm.Cond.code ({ cls := "PassagePapers$WorkReader", name := "step", desc := "()LPassagePapers$Step;" } : Jvm.MethodName) prog_23_method_4_code (3 : Nat) (Option.some (Jvm.ClassFile.FieldType.object "PassagePapers$Step"))) ∈ lw_all := lw_g (lw_at lw_m4 199 rfl) rfl
theorem q1009 : (Jvm.Cond.methodLink "PassagePapers$WorkReader" (72 : Nat) ({ cls := "PassagePapers$Reader", name := "which", desc := "([Ljava/lang/String;)I" } : Jvm.MethodName)) ∈ lw_all := lw_g (lw_at lw_m4 200 rfl) rfl
theorem q1010 : (Jvm.Cond.classLink "PassagePapers$WorkReader" (76 : Nat) "PassagePapers$Wrong") ∈ lw_all := lw_g (lw_at lw_m4 201 rfl) rfl
theorem q1011 : (Jvm.Cond.methodLink "PassagePapers$WorkReader" (78 : Nat) ({ cls := "PassagePapers$Reader", name := "place", desc := "()I" } : Jvm.MethodName)) ∈ lw_all := lw_g (lw_at lw_m4 202 rfl) rfl
theorem q1012 : (Jvm.Cond.methodLink "PassagePapers$WorkReader" (80 : Nat) ({ cls := "PassagePapers$Wrong", name := "<init>", desc := "(II)V" } : Jvm.MethodName)) ∈ lw_all := lw_g (lw_at lw_m4 203 rfl) rfl
theorem q1013 : (Jvm.Cond.methodLink "PassagePapers$WorkReader" (83 : Nat) ({ cls := "PassagePapers$Reader", name := "opens", desc := "()V" } : Jvm.MethodName)) ∈ lw_all := lw_g (lw_at lw_m4 204 rfl) rfl
theorem q1014 : (Jvm.Cond.methodLink "PassagePapers$WorkReader" (86 : Nat) ({ cls := "PassagePapers$Reader", name := "skipsWord", desc := "()V" } : Jvm.MethodName)) ∈ lw_all := lw_g (lw_at lw_m4 205 rfl) rfl
theorem q1015 : (Jvm.Cond.classLink "PassagePapers$WorkReader" (89 : Nat) "PassagePapers$Place") ∈ lw_all := lw_g (lw_at lw_m4 206 rfl) rfl
theorem q1017 : (Jvm.Cond.methodLink "PassagePapers$WorkReader" (91 : Nat) ({ cls := "PassagePapers$WorkReader", name := "signer", desc := "()I" } : Jvm.MethodName)) ∈ lw_all := lw_g (lw_at lw_m4 208 rfl) rfl
theorem q1018 : (Jvm.Cond.privateMethod ({ cls := "PassagePapers$WorkReader", name := "signer", desc := "()I" } : Jvm.MethodName)) ∈ lw_tbl := lw_at lw_m4 209 rfl
theorem q1019 : (Jvm.Cond.instanceMethod ({ cls := "PassagePapers$WorkReader", name := "signer", desc := "()I" } : Jvm.MethodName)) ∈ lw_all := lw_g (lw_at lw_m4 210 rfl) rfl
theorem q1020 : (Jvm.Cond.code ({ cls := "PassagePapers$WorkReader", name := "signer", desc := "()I" } : Jvm.MethodName) prog_23_method_3_code (1 : Nat) (Option.some Jvm.ClassFile.FieldType.int)) ∈ lw_all := lw_g (lw_at lw_m4 211 rfl) rfl
theorem q1021 : (Jvm.Cond.methodLink "PassagePapers$WorkReader" (68 : Nat) ({ cls := "PassagePapers$Reader", name := "number", desc := "(II)I" } : Jvm.MethodName)) ∈ lw_all := lw_g (lw_at lw_m4 212 rfl) rfl
theorem q1022 : (Jvm.Cond.methodLink "PassagePapers$WorkReader" (97 : Nat) ({ cls := "PassagePapers$Place", name := "<init>", desc := "(II)V" } : Jvm.MethodName)) ∈ lw_all := lw_g (lw_at lw_m4 213 rfl) rfl
theorem q1033 : (Jvm.Cond.classLink "PassagePapers$WorkReader" (98 : Nat) "PassagePapers$Add") ∈ lw_all := lw_g (lw_at lw_m4 224 rfl) rfl
theorem q1035 : (Jvm.Cond.methodLink "PassagePapers$WorkReader" (100 : Nat) ({ cls := "PassagePapers$Add", name := "<init>", desc := "(II)V" } : Jvm.MethodName)) ∈ lw_all := lw_g (lw_at lw_m4 226 rfl) rfl
theorem q1046 : (Jvm.Cond.classLink "PassagePapers$WorkReader" (101 : Nat) "PassagePapers$Land") ∈ lw_all := lw_g (lw_at lw_m4 237 rfl) rfl
theorem q1048 : (Jvm.Cond.methodLinkNest "PassagePapers$WorkReader" (103 : Nat) ({ cls := "PassagePapers$Land", name := "<init>", desc := "()V" } : Jvm.MethodName) "PassagePapers") ∈ lw_tbl := lw_at lw_m4 239 rfl
theorem q1053 : (Jvm.Cond.classLink "PassagePapers$WorkReader" (104 : Nat) "PassagePapers$Week") ∈ lw_all := lw_g (lw_at lw_m5 4 rfl) rfl
theorem q1055 : (Jvm.Cond.methodLinkNest "PassagePapers$WorkReader" (106 : Nat) ({ cls := "PassagePapers$Week", name := "<init>", desc := "()V" } : Jvm.MethodName) "PassagePapers") ∈ lw_tbl := lw_at lw_m5 6 rfl
theorem q1060 : (Jvm.Cond.methodLink "PassagePapers$WorkReader" (107 : Nat) ({ cls := "PassagePapers$WorkReader", name := "again", desc := "()LPassagePapers$Row;" } : Jvm.MethodName)) ∈ lw_all := lw_g (lw_at lw_m5 11 rfl) rfl
theorem q1061 : (Jvm.Cond.privateMethod ({ cls := "PassagePapers$WorkReader", name := "again", desc := "()LPassagePapers$Row;" } : Jvm.MethodName)) ∈ lw_tbl := lw_at lw_m5 12 rfl
theorem q1062 : (Jvm.Cond.instanceMethod ({ cls := "PassagePapers$WorkReader", name := "again", desc := "()LPassagePapers$Row;" } : Jvm.MethodName)) ∈ lw_all := lw_g (lw_at lw_m5 13 rfl) rfl
theorem q1063 : (Jvm.Cond.code ({ cls := "PassagePapers$WorkReader", name := "again", desc := "()LPassagePapers$Row;" } : Jvm.MethodName) prog_23_method_5_code (2 : Nat) (Option.some (Jvm.ClassFile.FieldType.object "PassagePapers$Row"))) ∈ lw_all := lw_g (lw_at lw_m5 14 rfl) rfl
theorem q1064 : (Jvm.Cond.methodLink "PassagePapers$WorkReader" (113 : Nat) ({ cls := "PassagePapers$Reader", name := "sign", desc := "(C)V" } : Jvm.MethodName)) ∈ lw_all := lw_g (lw_at lw_m5 15 rfl) rfl
theorem q1065 : (Jvm.Cond.methodLink "PassagePapers$WorkReader" (117 : Nat) ({ cls := "PassagePapers$Reader", name := "takesSign", desc := "(C)Z" } : Jvm.MethodName)) ∈ lw_all := lw_g (lw_at lw_m5 16 rfl) rfl
theorem q1066 : (Jvm.Cond.methodLink "PassagePapers$WorkReader" (58 : Nat) ({ cls := "PassagePapers$Row", name := "adds", desc := "(LPassagePapers$Step;)V" } : Jvm.MethodName)) ∈ lw_all := lw_g (lw_at lw_m5 17 rfl) rfl
theorem q1070 : (Jvm.Cond.methodLink "PassagePapers$WorkReader" (121 : Nat) ({ cls := "PassagePapers$Reader", name := "closes", desc := "()V" } : Jvm.MethodName)) ∈ lw_all := lw_g (lw_at lw_m5 21 rfl) rfl
theorem q1071 : (Jvm.Cond.classLink "PassagePapers$WorkReader" (110 : Nat) "PassagePapers$Alone") ∈ lw_all := lw_g (lw_at lw_m5 22 rfl) rfl
theorem q1073 : (Jvm.Cond.methodLink "PassagePapers$WorkReader" (112 : Nat) ({ cls := "PassagePapers$Alone", name := "<init>", desc := "(II)V" } : Jvm.MethodName)) ∈ lw_all := lw_g (lw_at lw_m5 24 rfl) rfl
theorem q2210 : (Jvm.Cond.castable "PassagePapers$WorkReader" "java/lang/Object") ∈ lw_tbl := lw_at lw_m9 201 rfl
theorem in_X16 : ∀ w ∈ wsX160, w ∈ lw_all := lw_in wsX160 [972, 974, 976] (by decide +kernel) (by decide +kernel)
/-! PassagePapers$Step -/
set_option maxRecDepth 100000
def RX17 : String := "PassagePapers$Step"
abbrev cX17_init : ByteArray := prog_19_method_1_code
def yX17_init : MethodName := ⟨RX17, "<init>", "()V"⟩
theorem dX17_init_0 : decode cX17_init 0 = .ok (.aload_n 0, 1) := by decide +kernel
theorem dX17_init_1 : decode cX17_init 1 = .ok (.invokespecial 1, 3) := by decide +kernel
theorem dX17_init_4 : decode cX17_init 4 = .ok (.return_, 1) := by decide +kernel
theorem q115 : (Jvm.Cond.initialized "PassagePapers$Step") ∈ lw_all := lw_g (lw_at lw_m1 26 rfl) rfl
theorem q989 : (Jvm.Cond.instanceMethod ({ cls := "PassagePapers$Step", name := "<init>", desc := "()V" } : Jvm.MethodName)) ∈ lw_all := lw_g (lw_at lw_m4 180 rfl) rfl
theorem q990 : (Jvm.Cond.code ({ cls := "PassagePapers$Step", name := "<init>", desc := "()V" } : Jvm.MethodName) prog_19_method_1_code (1 : Nat) (Option.none : Option Jvm.ClassFile.FieldType)) ∈ lw_all := lw_g (lw_at lw_m4 181 rfl) rfl
theorem q991 : (Jvm.Cond.methodLink "PassagePapers$Step" (1 : Nat) ({ cls := "java/lang/Object", name := "<init>", desc := "()V" } : Jvm.MethodName)) ∈ lw_all := lw_g (lw_at lw_m4 182 rfl) rfl
theorem q1124 : (Jvm.Cond.declares ({ cls := "PassagePapers$Step", name := "acts", desc := "(LPassagePapers$Run;)V" } : Jvm.MethodName)) ∈ lw_tbl := lw_at lw_m5 75 rfl
theorem q1125 : (Jvm.Cond.sameMethod "PassagePapers$Step" "PassagePapers$Step" "acts" "(LPassagePapers$Run;)V") ∈ lw_all := lw_g (lw_at lw_m5 76 rfl) rfl
/-! PassagePapers$Row -/
set_option maxRecDepth 100000
def RX18 : String := "PassagePapers$Row"
def TX18 : u_T := fun k => match k with
  | 0 => ("PassagePapers$Row", "times", "I", true)
  | 1 => ("PassagePapers$Row", "steps", "[LPassagePapers$Step;", false)
  | _ => ("PassagePapers$Row", "many", "I", false)
def tyX18 : Nat → FieldType := fun k => match k with
  | 0 => .int
  | 1 => .array (.object "PassagePapers$Step")
  | _ => .int
abbrev wsX180 : List Cond := u_ws RX18 TX18 3
theorem nmX18 : ∀ a, a < 3 → ∀ b, b < 3 → a ≠ b → (TX18 a).2.1 ≠ (TX18 b).2.1 := by decide +kernel
theorem tyX18_ok : ∀ k, k < 3 → parseFieldDescriptor (TX18 k).2.2.1 = some (tyX18 k) := by decide +kernel
abbrev cX18_init : ByteArray := prog_15_method_1_code
def yX18_init : MethodName := ⟨RX18, "<init>", "(I)V"⟩
def dkwX18_init_0 : List UInt8 := [42, 183, 0, 1, 42, 7, 189, 0, 2, 181, 0, 7, 42, 27, 181, 0, 13, 177]
abbrev dktX18_init_0 : List UInt8 := dkwX18_init_0 ++ []
theorem dksX18_init_0 : cX18_init.data.toList.drop 0 = dktX18_init_0 := by decide +kernel
theorem dX18_init_0 : decode cX18_init 0 = .ok (.aload_n 0, 1) := dk_42 (dk_at dksX18_init_0 0 rfl rfl)
theorem dX18_init_1 : decode cX18_init 1 = .ok (.invokespecial 1, 3) := dk_183 0 1 (dk_at dksX18_init_0 1 rfl rfl)
theorem dX18_init_4 : decode cX18_init 4 = .ok (.aload_n 0, 1) := dk_42 (dk_at dksX18_init_0 4 rfl rfl)
theorem dX18_init_5 : decode cX18_init 5 = .ok (.iconst 4, 1) := dk_7 (dk_at dksX18_init_0 5 rfl rfl)
theorem dX18_init_6 : decode cX18_init 6 = .ok (.anewarray 2, 3) := dk_189 0 2 (dk_at dksX18_init_0 6 rfl rfl)
theorem dX18_init_9 : decode cX18_init 9 = .ok (.putfield 7, 3) := dk_181 0 7 (dk_at dksX18_init_0 9 rfl rfl)
theorem dX18_init_12 : decode cX18_init 12 = .ok (.aload_n 0, 1) := dk_42 (dk_at dksX18_init_0 12 rfl rfl)
theorem dX18_init_13 : decode cX18_init 13 = .ok (.iload_n 1, 1) := dk_27 (dk_at dksX18_init_0 13 rfl rfl)
theorem dX18_init_14 : decode cX18_init 14 = .ok (.putfield 13, 3) := dk_181 0 13 (dk_at dksX18_init_0 14 rfl rfl)
theorem dX18_init_17 : decode cX18_init 17 = .ok (.return_, 1) := dk_177 (dk_at dksX18_init_0 17 rfl rfl)
abbrev cX18_adds : ByteArray := prog_15_method_2_code
def yX18_adds : MethodName := ⟨RX18, "adds", "(LPassagePapers$Step;)V"⟩
def dkwX18_adds_2 : List UInt8 := [44, 181, 0, 7, 42, 180, 0, 7, 42, 89, 180, 0, 17, 90, 4, 96, 181, 0, 17, 43, 83, 177]
abbrev dktX18_adds_2 : List UInt8 := dkwX18_adds_2 ++ []
def dkwX18_adds_1 : List UInt8 := [29, 42, 180, 0, 17, 162, 0, 18, 44, 29, 42, 180, 0, 7, 29, 50, 83, 132, 3, 1, 167, 255, 236, 42]
abbrev dktX18_adds_1 : List UInt8 := dkwX18_adds_1 ++ dktX18_adds_2
def dkwX18_adds_0 : List UInt8 := [42, 180, 0, 17, 42, 180, 0, 7, 190, 160, 0, 43, 5, 42, 180, 0, 17, 104, 189, 0, 2, 77, 3, 62]
abbrev dktX18_adds_0 : List UInt8 := dkwX18_adds_0 ++ dktX18_adds_1
theorem dksX18_adds_0 : cX18_adds.data.toList.drop 0 = dktX18_adds_0 := by decide +kernel
theorem dksX18_adds_1 : cX18_adds.data.toList.drop 24 = dktX18_adds_1 := dk_seg dksX18_adds_0 24 rfl rfl
theorem dksX18_adds_2 : cX18_adds.data.toList.drop 48 = dktX18_adds_2 := dk_seg dksX18_adds_1 24 rfl rfl
theorem dX18_adds_0 : decode cX18_adds 0 = .ok (.aload_n 0, 1) := dk_42 (dk_at dksX18_adds_0 0 rfl rfl)
theorem dX18_adds_1 : decode cX18_adds 1 = .ok (.getfield 17, 3) := dk_180 0 17 (dk_at dksX18_adds_0 1 rfl rfl)
theorem dX18_adds_4 : decode cX18_adds 4 = .ok (.aload_n 0, 1) := dk_42 (dk_at dksX18_adds_0 4 rfl rfl)
theorem dX18_adds_5 : decode cX18_adds 5 = .ok (.getfield 7, 3) := dk_180 0 7 (dk_at dksX18_adds_0 5 rfl rfl)
theorem dX18_adds_8 : decode cX18_adds 8 = .ok (.arraylength, 1) := dk_190 (dk_at dksX18_adds_0 8 rfl rfl)
theorem dX18_adds_9 : decode cX18_adds 9 = .ok (.if_icmp .ne 43, 3) := dk_160 0 43 (dk_at dksX18_adds_0 9 rfl rfl)
theorem dX18_adds_12 : decode cX18_adds 12 = .ok (.iconst 2, 1) := dk_5 (dk_at dksX18_adds_0 12 rfl rfl)
theorem dX18_adds_13 : decode cX18_adds 13 = .ok (.aload_n 0, 1) := dk_42 (dk_at dksX18_adds_0 13 rfl rfl)
theorem dX18_adds_14 : decode cX18_adds 14 = .ok (.getfield 17, 3) := dk_180 0 17 (dk_at dksX18_adds_0 14 rfl rfl)
theorem dX18_adds_17 : decode cX18_adds 17 = .ok (.imul, 1) := dk_104 (dk_at dksX18_adds_0 17 rfl rfl)
theorem dX18_adds_18 : decode cX18_adds 18 = .ok (.anewarray 2, 3) := dk_189 0 2 (dk_at dksX18_adds_0 18 rfl rfl)
theorem dX18_adds_21 : decode cX18_adds 21 = .ok (.astore_n 2, 1) := dk_77 (dk_at dksX18_adds_0 21 rfl rfl)
theorem dX18_adds_22 : decode cX18_adds 22 = .ok (.iconst 0, 1) := dk_3 (dk_at dksX18_adds_0 22 rfl rfl)
theorem dX18_adds_23 : decode cX18_adds 23 = .ok (.istore_n 3, 1) := dk_62 (dk_at dksX18_adds_0 23 rfl rfl)
theorem dX18_adds_24 : decode cX18_adds 24 = .ok (.iload_n 3, 1) := dk_29 (dk_at dksX18_adds_1 0 rfl rfl)
theorem dX18_adds_25 : decode cX18_adds 25 = .ok (.aload_n 0, 1) := dk_42 (dk_at dksX18_adds_1 1 rfl rfl)
theorem dX18_adds_26 : decode cX18_adds 26 = .ok (.getfield 17, 3) := dk_180 0 17 (dk_at dksX18_adds_1 2 rfl rfl)
theorem dX18_adds_29 : decode cX18_adds 29 = .ok (.if_icmp .ge 18, 3) := dk_162 0 18 (dk_at dksX18_adds_1 5 rfl rfl)
theorem dX18_adds_32 : decode cX18_adds 32 = .ok (.aload_n 2, 1) := dk_44 (dk_at dksX18_adds_1 8 rfl rfl)
theorem dX18_adds_33 : decode cX18_adds 33 = .ok (.iload_n 3, 1) := dk_29 (dk_at dksX18_adds_1 9 rfl rfl)
theorem dX18_adds_34 : decode cX18_adds 34 = .ok (.aload_n 0, 1) := dk_42 (dk_at dksX18_adds_1 10 rfl rfl)
theorem dX18_adds_35 : decode cX18_adds 35 = .ok (.getfield 7, 3) := dk_180 0 7 (dk_at dksX18_adds_1 11 rfl rfl)
theorem dX18_adds_38 : decode cX18_adds 38 = .ok (.iload_n 3, 1) := dk_29 (dk_at dksX18_adds_1 14 rfl rfl)
theorem dX18_adds_39 : decode cX18_adds 39 = .ok (.aaload, 1) := dk_50 (dk_at dksX18_adds_1 15 rfl rfl)
theorem dX18_adds_40 : decode cX18_adds 40 = .ok (.aastore, 1) := dk_83 (dk_at dksX18_adds_1 16 rfl rfl)
theorem dX18_adds_41 : decode cX18_adds 41 = .ok (.iinc 3 1, 3) := dk_132 3 1 (dk_at dksX18_adds_1 17 rfl rfl)
theorem dX18_adds_44 : decode cX18_adds 44 = .ok (.goto (-20), 3) := dk_167 255 236 (dk_at dksX18_adds_1 20 rfl rfl)
theorem dX18_adds_47 : decode cX18_adds 47 = .ok (.aload_n 0, 1) := dk_42 (dk_at dksX18_adds_1 23 rfl rfl)
theorem dX18_adds_48 : decode cX18_adds 48 = .ok (.aload_n 2, 1) := dk_44 (dk_at dksX18_adds_2 0 rfl rfl)
theorem dX18_adds_49 : decode cX18_adds 49 = .ok (.putfield 7, 3) := dk_181 0 7 (dk_at dksX18_adds_2 1 rfl rfl)
theorem dX18_adds_52 : decode cX18_adds 52 = .ok (.aload_n 0, 1) := dk_42 (dk_at dksX18_adds_2 4 rfl rfl)
theorem dX18_adds_53 : decode cX18_adds 53 = .ok (.getfield 7, 3) := dk_180 0 7 (dk_at dksX18_adds_2 5 rfl rfl)
theorem dX18_adds_56 : decode cX18_adds 56 = .ok (.aload_n 0, 1) := dk_42 (dk_at dksX18_adds_2 8 rfl rfl)
theorem dX18_adds_57 : decode cX18_adds 57 = .ok (.dup, 1) := dk_89 (dk_at dksX18_adds_2 9 rfl rfl)
theorem dX18_adds_58 : decode cX18_adds 58 = .ok (.getfield 17, 3) := dk_180 0 17 (dk_at dksX18_adds_2 10 rfl rfl)
theorem dX18_adds_61 : decode cX18_adds 61 = .ok (.dup_x1, 1) := dk_90 (dk_at dksX18_adds_2 13 rfl rfl)
theorem dX18_adds_62 : decode cX18_adds 62 = .ok (.iconst 1, 1) := dk_4 (dk_at dksX18_adds_2 14 rfl rfl)
theorem dX18_adds_63 : decode cX18_adds 63 = .ok (.iadd, 1) := dk_96 (dk_at dksX18_adds_2 15 rfl rfl)
theorem dX18_adds_64 : decode cX18_adds 64 = .ok (.putfield 17, 3) := dk_181 0 17 (dk_at dksX18_adds_2 16 rfl rfl)
theorem dX18_adds_67 : decode cX18_adds 67 = .ok (.aload_n 1, 1) := dk_43 (dk_at dksX18_adds_2 19 rfl rfl)
theorem dX18_adds_68 : decode cX18_adds 68 = .ok (.aastore, 1) := dk_83 (dk_at dksX18_adds_2 20 rfl rfl)
theorem dX18_adds_69 : decode cX18_adds 69 = .ok (.return_, 1) := dk_177 (dk_at dksX18_adds_2 21 rfl rfl)
abbrev cX18_acts : ByteArray := prog_15_method_3_code
def yX18_acts : MethodName := ⟨RX18, "acts", "(LPassagePapers$Run;)V"⟩
def dkwX18_acts_2 : List UInt8 := [167, 255, 228, 132, 2, 1, 167, 255, 205, 177]
abbrev dktX18_acts_2 : List UInt8 := dkwX18_acts_2 ++ []
def dkwX18_acts_1 : List UInt8 := [162, 0, 26, 43, 182, 0, 20, 153, 0, 19, 43, 42, 180, 0, 7, 29, 50, 182, 0, 26, 132, 3, 1]
abbrev dktX18_acts_1 : List UInt8 := dkwX18_acts_1 ++ dktX18_acts_2
def dkwX18_acts_0 : List UInt8 := [3, 61, 28, 42, 180, 0, 13, 162, 0, 49, 43, 182, 0, 20, 153, 0, 42, 3, 62, 29, 42, 180, 0, 17]
abbrev dktX18_acts_0 : List UInt8 := dkwX18_acts_0 ++ dktX18_acts_1
theorem dksX18_acts_0 : cX18_acts.data.toList.drop 0 = dktX18_acts_0 := by decide +kernel
theorem dksX18_acts_1 : cX18_acts.data.toList.drop 24 = dktX18_acts_1 := dk_seg dksX18_acts_0 24 rfl rfl
theorem dksX18_acts_2 : cX18_acts.data.toList.drop 47 = dktX18_acts_2 := dk_seg dksX18_acts_1 23 rfl rfl
theorem dX18_acts_0 : decode cX18_acts 0 = .ok (.iconst 0, 1) := dk_3 (dk_at dksX18_acts_0 0 rfl rfl)
theorem dX18_acts_1 : decode cX18_acts 1 = .ok (.istore_n 2, 1) := dk_61 (dk_at dksX18_acts_0 1 rfl rfl)
theorem dX18_acts_2 : decode cX18_acts 2 = .ok (.iload_n 2, 1) := dk_28 (dk_at dksX18_acts_0 2 rfl rfl)
theorem dX18_acts_3 : decode cX18_acts 3 = .ok (.aload_n 0, 1) := dk_42 (dk_at dksX18_acts_0 3 rfl rfl)
theorem dX18_acts_4 : decode cX18_acts 4 = .ok (.getfield 13, 3) := dk_180 0 13 (dk_at dksX18_acts_0 4 rfl rfl)
theorem dX18_acts_7 : decode cX18_acts 7 = .ok (.if_icmp .ge 49, 3) := dk_162 0 49 (dk_at dksX18_acts_0 7 rfl rfl)
theorem dX18_acts_10 : decode cX18_acts 10 = .ok (.aload_n 1, 1) := dk_43 (dk_at dksX18_acts_0 10 rfl rfl)
theorem dX18_acts_11 : decode cX18_acts 11 = .ok (.invokevirtual 20, 3) := dk_182 0 20 (dk_at dksX18_acts_0 11 rfl rfl)
theorem dX18_acts_14 : decode cX18_acts 14 = .ok (.ifCond .eq 42, 3) := dk_153 0 42 (dk_at dksX18_acts_0 14 rfl rfl)
theorem dX18_acts_17 : decode cX18_acts 17 = .ok (.iconst 0, 1) := dk_3 (dk_at dksX18_acts_0 17 rfl rfl)
theorem dX18_acts_18 : decode cX18_acts 18 = .ok (.istore_n 3, 1) := dk_62 (dk_at dksX18_acts_0 18 rfl rfl)
theorem dX18_acts_19 : decode cX18_acts 19 = .ok (.iload_n 3, 1) := dk_29 (dk_at dksX18_acts_0 19 rfl rfl)
theorem dX18_acts_20 : decode cX18_acts 20 = .ok (.aload_n 0, 1) := dk_42 (dk_at dksX18_acts_0 20 rfl rfl)
theorem dX18_acts_21 : decode cX18_acts 21 = .ok (.getfield 17, 3) := dk_180 0 17 (dk_at dksX18_acts_0 21 rfl rfl)
theorem dX18_acts_24 : decode cX18_acts 24 = .ok (.if_icmp .ge 26, 3) := dk_162 0 26 (dk_at dksX18_acts_1 0 rfl rfl)
theorem dX18_acts_27 : decode cX18_acts 27 = .ok (.aload_n 1, 1) := dk_43 (dk_at dksX18_acts_1 3 rfl rfl)
theorem dX18_acts_28 : decode cX18_acts 28 = .ok (.invokevirtual 20, 3) := dk_182 0 20 (dk_at dksX18_acts_1 4 rfl rfl)
theorem dX18_acts_31 : decode cX18_acts 31 = .ok (.ifCond .eq 19, 3) := dk_153 0 19 (dk_at dksX18_acts_1 7 rfl rfl)
theorem dX18_acts_34 : decode cX18_acts 34 = .ok (.aload_n 1, 1) := dk_43 (dk_at dksX18_acts_1 10 rfl rfl)
theorem dX18_acts_35 : decode cX18_acts 35 = .ok (.aload_n 0, 1) := dk_42 (dk_at dksX18_acts_1 11 rfl rfl)
theorem dX18_acts_36 : decode cX18_acts 36 = .ok (.getfield 7, 3) := dk_180 0 7 (dk_at dksX18_acts_1 12 rfl rfl)
theorem dX18_acts_39 : decode cX18_acts 39 = .ok (.iload_n 3, 1) := dk_29 (dk_at dksX18_acts_1 15 rfl rfl)
theorem dX18_acts_40 : decode cX18_acts 40 = .ok (.aaload, 1) := dk_50 (dk_at dksX18_acts_1 16 rfl rfl)
theorem dX18_acts_41 : decode cX18_acts 41 = .ok (.invokevirtual 26, 3) := dk_182 0 26 (dk_at dksX18_acts_1 17 rfl rfl)
theorem dX18_acts_44 : decode cX18_acts 44 = .ok (.iinc 3 1, 3) := dk_132 3 1 (dk_at dksX18_acts_1 20 rfl rfl)
theorem dX18_acts_47 : decode cX18_acts 47 = .ok (.goto (-28), 3) := dk_167 255 228 (dk_at dksX18_acts_2 0 rfl rfl)
theorem dX18_acts_50 : decode cX18_acts 50 = .ok (.iinc 2 1, 3) := dk_132 2 1 (dk_at dksX18_acts_2 3 rfl rfl)
theorem dX18_acts_53 : decode cX18_acts 53 = .ok (.goto (-51), 3) := dk_167 255 205 (dk_at dksX18_acts_2 6 rfl rfl)
theorem dX18_acts_56 : decode cX18_acts 56 = .ok (.return_, 1) := dk_177 (dk_at dksX18_acts_2 9 rfl rfl)
theorem q116 : (Jvm.Cond.initialized "PassagePapers$Row") ∈ lw_all := lw_g (lw_at lw_m1 27 rfl) rfl
theorem q984 : (Jvm.Cond.instantiable "PassagePapers$Row" (3 : Nat)) ∈ lw_all := lw_g (lw_at lw_m4 175 rfl) rfl
theorem q986 : (Jvm.Cond.instanceMethod ({ cls := "PassagePapers$Row", name := "<init>", desc := "(I)V" } : Jvm.MethodName)) ∈ lw_all := lw_g (lw_at lw_m4 177 rfl) rfl
theorem q987 : (Jvm.Cond.code ({ cls := "PassagePapers$Row", name := "<init>", desc := "(I)V" } : Jvm.MethodName) prog_15_method_1_code (2 : Nat) (Option.none : Option Jvm.ClassFile.FieldType)) ∈ lw_all := lw_g (lw_at lw_m4 178 rfl) rfl
theorem q988 : (Jvm.Cond.methodLinkNest "PassagePapers$Row" (1 : Nat) ({ cls := "PassagePapers$Step", name := "<init>", desc := "()V" } : Jvm.MethodName) "PassagePapers") ∈ lw_tbl := lw_at lw_m4 179 rfl
theorem q992 : (Jvm.Cond.classLink "PassagePapers$Row" (2 : Nat) "PassagePapers$Step") ∈ lw_all := lw_g (lw_at lw_m4 183 rfl) rfl
theorem q994 : (Jvm.Cond.fieldLink "PassagePapers$Row" (13 : Nat) "PassagePapers$Row" "times" "I") ∈ lw_all := lw_g (lw_at lw_m4 185 rfl) rfl
theorem q995 : (Jvm.Cond.fieldLink "PassagePapers$Row" (7 : Nat) "PassagePapers$Row" "steps" "[LPassagePapers$Step;") ∈ lw_all := lw_g (lw_at lw_m4 186 rfl) rfl
theorem q996 : (Jvm.Cond.fieldLink "PassagePapers$Row" (17 : Nat) "PassagePapers$Row" "many" "I") ∈ lw_all := lw_g (lw_at lw_m4 187 rfl) rfl
theorem q997 : (Jvm.Cond.laysFinal "PassagePapers$Row" "PassagePapers$Row" "times" "I") ∈ lw_all := lw_g (lw_at lw_m4 188 rfl) rfl
theorem q998 : (Jvm.Cond.soleField "PassagePapers$Row" "times") ∈ lw_all := lw_g (lw_at lw_m4 189 rfl) rfl
theorem q999 : (Jvm.Cond.lays "PassagePapers$Row" "PassagePapers$Row" "steps" "[LPassagePapers$Step;") ∈ lw_all := lw_g (lw_at lw_m4 190 rfl) rfl
theorem q1000 : (Jvm.Cond.soleField "PassagePapers$Row" "steps") ∈ lw_all := lw_g (lw_at lw_m4 191 rfl) rfl
theorem q1001 : (Jvm.Cond.lays "PassagePapers$Row" "PassagePapers$Row" "many" "I") ∈ lw_all := lw_g (lw_at lw_m4 192 rfl) rfl
theorem q1002 : (Jvm.Cond.soleField "PassagePapers$Row" "many") ∈ lw_all := lw_g (lw_at lw_m4 193 rfl) rfl
theorem q1003 : (Jvm.Cond.superclass "PassagePapers$Row" "PassagePapers$Step") ∈ lw_all := lw_g (lw_at lw_m4 194 rfl) rfl
theorem q1067 : (Jvm.Cond.instanceMethod ({ cls := "PassagePapers$Row", name := "adds", desc := "(LPassagePapers$Step;)V" } : Jvm.MethodName)) ∈ lw_all := lw_g (lw_at lw_m5 18 rfl) rfl
theorem q1068 : (Jvm.Cond.selects "PassagePapers$Row" ({ cls := "PassagePapers$Row", name := "adds", desc := "(LPassagePapers$Step;)V" } : Jvm.MethodName) ({ cls := "PassagePapers$Row", name := "adds", desc := "(LPassagePapers$Step;)V" } : Jvm.MethodName)) ∈ lw_all := lw_g (lw_at lw_m5 19 rfl) rfl
theorem q1069 : (Jvm.Cond.code ({ cls := "PassagePapers$Row", name := "adds", desc := "(LPassagePapers$Step;)V" } : Jvm.MethodName) prog_15_method_2_code (4 : Nat) (Option.none : Option Jvm.ClassFile.FieldType)) ∈ lw_all := lw_g (lw_at lw_m5 20 rfl) rfl
theorem q1112 : (Jvm.Cond.instanceMethod ({ cls := "PassagePapers$Row", name := "acts", desc := "(LPassagePapers$Run;)V" } : Jvm.MethodName)) ∈ lw_all := lw_g (lw_at lw_m5 63 rfl) rfl
theorem q1113 : (Jvm.Cond.selects "PassagePapers$Row" ({ cls := "PassagePapers$Row", name := "acts", desc := "(LPassagePapers$Run;)V" } : Jvm.MethodName) ({ cls := "PassagePapers$Row", name := "acts", desc := "(LPassagePapers$Run;)V" } : Jvm.MethodName)) ∈ lw_all := lw_g (lw_at lw_m5 64 rfl) rfl
theorem q1114 : (Jvm.Cond.code ({ cls := "PassagePapers$Row", name := "acts", desc := "(LPassagePapers$Run;)V" } : Jvm.MethodName) prog_15_method_3_code (4 : Nat) (Option.none : Option Jvm.ClassFile.FieldType)) ∈ lw_all := lw_g (lw_at lw_m5 65 rfl) rfl
theorem q1115 : (Jvm.Cond.methodLink "PassagePapers$Row" (20 : Nat) ({ cls := "PassagePapers$Run", name := "mayBegin", desc := "()Z" } : Jvm.MethodName)) ∈ lw_all := lw_g (lw_at lw_m5 66 rfl) rfl
theorem q1119 : (Jvm.Cond.methodLink "PassagePapers$Row" (26 : Nat) ({ cls := "PassagePapers$Run", name := "begins", desc := "(LPassagePapers$Step;)V" } : Jvm.MethodName)) ∈ lw_all := lw_g (lw_at lw_m5 70 rfl) rfl
theorem q1193 : (Jvm.Cond.selects "PassagePapers$Row" ({ cls := "PassagePapers$Step", name := "acts", desc := "(LPassagePapers$Run;)V" } : Jvm.MethodName) ({ cls := "PassagePapers$Row", name := "acts", desc := "(LPassagePapers$Run;)V" } : Jvm.MethodName)) ∈ lw_all := lw_g (lw_at lw_m5 144 rfl) rfl
theorem q2211 : (Jvm.Cond.castable "PassagePapers$Row" "java/lang/Object") ∈ lw_tbl := lw_at lw_m9 202 rfl
theorem q2221 : (Jvm.Cond.castable "PassagePapers$Row" "PassagePapers$Step") ∈ lw_tbl := lw_at lw_m9 212 rfl
theorem in_X18 : ∀ w ∈ wsX180, w ∈ lw_all := lw_in wsX180 [997, 999, 1001] (by decide +kernel) (by decide +kernel)
/-! PassagePapers$Place -/
set_option maxRecDepth 100000
def RX19 : String := "PassagePapers$Place"
def TX19 : u_T := fun k => match k with
  | 0 => ("PassagePapers$Place", "signer", "I", true)
  | _ => ("PassagePapers$Place", "taker", "I", true)
def tyX19 : Nat → FieldType := fun k => match k with
  | 0 => .int
  | _ => .int
abbrev wsX190 : List Cond := u_ws RX19 TX19 2
theorem nmX19 : ∀ a, a < 2 → ∀ b, b < 2 → a ≠ b → (TX19 a).2.1 ≠ (TX19 b).2.1 := by decide +kernel
theorem tyX19_ok : ∀ k, k < 2 → parseFieldDescriptor (TX19 k).2.2.1 = some (tyX19 k) := by decide +kernel
abbrev cX19_init : ByteArray := prog_10_method_1_code
def yX19_init : MethodName := ⟨RX19, "<init>", "(II)V"⟩
def dkwX19_init_0 : List UInt8 := [42, 183, 0, 1, 42, 27, 181, 0, 7, 42, 28, 181, 0, 13, 177]
abbrev dktX19_init_0 : List UInt8 := dkwX19_init_0 ++ []
theorem dksX19_init_0 : cX19_init.data.toList.drop 0 = dktX19_init_0 := by decide +kernel
theorem dX19_init_0 : decode cX19_init 0 = .ok (.aload_n 0, 1) := dk_42 (dk_at dksX19_init_0 0 rfl rfl)
theorem dX19_init_1 : decode cX19_init 1 = .ok (.invokespecial 1, 3) := dk_183 0 1 (dk_at dksX19_init_0 1 rfl rfl)
theorem dX19_init_4 : decode cX19_init 4 = .ok (.aload_n 0, 1) := dk_42 (dk_at dksX19_init_0 4 rfl rfl)
theorem dX19_init_5 : decode cX19_init 5 = .ok (.iload_n 1, 1) := dk_27 (dk_at dksX19_init_0 5 rfl rfl)
theorem dX19_init_6 : decode cX19_init 6 = .ok (.putfield 7, 3) := dk_181 0 7 (dk_at dksX19_init_0 6 rfl rfl)
theorem dX19_init_9 : decode cX19_init 9 = .ok (.aload_n 0, 1) := dk_42 (dk_at dksX19_init_0 9 rfl rfl)
theorem dX19_init_10 : decode cX19_init 10 = .ok (.iload_n 2, 1) := dk_28 (dk_at dksX19_init_0 10 rfl rfl)
theorem dX19_init_11 : decode cX19_init 11 = .ok (.putfield 13, 3) := dk_181 0 13 (dk_at dksX19_init_0 11 rfl rfl)
theorem dX19_init_14 : decode cX19_init 14 = .ok (.return_, 1) := dk_177 (dk_at dksX19_init_0 14 rfl rfl)
abbrev cX19_acts : ByteArray := prog_10_method_2_code
def yX19_acts : MethodName := ⟨RX19, "acts", "(LPassagePapers$Run;)V"⟩
def dkwX19_acts_0 : List UInt8 := [43, 43, 180, 0, 16, 42, 180, 0, 7, 42, 180, 0, 13, 182, 0, 22, 182, 0, 28, 177]
abbrev dktX19_acts_0 : List UInt8 := dkwX19_acts_0 ++ []
theorem dksX19_acts_0 : cX19_acts.data.toList.drop 0 = dktX19_acts_0 := by decide +kernel
theorem dX19_acts_0 : decode cX19_acts 0 = .ok (.aload_n 1, 1) := dk_43 (dk_at dksX19_acts_0 0 rfl rfl)
theorem dX19_acts_1 : decode cX19_acts 1 = .ok (.aload_n 1, 1) := dk_43 (dk_at dksX19_acts_0 1 rfl rfl)
theorem dX19_acts_2 : decode cX19_acts 2 = .ok (.getfield 16, 3) := dk_180 0 16 (dk_at dksX19_acts_0 2 rfl rfl)
theorem dX19_acts_5 : decode cX19_acts 5 = .ok (.aload_n 0, 1) := dk_42 (dk_at dksX19_acts_0 5 rfl rfl)
theorem dX19_acts_6 : decode cX19_acts 6 = .ok (.getfield 7, 3) := dk_180 0 7 (dk_at dksX19_acts_0 6 rfl rfl)
theorem dX19_acts_9 : decode cX19_acts 9 = .ok (.aload_n 0, 1) := dk_42 (dk_at dksX19_acts_0 9 rfl rfl)
theorem dX19_acts_10 : decode cX19_acts 10 = .ok (.getfield 13, 3) := dk_180 0 13 (dk_at dksX19_acts_0 10 rfl rfl)
theorem dX19_acts_13 : decode cX19_acts 13 = .ok (.invokevirtual 22, 3) := dk_182 0 22 (dk_at dksX19_acts_0 13 rfl rfl)
theorem dX19_acts_16 : decode cX19_acts 16 = .ok (.invokevirtual 28, 3) := dk_182 0 28 (dk_at dksX19_acts_0 16 rfl rfl)
theorem dX19_acts_19 : decode cX19_acts 19 = .ok (.return_, 1) := dk_177 (dk_at dksX19_acts_0 19 rfl rfl)
theorem q117 : (Jvm.Cond.initialized "PassagePapers$Place") ∈ lw_all := lw_g (lw_at lw_m1 28 rfl) rfl
theorem q1016 : (Jvm.Cond.instantiable "PassagePapers$Place" (2 : Nat)) ∈ lw_all := lw_g (lw_at lw_m4 207 rfl) rfl
theorem q1023 : (Jvm.Cond.instanceMethod ({ cls := "PassagePapers$Place", name := "<init>", desc := "(II)V" } : Jvm.MethodName)) ∈ lw_all := lw_g (lw_at lw_m4 214 rfl) rfl
theorem q1024 : (Jvm.Cond.code ({ cls := "PassagePapers$Place", name := "<init>", desc := "(II)V" } : Jvm.MethodName) prog_10_method_1_code (3 : Nat) (Option.none : Option Jvm.ClassFile.FieldType)) ∈ lw_all := lw_g (lw_at lw_m4 215 rfl) rfl
theorem q1025 : (Jvm.Cond.methodLinkNest "PassagePapers$Place" (1 : Nat) ({ cls := "PassagePapers$Step", name := "<init>", desc := "()V" } : Jvm.MethodName) "PassagePapers") ∈ lw_tbl := lw_at lw_m4 216 rfl
theorem q1026 : (Jvm.Cond.fieldLink "PassagePapers$Place" (7 : Nat) "PassagePapers$Place" "signer" "I") ∈ lw_all := lw_g (lw_at lw_m4 217 rfl) rfl
theorem q1027 : (Jvm.Cond.fieldLink "PassagePapers$Place" (13 : Nat) "PassagePapers$Place" "taker" "I") ∈ lw_all := lw_g (lw_at lw_m4 218 rfl) rfl
theorem q1028 : (Jvm.Cond.laysFinal "PassagePapers$Place" "PassagePapers$Place" "signer" "I") ∈ lw_all := lw_g (lw_at lw_m4 219 rfl) rfl
theorem q1029 : (Jvm.Cond.soleField "PassagePapers$Place" "signer") ∈ lw_all := lw_g (lw_at lw_m4 220 rfl) rfl
theorem q1030 : (Jvm.Cond.laysFinal "PassagePapers$Place" "PassagePapers$Place" "taker" "I") ∈ lw_all := lw_g (lw_at lw_m4 221 rfl) rfl
theorem q1031 : (Jvm.Cond.soleField "PassagePapers$Place" "taker") ∈ lw_all := lw_g (lw_at lw_m4 222 rfl) rfl
theorem q1032 : (Jvm.Cond.superclass "PassagePapers$Place" "PassagePapers$Step") ∈ lw_all := lw_g (lw_at lw_m4 223 rfl) rfl
theorem q1095 : (Jvm.Cond.fieldLinkNest "PassagePapers$Place" (16 : Nat) "PassagePapers$Run" "state" "LPassagePapers$State;" "PassagePapers") ∈ lw_tbl := lw_at lw_m5 46 rfl
theorem q1181 : (Jvm.Cond.selects "PassagePapers$Place" ({ cls := "PassagePapers$Step", name := "acts", desc := "(LPassagePapers$Run;)V" } : Jvm.MethodName) ({ cls := "PassagePapers$Place", name := "acts", desc := "(LPassagePapers$Run;)V" } : Jvm.MethodName)) ∈ lw_all := lw_g (lw_at lw_m5 132 rfl) rfl
theorem q1182 : (Jvm.Cond.instanceMethod ({ cls := "PassagePapers$Place", name := "acts", desc := "(LPassagePapers$Run;)V" } : Jvm.MethodName)) ∈ lw_all := lw_g (lw_at lw_m5 133 rfl) rfl
theorem q1183 : (Jvm.Cond.code ({ cls := "PassagePapers$Place", name := "acts", desc := "(LPassagePapers$Run;)V" } : Jvm.MethodName) prog_10_method_2_code (2 : Nat) (Option.none : Option Jvm.ClassFile.FieldType)) ∈ lw_all := lw_g (lw_at lw_m5 134 rfl) rfl
theorem q1184 : (Jvm.Cond.methodLink "PassagePapers$Place" (22 : Nat) ({ cls := "PassagePapers$State", name := "places", desc := "(II)Z" } : Jvm.MethodName)) ∈ lw_all := lw_g (lw_at lw_m5 135 rfl) rfl
theorem q1192 : (Jvm.Cond.methodLink "PassagePapers$Place" (28 : Nat) ({ cls := "PassagePapers$Run", name := "tells", desc := "(Z)V" } : Jvm.MethodName)) ∈ lw_all := lw_g (lw_at lw_m5 143 rfl) rfl
theorem q2212 : (Jvm.Cond.castable "PassagePapers$Place" "java/lang/Object") ∈ lw_tbl := lw_at lw_m9 203 rfl
theorem q2222 : (Jvm.Cond.castable "PassagePapers$Place" "PassagePapers$Step") ∈ lw_tbl := lw_at lw_m9 213 rfl
theorem in_X19 : ∀ w ∈ wsX190, w ∈ lw_all := lw_in wsX190 [1028, 1030] (by decide +kernel) (by decide +kernel)
/-! PassagePapers$Add -/
set_option maxRecDepth 100000
def RX20 : String := "PassagePapers$Add"
def TX20 : u_T := fun k => match k with
  | 0 => ("PassagePapers$Add", "signer", "I", true)
  | _ => ("PassagePapers$Add", "months", "I", true)
def tyX20 : Nat → FieldType := fun k => match k with
  | 0 => .int
  | _ => .int
abbrev wsX200 : List Cond := u_ws RX20 TX20 2
theorem nmX20 : ∀ a, a < 2 → ∀ b, b < 2 → a ≠ b → (TX20 a).2.1 ≠ (TX20 b).2.1 := by decide +kernel
theorem tyX20_ok : ∀ k, k < 2 → parseFieldDescriptor (TX20 k).2.2.1 = some (tyX20 k) := by decide +kernel
abbrev cX20_init : ByteArray := prog_2_method_1_code
def yX20_init : MethodName := ⟨RX20, "<init>", "(II)V"⟩
def dkwX20_init_0 : List UInt8 := [42, 183, 0, 1, 42, 27, 181, 0, 7, 42, 28, 181, 0, 13, 177]
abbrev dktX20_init_0 : List UInt8 := dkwX20_init_0 ++ []
theorem dksX20_init_0 : cX20_init.data.toList.drop 0 = dktX20_init_0 := by decide +kernel
theorem dX20_init_0 : decode cX20_init 0 = .ok (.aload_n 0, 1) := dk_42 (dk_at dksX20_init_0 0 rfl rfl)
theorem dX20_init_1 : decode cX20_init 1 = .ok (.invokespecial 1, 3) := dk_183 0 1 (dk_at dksX20_init_0 1 rfl rfl)
theorem dX20_init_4 : decode cX20_init 4 = .ok (.aload_n 0, 1) := dk_42 (dk_at dksX20_init_0 4 rfl rfl)
theorem dX20_init_5 : decode cX20_init 5 = .ok (.iload_n 1, 1) := dk_27 (dk_at dksX20_init_0 5 rfl rfl)
theorem dX20_init_6 : decode cX20_init 6 = .ok (.putfield 7, 3) := dk_181 0 7 (dk_at dksX20_init_0 6 rfl rfl)
theorem dX20_init_9 : decode cX20_init 9 = .ok (.aload_n 0, 1) := dk_42 (dk_at dksX20_init_0 9 rfl rfl)
theorem dX20_init_10 : decode cX20_init 10 = .ok (.iload_n 2, 1) := dk_28 (dk_at dksX20_init_0 10 rfl rfl)
theorem dX20_init_11 : decode cX20_init 11 = .ok (.putfield 13, 3) := dk_181 0 13 (dk_at dksX20_init_0 11 rfl rfl)
theorem dX20_init_14 : decode cX20_init 14 = .ok (.return_, 1) := dk_177 (dk_at dksX20_init_0 14 rfl rfl)
abbrev cX20_acts : ByteArray := prog_2_method_2_code
def yX20_acts : MethodName := ⟨RX20, "acts", "(LPassagePapers$Run;)V"⟩
def dkwX20_acts_0 : List UInt8 := [43, 43, 180, 0, 16, 42, 180, 0, 7, 42, 180, 0, 13, 182, 0, 22, 182, 0, 28, 177]
abbrev dktX20_acts_0 : List UInt8 := dkwX20_acts_0 ++ []
theorem dksX20_acts_0 : cX20_acts.data.toList.drop 0 = dktX20_acts_0 := by decide +kernel
theorem dX20_acts_0 : decode cX20_acts 0 = .ok (.aload_n 1, 1) := dk_43 (dk_at dksX20_acts_0 0 rfl rfl)
theorem dX20_acts_1 : decode cX20_acts 1 = .ok (.aload_n 1, 1) := dk_43 (dk_at dksX20_acts_0 1 rfl rfl)
theorem dX20_acts_2 : decode cX20_acts 2 = .ok (.getfield 16, 3) := dk_180 0 16 (dk_at dksX20_acts_0 2 rfl rfl)
theorem dX20_acts_5 : decode cX20_acts 5 = .ok (.aload_n 0, 1) := dk_42 (dk_at dksX20_acts_0 5 rfl rfl)
theorem dX20_acts_6 : decode cX20_acts 6 = .ok (.getfield 7, 3) := dk_180 0 7 (dk_at dksX20_acts_0 6 rfl rfl)
theorem dX20_acts_9 : decode cX20_acts 9 = .ok (.aload_n 0, 1) := dk_42 (dk_at dksX20_acts_0 9 rfl rfl)
theorem dX20_acts_10 : decode cX20_acts 10 = .ok (.getfield 13, 3) := dk_180 0 13 (dk_at dksX20_acts_0 10 rfl rfl)
theorem dX20_acts_13 : decode cX20_acts 13 = .ok (.invokevirtual 22, 3) := dk_182 0 22 (dk_at dksX20_acts_0 13 rfl rfl)
theorem dX20_acts_16 : decode cX20_acts 16 = .ok (.invokevirtual 28, 3) := dk_182 0 28 (dk_at dksX20_acts_0 16 rfl rfl)
theorem dX20_acts_19 : decode cX20_acts 19 = .ok (.return_, 1) := dk_177 (dk_at dksX20_acts_0 19 rfl rfl)
theorem q118 : (Jvm.Cond.initialized "PassagePapers$Add") ∈ lw_all := lw_g (lw_at lw_m1 29 rfl) rfl
theorem q1034 : (Jvm.Cond.instantiable "PassagePapers$Add" (2 : Nat)) ∈ lw_all := lw_g (lw_at lw_m4 225 rfl) rfl
theorem q1036 : (Jvm.Cond.instanceMethod ({ cls := "PassagePapers$Add", name := "<init>", desc := "(II)V" } : Jvm.MethodName)) ∈ lw_all := lw_g (lw_at lw_m4 227 rfl) rfl
theorem q1037 : (Jvm.Cond.code ({ cls := "PassagePapers$Add", name := "<init>", desc := "(II)V" } : Jvm.MethodName) prog_2_method_1_code (3 : Nat) (Option.none : Option Jvm.ClassFile.FieldType)) ∈ lw_all := lw_g (lw_at lw_m4 228 rfl) rfl
theorem q1038 : (Jvm.Cond.methodLinkNest "PassagePapers$Add" (1 : Nat) ({ cls := "PassagePapers$Step", name := "<init>", desc := "()V" } : Jvm.MethodName) "PassagePapers") ∈ lw_tbl := lw_at lw_m4 229 rfl
theorem q1039 : (Jvm.Cond.fieldLink "PassagePapers$Add" (7 : Nat) "PassagePapers$Add" "signer" "I") ∈ lw_all := lw_g (lw_at lw_m4 230 rfl) rfl
theorem q1040 : (Jvm.Cond.fieldLink "PassagePapers$Add" (13 : Nat) "PassagePapers$Add" "months" "I") ∈ lw_all := lw_g (lw_at lw_m4 231 rfl) rfl
theorem q1041 : (Jvm.Cond.laysFinal "PassagePapers$Add" "PassagePapers$Add" "signer" "I") ∈ lw_all := lw_g (lw_at lw_m4 232 rfl) rfl
theorem q1042 : (Jvm.Cond.soleField "PassagePapers$Add" "signer") ∈ lw_all := lw_g (lw_at lw_m4 233 rfl) rfl
theorem q1043 : (Jvm.Cond.laysFinal "PassagePapers$Add" "PassagePapers$Add" "months" "I") ∈ lw_all := lw_g (lw_at lw_m4 234 rfl) rfl
theorem q1044 : (Jvm.Cond.soleField "PassagePapers$Add" "months") ∈ lw_all := lw_g (lw_at lw_m4 235 rfl) rfl
theorem q1045 : (Jvm.Cond.superclass "PassagePapers$Add" "PassagePapers$Step") ∈ lw_all := lw_g (lw_at lw_m4 236 rfl) rfl
theorem q1093 : (Jvm.Cond.fieldLinkNest "PassagePapers$Add" (16 : Nat) "PassagePapers$Run" "state" "LPassagePapers$State;" "PassagePapers") ∈ lw_tbl := lw_at lw_m5 44 rfl
theorem q1126 : (Jvm.Cond.selects "PassagePapers$Add" ({ cls := "PassagePapers$Step", name := "acts", desc := "(LPassagePapers$Run;)V" } : Jvm.MethodName) ({ cls := "PassagePapers$Add", name := "acts", desc := "(LPassagePapers$Run;)V" } : Jvm.MethodName)) ∈ lw_all := lw_g (lw_at lw_m5 77 rfl) rfl
theorem q1127 : (Jvm.Cond.instanceMethod ({ cls := "PassagePapers$Add", name := "acts", desc := "(LPassagePapers$Run;)V" } : Jvm.MethodName)) ∈ lw_all := lw_g (lw_at lw_m5 78 rfl) rfl
theorem q1128 : (Jvm.Cond.code ({ cls := "PassagePapers$Add", name := "acts", desc := "(LPassagePapers$Run;)V" } : Jvm.MethodName) prog_2_method_2_code (2 : Nat) (Option.none : Option Jvm.ClassFile.FieldType)) ∈ lw_all := lw_g (lw_at lw_m5 79 rfl) rfl
theorem q1129 : (Jvm.Cond.methodLink "PassagePapers$Add" (22 : Nat) ({ cls := "PassagePapers$State", name := "adds", desc := "(II)Z" } : Jvm.MethodName)) ∈ lw_all := lw_g (lw_at lw_m5 80 rfl) rfl
theorem q1135 : (Jvm.Cond.methodLink "PassagePapers$Add" (28 : Nat) ({ cls := "PassagePapers$Run", name := "tells", desc := "(Z)V" } : Jvm.MethodName)) ∈ lw_all := lw_g (lw_at lw_m5 86 rfl) rfl
theorem q2213 : (Jvm.Cond.castable "PassagePapers$Add" "java/lang/Object") ∈ lw_tbl := lw_at lw_m9 204 rfl
theorem q2223 : (Jvm.Cond.castable "PassagePapers$Add" "PassagePapers$Step") ∈ lw_tbl := lw_at lw_m9 214 rfl
theorem in_X20 : ∀ w ∈ wsX200, w ∈ lw_all := lw_in wsX200 [1041, 1043] (by decide +kernel) (by decide +kernel)
/-! PassagePapers$Land -/
set_option maxRecDepth 100000
def RX21 : String := "PassagePapers$Land"
abbrev cX21_init : ByteArray := prog_7_method_1_code
def yX21_init : MethodName := ⟨RX21, "<init>", "()V"⟩
theorem dX21_init_0 : decode cX21_init 0 = .ok (.aload_n 0, 1) := by decide +kernel
theorem dX21_init_1 : decode cX21_init 1 = .ok (.invokespecial 1, 3) := by decide +kernel
theorem dX21_init_4 : decode cX21_init 4 = .ok (.return_, 1) := by decide +kernel
abbrev cX21_acts : ByteArray := prog_7_method_2_code
def yX21_acts : MethodName := ⟨RX21, "acts", "(LPassagePapers$Run;)V"⟩
def dkwX21_acts_0 : List UInt8 := [43, 43, 180, 0, 7, 182, 0, 13, 182, 0, 19, 177]
abbrev dktX21_acts_0 : List UInt8 := dkwX21_acts_0 ++ []
theorem dksX21_acts_0 : cX21_acts.data.toList.drop 0 = dktX21_acts_0 := by decide +kernel
theorem dX21_acts_0 : decode cX21_acts 0 = .ok (.aload_n 1, 1) := dk_43 (dk_at dksX21_acts_0 0 rfl rfl)
theorem dX21_acts_1 : decode cX21_acts 1 = .ok (.aload_n 1, 1) := dk_43 (dk_at dksX21_acts_0 1 rfl rfl)
theorem dX21_acts_2 : decode cX21_acts 2 = .ok (.getfield 7, 3) := dk_180 0 7 (dk_at dksX21_acts_0 2 rfl rfl)
theorem dX21_acts_5 : decode cX21_acts 5 = .ok (.invokevirtual 13, 3) := dk_182 0 13 (dk_at dksX21_acts_0 5 rfl rfl)
theorem dX21_acts_8 : decode cX21_acts 8 = .ok (.invokevirtual 19, 3) := dk_182 0 19 (dk_at dksX21_acts_0 8 rfl rfl)
theorem dX21_acts_11 : decode cX21_acts 11 = .ok (.return_, 1) := dk_177 (dk_at dksX21_acts_0 11 rfl rfl)
theorem q119 : (Jvm.Cond.initialized "PassagePapers$Land") ∈ lw_all := lw_g (lw_at lw_m1 30 rfl) rfl
theorem q1047 : (Jvm.Cond.instantiable "PassagePapers$Land" (0 : Nat)) ∈ lw_all := lw_g (lw_at lw_m4 238 rfl) rfl
theorem q1049 : (Jvm.Cond.instanceMethod ({ cls := "PassagePapers$Land", name := "<init>", desc := "()V" } : Jvm.MethodName)) ∈ lw_all := lw_g (lw_at lw_m5 0 rfl) rfl
theorem q1050 : (Jvm.Cond.code ({ cls := "PassagePapers$Land", name := "<init>", desc := "()V" } : Jvm.MethodName) prog_7_method_1_code (1 : Nat) (Option.none : Option Jvm.ClassFile.FieldType)) ∈ lw_all := lw_g (lw_at lw_m5 1 rfl) rfl
theorem q1051 : (Jvm.Cond.methodLinkNest "PassagePapers$Land" (1 : Nat) ({ cls := "PassagePapers$Step", name := "<init>", desc := "()V" } : Jvm.MethodName) "PassagePapers") ∈ lw_tbl := lw_at lw_m5 2 rfl
theorem q1052 : (Jvm.Cond.superclass "PassagePapers$Land" "PassagePapers$Step") ∈ lw_all := lw_g (lw_at lw_m5 3 rfl) rfl
theorem q1094 : (Jvm.Cond.fieldLinkNest "PassagePapers$Land" (7 : Nat) "PassagePapers$Run" "state" "LPassagePapers$State;" "PassagePapers") ∈ lw_tbl := lw_at lw_m5 45 rfl
theorem q1172 : (Jvm.Cond.selects "PassagePapers$Land" ({ cls := "PassagePapers$Step", name := "acts", desc := "(LPassagePapers$Run;)V" } : Jvm.MethodName) ({ cls := "PassagePapers$Land", name := "acts", desc := "(LPassagePapers$Run;)V" } : Jvm.MethodName)) ∈ lw_all := lw_g (lw_at lw_m5 123 rfl) rfl
theorem q1173 : (Jvm.Cond.instanceMethod ({ cls := "PassagePapers$Land", name := "acts", desc := "(LPassagePapers$Run;)V" } : Jvm.MethodName)) ∈ lw_all := lw_g (lw_at lw_m5 124 rfl) rfl
theorem q1174 : (Jvm.Cond.code ({ cls := "PassagePapers$Land", name := "acts", desc := "(LPassagePapers$Run;)V" } : Jvm.MethodName) prog_7_method_2_code (2 : Nat) (Option.none : Option Jvm.ClassFile.FieldType)) ∈ lw_all := lw_g (lw_at lw_m5 125 rfl) rfl
theorem q1175 : (Jvm.Cond.methodLink "PassagePapers$Land" (13 : Nat) ({ cls := "PassagePapers$State", name := "lands", desc := "()Z" } : Jvm.MethodName)) ∈ lw_all := lw_g (lw_at lw_m5 126 rfl) rfl
theorem q1180 : (Jvm.Cond.methodLink "PassagePapers$Land" (19 : Nat) ({ cls := "PassagePapers$Run", name := "tells", desc := "(Z)V" } : Jvm.MethodName)) ∈ lw_all := lw_g (lw_at lw_m5 131 rfl) rfl
theorem q2214 : (Jvm.Cond.castable "PassagePapers$Land" "java/lang/Object") ∈ lw_tbl := lw_at lw_m9 205 rfl
theorem q2224 : (Jvm.Cond.castable "PassagePapers$Land" "PassagePapers$Step") ∈ lw_tbl := lw_at lw_m9 215 rfl
/-! PassagePapers$Week -/
set_option maxRecDepth 100000
def RX22 : String := "PassagePapers$Week"
abbrev cX22_init : ByteArray := prog_22_method_1_code
def yX22_init : MethodName := ⟨RX22, "<init>", "()V"⟩
theorem dX22_init_0 : decode cX22_init 0 = .ok (.aload_n 0, 1) := by decide +kernel
theorem dX22_init_1 : decode cX22_init 1 = .ok (.invokespecial 1, 3) := by decide +kernel
theorem dX22_init_4 : decode cX22_init 4 = .ok (.return_, 1) := by decide +kernel
abbrev cX22_acts : ByteArray := prog_22_method_2_code
def yX22_acts : MethodName := ⟨RX22, "acts", "(LPassagePapers$Run;)V"⟩
def dkwX22_acts_0 : List UInt8 := [43, 43, 180, 0, 7, 182, 0, 13, 182, 0, 19, 177]
abbrev dktX22_acts_0 : List UInt8 := dkwX22_acts_0 ++ []
theorem dksX22_acts_0 : cX22_acts.data.toList.drop 0 = dktX22_acts_0 := by decide +kernel
theorem dX22_acts_0 : decode cX22_acts 0 = .ok (.aload_n 1, 1) := dk_43 (dk_at dksX22_acts_0 0 rfl rfl)
theorem dX22_acts_1 : decode cX22_acts 1 = .ok (.aload_n 1, 1) := dk_43 (dk_at dksX22_acts_0 1 rfl rfl)
theorem dX22_acts_2 : decode cX22_acts 2 = .ok (.getfield 7, 3) := dk_180 0 7 (dk_at dksX22_acts_0 2 rfl rfl)
theorem dX22_acts_5 : decode cX22_acts 5 = .ok (.invokevirtual 13, 3) := dk_182 0 13 (dk_at dksX22_acts_0 5 rfl rfl)
theorem dX22_acts_8 : decode cX22_acts 8 = .ok (.invokevirtual 19, 3) := dk_182 0 19 (dk_at dksX22_acts_0 8 rfl rfl)
theorem dX22_acts_11 : decode cX22_acts 11 = .ok (.return_, 1) := dk_177 (dk_at dksX22_acts_0 11 rfl rfl)
theorem q120 : (Jvm.Cond.initialized "PassagePapers$Week") ∈ lw_all := lw_g (lw_at lw_m1 31 rfl) rfl
theorem q1054 : (Jvm.Cond.instantiable "PassagePapers$Week" (0 : Nat)) ∈ lw_all := lw_g (lw_at lw_m5 5 rfl) rfl
theorem q1056 : (Jvm.Cond.instanceMethod ({ cls := "PassagePapers$Week", name := "<init>", desc := "()V" } : Jvm.MethodName)) ∈ lw_all := lw_g (lw_at lw_m5 7 rfl) rfl
theorem q1057 : (Jvm.Cond.code ({ cls := "PassagePapers$Week", name := "<init>", desc := "()V" } : Jvm.MethodName) prog_22_method_1_code (1 : Nat) (Option.none : Option Jvm.ClassFile.FieldType)) ∈ lw_all := lw_g (lw_at lw_m5 8 rfl) rfl
theorem q1058 : (Jvm.Cond.methodLinkNest "PassagePapers$Week" (1 : Nat) ({ cls := "PassagePapers$Step", name := "<init>", desc := "()V" } : Jvm.MethodName) "PassagePapers") ∈ lw_tbl := lw_at lw_m5 9 rfl
theorem q1059 : (Jvm.Cond.superclass "PassagePapers$Week" "PassagePapers$Step") ∈ lw_all := lw_g (lw_at lw_m5 10 rfl) rfl
theorem q1096 : (Jvm.Cond.fieldLinkNest "PassagePapers$Week" (7 : Nat) "PassagePapers$Run" "state" "LPassagePapers$State;" "PassagePapers") ∈ lw_tbl := lw_at lw_m5 47 rfl
theorem q1194 : (Jvm.Cond.selects "PassagePapers$Week" ({ cls := "PassagePapers$Step", name := "acts", desc := "(LPassagePapers$Run;)V" } : Jvm.MethodName) ({ cls := "PassagePapers$Week", name := "acts", desc := "(LPassagePapers$Run;)V" } : Jvm.MethodName)) ∈ lw_all := lw_g (lw_at lw_m5 145 rfl) rfl
theorem q1195 : (Jvm.Cond.instanceMethod ({ cls := "PassagePapers$Week", name := "acts", desc := "(LPassagePapers$Run;)V" } : Jvm.MethodName)) ∈ lw_all := lw_g (lw_at lw_m5 146 rfl) rfl
theorem q1196 : (Jvm.Cond.code ({ cls := "PassagePapers$Week", name := "acts", desc := "(LPassagePapers$Run;)V" } : Jvm.MethodName) prog_22_method_2_code (2 : Nat) (Option.none : Option Jvm.ClassFile.FieldType)) ∈ lw_all := lw_g (lw_at lw_m5 147 rfl) rfl
theorem q1197 : (Jvm.Cond.methodLink "PassagePapers$Week" (13 : Nat) ({ cls := "PassagePapers$State", name := "goes", desc := "()Z" } : Jvm.MethodName)) ∈ lw_all := lw_g (lw_at lw_m5 148 rfl) rfl
theorem q1205 : (Jvm.Cond.methodLink "PassagePapers$Week" (19 : Nat) ({ cls := "PassagePapers$Run", name := "tells", desc := "(Z)V" } : Jvm.MethodName)) ∈ lw_all := lw_g (lw_at lw_m5 156 rfl) rfl
theorem q2215 : (Jvm.Cond.castable "PassagePapers$Week" "java/lang/Object") ∈ lw_tbl := lw_at lw_m9 206 rfl
theorem q2225 : (Jvm.Cond.castable "PassagePapers$Week" "PassagePapers$Step") ∈ lw_tbl := lw_at lw_m9 216 rfl
/-! PassagePapers$Alone -/
set_option maxRecDepth 100000
def RX23 : String := "PassagePapers$Alone"
def TX23 : u_T := fun k => match k with
  | 0 => ("PassagePapers$Alone", "what", "I", true)
  | _ => ("PassagePapers$Alone", "signer", "I", true)
def tyX23 : Nat → FieldType := fun k => match k with
  | 0 => .int
  | _ => .int
abbrev wsX230 : List Cond := u_ws RX23 TX23 2
theorem nmX23 : ∀ a, a < 2 → ∀ b, b < 2 → a ≠ b → (TX23 a).2.1 ≠ (TX23 b).2.1 := by decide +kernel
theorem tyX23_ok : ∀ k, k < 2 → parseFieldDescriptor (TX23 k).2.2.1 = some (tyX23 k) := by decide +kernel
abbrev cX23_init : ByteArray := prog_3_method_1_code
def yX23_init : MethodName := ⟨RX23, "<init>", "(II)V"⟩
def dkwX23_init_0 : List UInt8 := [42, 183, 0, 1, 42, 27, 181, 0, 7, 42, 28, 181, 0, 13, 177]
abbrev dktX23_init_0 : List UInt8 := dkwX23_init_0 ++ []
theorem dksX23_init_0 : cX23_init.data.toList.drop 0 = dktX23_init_0 := by decide +kernel
theorem dX23_init_0 : decode cX23_init 0 = .ok (.aload_n 0, 1) := dk_42 (dk_at dksX23_init_0 0 rfl rfl)
theorem dX23_init_1 : decode cX23_init 1 = .ok (.invokespecial 1, 3) := dk_183 0 1 (dk_at dksX23_init_0 1 rfl rfl)
theorem dX23_init_4 : decode cX23_init 4 = .ok (.aload_n 0, 1) := dk_42 (dk_at dksX23_init_0 4 rfl rfl)
theorem dX23_init_5 : decode cX23_init 5 = .ok (.iload_n 1, 1) := dk_27 (dk_at dksX23_init_0 5 rfl rfl)
theorem dX23_init_6 : decode cX23_init 6 = .ok (.putfield 7, 3) := dk_181 0 7 (dk_at dksX23_init_0 6 rfl rfl)
theorem dX23_init_9 : decode cX23_init 9 = .ok (.aload_n 0, 1) := dk_42 (dk_at dksX23_init_0 9 rfl rfl)
theorem dX23_init_10 : decode cX23_init 10 = .ok (.iload_n 2, 1) := dk_28 (dk_at dksX23_init_0 10 rfl rfl)
theorem dX23_init_11 : decode cX23_init 11 = .ok (.putfield 13, 3) := dk_181 0 13 (dk_at dksX23_init_0 11 rfl rfl)
theorem dX23_init_14 : decode cX23_init 14 = .ok (.return_, 1) := dk_177 (dk_at dksX23_init_0 14 rfl rfl)
abbrev cX23_acts : ByteArray := prog_3_method_2_code
def yX23_acts : MethodName := ⟨RX23, "acts", "(LPassagePapers$Run;)V"⟩
def dkwX23_acts_2 : List UInt8 := [42, 180, 0, 7, 4, 160, 0, 7, 4, 167, 0, 4, 3, 182, 0, 31, 182, 0, 35, 177]
abbrev dktX23_acts_2 : List UInt8 := dkwX23_acts_2 ++ []
def dkwX23_acts_1 : List UInt8 := [42, 180, 0, 7, 6, 160, 0, 14, 44, 42, 180, 0, 13, 182, 0, 28, 167, 0, 24, 44, 42, 180, 0, 13]
abbrev dktX23_acts_1 : List UInt8 := dkwX23_acts_1 ++ dktX23_acts_2
def dkwX23_acts_0 : List UInt8 := [43, 180, 0, 16, 77, 43, 42, 180, 0, 7, 154, 0, 14, 44, 42, 180, 0, 13, 182, 0, 22, 167, 0, 43]
abbrev dktX23_acts_0 : List UInt8 := dkwX23_acts_0 ++ dktX23_acts_1
theorem dksX23_acts_0 : cX23_acts.data.toList.drop 0 = dktX23_acts_0 := by decide +kernel
theorem dksX23_acts_1 : cX23_acts.data.toList.drop 24 = dktX23_acts_1 := dk_seg dksX23_acts_0 24 rfl rfl
theorem dksX23_acts_2 : cX23_acts.data.toList.drop 48 = dktX23_acts_2 := dk_seg dksX23_acts_1 24 rfl rfl
theorem dX23_acts_0 : decode cX23_acts 0 = .ok (.aload_n 1, 1) := dk_43 (dk_at dksX23_acts_0 0 rfl rfl)
theorem dX23_acts_1 : decode cX23_acts 1 = .ok (.getfield 16, 3) := dk_180 0 16 (dk_at dksX23_acts_0 1 rfl rfl)
theorem dX23_acts_4 : decode cX23_acts 4 = .ok (.astore_n 2, 1) := dk_77 (dk_at dksX23_acts_0 4 rfl rfl)
theorem dX23_acts_5 : decode cX23_acts 5 = .ok (.aload_n 1, 1) := dk_43 (dk_at dksX23_acts_0 5 rfl rfl)
theorem dX23_acts_6 : decode cX23_acts 6 = .ok (.aload_n 0, 1) := dk_42 (dk_at dksX23_acts_0 6 rfl rfl)
theorem dX23_acts_7 : decode cX23_acts 7 = .ok (.getfield 7, 3) := dk_180 0 7 (dk_at dksX23_acts_0 7 rfl rfl)
theorem dX23_acts_10 : decode cX23_acts 10 = .ok (.ifCond .ne 14, 3) := dk_154 0 14 (dk_at dksX23_acts_0 10 rfl rfl)
theorem dX23_acts_13 : decode cX23_acts 13 = .ok (.aload_n 2, 1) := dk_44 (dk_at dksX23_acts_0 13 rfl rfl)
theorem dX23_acts_14 : decode cX23_acts 14 = .ok (.aload_n 0, 1) := dk_42 (dk_at dksX23_acts_0 14 rfl rfl)
theorem dX23_acts_15 : decode cX23_acts 15 = .ok (.getfield 13, 3) := dk_180 0 13 (dk_at dksX23_acts_0 15 rfl rfl)
theorem dX23_acts_18 : decode cX23_acts 18 = .ok (.invokevirtual 22, 3) := dk_182 0 22 (dk_at dksX23_acts_0 18 rfl rfl)
theorem dX23_acts_21 : decode cX23_acts 21 = .ok (.goto 43, 3) := dk_167 0 43 (dk_at dksX23_acts_0 21 rfl rfl)
theorem dX23_acts_24 : decode cX23_acts 24 = .ok (.aload_n 0, 1) := dk_42 (dk_at dksX23_acts_1 0 rfl rfl)
theorem dX23_acts_25 : decode cX23_acts 25 = .ok (.getfield 7, 3) := dk_180 0 7 (dk_at dksX23_acts_1 1 rfl rfl)
theorem dX23_acts_28 : decode cX23_acts 28 = .ok (.iconst 3, 1) := dk_6 (dk_at dksX23_acts_1 4 rfl rfl)
theorem dX23_acts_29 : decode cX23_acts 29 = .ok (.if_icmp .ne 14, 3) := dk_160 0 14 (dk_at dksX23_acts_1 5 rfl rfl)
theorem dX23_acts_32 : decode cX23_acts 32 = .ok (.aload_n 2, 1) := dk_44 (dk_at dksX23_acts_1 8 rfl rfl)
theorem dX23_acts_33 : decode cX23_acts 33 = .ok (.aload_n 0, 1) := dk_42 (dk_at dksX23_acts_1 9 rfl rfl)
theorem dX23_acts_34 : decode cX23_acts 34 = .ok (.getfield 13, 3) := dk_180 0 13 (dk_at dksX23_acts_1 10 rfl rfl)
theorem dX23_acts_37 : decode cX23_acts 37 = .ok (.invokevirtual 28, 3) := dk_182 0 28 (dk_at dksX23_acts_1 13 rfl rfl)
theorem dX23_acts_40 : decode cX23_acts 40 = .ok (.goto 24, 3) := dk_167 0 24 (dk_at dksX23_acts_1 16 rfl rfl)
theorem dX23_acts_43 : decode cX23_acts 43 = .ok (.aload_n 2, 1) := dk_44 (dk_at dksX23_acts_1 19 rfl rfl)
theorem dX23_acts_44 : decode cX23_acts 44 = .ok (.aload_n 0, 1) := dk_42 (dk_at dksX23_acts_1 20 rfl rfl)
theorem dX23_acts_45 : decode cX23_acts 45 = .ok (.getfield 13, 3) := dk_180 0 13 (dk_at dksX23_acts_1 21 rfl rfl)
theorem dX23_acts_48 : decode cX23_acts 48 = .ok (.aload_n 0, 1) := dk_42 (dk_at dksX23_acts_2 0 rfl rfl)
theorem dX23_acts_49 : decode cX23_acts 49 = .ok (.getfield 7, 3) := dk_180 0 7 (dk_at dksX23_acts_2 1 rfl rfl)
theorem dX23_acts_52 : decode cX23_acts 52 = .ok (.iconst 1, 1) := dk_4 (dk_at dksX23_acts_2 4 rfl rfl)
theorem dX23_acts_53 : decode cX23_acts 53 = .ok (.if_icmp .ne 7, 3) := dk_160 0 7 (dk_at dksX23_acts_2 5 rfl rfl)
theorem dX23_acts_56 : decode cX23_acts 56 = .ok (.iconst 1, 1) := dk_4 (dk_at dksX23_acts_2 8 rfl rfl)
theorem dX23_acts_57 : decode cX23_acts 57 = .ok (.goto 4, 3) := dk_167 0 4 (dk_at dksX23_acts_2 9 rfl rfl)
theorem dX23_acts_60 : decode cX23_acts 60 = .ok (.iconst 0, 1) := dk_3 (dk_at dksX23_acts_2 12 rfl rfl)
theorem dX23_acts_61 : decode cX23_acts 61 = .ok (.invokevirtual 31, 3) := dk_182 0 31 (dk_at dksX23_acts_2 13 rfl rfl)
theorem dX23_acts_64 : decode cX23_acts 64 = .ok (.invokevirtual 35, 3) := dk_182 0 35 (dk_at dksX23_acts_2 16 rfl rfl)
theorem dX23_acts_67 : decode cX23_acts 67 = .ok (.return_, 1) := dk_177 (dk_at dksX23_acts_2 19 rfl rfl)
theorem q121 : (Jvm.Cond.initialized "PassagePapers$Alone") ∈ lw_all := lw_g (lw_at lw_m1 32 rfl) rfl
theorem q1072 : (Jvm.Cond.instantiable "PassagePapers$Alone" (2 : Nat)) ∈ lw_all := lw_g (lw_at lw_m5 23 rfl) rfl
theorem q1074 : (Jvm.Cond.instanceMethod ({ cls := "PassagePapers$Alone", name := "<init>", desc := "(II)V" } : Jvm.MethodName)) ∈ lw_all := lw_g (lw_at lw_m5 25 rfl) rfl
theorem q1075 : (Jvm.Cond.code ({ cls := "PassagePapers$Alone", name := "<init>", desc := "(II)V" } : Jvm.MethodName) prog_3_method_1_code (3 : Nat) (Option.none : Option Jvm.ClassFile.FieldType)) ∈ lw_all := lw_g (lw_at lw_m5 26 rfl) rfl
theorem q1076 : (Jvm.Cond.methodLinkNest "PassagePapers$Alone" (1 : Nat) ({ cls := "PassagePapers$Step", name := "<init>", desc := "()V" } : Jvm.MethodName) "PassagePapers") ∈ lw_tbl := lw_at lw_m5 27 rfl
theorem q1077 : (Jvm.Cond.fieldLink "PassagePapers$Alone" (7 : Nat) "PassagePapers$Alone" "what" "I") ∈ lw_all := lw_g (lw_at lw_m5 28 rfl) rfl
theorem q1078 : (Jvm.Cond.fieldLink "PassagePapers$Alone" (13 : Nat) "PassagePapers$Alone" "signer" "I") ∈ lw_all := lw_g (lw_at lw_m5 29 rfl) rfl
theorem q1079 : (Jvm.Cond.laysFinal "PassagePapers$Alone" "PassagePapers$Alone" "what" "I") ∈ lw_all := lw_g (lw_at lw_m5 30 rfl) rfl
theorem q1080 : (Jvm.Cond.soleField "PassagePapers$Alone" "what") ∈ lw_all := lw_g (lw_at lw_m5 31 rfl) rfl
theorem q1081 : (Jvm.Cond.laysFinal "PassagePapers$Alone" "PassagePapers$Alone" "signer" "I") ∈ lw_all := lw_g (lw_at lw_m5 32 rfl) rfl
theorem q1082 : (Jvm.Cond.soleField "PassagePapers$Alone" "signer") ∈ lw_all := lw_g (lw_at lw_m5 33 rfl) rfl
theorem q1083 : (Jvm.Cond.superclass "PassagePapers$Alone" "PassagePapers$Step") ∈ lw_all := lw_g (lw_at lw_m5 34 rfl) rfl
theorem q1092 : (Jvm.Cond.fieldLinkNest "PassagePapers$Alone" (16 : Nat) "PassagePapers$Run" "state" "LPassagePapers$State;" "PassagePapers") ∈ lw_tbl := lw_at lw_m5 43 rfl
theorem q1139 : (Jvm.Cond.selects "PassagePapers$Alone" ({ cls := "PassagePapers$Step", name := "acts", desc := "(LPassagePapers$Run;)V" } : Jvm.MethodName) ({ cls := "PassagePapers$Alone", name := "acts", desc := "(LPassagePapers$Run;)V" } : Jvm.MethodName)) ∈ lw_all := lw_g (lw_at lw_m5 90 rfl) rfl
theorem q1140 : (Jvm.Cond.instanceMethod ({ cls := "PassagePapers$Alone", name := "acts", desc := "(LPassagePapers$Run;)V" } : Jvm.MethodName)) ∈ lw_all := lw_g (lw_at lw_m5 91 rfl) rfl
theorem q1141 : (Jvm.Cond.code ({ cls := "PassagePapers$Alone", name := "acts", desc := "(LPassagePapers$Run;)V" } : Jvm.MethodName) prog_3_method_2_code (3 : Nat) (Option.none : Option Jvm.ClassFile.FieldType)) ∈ lw_all := lw_g (lw_at lw_m5 92 rfl) rfl
theorem q1142 : (Jvm.Cond.methodLink "PassagePapers$Alone" (22 : Nat) ({ cls := "PassagePapers$State", name := "strikes", desc := "(I)Z" } : Jvm.MethodName)) ∈ lw_all := lw_g (lw_at lw_m5 93 rfl) rfl
theorem q1146 : (Jvm.Cond.methodLink "PassagePapers$Alone" (28 : Nat) ({ cls := "PassagePapers$State", name := "pays", desc := "(I)Z" } : Jvm.MethodName)) ∈ lw_all := lw_g (lw_at lw_m5 97 rfl) rfl
theorem q1167 : (Jvm.Cond.methodLink "PassagePapers$Alone" (31 : Nat) ({ cls := "PassagePapers$State", name := "loses", desc := "(IZ)Z" } : Jvm.MethodName)) ∈ lw_all := lw_g (lw_at lw_m5 118 rfl) rfl
theorem q1171 : (Jvm.Cond.methodLink "PassagePapers$Alone" (35 : Nat) ({ cls := "PassagePapers$Run", name := "tells", desc := "(Z)V" } : Jvm.MethodName)) ∈ lw_all := lw_g (lw_at lw_m5 122 rfl) rfl
theorem q2216 : (Jvm.Cond.castable "PassagePapers$Alone" "java/lang/Object") ∈ lw_tbl := lw_at lw_m9 207 rfl
theorem q2226 : (Jvm.Cond.castable "PassagePapers$Alone" "PassagePapers$Step") ∈ lw_tbl := lw_at lw_m9 217 rfl
theorem in_X23 : ∀ w ∈ wsX230, w ∈ lw_all := lw_in wsX230 [1079, 1081] (by decide +kernel) (by decide +kernel)
/-! PassagePapers$Run -/
set_option maxRecDepth 100000
def RX24 : String := "PassagePapers$Run"
def TX24 : u_T := fun k => match k with
  | 0 => ("PassagePapers$Run", "state", "LPassagePapers$State;", true)
  | 1 => ("PassagePapers$Run", "begun", "I", false)
  | 2 => ("PassagePapers$Run", "done", "I", false)
  | _ => ("PassagePapers$Run", "refused", "I", false)
def tyX24 : Nat → FieldType := fun k => match k with
  | 0 => .object "PassagePapers$State"
  | 1 => .int
  | 2 => .int
  | _ => .int
abbrev wsX240 : List Cond := u_ws RX24 TX24 4
theorem nmX24 : ∀ a, a < 4 → ∀ b, b < 4 → a ≠ b → (TX24 a).2.1 ≠ (TX24 b).2.1 := by decide +kernel
theorem tyX24_ok : ∀ k, k < 4 → parseFieldDescriptor (TX24 k).2.2.1 = some (tyX24 k) := by decide +kernel
abbrev cX24_init : ByteArray := prog_16_method_1_code
def yX24_init : MethodName := ⟨RX24, "<init>", "(LPassagePapers$State;)V"⟩
def dkwX24_init_0 : List UInt8 := [42, 183, 0, 3, 42, 43, 181, 0, 9, 177]
abbrev dktX24_init_0 : List UInt8 := dkwX24_init_0 ++ []
theorem dksX24_init_0 : cX24_init.data.toList.drop 0 = dktX24_init_0 := by decide +kernel
theorem dX24_init_0 : decode cX24_init 0 = .ok (.aload_n 0, 1) := dk_42 (dk_at dksX24_init_0 0 rfl rfl)
theorem dX24_init_1 : decode cX24_init 1 = .ok (.invokespecial 3, 3) := dk_183 0 3 (dk_at dksX24_init_0 1 rfl rfl)
theorem dX24_init_4 : decode cX24_init 4 = .ok (.aload_n 0, 1) := dk_42 (dk_at dksX24_init_0 4 rfl rfl)
theorem dX24_init_5 : decode cX24_init 5 = .ok (.aload_n 1, 1) := dk_43 (dk_at dksX24_init_0 5 rfl rfl)
theorem dX24_init_6 : decode cX24_init 6 = .ok (.putfield 9, 3) := dk_181 0 9 (dk_at dksX24_init_0 6 rfl rfl)
theorem dX24_init_9 : decode cX24_init 9 = .ok (.return_, 1) := dk_177 (dk_at dksX24_init_0 9 rfl rfl)
abbrev cX24_mayBegin : ByteArray := prog_16_method_2_code
def yX24_mayBegin : MethodName := ⟨RX24, "mayBegin", "()Z"⟩
def dkwX24_mayBegin_0 : List UInt8 := [42, 180, 0, 15, 17, 0, 200, 162, 0, 7, 4, 167, 0, 4, 3, 172]
abbrev dktX24_mayBegin_0 : List UInt8 := dkwX24_mayBegin_0 ++ []
theorem dksX24_mayBegin_0 : cX24_mayBegin.data.toList.drop 0 = dktX24_mayBegin_0 := by decide +kernel
theorem dX24_mayBegin_0 : decode cX24_mayBegin 0 = .ok (.aload_n 0, 1) := dk_42 (dk_at dksX24_mayBegin_0 0 rfl rfl)
theorem dX24_mayBegin_1 : decode cX24_mayBegin 1 = .ok (.getfield 15, 3) := dk_180 0 15 (dk_at dksX24_mayBegin_0 1 rfl rfl)
theorem dX24_mayBegin_4 : decode cX24_mayBegin 4 = .ok (.sipush 200, 3) := dk_17 0 200 (dk_at dksX24_mayBegin_0 4 rfl rfl)
theorem dX24_mayBegin_7 : decode cX24_mayBegin 7 = .ok (.if_icmp .ge 7, 3) := dk_162 0 7 (dk_at dksX24_mayBegin_0 7 rfl rfl)
theorem dX24_mayBegin_10 : decode cX24_mayBegin 10 = .ok (.iconst 1, 1) := dk_4 (dk_at dksX24_mayBegin_0 10 rfl rfl)
theorem dX24_mayBegin_11 : decode cX24_mayBegin 11 = .ok (.goto 4, 3) := dk_167 0 4 (dk_at dksX24_mayBegin_0 11 rfl rfl)
theorem dX24_mayBegin_14 : decode cX24_mayBegin 14 = .ok (.iconst 0, 1) := dk_3 (dk_at dksX24_mayBegin_0 14 rfl rfl)
theorem dX24_mayBegin_15 : decode cX24_mayBegin 15 = .ok (.ireturn, 1) := dk_172 (dk_at dksX24_mayBegin_0 15 rfl rfl)
abbrev cX24_begins : ByteArray := prog_16_method_3_code
def yX24_begins : MethodName := ⟨RX24, "begins", "(LPassagePapers$Step;)V"⟩
def dkwX24_begins_0 : List UInt8 := [42, 89, 180, 0, 15, 4, 96, 181, 0, 15, 43, 42, 182, 0, 19, 177]
abbrev dktX24_begins_0 : List UInt8 := dkwX24_begins_0 ++ []
theorem dksX24_begins_0 : cX24_begins.data.toList.drop 0 = dktX24_begins_0 := by decide +kernel
theorem dX24_begins_0 : decode cX24_begins 0 = .ok (.aload_n 0, 1) := dk_42 (dk_at dksX24_begins_0 0 rfl rfl)
theorem dX24_begins_1 : decode cX24_begins 1 = .ok (.dup, 1) := dk_89 (dk_at dksX24_begins_0 1 rfl rfl)
theorem dX24_begins_2 : decode cX24_begins 2 = .ok (.getfield 15, 3) := dk_180 0 15 (dk_at dksX24_begins_0 2 rfl rfl)
theorem dX24_begins_5 : decode cX24_begins 5 = .ok (.iconst 1, 1) := dk_4 (dk_at dksX24_begins_0 5 rfl rfl)
theorem dX24_begins_6 : decode cX24_begins 6 = .ok (.iadd, 1) := dk_96 (dk_at dksX24_begins_0 6 rfl rfl)
theorem dX24_begins_7 : decode cX24_begins 7 = .ok (.putfield 15, 3) := dk_181 0 15 (dk_at dksX24_begins_0 7 rfl rfl)
theorem dX24_begins_10 : decode cX24_begins 10 = .ok (.aload_n 1, 1) := dk_43 (dk_at dksX24_begins_0 10 rfl rfl)
theorem dX24_begins_11 : decode cX24_begins 11 = .ok (.aload_n 0, 1) := dk_42 (dk_at dksX24_begins_0 11 rfl rfl)
theorem dX24_begins_12 : decode cX24_begins 12 = .ok (.invokevirtual 19, 3) := dk_182 0 19 (dk_at dksX24_begins_0 12 rfl rfl)
theorem dX24_begins_15 : decode cX24_begins 15 = .ok (.return_, 1) := dk_177 (dk_at dksX24_begins_0 15 rfl rfl)
abbrev cX24_tells : ByteArray := prog_16_method_4_code
def yX24_tells : MethodName := ⟨RX24, "tells", "(Z)V"⟩
def dkwX24_tells_1 : List UInt8 := [181, 0, 28, 177]
abbrev dktX24_tells_1 : List UInt8 := dkwX24_tells_1 ++ []
def dkwX24_tells_0 : List UInt8 := [27, 153, 0, 16, 42, 89, 180, 0, 25, 4, 96, 181, 0, 25, 167, 0, 13, 42, 89, 180, 0, 28, 4, 96]
abbrev dktX24_tells_0 : List UInt8 := dkwX24_tells_0 ++ dktX24_tells_1
theorem dksX24_tells_0 : cX24_tells.data.toList.drop 0 = dktX24_tells_0 := by decide +kernel
theorem dksX24_tells_1 : cX24_tells.data.toList.drop 24 = dktX24_tells_1 := dk_seg dksX24_tells_0 24 rfl rfl
theorem dX24_tells_0 : decode cX24_tells 0 = .ok (.iload_n 1, 1) := dk_27 (dk_at dksX24_tells_0 0 rfl rfl)
theorem dX24_tells_1 : decode cX24_tells 1 = .ok (.ifCond .eq 16, 3) := dk_153 0 16 (dk_at dksX24_tells_0 1 rfl rfl)
theorem dX24_tells_4 : decode cX24_tells 4 = .ok (.aload_n 0, 1) := dk_42 (dk_at dksX24_tells_0 4 rfl rfl)
theorem dX24_tells_5 : decode cX24_tells 5 = .ok (.dup, 1) := dk_89 (dk_at dksX24_tells_0 5 rfl rfl)
theorem dX24_tells_6 : decode cX24_tells 6 = .ok (.getfield 25, 3) := dk_180 0 25 (dk_at dksX24_tells_0 6 rfl rfl)
theorem dX24_tells_9 : decode cX24_tells 9 = .ok (.iconst 1, 1) := dk_4 (dk_at dksX24_tells_0 9 rfl rfl)
theorem dX24_tells_10 : decode cX24_tells 10 = .ok (.iadd, 1) := dk_96 (dk_at dksX24_tells_0 10 rfl rfl)
theorem dX24_tells_11 : decode cX24_tells 11 = .ok (.putfield 25, 3) := dk_181 0 25 (dk_at dksX24_tells_0 11 rfl rfl)
theorem dX24_tells_14 : decode cX24_tells 14 = .ok (.goto 13, 3) := dk_167 0 13 (dk_at dksX24_tells_0 14 rfl rfl)
theorem dX24_tells_17 : decode cX24_tells 17 = .ok (.aload_n 0, 1) := dk_42 (dk_at dksX24_tells_0 17 rfl rfl)
theorem dX24_tells_18 : decode cX24_tells 18 = .ok (.dup, 1) := dk_89 (dk_at dksX24_tells_0 18 rfl rfl)
theorem dX24_tells_19 : decode cX24_tells 19 = .ok (.getfield 28, 3) := dk_180 0 28 (dk_at dksX24_tells_0 19 rfl rfl)
theorem dX24_tells_22 : decode cX24_tells 22 = .ok (.iconst 1, 1) := dk_4 (dk_at dksX24_tells_0 22 rfl rfl)
theorem dX24_tells_23 : decode cX24_tells 23 = .ok (.iadd, 1) := dk_96 (dk_at dksX24_tells_0 23 rfl rfl)
theorem dX24_tells_24 : decode cX24_tells 24 = .ok (.putfield 28, 3) := dk_181 0 28 (dk_at dksX24_tells_1 0 rfl rfl)
theorem dX24_tells_27 : decode cX24_tells 27 = .ok (.return_, 1) := dk_177 (dk_at dksX24_tells_1 3 rfl rfl)
theorem q122 : (Jvm.Cond.initialized "PassagePapers$Run") ∈ lw_all := lw_g (lw_at lw_m1 33 rfl) rfl
theorem q1085 : (Jvm.Cond.instantiable "PassagePapers$Run" (4 : Nat)) ∈ lw_all := lw_g (lw_at lw_m5 36 rfl) rfl
theorem q1088 : (Jvm.Cond.instanceMethod ({ cls := "PassagePapers$Run", name := "<init>", desc := "(LPassagePapers$State;)V" } : Jvm.MethodName)) ∈ lw_all := lw_g (lw_at lw_m5 39 rfl) rfl
theorem q1089 : (Jvm.Cond.code ({ cls := "PassagePapers$Run", name := "<init>", desc := "(LPassagePapers$State;)V" } : Jvm.MethodName) prog_16_method_1_code (2 : Nat) (Option.none : Option Jvm.ClassFile.FieldType)) ∈ lw_all := lw_g (lw_at lw_m5 40 rfl) rfl
theorem q1090 : (Jvm.Cond.methodLink "PassagePapers$Run" (3 : Nat) ({ cls := "java/lang/Object", name := "<init>", desc := "()V" } : Jvm.MethodName)) ∈ lw_all := lw_g (lw_at lw_m5 41 rfl) rfl
theorem q1091 : (Jvm.Cond.fieldLink "PassagePapers$Run" (9 : Nat) "PassagePapers$Run" "state" "LPassagePapers$State;") ∈ lw_all := lw_g (lw_at lw_m5 42 rfl) rfl
theorem q1097 : (Jvm.Cond.fieldLink "PassagePapers$Run" (15 : Nat) "PassagePapers$Run" "begun" "I") ∈ lw_all := lw_g (lw_at lw_m5 48 rfl) rfl
theorem q1098 : (Jvm.Cond.fieldLink "PassagePapers$Run" (25 : Nat) "PassagePapers$Run" "done" "I") ∈ lw_all := lw_g (lw_at lw_m5 49 rfl) rfl
theorem q1100 : (Jvm.Cond.fieldLink "PassagePapers$Run" (28 : Nat) "PassagePapers$Run" "refused" "I") ∈ lw_all := lw_g (lw_at lw_m5 51 rfl) rfl
theorem q1102 : (Jvm.Cond.laysFinal "PassagePapers$Run" "PassagePapers$Run" "state" "LPassagePapers$State;") ∈ lw_all := lw_g (lw_at lw_m5 53 rfl) rfl
theorem q1103 : (Jvm.Cond.soleField "PassagePapers$Run" "state") ∈ lw_all := lw_g (lw_at lw_m5 54 rfl) rfl
theorem q1104 : (Jvm.Cond.lays "PassagePapers$Run" "PassagePapers$Run" "begun" "I") ∈ lw_all := lw_g (lw_at lw_m5 55 rfl) rfl
theorem q1105 : (Jvm.Cond.soleField "PassagePapers$Run" "begun") ∈ lw_all := lw_g (lw_at lw_m5 56 rfl) rfl
theorem q1106 : (Jvm.Cond.lays "PassagePapers$Run" "PassagePapers$Run" "done" "I") ∈ lw_all := lw_g (lw_at lw_m5 57 rfl) rfl
theorem q1107 : (Jvm.Cond.soleField "PassagePapers$Run" "done") ∈ lw_all := lw_g (lw_at lw_m5 58 rfl) rfl
theorem q1108 : (Jvm.Cond.lays "PassagePapers$Run" "PassagePapers$Run" "refused" "I") ∈ lw_all := lw_g (lw_at lw_m5 59 rfl) rfl
theorem q1109 : (Jvm.Cond.soleField "PassagePapers$Run" "refused") ∈ lw_all := lw_g (lw_at lw_m5 60 rfl) rfl
theorem q1110 : (Jvm.Cond.superclass "PassagePapers$Run" "java/lang/Object") ∈ lw_all := lw_g (lw_at lw_m5 61 rfl) rfl
theorem q1116 : (Jvm.Cond.instanceMethod ({ cls := "PassagePapers$Run", name := "mayBegin", desc := "()Z" } : Jvm.MethodName)) ∈ lw_all := lw_g (lw_at lw_m5 67 rfl) rfl
theorem q1117 : (Jvm.Cond.selects "PassagePapers$Run" ({ cls := "PassagePapers$Run", name := "mayBegin", desc := "()Z" } : Jvm.MethodName) ({ cls := "PassagePapers$Run", name := "mayBegin", desc := "()Z" } : Jvm.MethodName)) ∈ lw_all := lw_g (lw_at lw_m5 68 rfl) rfl
theorem q1118 : (Jvm.Cond.code ({ cls := "PassagePapers$Run", name := "mayBegin", desc := "()Z" } : Jvm.MethodName) prog_16_method_2_code (1 : Nat) (Option.some Jvm.ClassFile.FieldType.boolean)) ∈ lw_all := lw_g (lw_at lw_m5 69 rfl) rfl
theorem q1120 : (Jvm.Cond.instanceMethod ({ cls := "PassagePapers$Run", name := "begins", desc := "(LPassagePapers$Step;)V" } : Jvm.MethodName)) ∈ lw_all := lw_g (lw_at lw_m5 71 rfl) rfl
theorem q1121 : (Jvm.Cond.selects "PassagePapers$Run" ({ cls := "PassagePapers$Run", name := "begins", desc := "(LPassagePapers$Step;)V" } : Jvm.MethodName) ({ cls := "PassagePapers$Run", name := "begins", desc := "(LPassagePapers$Step;)V" } : Jvm.MethodName)) ∈ lw_all := lw_g (lw_at lw_m5 72 rfl) rfl
theorem q1122 : (Jvm.Cond.code ({ cls := "PassagePapers$Run", name := "begins", desc := "(LPassagePapers$Step;)V" } : Jvm.MethodName) prog_16_method_3_code (2 : Nat) (Option.none : Option Jvm.ClassFile.FieldType)) ∈ lw_all := lw_g (lw_at lw_m5 73 rfl) rfl
theorem q1123 : (Jvm.Cond.methodLink "PassagePapers$Run" (19 : Nat) ({ cls := "PassagePapers$Step", name := "acts", desc := "(LPassagePapers$Run;)V" } : Jvm.MethodName)) ∈ lw_all := lw_g (lw_at lw_m5 74 rfl) rfl
theorem q1136 : (Jvm.Cond.instanceMethod ({ cls := "PassagePapers$Run", name := "tells", desc := "(Z)V" } : Jvm.MethodName)) ∈ lw_all := lw_g (lw_at lw_m5 87 rfl) rfl
theorem q1137 : (Jvm.Cond.selects "PassagePapers$Run" ({ cls := "PassagePapers$Run", name := "tells", desc := "(Z)V" } : Jvm.MethodName) ({ cls := "PassagePapers$Run", name := "tells", desc := "(Z)V" } : Jvm.MethodName)) ∈ lw_all := lw_g (lw_at lw_m5 88 rfl) rfl
theorem q1138 : (Jvm.Cond.code ({ cls := "PassagePapers$Run", name := "tells", desc := "(Z)V" } : Jvm.MethodName) prog_16_method_4_code (2 : Nat) (Option.none : Option Jvm.ClassFile.FieldType)) ∈ lw_all := lw_g (lw_at lw_m5 89 rfl) rfl
theorem q2217 : (Jvm.Cond.castable "PassagePapers$Run" "java/lang/Object") ∈ lw_tbl := lw_at lw_m9 208 rfl
theorem in_X24 : ∀ w ∈ wsX240, w ∈ lw_all := lw_in wsX240 [1102, 1104, 1106, 1108] (by decide +kernel) (by decide +kernel)
