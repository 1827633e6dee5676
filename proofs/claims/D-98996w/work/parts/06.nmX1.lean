/-! PassagePapers -/
set_option maxRecDepth 100000
def RX1 : String := "PassagePapers"
def TX1 : u_T := fun k => match k with
  | 0 => ("PassagePapers", "tape", "[B", true)
  | 1 => ("PassagePapers", "laws", "LPassagePapers$Laws;", true)
  | 2 => ("PassagePapers", "as", "LPassagePapers$Kept;", true)
  | 3 => ("PassagePapers", "images", "[LPassagePapers$Kept;", true)
  | 4 => ("PassagePapers", "trial", "LPassagePapers$State;", true)
  | 5 => ("PassagePapers", "places", "LPassagePapers$Places;", true)
  | 6 => ("PassagePapers", "sight", "LPassagePapers$Sight;", true)
  | 7 => ("PassagePapers", "refused", "[I", true)
  | 8 => ("PassagePapers", "bookWeek", "[I", true)
  | 9 => ("PassagePapers", "bookAsked", "[I", true)
  | 10 => ("PassagePapers", "fields", "[I", true)
  | 11 => ("PassagePapers", "alike", "[I", true)
  | 12 => ("PassagePapers", "register", "LPassagePapers$Register;", false)
  | 13 => ("PassagePapers", "fed", "I", false)
  | 14 => ("PassagePapers", "place", "I", false)
  | 15 => ("PassagePapers", "lines", "I", false)
  | 16 => ("PassagePapers", "refusedSteps", "I", false)
  | 17 => ("PassagePapers", "kept", "I", false)
  | _ => ("PassagePapers", "spoiled", "I", false)
def tyX1 : Nat → FieldType := fun k => match k with
  | 0 => .array .byte
  | 1 => .object "PassagePapers$Laws"
  | 2 => .object "PassagePapers$Kept"
  | 3 => .array (.object "PassagePapers$Kept")
  | 4 => .object "PassagePapers$State"
  | 5 => .object "PassagePapers$Places"
  | 6 => .object "PassagePapers$Sight"
  | 7 => .array .int
  | 8 => .array .int
  | 9 => .array .int
  | 10 => .array .int
  | 11 => .array .int
  | 12 => .object "PassagePapers$Register"
  | 13 => .int
  | 14 => .int
  | 15 => .int
  | 16 => .int
  | 17 => .int
  | _ => .int
abbrev wsX10 : List Cond := u_ws RX1 TX1 19
set_option maxRecDepth 100000 in
theorem nmX1 : ∀ a, a < 19 → ∀ b, b < 19 → a ≠ b → (TX1 a).2.1 ≠ (TX1 b).2.1 := by decide +kernel
set_option maxRecDepth 100000 in
theorem tyX1_ok : ∀ k, k < 19 → parseFieldDescriptor (TX1 k).2.2.1 = some (tyX1 k) := by decide +kernel
abbrev cX1_init : ByteArray := prog_1_method_1_code
def yX1_init : MethodName := ⟨RX1, "<init>", "()V"⟩
def dkwX1_init_8 : List UInt8 := [180, 0, 25, 182, 0, 81, 42, 180, 0, 73, 182, 0, 85, 177]
abbrev dktX1_init_8 : List UInt8 := dkwX1_init_8 ++ []
def dkwX1_init_7 : List UInt8 := [188, 10, 181, 0, 67, 42, 187, 0, 70, 89, 183, 0, 72, 181, 0, 73, 42, 2, 181, 0, 77, 42]
abbrev dktX1_init_7 : List UInt8 := dkwX1_init_7 ++ dktX1_init_8
def dkwX1_init_6 : List UInt8 := [188, 10, 181, 0, 58, 42, 16, 8, 188, 10, 181, 0, 61, 42, 8, 188, 10, 181, 0, 64, 42, 17, 3, 232]
abbrev dktX1_init_6 : List UInt8 := dkwX1_init_6 ++ dktX1_init_7
def dkwX1_init_5 : List UInt8 := [181, 0, 43, 42, 187, 0, 47, 89, 183, 0, 49, 181, 0, 50, 42, 5, 188, 10, 181, 0, 54, 42, 16, 8]
abbrev dktX1_init_5 : List UInt8 := dkwX1_init_5 ++ dktX1_init_6
def dkwX1_init_4 : List UInt8 := [187, 0, 33, 89, 42, 180, 0, 16, 183, 0, 35, 181, 0, 36, 42, 187, 0, 40, 89, 183, 0, 42]
abbrev dktX1_init_4 : List UInt8 := dkwX1_init_4 ++ dktX1_init_5
def dkwX1_init_3 : List UInt8 := [183, 0, 22, 83, 89, 5, 187, 0, 20, 89, 42, 180, 0, 16, 183, 0, 22, 83, 181, 0, 29, 42]
abbrev dktX1_init_3 : List UInt8 := dkwX1_init_3 ++ dktX1_init_4
def dkwX1_init_2 : List UInt8 := [187, 0, 20, 89, 42, 180, 0, 16, 183, 0, 22, 83, 89, 4, 187, 0, 20, 89, 42, 180, 0, 16]
abbrev dktX1_init_2 : List UInt8 := dkwX1_init_2 ++ dktX1_init_3
def dkwX1_init_1 : List UInt8 := [42, 187, 0, 20, 89, 42, 180, 0, 16, 183, 0, 22, 181, 0, 25, 42, 6, 189, 0, 20, 89, 3]
abbrev dktX1_init_1 : List UInt8 := dkwX1_init_1 ++ dktX1_init_2
def dkwX1_init_0 : List UInt8 := [42, 183, 0, 1, 42, 17, 2, 88, 188, 8, 181, 0, 9, 42, 187, 0, 13, 89, 183, 0, 15, 181, 0, 16]
abbrev dktX1_init_0 : List UInt8 := dkwX1_init_0 ++ dktX1_init_1
theorem dksX1_init_0 : cX1_init.data.toList.drop 0 = dktX1_init_0 := by decide +kernel
theorem dksX1_init_1 : cX1_init.data.toList.drop 24 = dktX1_init_1 := dk_seg dksX1_init_0 24 rfl rfl
theorem dksX1_init_2 : cX1_init.data.toList.drop 46 = dktX1_init_2 := dk_seg dksX1_init_1 22 rfl rfl
theorem dksX1_init_3 : cX1_init.data.toList.drop 68 = dktX1_init_3 := dk_seg dksX1_init_2 22 rfl rfl
theorem dksX1_init_4 : cX1_init.data.toList.drop 90 = dktX1_init_4 := dk_seg dksX1_init_3 22 rfl rfl
theorem dksX1_init_5 : cX1_init.data.toList.drop 112 = dktX1_init_5 := dk_seg dksX1_init_4 22 rfl rfl
theorem dksX1_init_6 : cX1_init.data.toList.drop 136 = dktX1_init_6 := dk_seg dksX1_init_5 24 rfl rfl
theorem dksX1_init_7 : cX1_init.data.toList.drop 160 = dktX1_init_7 := dk_seg dksX1_init_6 24 rfl rfl
theorem dksX1_init_8 : cX1_init.data.toList.drop 182 = dktX1_init_8 := dk_seg dksX1_init_7 22 rfl rfl
theorem dX1_init_0 : decode cX1_init 0 = .ok (.aload_n 0, 1) := dk_42 (dk_at dksX1_init_0 0 rfl rfl)
theorem dX1_init_1 : decode cX1_init 1 = .ok (.invokespecial 1, 3) := dk_183 0 1 (dk_at dksX1_init_0 1 rfl rfl)
theorem dX1_init_4 : decode cX1_init 4 = .ok (.aload_n 0, 1) := dk_42 (dk_at dksX1_init_0 4 rfl rfl)
theorem dX1_init_5 : decode cX1_init 5 = .ok (.sipush 600, 3) := dk_17 2 88 (dk_at dksX1_init_0 5 rfl rfl)
theorem dX1_init_8 : decode cX1_init 8 = .ok (.newarray .byte, 2) := dk_188_8 (dk_at dksX1_init_0 8 rfl rfl)
theorem dX1_init_10 : decode cX1_init 10 = .ok (.putfield 9, 3) := dk_181 0 9 (dk_at dksX1_init_0 10 rfl rfl)
theorem dX1_init_13 : decode cX1_init 13 = .ok (.aload_n 0, 1) := dk_42 (dk_at dksX1_init_0 13 rfl rfl)
theorem dX1_init_14 : decode cX1_init 14 = .ok (.new 13, 3) := dk_187 0 13 (dk_at dksX1_init_0 14 rfl rfl)
theorem dX1_init_17 : decode cX1_init 17 = .ok (.dup, 1) := dk_89 (dk_at dksX1_init_0 17 rfl rfl)
theorem dX1_init_18 : decode cX1_init 18 = .ok (.invokespecial 15, 3) := dk_183 0 15 (dk_at dksX1_init_0 18 rfl rfl)
theorem dX1_init_21 : decode cX1_init 21 = .ok (.putfield 16, 3) := dk_181 0 16 (dk_at dksX1_init_0 21 rfl rfl)
theorem dX1_init_24 : decode cX1_init 24 = .ok (.aload_n 0, 1) := dk_42 (dk_at dksX1_init_1 0 rfl rfl)
theorem dX1_init_25 : decode cX1_init 25 = .ok (.new 20, 3) := dk_187 0 20 (dk_at dksX1_init_1 1 rfl rfl)
theorem dX1_init_28 : decode cX1_init 28 = .ok (.dup, 1) := dk_89 (dk_at dksX1_init_1 4 rfl rfl)
theorem dX1_init_29 : decode cX1_init 29 = .ok (.aload_n 0, 1) := dk_42 (dk_at dksX1_init_1 5 rfl rfl)
theorem dX1_init_30 : decode cX1_init 30 = .ok (.getfield 16, 3) := dk_180 0 16 (dk_at dksX1_init_1 6 rfl rfl)
theorem dX1_init_33 : decode cX1_init 33 = .ok (.invokespecial 22, 3) := dk_183 0 22 (dk_at dksX1_init_1 9 rfl rfl)
theorem dX1_init_36 : decode cX1_init 36 = .ok (.putfield 25, 3) := dk_181 0 25 (dk_at dksX1_init_1 12 rfl rfl)
theorem dX1_init_39 : decode cX1_init 39 = .ok (.aload_n 0, 1) := dk_42 (dk_at dksX1_init_1 15 rfl rfl)
theorem dX1_init_40 : decode cX1_init 40 = .ok (.iconst 3, 1) := dk_6 (dk_at dksX1_init_1 16 rfl rfl)
theorem dX1_init_41 : decode cX1_init 41 = .ok (.anewarray 20, 3) := dk_189 0 20 (dk_at dksX1_init_1 17 rfl rfl)
theorem dX1_init_44 : decode cX1_init 44 = .ok (.dup, 1) := dk_89 (dk_at dksX1_init_1 20 rfl rfl)
theorem dX1_init_45 : decode cX1_init 45 = .ok (.iconst 0, 1) := dk_3 (dk_at dksX1_init_1 21 rfl rfl)
theorem dX1_init_46 : decode cX1_init 46 = .ok (.new 20, 3) := dk_187 0 20 (dk_at dksX1_init_2 0 rfl rfl)
theorem dX1_init_49 : decode cX1_init 49 = .ok (.dup, 1) := dk_89 (dk_at dksX1_init_2 3 rfl rfl)
theorem dX1_init_50 : decode cX1_init 50 = .ok (.aload_n 0, 1) := dk_42 (dk_at dksX1_init_2 4 rfl rfl)
theorem dX1_init_51 : decode cX1_init 51 = .ok (.getfield 16, 3) := dk_180 0 16 (dk_at dksX1_init_2 5 rfl rfl)
theorem dX1_init_54 : decode cX1_init 54 = .ok (.invokespecial 22, 3) := dk_183 0 22 (dk_at dksX1_init_2 8 rfl rfl)
theorem dX1_init_57 : decode cX1_init 57 = .ok (.aastore, 1) := dk_83 (dk_at dksX1_init_2 11 rfl rfl)
theorem dX1_init_58 : decode cX1_init 58 = .ok (.dup, 1) := dk_89 (dk_at dksX1_init_2 12 rfl rfl)
theorem dX1_init_59 : decode cX1_init 59 = .ok (.iconst 1, 1) := dk_4 (dk_at dksX1_init_2 13 rfl rfl)
theorem dX1_init_60 : decode cX1_init 60 = .ok (.new 20, 3) := dk_187 0 20 (dk_at dksX1_init_2 14 rfl rfl)
theorem dX1_init_63 : decode cX1_init 63 = .ok (.dup, 1) := dk_89 (dk_at dksX1_init_2 17 rfl rfl)
theorem dX1_init_64 : decode cX1_init 64 = .ok (.aload_n 0, 1) := dk_42 (dk_at dksX1_init_2 18 rfl rfl)
theorem dX1_init_65 : decode cX1_init 65 = .ok (.getfield 16, 3) := dk_180 0 16 (dk_at dksX1_init_2 19 rfl rfl)
theorem dX1_init_68 : decode cX1_init 68 = .ok (.invokespecial 22, 3) := dk_183 0 22 (dk_at dksX1_init_3 0 rfl rfl)
theorem dX1_init_71 : decode cX1_init 71 = .ok (.aastore, 1) := dk_83 (dk_at dksX1_init_3 3 rfl rfl)
theorem dX1_init_72 : decode cX1_init 72 = .ok (.dup, 1) := dk_89 (dk_at dksX1_init_3 4 rfl rfl)
theorem dX1_init_73 : decode cX1_init 73 = .ok (.iconst 2, 1) := dk_5 (dk_at dksX1_init_3 5 rfl rfl)
theorem dX1_init_74 : decode cX1_init 74 = .ok (.new 20, 3) := dk_187 0 20 (dk_at dksX1_init_3 6 rfl rfl)
theorem dX1_init_77 : decode cX1_init 77 = .ok (.dup, 1) := dk_89 (dk_at dksX1_init_3 9 rfl rfl)
theorem dX1_init_78 : decode cX1_init 78 = .ok (.aload_n 0, 1) := dk_42 (dk_at dksX1_init_3 10 rfl rfl)
theorem dX1_init_79 : decode cX1_init 79 = .ok (.getfield 16, 3) := dk_180 0 16 (dk_at dksX1_init_3 11 rfl rfl)
theorem dX1_init_82 : decode cX1_init 82 = .ok (.invokespecial 22, 3) := dk_183 0 22 (dk_at dksX1_init_3 14 rfl rfl)
theorem dX1_init_85 : decode cX1_init 85 = .ok (.aastore, 1) := dk_83 (dk_at dksX1_init_3 17 rfl rfl)
theorem dX1_init_86 : decode cX1_init 86 = .ok (.putfield 29, 3) := dk_181 0 29 (dk_at dksX1_init_3 18 rfl rfl)
theorem dX1_init_89 : decode cX1_init 89 = .ok (.aload_n 0, 1) := dk_42 (dk_at dksX1_init_3 21 rfl rfl)
theorem dX1_init_90 : decode cX1_init 90 = .ok (.new 33, 3) := dk_187 0 33 (dk_at dksX1_init_4 0 rfl rfl)
theorem dX1_init_93 : decode cX1_init 93 = .ok (.dup, 1) := dk_89 (dk_at dksX1_init_4 3 rfl rfl)
theorem dX1_init_94 : decode cX1_init 94 = .ok (.aload_n 0, 1) := dk_42 (dk_at dksX1_init_4 4 rfl rfl)
theorem dX1_init_95 : decode cX1_init 95 = .ok (.getfield 16, 3) := dk_180 0 16 (dk_at dksX1_init_4 5 rfl rfl)
theorem dX1_init_98 : decode cX1_init 98 = .ok (.invokespecial 35, 3) := dk_183 0 35 (dk_at dksX1_init_4 8 rfl rfl)
theorem dX1_init_101 : decode cX1_init 101 = .ok (.putfield 36, 3) := dk_181 0 36 (dk_at dksX1_init_4 11 rfl rfl)
theorem dX1_init_104 : decode cX1_init 104 = .ok (.aload_n 0, 1) := dk_42 (dk_at dksX1_init_4 14 rfl rfl)
theorem dX1_init_105 : decode cX1_init 105 = .ok (.new 40, 3) := dk_187 0 40 (dk_at dksX1_init_4 15 rfl rfl)
theorem dX1_init_108 : decode cX1_init 108 = .ok (.dup, 1) := dk_89 (dk_at dksX1_init_4 18 rfl rfl)
theorem dX1_init_109 : decode cX1_init 109 = .ok (.invokespecial 42, 3) := dk_183 0 42 (dk_at dksX1_init_4 19 rfl rfl)
theorem dX1_init_112 : decode cX1_init 112 = .ok (.putfield 43, 3) := dk_181 0 43 (dk_at dksX1_init_5 0 rfl rfl)
theorem dX1_init_115 : decode cX1_init 115 = .ok (.aload_n 0, 1) := dk_42 (dk_at dksX1_init_5 3 rfl rfl)
theorem dX1_init_116 : decode cX1_init 116 = .ok (.new 47, 3) := dk_187 0 47 (dk_at dksX1_init_5 4 rfl rfl)
theorem dX1_init_119 : decode cX1_init 119 = .ok (.dup, 1) := dk_89 (dk_at dksX1_init_5 7 rfl rfl)
theorem dX1_init_120 : decode cX1_init 120 = .ok (.invokespecial 49, 3) := dk_183 0 49 (dk_at dksX1_init_5 8 rfl rfl)
theorem dX1_init_123 : decode cX1_init 123 = .ok (.putfield 50, 3) := dk_181 0 50 (dk_at dksX1_init_5 11 rfl rfl)
theorem dX1_init_126 : decode cX1_init 126 = .ok (.aload_n 0, 1) := dk_42 (dk_at dksX1_init_5 14 rfl rfl)
theorem dX1_init_127 : decode cX1_init 127 = .ok (.iconst 2, 1) := dk_5 (dk_at dksX1_init_5 15 rfl rfl)
theorem dX1_init_128 : decode cX1_init 128 = .ok (.newarray .int, 2) := dk_188_10 (dk_at dksX1_init_5 16 rfl rfl)
theorem dX1_init_130 : decode cX1_init 130 = .ok (.putfield 54, 3) := dk_181 0 54 (dk_at dksX1_init_5 18 rfl rfl)
theorem dX1_init_133 : decode cX1_init 133 = .ok (.aload_n 0, 1) := dk_42 (dk_at dksX1_init_5 21 rfl rfl)
theorem dX1_init_134 : decode cX1_init 134 = .ok (.bipush 8, 2) := dk_16 8 (dk_at dksX1_init_5 22 rfl rfl)
theorem dX1_init_136 : decode cX1_init 136 = .ok (.newarray .int, 2) := dk_188_10 (dk_at dksX1_init_6 0 rfl rfl)
theorem dX1_init_138 : decode cX1_init 138 = .ok (.putfield 58, 3) := dk_181 0 58 (dk_at dksX1_init_6 2 rfl rfl)
theorem dX1_init_141 : decode cX1_init 141 = .ok (.aload_n 0, 1) := dk_42 (dk_at dksX1_init_6 5 rfl rfl)
theorem dX1_init_142 : decode cX1_init 142 = .ok (.bipush 8, 2) := dk_16 8 (dk_at dksX1_init_6 6 rfl rfl)
theorem dX1_init_144 : decode cX1_init 144 = .ok (.newarray .int, 2) := dk_188_10 (dk_at dksX1_init_6 8 rfl rfl)
theorem dX1_init_146 : decode cX1_init 146 = .ok (.putfield 61, 3) := dk_181 0 61 (dk_at dksX1_init_6 10 rfl rfl)
theorem dX1_init_149 : decode cX1_init 149 = .ok (.aload_n 0, 1) := dk_42 (dk_at dksX1_init_6 13 rfl rfl)
theorem dX1_init_150 : decode cX1_init 150 = .ok (.iconst 5, 1) := dk_8 (dk_at dksX1_init_6 14 rfl rfl)
theorem dX1_init_151 : decode cX1_init 151 = .ok (.newarray .int, 2) := dk_188_10 (dk_at dksX1_init_6 15 rfl rfl)
theorem dX1_init_153 : decode cX1_init 153 = .ok (.putfield 64, 3) := dk_181 0 64 (dk_at dksX1_init_6 17 rfl rfl)
theorem dX1_init_156 : decode cX1_init 156 = .ok (.aload_n 0, 1) := dk_42 (dk_at dksX1_init_6 20 rfl rfl)
theorem dX1_init_157 : decode cX1_init 157 = .ok (.sipush 1000, 3) := dk_17 3 232 (dk_at dksX1_init_6 21 rfl rfl)
theorem dX1_init_160 : decode cX1_init 160 = .ok (.newarray .int, 2) := dk_188_10 (dk_at dksX1_init_7 0 rfl rfl)
theorem dX1_init_162 : decode cX1_init 162 = .ok (.putfield 67, 3) := dk_181 0 67 (dk_at dksX1_init_7 2 rfl rfl)
theorem dX1_init_165 : decode cX1_init 165 = .ok (.aload_n 0, 1) := dk_42 (dk_at dksX1_init_7 5 rfl rfl)
theorem dX1_init_166 : decode cX1_init 166 = .ok (.new 70, 3) := dk_187 0 70 (dk_at dksX1_init_7 6 rfl rfl)
theorem dX1_init_169 : decode cX1_init 169 = .ok (.dup, 1) := dk_89 (dk_at dksX1_init_7 9 rfl rfl)
theorem dX1_init_170 : decode cX1_init 170 = .ok (.invokespecial 72, 3) := dk_183 0 72 (dk_at dksX1_init_7 10 rfl rfl)
theorem dX1_init_173 : decode cX1_init 173 = .ok (.putfield 73, 3) := dk_181 0 73 (dk_at dksX1_init_7 13 rfl rfl)
theorem dX1_init_176 : decode cX1_init 176 = .ok (.aload_n 0, 1) := dk_42 (dk_at dksX1_init_7 16 rfl rfl)
theorem dX1_init_177 : decode cX1_init 177 = .ok (.iconst (-1), 1) := dk_2 (dk_at dksX1_init_7 17 rfl rfl)
theorem dX1_init_178 : decode cX1_init 178 = .ok (.putfield 77, 3) := dk_181 0 77 (dk_at dksX1_init_7 18 rfl rfl)
theorem dX1_init_181 : decode cX1_init 181 = .ok (.aload_n 0, 1) := dk_42 (dk_at dksX1_init_7 21 rfl rfl)
theorem dX1_init_182 : decode cX1_init 182 = .ok (.getfield 25, 3) := dk_180 0 25 (dk_at dksX1_init_8 0 rfl rfl)
theorem dX1_init_185 : decode cX1_init 185 = .ok (.invokevirtual 81, 3) := dk_182 0 81 (dk_at dksX1_init_8 3 rfl rfl)
theorem dX1_init_188 : decode cX1_init 188 = .ok (.aload_n 0, 1) := dk_42 (dk_at dksX1_init_8 6 rfl rfl)
theorem dX1_init_189 : decode cX1_init 189 = .ok (.getfield 73, 3) := dk_180 0 73 (dk_at dksX1_init_8 7 rfl rfl)
theorem dX1_init_192 : decode cX1_init 192 = .ok (.invokevirtual 85, 3) := dk_182 0 85 (dk_at dksX1_init_8 10 rfl rfl)
theorem dX1_init_195 : decode cX1_init 195 = .ok (.return_, 1) := dk_177 (dk_at dksX1_init_8 13 rfl rfl)
abbrev cX1_feed : ByteArray := prog_1_method_5_code
def yX1_feed : MethodName := ⟨RX1, "feed", "(IIIII)I"⟩
def dkwX1_feed_4 : List UInt8 := [180, 0, 101, 172]
abbrev dktX1_feed_4 : List UInt8 := dkwX1_feed_4 ++ []
def dkwX1_feed_3 : List UInt8 := [7, 108, 46, 16, 24, 16, 8, 21, 7, 7, 112, 104, 100, 122, 145, 84, 132, 7, 1, 167, 255, 211, 42]
abbrev dktX1_feed_3 : List UInt8 := dkwX1_feed_3 ++ dktX1_feed_4
def dkwX1_feed_2 : List UInt8 := [16, 20, 162, 0, 44, 42, 180, 0, 9, 42, 89, 180, 0, 101, 90, 4, 96, 181, 0, 101, 25, 6, 21, 7]
abbrev dktX1_feed_2 : List UInt8 := dkwX1_feed_2 ++ dktX1_feed_3
def dkwX1_feed_1 : List UInt8 := [28, 79, 89, 5, 29, 79, 89, 6, 21, 4, 79, 89, 7, 21, 5, 79, 58, 6, 3, 54, 7, 21, 7]
abbrev dktX1_feed_1 : List UInt8 := dkwX1_feed_1 ++ dktX1_feed_2
def dkwX1_feed_0 : List UInt8 := [42, 180, 0, 101, 16, 20, 96, 17, 2, 88, 164, 0, 5, 2, 172, 8, 188, 10, 89, 3, 27, 79, 89, 4]
abbrev dktX1_feed_0 : List UInt8 := dkwX1_feed_0 ++ dktX1_feed_1
theorem dksX1_feed_0 : cX1_feed.data.toList.drop 0 = dktX1_feed_0 := by decide +kernel
theorem dksX1_feed_1 : cX1_feed.data.toList.drop 24 = dktX1_feed_1 := dk_seg dksX1_feed_0 24 rfl rfl
theorem dksX1_feed_2 : cX1_feed.data.toList.drop 47 = dktX1_feed_2 := dk_seg dksX1_feed_1 23 rfl rfl
theorem dksX1_feed_3 : cX1_feed.data.toList.drop 71 = dktX1_feed_3 := dk_seg dksX1_feed_2 24 rfl rfl
theorem dksX1_feed_4 : cX1_feed.data.toList.drop 94 = dktX1_feed_4 := dk_seg dksX1_feed_3 23 rfl rfl
theorem dX1_feed_0 : decode cX1_feed 0 = .ok (.aload_n 0, 1) := dk_42 (dk_at dksX1_feed_0 0 rfl rfl)
theorem dX1_feed_1 : decode cX1_feed 1 = .ok (.getfield 101, 3) := dk_180 0 101 (dk_at dksX1_feed_0 1 rfl rfl)
theorem dX1_feed_4 : decode cX1_feed 4 = .ok (.bipush 20, 2) := dk_16 20 (dk_at dksX1_feed_0 4 rfl rfl)
theorem dX1_feed_6 : decode cX1_feed 6 = .ok (.iadd, 1) := dk_96 (dk_at dksX1_feed_0 6 rfl rfl)
theorem dX1_feed_7 : decode cX1_feed 7 = .ok (.sipush 600, 3) := dk_17 2 88 (dk_at dksX1_feed_0 7 rfl rfl)
theorem dX1_feed_10 : decode cX1_feed 10 = .ok (.if_icmp .le 5, 3) := dk_164 0 5 (dk_at dksX1_feed_0 10 rfl rfl)
theorem dX1_feed_13 : decode cX1_feed 13 = .ok (.iconst (-1), 1) := dk_2 (dk_at dksX1_feed_0 13 rfl rfl)
theorem dX1_feed_14 : decode cX1_feed 14 = .ok (.ireturn, 1) := dk_172 (dk_at dksX1_feed_0 14 rfl rfl)
theorem dX1_feed_15 : decode cX1_feed 15 = .ok (.iconst 5, 1) := dk_8 (dk_at dksX1_feed_0 15 rfl rfl)
theorem dX1_feed_16 : decode cX1_feed 16 = .ok (.newarray .int, 2) := dk_188_10 (dk_at dksX1_feed_0 16 rfl rfl)
theorem dX1_feed_18 : decode cX1_feed 18 = .ok (.dup, 1) := dk_89 (dk_at dksX1_feed_0 18 rfl rfl)
theorem dX1_feed_19 : decode cX1_feed 19 = .ok (.iconst 0, 1) := dk_3 (dk_at dksX1_feed_0 19 rfl rfl)
theorem dX1_feed_20 : decode cX1_feed 20 = .ok (.iload_n 1, 1) := dk_27 (dk_at dksX1_feed_0 20 rfl rfl)
theorem dX1_feed_21 : decode cX1_feed 21 = .ok (.iastore, 1) := dk_79 (dk_at dksX1_feed_0 21 rfl rfl)
theorem dX1_feed_22 : decode cX1_feed 22 = .ok (.dup, 1) := dk_89 (dk_at dksX1_feed_0 22 rfl rfl)
theorem dX1_feed_23 : decode cX1_feed 23 = .ok (.iconst 1, 1) := dk_4 (dk_at dksX1_feed_0 23 rfl rfl)
theorem dX1_feed_24 : decode cX1_feed 24 = .ok (.iload_n 2, 1) := dk_28 (dk_at dksX1_feed_1 0 rfl rfl)
theorem dX1_feed_25 : decode cX1_feed 25 = .ok (.iastore, 1) := dk_79 (dk_at dksX1_feed_1 1 rfl rfl)
theorem dX1_feed_26 : decode cX1_feed 26 = .ok (.dup, 1) := dk_89 (dk_at dksX1_feed_1 2 rfl rfl)
theorem dX1_feed_27 : decode cX1_feed 27 = .ok (.iconst 2, 1) := dk_5 (dk_at dksX1_feed_1 3 rfl rfl)
theorem dX1_feed_28 : decode cX1_feed 28 = .ok (.iload_n 3, 1) := dk_29 (dk_at dksX1_feed_1 4 rfl rfl)
theorem dX1_feed_29 : decode cX1_feed 29 = .ok (.iastore, 1) := dk_79 (dk_at dksX1_feed_1 5 rfl rfl)
theorem dX1_feed_30 : decode cX1_feed 30 = .ok (.dup, 1) := dk_89 (dk_at dksX1_feed_1 6 rfl rfl)
theorem dX1_feed_31 : decode cX1_feed 31 = .ok (.iconst 3, 1) := dk_6 (dk_at dksX1_feed_1 7 rfl rfl)
theorem dX1_feed_32 : decode cX1_feed 32 = .ok (.iload 4, 2) := dk_21 4 (dk_at dksX1_feed_1 8 rfl rfl)
theorem dX1_feed_34 : decode cX1_feed 34 = .ok (.iastore, 1) := dk_79 (dk_at dksX1_feed_1 10 rfl rfl)
theorem dX1_feed_35 : decode cX1_feed 35 = .ok (.dup, 1) := dk_89 (dk_at dksX1_feed_1 11 rfl rfl)
theorem dX1_feed_36 : decode cX1_feed 36 = .ok (.iconst 4, 1) := dk_7 (dk_at dksX1_feed_1 12 rfl rfl)
theorem dX1_feed_37 : decode cX1_feed 37 = .ok (.iload 5, 2) := dk_21 5 (dk_at dksX1_feed_1 13 rfl rfl)
theorem dX1_feed_39 : decode cX1_feed 39 = .ok (.iastore, 1) := dk_79 (dk_at dksX1_feed_1 15 rfl rfl)
theorem dX1_feed_40 : decode cX1_feed 40 = .ok (.astore 6, 2) := dk_58 6 (dk_at dksX1_feed_1 16 rfl rfl)
theorem dX1_feed_42 : decode cX1_feed 42 = .ok (.iconst 0, 1) := dk_3 (dk_at dksX1_feed_1 18 rfl rfl)
theorem dX1_feed_43 : decode cX1_feed 43 = .ok (.istore 7, 2) := dk_54 7 (dk_at dksX1_feed_1 19 rfl rfl)
theorem dX1_feed_45 : decode cX1_feed 45 = .ok (.iload 7, 2) := dk_21 7 (dk_at dksX1_feed_1 21 rfl rfl)
theorem dX1_feed_47 : decode cX1_feed 47 = .ok (.bipush 20, 2) := dk_16 20 (dk_at dksX1_feed_2 0 rfl rfl)
theorem dX1_feed_49 : decode cX1_feed 49 = .ok (.if_icmp .ge 44, 3) := dk_162 0 44 (dk_at dksX1_feed_2 2 rfl rfl)
theorem dX1_feed_52 : decode cX1_feed 52 = .ok (.aload_n 0, 1) := dk_42 (dk_at dksX1_feed_2 5 rfl rfl)
theorem dX1_feed_53 : decode cX1_feed 53 = .ok (.getfield 9, 3) := dk_180 0 9 (dk_at dksX1_feed_2 6 rfl rfl)
theorem dX1_feed_56 : decode cX1_feed 56 = .ok (.aload_n 0, 1) := dk_42 (dk_at dksX1_feed_2 9 rfl rfl)
theorem dX1_feed_57 : decode cX1_feed 57 = .ok (.dup, 1) := dk_89 (dk_at dksX1_feed_2 10 rfl rfl)
theorem dX1_feed_58 : decode cX1_feed 58 = .ok (.getfield 101, 3) := dk_180 0 101 (dk_at dksX1_feed_2 11 rfl rfl)
theorem dX1_feed_61 : decode cX1_feed 61 = .ok (.dup_x1, 1) := dk_90 (dk_at dksX1_feed_2 14 rfl rfl)
theorem dX1_feed_62 : decode cX1_feed 62 = .ok (.iconst 1, 1) := dk_4 (dk_at dksX1_feed_2 15 rfl rfl)
theorem dX1_feed_63 : decode cX1_feed 63 = .ok (.iadd, 1) := dk_96 (dk_at dksX1_feed_2 16 rfl rfl)
theorem dX1_feed_64 : decode cX1_feed 64 = .ok (.putfield 101, 3) := dk_181 0 101 (dk_at dksX1_feed_2 17 rfl rfl)
theorem dX1_feed_67 : decode cX1_feed 67 = .ok (.aload 6, 2) := dk_25 6 (dk_at dksX1_feed_2 20 rfl rfl)
theorem dX1_feed_69 : decode cX1_feed 69 = .ok (.iload 7, 2) := dk_21 7 (dk_at dksX1_feed_2 22 rfl rfl)
theorem dX1_feed_71 : decode cX1_feed 71 = .ok (.iconst 4, 1) := dk_7 (dk_at dksX1_feed_3 0 rfl rfl)
theorem dX1_feed_72 : decode cX1_feed 72 = .ok (.idiv, 1) := dk_108 (dk_at dksX1_feed_3 1 rfl rfl)
theorem dX1_feed_73 : decode cX1_feed 73 = .ok (.iaload, 1) := dk_46 (dk_at dksX1_feed_3 2 rfl rfl)
theorem dX1_feed_74 : decode cX1_feed 74 = .ok (.bipush 24, 2) := dk_16 24 (dk_at dksX1_feed_3 3 rfl rfl)
theorem dX1_feed_76 : decode cX1_feed 76 = .ok (.bipush 8, 2) := dk_16 8 (dk_at dksX1_feed_3 5 rfl rfl)
theorem dX1_feed_78 : decode cX1_feed 78 = .ok (.iload 7, 2) := dk_21 7 (dk_at dksX1_feed_3 7 rfl rfl)
theorem dX1_feed_80 : decode cX1_feed 80 = .ok (.iconst 4, 1) := dk_7 (dk_at dksX1_feed_3 9 rfl rfl)
theorem dX1_feed_81 : decode cX1_feed 81 = .ok (.irem, 1) := dk_112 (dk_at dksX1_feed_3 10 rfl rfl)
theorem dX1_feed_82 : decode cX1_feed 82 = .ok (.imul, 1) := dk_104 (dk_at dksX1_feed_3 11 rfl rfl)
theorem dX1_feed_83 : decode cX1_feed 83 = .ok (.isub, 1) := dk_100 (dk_at dksX1_feed_3 12 rfl rfl)
theorem dX1_feed_84 : decode cX1_feed 84 = .ok (.ishr, 1) := dk_122 (dk_at dksX1_feed_3 13 rfl rfl)
theorem dX1_feed_85 : decode cX1_feed 85 = .ok (.i2b, 1) := dk_145 (dk_at dksX1_feed_3 14 rfl rfl)
theorem dX1_feed_86 : decode cX1_feed 86 = .ok (.bastore, 1) := dk_84 (dk_at dksX1_feed_3 15 rfl rfl)
theorem dX1_feed_87 : decode cX1_feed 87 = .ok (.iinc 7 1, 3) := dk_132 7 1 (dk_at dksX1_feed_3 16 rfl rfl)
theorem dX1_feed_90 : decode cX1_feed 90 = .ok (.goto (-45), 3) := dk_167 255 211 (dk_at dksX1_feed_3 19 rfl rfl)
theorem dX1_feed_93 : decode cX1_feed 93 = .ok (.aload_n 0, 1) := dk_42 (dk_at dksX1_feed_3 22 rfl rfl)
theorem dX1_feed_94 : decode cX1_feed 94 = .ok (.getfield 101, 3) := dk_180 0 101 (dk_at dksX1_feed_4 0 rfl rfl)
theorem dX1_feed_97 : decode cX1_feed 97 = .ok (.ireturn, 1) := dk_172 (dk_at dksX1_feed_4 3 rfl rfl)
abbrev cX1_fault : ByteArray := prog_1_method_12_code
def yX1_fault : MethodName := ⟨RX1, "fault", "()I"⟩
theorem dX1_fault_0 : decode cX1_fault 0 = .ok (.aload_n 0, 1) := by decide +kernel
theorem dX1_fault_1 : decode cX1_fault 1 = .ok (.getfield 77, 3) := by decide +kernel
theorem dX1_fault_4 : decode cX1_fault 4 = .ok (.ireturn, 1) := by decide +kernel
abbrev cX1_undo : ByteArray := prog_1_method_13_code
def yX1_undo : MethodName := ⟨RX1, "undo", "()I"⟩
def dkwX1_undo_1 : List UInt8 := [180, 0, 138, 4, 100, 90, 181, 0, 138, 172]
abbrev dktX1_undo_1 : List UInt8 := dkwX1_undo_1 ++ []
def dkwX1_undo_0 : List UInt8 := [42, 180, 0, 25, 180, 0, 138, 154, 0, 5, 2, 172, 42, 3, 181, 0, 148, 42, 180, 0, 25, 89]
abbrev dktX1_undo_0 : List UInt8 := dkwX1_undo_0 ++ dktX1_undo_1
theorem dksX1_undo_0 : cX1_undo.data.toList.drop 0 = dktX1_undo_0 := by decide +kernel
theorem dksX1_undo_1 : cX1_undo.data.toList.drop 22 = dktX1_undo_1 := dk_seg dksX1_undo_0 22 rfl rfl
theorem dX1_undo_0 : decode cX1_undo 0 = .ok (.aload_n 0, 1) := dk_42 (dk_at dksX1_undo_0 0 rfl rfl)
theorem dX1_undo_1 : decode cX1_undo 1 = .ok (.getfield 25, 3) := dk_180 0 25 (dk_at dksX1_undo_0 1 rfl rfl)
theorem dX1_undo_4 : decode cX1_undo 4 = .ok (.getfield 138, 3) := dk_180 0 138 (dk_at dksX1_undo_0 4 rfl rfl)
theorem dX1_undo_7 : decode cX1_undo 7 = .ok (.ifCond .ne 5, 3) := dk_154 0 5 (dk_at dksX1_undo_0 7 rfl rfl)
theorem dX1_undo_10 : decode cX1_undo 10 = .ok (.iconst (-1), 1) := dk_2 (dk_at dksX1_undo_0 10 rfl rfl)
theorem dX1_undo_11 : decode cX1_undo 11 = .ok (.ireturn, 1) := dk_172 (dk_at dksX1_undo_0 11 rfl rfl)
theorem dX1_undo_12 : decode cX1_undo 12 = .ok (.aload_n 0, 1) := dk_42 (dk_at dksX1_undo_0 12 rfl rfl)
theorem dX1_undo_13 : decode cX1_undo 13 = .ok (.iconst 0, 1) := dk_3 (dk_at dksX1_undo_0 13 rfl rfl)
theorem dX1_undo_14 : decode cX1_undo 14 = .ok (.putfield 148, 3) := dk_181 0 148 (dk_at dksX1_undo_0 14 rfl rfl)
theorem dX1_undo_17 : decode cX1_undo 17 = .ok (.aload_n 0, 1) := dk_42 (dk_at dksX1_undo_0 17 rfl rfl)
theorem dX1_undo_18 : decode cX1_undo 18 = .ok (.getfield 25, 3) := dk_180 0 25 (dk_at dksX1_undo_0 18 rfl rfl)
theorem dX1_undo_21 : decode cX1_undo 21 = .ok (.dup, 1) := dk_89 (dk_at dksX1_undo_0 21 rfl rfl)
theorem dX1_undo_22 : decode cX1_undo 22 = .ok (.getfield 138, 3) := dk_180 0 138 (dk_at dksX1_undo_1 0 rfl rfl)
theorem dX1_undo_25 : decode cX1_undo 25 = .ok (.iconst 1, 1) := dk_4 (dk_at dksX1_undo_1 3 rfl rfl)
theorem dX1_undo_26 : decode cX1_undo 26 = .ok (.isub, 1) := dk_100 (dk_at dksX1_undo_1 4 rfl rfl)
theorem dX1_undo_27 : decode cX1_undo 27 = .ok (.dup_x1, 1) := dk_90 (dk_at dksX1_undo_1 5 rfl rfl)
theorem dX1_undo_28 : decode cX1_undo 28 = .ok (.putfield 138, 3) := dk_181 0 138 (dk_at dksX1_undo_1 6 rfl rfl)
theorem dX1_undo_31 : decode cX1_undo 31 = .ok (.ireturn, 1) := dk_172 (dk_at dksX1_undo_1 9 rfl rfl)
abbrev cX1_held : ByteArray := prog_1_method_20_code
def yX1_held : MethodName := ⟨RX1, "held", "()I"⟩
def dkwX1_held_2 : List UInt8 := [120, 128, 60, 132, 2, 1, 167, 255, 207, 27, 172]
abbrev dktX1_held_2 : List UInt8 := dkwX1_held_2 ++ []
def dkwX1_held_1 : List UInt8 := [182, 1, 40, 153, 0, 24, 42, 180, 0, 25, 182, 0, 81, 28, 4, 182, 1, 44, 154, 0, 9, 27, 4, 28]
abbrev dktX1_held_1 : List UInt8 := dkwX1_held_1 ++ dktX1_held_2
def dkwX1_held_0 : List UInt8 := [3, 60, 3, 61, 28, 42, 180, 0, 73, 180, 0, 89, 162, 0, 44, 42, 180, 0, 25, 182, 0, 81, 28]
abbrev dktX1_held_0 : List UInt8 := dkwX1_held_0 ++ dktX1_held_1
theorem dksX1_held_0 : cX1_held.data.toList.drop 0 = dktX1_held_0 := by decide +kernel
theorem dksX1_held_1 : cX1_held.data.toList.drop 23 = dktX1_held_1 := dk_seg dksX1_held_0 23 rfl rfl
theorem dksX1_held_2 : cX1_held.data.toList.drop 47 = dktX1_held_2 := dk_seg dksX1_held_1 24 rfl rfl
theorem dX1_held_0 : decode cX1_held 0 = .ok (.iconst 0, 1) := dk_3 (dk_at dksX1_held_0 0 rfl rfl)
theorem dX1_held_1 : decode cX1_held 1 = .ok (.istore_n 1, 1) := dk_60 (dk_at dksX1_held_0 1 rfl rfl)
theorem dX1_held_2 : decode cX1_held 2 = .ok (.iconst 0, 1) := dk_3 (dk_at dksX1_held_0 2 rfl rfl)
theorem dX1_held_3 : decode cX1_held 3 = .ok (.istore_n 2, 1) := dk_61 (dk_at dksX1_held_0 3 rfl rfl)
theorem dX1_held_4 : decode cX1_held 4 = .ok (.iload_n 2, 1) := dk_28 (dk_at dksX1_held_0 4 rfl rfl)
theorem dX1_held_5 : decode cX1_held 5 = .ok (.aload_n 0, 1) := dk_42 (dk_at dksX1_held_0 5 rfl rfl)
theorem dX1_held_6 : decode cX1_held 6 = .ok (.getfield 73, 3) := dk_180 0 73 (dk_at dksX1_held_0 6 rfl rfl)
theorem dX1_held_9 : decode cX1_held 9 = .ok (.getfield 89, 3) := dk_180 0 89 (dk_at dksX1_held_0 9 rfl rfl)
theorem dX1_held_12 : decode cX1_held 12 = .ok (.if_icmp .ge 44, 3) := dk_162 0 44 (dk_at dksX1_held_0 12 rfl rfl)
theorem dX1_held_15 : decode cX1_held 15 = .ok (.aload_n 0, 1) := dk_42 (dk_at dksX1_held_0 15 rfl rfl)
theorem dX1_held_16 : decode cX1_held 16 = .ok (.getfield 25, 3) := dk_180 0 25 (dk_at dksX1_held_0 16 rfl rfl)
theorem dX1_held_19 : decode cX1_held 19 = .ok (.invokevirtual 81, 3) := dk_182 0 81 (dk_at dksX1_held_0 19 rfl rfl)
theorem dX1_held_22 : decode cX1_held 22 = .ok (.iload_n 2, 1) := dk_28 (dk_at dksX1_held_0 22 rfl rfl)
theorem dX1_held_23 : decode cX1_held 23 = .ok (.invokevirtual 296, 3) := dk_182 1 40 (dk_at dksX1_held_1 0 rfl rfl)
theorem dX1_held_26 : decode cX1_held 26 = .ok (.ifCond .eq 24, 3) := dk_153 0 24 (dk_at dksX1_held_1 3 rfl rfl)
theorem dX1_held_29 : decode cX1_held 29 = .ok (.aload_n 0, 1) := dk_42 (dk_at dksX1_held_1 6 rfl rfl)
theorem dX1_held_30 : decode cX1_held 30 = .ok (.getfield 25, 3) := dk_180 0 25 (dk_at dksX1_held_1 7 rfl rfl)
theorem dX1_held_33 : decode cX1_held 33 = .ok (.invokevirtual 81, 3) := dk_182 0 81 (dk_at dksX1_held_1 10 rfl rfl)
theorem dX1_held_36 : decode cX1_held 36 = .ok (.iload_n 2, 1) := dk_28 (dk_at dksX1_held_1 13 rfl rfl)
theorem dX1_held_37 : decode cX1_held 37 = .ok (.iconst 1, 1) := dk_4 (dk_at dksX1_held_1 14 rfl rfl)
theorem dX1_held_38 : decode cX1_held 38 = .ok (.invokevirtual 300, 3) := dk_182 1 44 (dk_at dksX1_held_1 15 rfl rfl)
theorem dX1_held_41 : decode cX1_held 41 = .ok (.ifCond .ne 9, 3) := dk_154 0 9 (dk_at dksX1_held_1 18 rfl rfl)
theorem dX1_held_44 : decode cX1_held 44 = .ok (.iload_n 1, 1) := dk_27 (dk_at dksX1_held_1 21 rfl rfl)
theorem dX1_held_45 : decode cX1_held 45 = .ok (.iconst 1, 1) := dk_4 (dk_at dksX1_held_1 22 rfl rfl)
theorem dX1_held_46 : decode cX1_held 46 = .ok (.iload_n 2, 1) := dk_28 (dk_at dksX1_held_1 23 rfl rfl)
theorem dX1_held_47 : decode cX1_held 47 = .ok (.ishl, 1) := dk_120 (dk_at dksX1_held_2 0 rfl rfl)
theorem dX1_held_48 : decode cX1_held 48 = .ok (.ior, 1) := dk_128 (dk_at dksX1_held_2 1 rfl rfl)
theorem dX1_held_49 : decode cX1_held 49 = .ok (.istore_n 1, 1) := dk_60 (dk_at dksX1_held_2 2 rfl rfl)
theorem dX1_held_50 : decode cX1_held 50 = .ok (.iinc 2 1, 3) := dk_132 2 1 (dk_at dksX1_held_2 3 rfl rfl)
theorem dX1_held_53 : decode cX1_held 53 = .ok (.goto (-49), 3) := dk_167 255 207 (dk_at dksX1_held_2 6 rfl rfl)
theorem dX1_held_56 : decode cX1_held 56 = .ok (.iload_n 1, 1) := dk_27 (dk_at dksX1_held_2 9 rfl rfl)
theorem dX1_held_57 : decode cX1_held 57 = .ok (.ireturn, 1) := dk_172 (dk_at dksX1_held_2 10 rfl rfl)
abbrev cX1_parted : ByteArray := prog_1_method_29_code
def yX1_parted : MethodName := ⟨RX1, "parted", "()I"⟩
def dkwX1_parted_4 : List UInt8 := [167, 255, 174, 28, 172]
abbrev dktX1_parted_4 : List UInt8 := dkwX1_parted_4 ++ []
def dkwX1_parted_3 : List UInt8 := [29, 46, 43, 180, 0, 241, 21, 4, 46, 159, 0, 6, 132, 2, 1, 132, 4, 1, 167, 255, 194, 132, 3, 1]
abbrev dktX1_parted_3 : List UInt8 := dkwX1_parted_3 ++ dktX1_parted_4
def dkwX1_parted_2 : List UInt8 := [160, 0, 39, 43, 29, 182, 1, 40, 153, 0, 31, 43, 21, 4, 182, 1, 40, 153, 0, 22, 43, 180, 0, 241]
abbrev dktX1_parted_2 : List UInt8 := dkwX1_parted_2 ++ dktX1_parted_3
def dkwX1_parted_1 : List UInt8 := [54, 4, 21, 4, 29, 162, 0, 62, 42, 180, 0, 73, 29, 182, 1, 82, 21, 4, 122, 4, 126, 4]
abbrev dktX1_parted_1 : List UInt8 := dkwX1_parted_1 ++ dktX1_parted_2
def dkwX1_parted_0 : List UInt8 := [42, 180, 0, 25, 182, 0, 81, 76, 3, 61, 3, 62, 29, 42, 180, 0, 73, 180, 0, 89, 162, 0, 77, 3]
abbrev dktX1_parted_0 : List UInt8 := dkwX1_parted_0 ++ dktX1_parted_1
theorem dksX1_parted_0 : cX1_parted.data.toList.drop 0 = dktX1_parted_0 := by decide +kernel
theorem dksX1_parted_1 : cX1_parted.data.toList.drop 24 = dktX1_parted_1 := dk_seg dksX1_parted_0 24 rfl rfl
theorem dksX1_parted_2 : cX1_parted.data.toList.drop 46 = dktX1_parted_2 := dk_seg dksX1_parted_1 22 rfl rfl
theorem dksX1_parted_3 : cX1_parted.data.toList.drop 70 = dktX1_parted_3 := dk_seg dksX1_parted_2 24 rfl rfl
theorem dksX1_parted_4 : cX1_parted.data.toList.drop 94 = dktX1_parted_4 := dk_seg dksX1_parted_3 24 rfl rfl
theorem dX1_parted_0 : decode cX1_parted 0 = .ok (.aload_n 0, 1) := dk_42 (dk_at dksX1_parted_0 0 rfl rfl)
theorem dX1_parted_1 : decode cX1_parted 1 = .ok (.getfield 25, 3) := dk_180 0 25 (dk_at dksX1_parted_0 1 rfl rfl)
theorem dX1_parted_4 : decode cX1_parted 4 = .ok (.invokevirtual 81, 3) := dk_182 0 81 (dk_at dksX1_parted_0 4 rfl rfl)
theorem dX1_parted_7 : decode cX1_parted 7 = .ok (.astore_n 1, 1) := dk_76 (dk_at dksX1_parted_0 7 rfl rfl)
theorem dX1_parted_8 : decode cX1_parted 8 = .ok (.iconst 0, 1) := dk_3 (dk_at dksX1_parted_0 8 rfl rfl)
theorem dX1_parted_9 : decode cX1_parted 9 = .ok (.istore_n 2, 1) := dk_61 (dk_at dksX1_parted_0 9 rfl rfl)
theorem dX1_parted_10 : decode cX1_parted 10 = .ok (.iconst 0, 1) := dk_3 (dk_at dksX1_parted_0 10 rfl rfl)
theorem dX1_parted_11 : decode cX1_parted 11 = .ok (.istore_n 3, 1) := dk_62 (dk_at dksX1_parted_0 11 rfl rfl)
theorem dX1_parted_12 : decode cX1_parted 12 = .ok (.iload_n 3, 1) := dk_29 (dk_at dksX1_parted_0 12 rfl rfl)
theorem dX1_parted_13 : decode cX1_parted 13 = .ok (.aload_n 0, 1) := dk_42 (dk_at dksX1_parted_0 13 rfl rfl)
theorem dX1_parted_14 : decode cX1_parted 14 = .ok (.getfield 73, 3) := dk_180 0 73 (dk_at dksX1_parted_0 14 rfl rfl)
theorem dX1_parted_17 : decode cX1_parted 17 = .ok (.getfield 89, 3) := dk_180 0 89 (dk_at dksX1_parted_0 17 rfl rfl)
theorem dX1_parted_20 : decode cX1_parted 20 = .ok (.if_icmp .ge 77, 3) := dk_162 0 77 (dk_at dksX1_parted_0 20 rfl rfl)
theorem dX1_parted_23 : decode cX1_parted 23 = .ok (.iconst 0, 1) := dk_3 (dk_at dksX1_parted_0 23 rfl rfl)
theorem dX1_parted_24 : decode cX1_parted 24 = .ok (.istore 4, 2) := dk_54 4 (dk_at dksX1_parted_1 0 rfl rfl)
theorem dX1_parted_26 : decode cX1_parted 26 = .ok (.iload 4, 2) := dk_21 4 (dk_at dksX1_parted_1 2 rfl rfl)
theorem dX1_parted_28 : decode cX1_parted 28 = .ok (.iload_n 3, 1) := dk_29 (dk_at dksX1_parted_1 4 rfl rfl)
theorem dX1_parted_29 : decode cX1_parted 29 = .ok (.if_icmp .ge 62, 3) := dk_162 0 62 (dk_at dksX1_parted_1 5 rfl rfl)
theorem dX1_parted_32 : decode cX1_parted 32 = .ok (.aload_n 0, 1) := dk_42 (dk_at dksX1_parted_1 8 rfl rfl)
theorem dX1_parted_33 : decode cX1_parted 33 = .ok (.getfield 73, 3) := dk_180 0 73 (dk_at dksX1_parted_1 9 rfl rfl)
theorem dX1_parted_36 : decode cX1_parted 36 = .ok (.iload_n 3, 1) := dk_29 (dk_at dksX1_parted_1 12 rfl rfl)
theorem dX1_parted_37 : decode cX1_parted 37 = .ok (.invokevirtual 338, 3) := dk_182 1 82 (dk_at dksX1_parted_1 13 rfl rfl)
theorem dX1_parted_40 : decode cX1_parted 40 = .ok (.iload 4, 2) := dk_21 4 (dk_at dksX1_parted_1 16 rfl rfl)
theorem dX1_parted_42 : decode cX1_parted 42 = .ok (.ishr, 1) := dk_122 (dk_at dksX1_parted_1 18 rfl rfl)
theorem dX1_parted_43 : decode cX1_parted 43 = .ok (.iconst 1, 1) := dk_4 (dk_at dksX1_parted_1 19 rfl rfl)
theorem dX1_parted_44 : decode cX1_parted 44 = .ok (.iand, 1) := dk_126 (dk_at dksX1_parted_1 20 rfl rfl)
theorem dX1_parted_45 : decode cX1_parted 45 = .ok (.iconst 1, 1) := dk_4 (dk_at dksX1_parted_1 21 rfl rfl)
theorem dX1_parted_46 : decode cX1_parted 46 = .ok (.if_icmp .ne 39, 3) := dk_160 0 39 (dk_at dksX1_parted_2 0 rfl rfl)
theorem dX1_parted_49 : decode cX1_parted 49 = .ok (.aload_n 1, 1) := dk_43 (dk_at dksX1_parted_2 3 rfl rfl)
theorem dX1_parted_50 : decode cX1_parted 50 = .ok (.iload_n 3, 1) := dk_29 (dk_at dksX1_parted_2 4 rfl rfl)
theorem dX1_parted_51 : decode cX1_parted 51 = .ok (.invokevirtual 296, 3) := dk_182 1 40 (dk_at dksX1_parted_2 5 rfl rfl)
theorem dX1_parted_54 : decode cX1_parted 54 = .ok (.ifCond .eq 31, 3) := dk_153 0 31 (dk_at dksX1_parted_2 8 rfl rfl)
theorem dX1_parted_57 : decode cX1_parted 57 = .ok (.aload_n 1, 1) := dk_43 (dk_at dksX1_parted_2 11 rfl rfl)
theorem dX1_parted_58 : decode cX1_parted 58 = .ok (.iload 4, 2) := dk_21 4 (dk_at dksX1_parted_2 12 rfl rfl)
theorem dX1_parted_60 : decode cX1_parted 60 = .ok (.invokevirtual 296, 3) := dk_182 1 40 (dk_at dksX1_parted_2 14 rfl rfl)
theorem dX1_parted_63 : decode cX1_parted 63 = .ok (.ifCond .eq 22, 3) := dk_153 0 22 (dk_at dksX1_parted_2 17 rfl rfl)
theorem dX1_parted_66 : decode cX1_parted 66 = .ok (.aload_n 1, 1) := dk_43 (dk_at dksX1_parted_2 20 rfl rfl)
theorem dX1_parted_67 : decode cX1_parted 67 = .ok (.getfield 241, 3) := dk_180 0 241 (dk_at dksX1_parted_2 21 rfl rfl)
theorem dX1_parted_70 : decode cX1_parted 70 = .ok (.iload_n 3, 1) := dk_29 (dk_at dksX1_parted_3 0 rfl rfl)
theorem dX1_parted_71 : decode cX1_parted 71 = .ok (.iaload, 1) := dk_46 (dk_at dksX1_parted_3 1 rfl rfl)
theorem dX1_parted_72 : decode cX1_parted 72 = .ok (.aload_n 1, 1) := dk_43 (dk_at dksX1_parted_3 2 rfl rfl)
theorem dX1_parted_73 : decode cX1_parted 73 = .ok (.getfield 241, 3) := dk_180 0 241 (dk_at dksX1_parted_3 3 rfl rfl)
theorem dX1_parted_76 : decode cX1_parted 76 = .ok (.iload 4, 2) := dk_21 4 (dk_at dksX1_parted_3 6 rfl rfl)
theorem dX1_parted_78 : decode cX1_parted 78 = .ok (.iaload, 1) := dk_46 (dk_at dksX1_parted_3 8 rfl rfl)
theorem dX1_parted_79 : decode cX1_parted 79 = .ok (.if_icmp .eq 6, 3) := dk_159 0 6 (dk_at dksX1_parted_3 9 rfl rfl)
theorem dX1_parted_82 : decode cX1_parted 82 = .ok (.iinc 2 1, 3) := dk_132 2 1 (dk_at dksX1_parted_3 12 rfl rfl)
theorem dX1_parted_85 : decode cX1_parted 85 = .ok (.iinc 4 1, 3) := dk_132 4 1 (dk_at dksX1_parted_3 15 rfl rfl)
theorem dX1_parted_88 : decode cX1_parted 88 = .ok (.goto (-62), 3) := dk_167 255 194 (dk_at dksX1_parted_3 18 rfl rfl)
theorem dX1_parted_91 : decode cX1_parted 91 = .ok (.iinc 3 1, 3) := dk_132 3 1 (dk_at dksX1_parted_3 21 rfl rfl)
theorem dX1_parted_94 : decode cX1_parted 94 = .ok (.goto (-82), 3) := dk_167 255 174 (dk_at dksX1_parted_4 0 rfl rfl)
theorem dX1_parted_97 : decode cX1_parted 97 = .ok (.iload_n 2, 1) := dk_28 (dk_at dksX1_parted_4 3 rfl rfl)
theorem dX1_parted_98 : decode cX1_parted 98 = .ok (.ireturn, 1) := dk_172 (dk_at dksX1_parted_4 4 rfl rfl)
abbrev cX1_hunger : ByteArray := prog_1_method_35_code
def yX1_hunger : MethodName := ⟨RX1, "hunger", "()I"⟩
def dkwX1_hunger_1 : List UInt8 := [180, 0, 217, 43, 3, 182, 0, 223, 108, 61, 28, 16, 99, 164, 0, 7, 2, 167, 0, 4, 28, 172]
abbrev dktX1_hunger_1 : List UInt8 := dkwX1_hunger_1 ++ []
def dkwX1_hunger_0 : List UInt8 := [42, 180, 0, 25, 182, 0, 81, 76, 43, 3, 182, 0, 223, 154, 0, 8, 16, 100, 167, 0, 13, 43]
abbrev dktX1_hunger_0 : List UInt8 := dkwX1_hunger_0 ++ dktX1_hunger_1
theorem dksX1_hunger_0 : cX1_hunger.data.toList.drop 0 = dktX1_hunger_0 := by decide +kernel
theorem dksX1_hunger_1 : cX1_hunger.data.toList.drop 22 = dktX1_hunger_1 := dk_seg dksX1_hunger_0 22 rfl rfl
theorem dX1_hunger_0 : decode cX1_hunger 0 = .ok (.aload_n 0, 1) := dk_42 (dk_at dksX1_hunger_0 0 rfl rfl)
theorem dX1_hunger_1 : decode cX1_hunger 1 = .ok (.getfield 25, 3) := dk_180 0 25 (dk_at dksX1_hunger_0 1 rfl rfl)
theorem dX1_hunger_4 : decode cX1_hunger 4 = .ok (.invokevirtual 81, 3) := dk_182 0 81 (dk_at dksX1_hunger_0 4 rfl rfl)
theorem dX1_hunger_7 : decode cX1_hunger 7 = .ok (.astore_n 1, 1) := dk_76 (dk_at dksX1_hunger_0 7 rfl rfl)
theorem dX1_hunger_8 : decode cX1_hunger 8 = .ok (.aload_n 1, 1) := dk_43 (dk_at dksX1_hunger_0 8 rfl rfl)
theorem dX1_hunger_9 : decode cX1_hunger 9 = .ok (.iconst 0, 1) := dk_3 (dk_at dksX1_hunger_0 9 rfl rfl)
theorem dX1_hunger_10 : decode cX1_hunger 10 = .ok (.invokevirtual 223, 3) := dk_182 0 223 (dk_at dksX1_hunger_0 10 rfl rfl)
theorem dX1_hunger_13 : decode cX1_hunger 13 = .ok (.ifCond .ne 8, 3) := dk_154 0 8 (dk_at dksX1_hunger_0 13 rfl rfl)
theorem dX1_hunger_16 : decode cX1_hunger 16 = .ok (.bipush 100, 2) := dk_16 100 (dk_at dksX1_hunger_0 16 rfl rfl)
theorem dX1_hunger_18 : decode cX1_hunger 18 = .ok (.goto 13, 3) := dk_167 0 13 (dk_at dksX1_hunger_0 18 rfl rfl)
theorem dX1_hunger_21 : decode cX1_hunger 21 = .ok (.aload_n 1, 1) := dk_43 (dk_at dksX1_hunger_0 21 rfl rfl)
theorem dX1_hunger_22 : decode cX1_hunger 22 = .ok (.getfield 217, 3) := dk_180 0 217 (dk_at dksX1_hunger_1 0 rfl rfl)
theorem dX1_hunger_25 : decode cX1_hunger 25 = .ok (.aload_n 1, 1) := dk_43 (dk_at dksX1_hunger_1 3 rfl rfl)
theorem dX1_hunger_26 : decode cX1_hunger 26 = .ok (.iconst 0, 1) := dk_3 (dk_at dksX1_hunger_1 4 rfl rfl)
theorem dX1_hunger_27 : decode cX1_hunger 27 = .ok (.invokevirtual 223, 3) := dk_182 0 223 (dk_at dksX1_hunger_1 5 rfl rfl)
theorem dX1_hunger_30 : decode cX1_hunger 30 = .ok (.idiv, 1) := dk_108 (dk_at dksX1_hunger_1 8 rfl rfl)
theorem dX1_hunger_31 : decode cX1_hunger 31 = .ok (.istore_n 2, 1) := dk_61 (dk_at dksX1_hunger_1 9 rfl rfl)
theorem dX1_hunger_32 : decode cX1_hunger 32 = .ok (.iload_n 2, 1) := dk_28 (dk_at dksX1_hunger_1 10 rfl rfl)
theorem dX1_hunger_33 : decode cX1_hunger 33 = .ok (.bipush 99, 2) := dk_16 99 (dk_at dksX1_hunger_1 11 rfl rfl)
theorem dX1_hunger_35 : decode cX1_hunger 35 = .ok (.if_icmp .le 7, 3) := dk_164 0 7 (dk_at dksX1_hunger_1 13 rfl rfl)
theorem dX1_hunger_38 : decode cX1_hunger 38 = .ok (.iconst (-1), 1) := dk_2 (dk_at dksX1_hunger_1 16 rfl rfl)
theorem dX1_hunger_39 : decode cX1_hunger 39 = .ok (.goto 4, 3) := dk_167 0 4 (dk_at dksX1_hunger_1 17 rfl rfl)
theorem dX1_hunger_42 : decode cX1_hunger 42 = .ok (.iload_n 2, 1) := dk_28 (dk_at dksX1_hunger_1 20 rfl rfl)
theorem dX1_hunger_43 : decode cX1_hunger 43 = .ok (.ireturn, 1) := dk_172 (dk_at dksX1_hunger_1 21 rfl rfl)
abbrev cX1_image : ByteArray := prog_1_method_58_code
def yX1_image : MethodName := ⟨RX1, "image", "()I"⟩
def dkwX1_image_1 : List UInt8 := [182, 1, 150, 42, 89, 180, 0, 151, 4, 96, 90, 181, 0, 151, 172]
abbrev dktX1_image_1 : List UInt8 := dkwX1_image_1 ++ []
def dkwX1_image_0 : List UInt8 := [42, 180, 0, 151, 6, 160, 0, 5, 2, 172, 42, 180, 0, 29, 42, 180, 0, 151, 50, 42, 180, 0, 25]
abbrev dktX1_image_0 : List UInt8 := dkwX1_image_0 ++ dktX1_image_1
theorem dksX1_image_0 : cX1_image.data.toList.drop 0 = dktX1_image_0 := by decide +kernel
theorem dksX1_image_1 : cX1_image.data.toList.drop 23 = dktX1_image_1 := dk_seg dksX1_image_0 23 rfl rfl
theorem dX1_image_0 : decode cX1_image 0 = .ok (.aload_n 0, 1) := dk_42 (dk_at dksX1_image_0 0 rfl rfl)
theorem dX1_image_1 : decode cX1_image 1 = .ok (.getfield 151, 3) := dk_180 0 151 (dk_at dksX1_image_0 1 rfl rfl)
theorem dX1_image_4 : decode cX1_image 4 = .ok (.iconst 3, 1) := dk_6 (dk_at dksX1_image_0 4 rfl rfl)
theorem dX1_image_5 : decode cX1_image 5 = .ok (.if_icmp .ne 5, 3) := dk_160 0 5 (dk_at dksX1_image_0 5 rfl rfl)
theorem dX1_image_8 : decode cX1_image 8 = .ok (.iconst (-1), 1) := dk_2 (dk_at dksX1_image_0 8 rfl rfl)
theorem dX1_image_9 : decode cX1_image 9 = .ok (.ireturn, 1) := dk_172 (dk_at dksX1_image_0 9 rfl rfl)
theorem dX1_image_10 : decode cX1_image 10 = .ok (.aload_n 0, 1) := dk_42 (dk_at dksX1_image_0 10 rfl rfl)
theorem dX1_image_11 : decode cX1_image 11 = .ok (.getfield 29, 3) := dk_180 0 29 (dk_at dksX1_image_0 11 rfl rfl)
theorem dX1_image_14 : decode cX1_image 14 = .ok (.aload_n 0, 1) := dk_42 (dk_at dksX1_image_0 14 rfl rfl)
theorem dX1_image_15 : decode cX1_image 15 = .ok (.getfield 151, 3) := dk_180 0 151 (dk_at dksX1_image_0 15 rfl rfl)
theorem dX1_image_18 : decode cX1_image 18 = .ok (.aaload, 1) := dk_50 (dk_at dksX1_image_0 18 rfl rfl)
theorem dX1_image_19 : decode cX1_image 19 = .ok (.aload_n 0, 1) := dk_42 (dk_at dksX1_image_0 19 rfl rfl)
theorem dX1_image_20 : decode cX1_image 20 = .ok (.getfield 25, 3) := dk_180 0 25 (dk_at dksX1_image_0 20 rfl rfl)
theorem dX1_image_23 : decode cX1_image 23 = .ok (.invokevirtual 406, 3) := dk_182 1 150 (dk_at dksX1_image_1 0 rfl rfl)
theorem dX1_image_26 : decode cX1_image 26 = .ok (.aload_n 0, 1) := dk_42 (dk_at dksX1_image_1 3 rfl rfl)
theorem dX1_image_27 : decode cX1_image 27 = .ok (.dup, 1) := dk_89 (dk_at dksX1_image_1 4 rfl rfl)
theorem dX1_image_28 : decode cX1_image 28 = .ok (.getfield 151, 3) := dk_180 0 151 (dk_at dksX1_image_1 5 rfl rfl)
theorem dX1_image_31 : decode cX1_image 31 = .ok (.iconst 1, 1) := dk_4 (dk_at dksX1_image_1 8 rfl rfl)
theorem dX1_image_32 : decode cX1_image 32 = .ok (.iadd, 1) := dk_96 (dk_at dksX1_image_1 9 rfl rfl)
theorem dX1_image_33 : decode cX1_image 33 = .ok (.dup_x1, 1) := dk_90 (dk_at dksX1_image_1 10 rfl rfl)
theorem dX1_image_34 : decode cX1_image 34 = .ok (.putfield 151, 3) := dk_181 0 151 (dk_at dksX1_image_1 11 rfl rfl)
theorem dX1_image_37 : decode cX1_image 37 = .ok (.ireturn, 1) := dk_172 (dk_at dksX1_image_1 14 rfl rfl)
abbrev cX1_restore : ByteArray := prog_1_method_59_code
def yX1_restore : MethodName := ⟨RX1, "restore", "()I"⟩
def dkwX1_restore_1 : List UInt8 := [90, 181, 0, 151, 50, 182, 1, 150, 42, 3, 181, 0, 148, 42, 180, 0, 151, 172]
abbrev dktX1_restore_1 : List UInt8 := dkwX1_restore_1 ++ []
def dkwX1_restore_0 : List UInt8 := [42, 180, 0, 151, 154, 0, 5, 2, 172, 42, 180, 0, 25, 42, 180, 0, 29, 42, 89, 180, 0, 151, 4, 100]
abbrev dktX1_restore_0 : List UInt8 := dkwX1_restore_0 ++ dktX1_restore_1
theorem dksX1_restore_0 : cX1_restore.data.toList.drop 0 = dktX1_restore_0 := by decide +kernel
theorem dksX1_restore_1 : cX1_restore.data.toList.drop 24 = dktX1_restore_1 := dk_seg dksX1_restore_0 24 rfl rfl
theorem dX1_restore_0 : decode cX1_restore 0 = .ok (.aload_n 0, 1) := dk_42 (dk_at dksX1_restore_0 0 rfl rfl)
theorem dX1_restore_1 : decode cX1_restore 1 = .ok (.getfield 151, 3) := dk_180 0 151 (dk_at dksX1_restore_0 1 rfl rfl)
theorem dX1_restore_4 : decode cX1_restore 4 = .ok (.ifCond .ne 5, 3) := dk_154 0 5 (dk_at dksX1_restore_0 4 rfl rfl)
theorem dX1_restore_7 : decode cX1_restore 7 = .ok (.iconst (-1), 1) := dk_2 (dk_at dksX1_restore_0 7 rfl rfl)
theorem dX1_restore_8 : decode cX1_restore 8 = .ok (.ireturn, 1) := dk_172 (dk_at dksX1_restore_0 8 rfl rfl)
theorem dX1_restore_9 : decode cX1_restore 9 = .ok (.aload_n 0, 1) := dk_42 (dk_at dksX1_restore_0 9 rfl rfl)
theorem dX1_restore_10 : decode cX1_restore 10 = .ok (.getfield 25, 3) := dk_180 0 25 (dk_at dksX1_restore_0 10 rfl rfl)
theorem dX1_restore_13 : decode cX1_restore 13 = .ok (.aload_n 0, 1) := dk_42 (dk_at dksX1_restore_0 13 rfl rfl)
theorem dX1_restore_14 : decode cX1_restore 14 = .ok (.getfield 29, 3) := dk_180 0 29 (dk_at dksX1_restore_0 14 rfl rfl)
theorem dX1_restore_17 : decode cX1_restore 17 = .ok (.aload_n 0, 1) := dk_42 (dk_at dksX1_restore_0 17 rfl rfl)
theorem dX1_restore_18 : decode cX1_restore 18 = .ok (.dup, 1) := dk_89 (dk_at dksX1_restore_0 18 rfl rfl)
theorem dX1_restore_19 : decode cX1_restore 19 = .ok (.getfield 151, 3) := dk_180 0 151 (dk_at dksX1_restore_0 19 rfl rfl)
theorem dX1_restore_22 : decode cX1_restore 22 = .ok (.iconst 1, 1) := dk_4 (dk_at dksX1_restore_0 22 rfl rfl)
theorem dX1_restore_23 : decode cX1_restore 23 = .ok (.isub, 1) := dk_100 (dk_at dksX1_restore_0 23 rfl rfl)
theorem dX1_restore_24 : decode cX1_restore 24 = .ok (.dup_x1, 1) := dk_90 (dk_at dksX1_restore_1 0 rfl rfl)
theorem dX1_restore_25 : decode cX1_restore 25 = .ok (.putfield 151, 3) := dk_181 0 151 (dk_at dksX1_restore_1 1 rfl rfl)
theorem dX1_restore_28 : decode cX1_restore 28 = .ok (.aaload, 1) := dk_50 (dk_at dksX1_restore_1 4 rfl rfl)
theorem dX1_restore_29 : decode cX1_restore 29 = .ok (.invokevirtual 406, 3) := dk_182 1 150 (dk_at dksX1_restore_1 5 rfl rfl)
theorem dX1_restore_32 : decode cX1_restore 32 = .ok (.aload_n 0, 1) := dk_42 (dk_at dksX1_restore_1 8 rfl rfl)
theorem dX1_restore_33 : decode cX1_restore 33 = .ok (.iconst 0, 1) := dk_3 (dk_at dksX1_restore_1 9 rfl rfl)
theorem dX1_restore_34 : decode cX1_restore 34 = .ok (.putfield 148, 3) := dk_181 0 148 (dk_at dksX1_restore_1 10 rfl rfl)
theorem dX1_restore_37 : decode cX1_restore 37 = .ok (.aload_n 0, 1) := dk_42 (dk_at dksX1_restore_1 13 rfl rfl)
theorem dX1_restore_38 : decode cX1_restore 38 = .ok (.getfield 151, 3) := dk_180 0 151 (dk_at dksX1_restore_1 14 rfl rfl)
theorem dX1_restore_41 : decode cX1_restore 41 = .ok (.ireturn, 1) := dk_172 (dk_at dksX1_restore_1 17 rfl rfl)
abbrev cX1_status : ByteArray := prog_1_method_60_code
def yX1_status : MethodName := ⟨RX1, "status", "(I)I"⟩
def dkwX1_status_0 : List UInt8 := [27, 155, 0, 8, 27, 4, 164, 0, 7, 2, 167, 0, 9, 42, 180, 0, 54, 27, 46, 172]
abbrev dktX1_status_0 : List UInt8 := dkwX1_status_0 ++ []
theorem dksX1_status_0 : cX1_status.data.toList.drop 0 = dktX1_status_0 := by decide +kernel
theorem dX1_status_0 : decode cX1_status 0 = .ok (.iload_n 1, 1) := dk_27 (dk_at dksX1_status_0 0 rfl rfl)
theorem dX1_status_1 : decode cX1_status 1 = .ok (.ifCond .lt 8, 3) := dk_155 0 8 (dk_at dksX1_status_0 1 rfl rfl)
theorem dX1_status_4 : decode cX1_status 4 = .ok (.iload_n 1, 1) := dk_27 (dk_at dksX1_status_0 4 rfl rfl)
theorem dX1_status_5 : decode cX1_status 5 = .ok (.iconst 1, 1) := dk_4 (dk_at dksX1_status_0 5 rfl rfl)
theorem dX1_status_6 : decode cX1_status 6 = .ok (.if_icmp .le 7, 3) := dk_164 0 7 (dk_at dksX1_status_0 6 rfl rfl)
theorem dX1_status_9 : decode cX1_status 9 = .ok (.iconst (-1), 1) := dk_2 (dk_at dksX1_status_0 9 rfl rfl)
theorem dX1_status_10 : decode cX1_status 10 = .ok (.goto 9, 3) := dk_167 0 9 (dk_at dksX1_status_0 10 rfl rfl)
theorem dX1_status_13 : decode cX1_status 13 = .ok (.aload_n 0, 1) := dk_42 (dk_at dksX1_status_0 13 rfl rfl)
theorem dX1_status_14 : decode cX1_status 14 = .ok (.getfield 54, 3) := dk_180 0 54 (dk_at dksX1_status_0 14 rfl rfl)
theorem dX1_status_17 : decode cX1_status 17 = .ok (.iload_n 1, 1) := dk_27 (dk_at dksX1_status_0 17 rfl rfl)
theorem dX1_status_18 : decode cX1_status 18 = .ok (.iaload, 1) := dk_46 (dk_at dksX1_status_0 18 rfl rfl)
theorem dX1_status_19 : decode cX1_status 19 = .ok (.ireturn, 1) := dk_172 (dk_at dksX1_status_0 19 rfl rfl)
abbrev cX1_count : ByteArray := prog_1_method_61_code
def yX1_count : MethodName := ⟨RX1, "count", "(I)I"⟩
def dkwX1_count_1 : List UInt8 := [5, 160, 0, 13, 42, 180, 0, 25, 180, 0, 138, 167, 0, 4, 2, 172]
abbrev dktX1_count_1 : List UInt8 := dkwX1_count_1 ++ []
def dkwX1_count_0 : List UInt8 := [27, 154, 0, 10, 42, 180, 0, 151, 167, 0, 31, 27, 4, 160, 0, 10, 42, 180, 0, 101, 167, 0, 19, 27]
abbrev dktX1_count_0 : List UInt8 := dkwX1_count_0 ++ dktX1_count_1
theorem dksX1_count_0 : cX1_count.data.toList.drop 0 = dktX1_count_0 := by decide +kernel
theorem dksX1_count_1 : cX1_count.data.toList.drop 24 = dktX1_count_1 := dk_seg dksX1_count_0 24 rfl rfl
theorem dX1_count_0 : decode cX1_count 0 = .ok (.iload_n 1, 1) := dk_27 (dk_at dksX1_count_0 0 rfl rfl)
theorem dX1_count_1 : decode cX1_count 1 = .ok (.ifCond .ne 10, 3) := dk_154 0 10 (dk_at dksX1_count_0 1 rfl rfl)
theorem dX1_count_4 : decode cX1_count 4 = .ok (.aload_n 0, 1) := dk_42 (dk_at dksX1_count_0 4 rfl rfl)
theorem dX1_count_5 : decode cX1_count 5 = .ok (.getfield 151, 3) := dk_180 0 151 (dk_at dksX1_count_0 5 rfl rfl)
theorem dX1_count_8 : decode cX1_count 8 = .ok (.goto 31, 3) := dk_167 0 31 (dk_at dksX1_count_0 8 rfl rfl)
theorem dX1_count_11 : decode cX1_count 11 = .ok (.iload_n 1, 1) := dk_27 (dk_at dksX1_count_0 11 rfl rfl)
theorem dX1_count_12 : decode cX1_count 12 = .ok (.iconst 1, 1) := dk_4 (dk_at dksX1_count_0 12 rfl rfl)
theorem dX1_count_13 : decode cX1_count 13 = .ok (.if_icmp .ne 10, 3) := dk_160 0 10 (dk_at dksX1_count_0 13 rfl rfl)
theorem dX1_count_16 : decode cX1_count 16 = .ok (.aload_n 0, 1) := dk_42 (dk_at dksX1_count_0 16 rfl rfl)
theorem dX1_count_17 : decode cX1_count 17 = .ok (.getfield 101, 3) := dk_180 0 101 (dk_at dksX1_count_0 17 rfl rfl)
theorem dX1_count_20 : decode cX1_count 20 = .ok (.goto 19, 3) := dk_167 0 19 (dk_at dksX1_count_0 20 rfl rfl)
theorem dX1_count_23 : decode cX1_count 23 = .ok (.iload_n 1, 1) := dk_27 (dk_at dksX1_count_0 23 rfl rfl)
theorem dX1_count_24 : decode cX1_count 24 = .ok (.iconst 2, 1) := dk_5 (dk_at dksX1_count_1 0 rfl rfl)
theorem dX1_count_25 : decode cX1_count 25 = .ok (.if_icmp .ne 13, 3) := dk_160 0 13 (dk_at dksX1_count_1 1 rfl rfl)
theorem dX1_count_28 : decode cX1_count 28 = .ok (.aload_n 0, 1) := dk_42 (dk_at dksX1_count_1 4 rfl rfl)
theorem dX1_count_29 : decode cX1_count 29 = .ok (.getfield 25, 3) := dk_180 0 25 (dk_at dksX1_count_1 5 rfl rfl)
theorem dX1_count_32 : decode cX1_count 32 = .ok (.getfield 138, 3) := dk_180 0 138 (dk_at dksX1_count_1 8 rfl rfl)
theorem dX1_count_35 : decode cX1_count 35 = .ok (.goto 4, 3) := dk_167 0 4 (dk_at dksX1_count_1 11 rfl rfl)
theorem dX1_count_38 : decode cX1_count 38 = .ok (.iconst (-1), 1) := dk_2 (dk_at dksX1_count_1 14 rfl rfl)
theorem dX1_count_39 : decode cX1_count 39 = .ok (.ireturn, 1) := dk_172 (dk_at dksX1_count_1 15 rfl rfl)
abbrev cX1_register : ByteArray := prog_1_method_8_code
def yX1_register : MethodName := ⟨RX1, "register", "(I)I"⟩
def dkwX1_register_4 : List UInt8 := [181, 0, 151, 42, 180, 0, 73, 180, 0, 89, 172]
abbrev dktX1_register_4 : List UInt8 := dkwX1_register_4 ++ []
def dkwX1_register_3 : List UInt8 := [42, 180, 0, 16, 180, 0, 141, 4, 1, 83, 42, 3, 181, 0, 145, 42, 3, 181, 0, 148, 42, 3]
abbrev dktX1_register_3 : List UInt8 := dkwX1_register_3 ++ dktX1_register_4
def dkwX1_register_2 : List UInt8 := [42, 180, 0, 25, 182, 0, 81, 42, 180, 0, 73, 182, 0, 85, 42, 180, 0, 16, 180, 0, 141, 3, 1, 83]
abbrev dktX1_register_2 : List UInt8 := dkwX1_register_2 ++ dktX1_register_3
def dkwX1_register_1 : List UInt8 := [182, 0, 130, 181, 0, 73, 167, 0, 10, 77, 42, 44, 182, 0, 134, 172, 42, 180, 0, 25, 3, 181, 0, 138]
abbrev dktX1_register_1 : List UInt8 := dkwX1_register_1 ++ dktX1_register_2
def dkwX1_register_0 : List UInt8 := [42, 27, 3, 42, 180, 0, 101, 182, 0, 117, 42, 187, 0, 121, 89, 42, 27, 182, 0, 123, 183, 0, 127]
abbrev dktX1_register_0 : List UInt8 := dkwX1_register_0 ++ dktX1_register_1
theorem dksX1_register_0 : cX1_register.data.toList.drop 0 = dktX1_register_0 := by decide +kernel
theorem dksX1_register_1 : cX1_register.data.toList.drop 23 = dktX1_register_1 := dk_seg dksX1_register_0 23 rfl rfl
theorem dksX1_register_2 : cX1_register.data.toList.drop 47 = dktX1_register_2 := dk_seg dksX1_register_1 24 rfl rfl
theorem dksX1_register_3 : cX1_register.data.toList.drop 71 = dktX1_register_3 := dk_seg dksX1_register_2 24 rfl rfl
theorem dksX1_register_4 : cX1_register.data.toList.drop 93 = dktX1_register_4 := dk_seg dksX1_register_3 22 rfl rfl
theorem dX1_register_0 : decode cX1_register 0 = .ok (.aload_n 0, 1) := dk_42 (dk_at dksX1_register_0 0 rfl rfl)
theorem dX1_register_1 : decode cX1_register 1 = .ok (.iload_n 1, 1) := dk_27 (dk_at dksX1_register_0 1 rfl rfl)
theorem dX1_register_2 : decode cX1_register 2 = .ok (.iconst 0, 1) := dk_3 (dk_at dksX1_register_0 2 rfl rfl)
theorem dX1_register_3 : decode cX1_register 3 = .ok (.aload_n 0, 1) := dk_42 (dk_at dksX1_register_0 3 rfl rfl)
theorem dX1_register_4 : decode cX1_register 4 = .ok (.getfield 101, 3) := dk_180 0 101 (dk_at dksX1_register_0 4 rfl rfl)
theorem dX1_register_7 : decode cX1_register 7 = .ok (.invokevirtual 117, 3) := dk_182 0 117 (dk_at dksX1_register_0 7 rfl rfl)
theorem dX1_register_10 : decode cX1_register 10 = .ok (.aload_n 0, 1) := dk_42 (dk_at dksX1_register_0 10 rfl rfl)
theorem dX1_register_11 : decode cX1_register 11 = .ok (.new 121, 3) := dk_187 0 121 (dk_at dksX1_register_0 11 rfl rfl)
theorem dX1_register_14 : decode cX1_register 14 = .ok (.dup, 1) := dk_89 (dk_at dksX1_register_0 14 rfl rfl)
theorem dX1_register_15 : decode cX1_register 15 = .ok (.aload_n 0, 1) := dk_42 (dk_at dksX1_register_0 15 rfl rfl)
theorem dX1_register_16 : decode cX1_register 16 = .ok (.iload_n 1, 1) := dk_27 (dk_at dksX1_register_0 16 rfl rfl)
theorem dX1_register_17 : decode cX1_register 17 = .ok (.invokevirtual 123, 3) := dk_182 0 123 (dk_at dksX1_register_0 17 rfl rfl)
theorem dX1_register_20 : decode cX1_register 20 = .ok (.invokespecial 127, 3) := dk_183 0 127 (dk_at dksX1_register_0 20 rfl rfl)
theorem dX1_register_23 : decode cX1_register 23 = .ok (.invokevirtual 130, 3) := dk_182 0 130 (dk_at dksX1_register_1 0 rfl rfl)
theorem dX1_register_26 : decode cX1_register 26 = .ok (.putfield 73, 3) := dk_181 0 73 (dk_at dksX1_register_1 3 rfl rfl)
theorem dX1_register_29 : decode cX1_register 29 = .ok (.goto 10, 3) := dk_167 0 10 (dk_at dksX1_register_1 6 rfl rfl)
theorem dX1_register_32 : decode cX1_register 32 = .ok (.astore_n 2, 1) := dk_77 (dk_at dksX1_register_1 9 rfl rfl)
theorem dX1_register_33 : decode cX1_register 33 = .ok (.aload_n 0, 1) := dk_42 (dk_at dksX1_register_1 10 rfl rfl)
theorem dX1_register_34 : decode cX1_register 34 = .ok (.aload_n 2, 1) := dk_44 (dk_at dksX1_register_1 11 rfl rfl)
theorem dX1_register_35 : decode cX1_register 35 = .ok (.invokevirtual 134, 3) := dk_182 0 134 (dk_at dksX1_register_1 12 rfl rfl)
theorem dX1_register_38 : decode cX1_register 38 = .ok (.ireturn, 1) := dk_172 (dk_at dksX1_register_1 15 rfl rfl)
theorem dX1_register_39 : decode cX1_register 39 = .ok (.aload_n 0, 1) := dk_42 (dk_at dksX1_register_1 16 rfl rfl)
theorem dX1_register_40 : decode cX1_register 40 = .ok (.getfield 25, 3) := dk_180 0 25 (dk_at dksX1_register_1 17 rfl rfl)
theorem dX1_register_43 : decode cX1_register 43 = .ok (.iconst 0, 1) := dk_3 (dk_at dksX1_register_1 20 rfl rfl)
theorem dX1_register_44 : decode cX1_register 44 = .ok (.putfield 138, 3) := dk_181 0 138 (dk_at dksX1_register_1 21 rfl rfl)
theorem dX1_register_47 : decode cX1_register 47 = .ok (.aload_n 0, 1) := dk_42 (dk_at dksX1_register_2 0 rfl rfl)
theorem dX1_register_48 : decode cX1_register 48 = .ok (.getfield 25, 3) := dk_180 0 25 (dk_at dksX1_register_2 1 rfl rfl)
theorem dX1_register_51 : decode cX1_register 51 = .ok (.invokevirtual 81, 3) := dk_182 0 81 (dk_at dksX1_register_2 4 rfl rfl)
theorem dX1_register_54 : decode cX1_register 54 = .ok (.aload_n 0, 1) := dk_42 (dk_at dksX1_register_2 7 rfl rfl)
theorem dX1_register_55 : decode cX1_register 55 = .ok (.getfield 73, 3) := dk_180 0 73 (dk_at dksX1_register_2 8 rfl rfl)
theorem dX1_register_58 : decode cX1_register 58 = .ok (.invokevirtual 85, 3) := dk_182 0 85 (dk_at dksX1_register_2 11 rfl rfl)
theorem dX1_register_61 : decode cX1_register 61 = .ok (.aload_n 0, 1) := dk_42 (dk_at dksX1_register_2 14 rfl rfl)
theorem dX1_register_62 : decode cX1_register 62 = .ok (.getfield 16, 3) := dk_180 0 16 (dk_at dksX1_register_2 15 rfl rfl)
theorem dX1_register_65 : decode cX1_register 65 = .ok (.getfield 141, 3) := dk_180 0 141 (dk_at dksX1_register_2 18 rfl rfl)
theorem dX1_register_68 : decode cX1_register 68 = .ok (.iconst 0, 1) := dk_3 (dk_at dksX1_register_2 21 rfl rfl)
theorem dX1_register_69 : decode cX1_register 69 = .ok (.aconst_null, 1) := dk_1 (dk_at dksX1_register_2 22 rfl rfl)
theorem dX1_register_70 : decode cX1_register 70 = .ok (.aastore, 1) := dk_83 (dk_at dksX1_register_2 23 rfl rfl)
theorem dX1_register_71 : decode cX1_register 71 = .ok (.aload_n 0, 1) := dk_42 (dk_at dksX1_register_3 0 rfl rfl)
theorem dX1_register_72 : decode cX1_register 72 = .ok (.getfield 16, 3) := dk_180 0 16 (dk_at dksX1_register_3 1 rfl rfl)
theorem dX1_register_75 : decode cX1_register 75 = .ok (.getfield 141, 3) := dk_180 0 141 (dk_at dksX1_register_3 4 rfl rfl)
theorem dX1_register_78 : decode cX1_register 78 = .ok (.iconst 1, 1) := dk_4 (dk_at dksX1_register_3 7 rfl rfl)
theorem dX1_register_79 : decode cX1_register 79 = .ok (.aconst_null, 1) := dk_1 (dk_at dksX1_register_3 8 rfl rfl)
theorem dX1_register_80 : decode cX1_register 80 = .ok (.aastore, 1) := dk_83 (dk_at dksX1_register_3 9 rfl rfl)
theorem dX1_register_81 : decode cX1_register 81 = .ok (.aload_n 0, 1) := dk_42 (dk_at dksX1_register_3 10 rfl rfl)
theorem dX1_register_82 : decode cX1_register 82 = .ok (.iconst 0, 1) := dk_3 (dk_at dksX1_register_3 11 rfl rfl)
theorem dX1_register_83 : decode cX1_register 83 = .ok (.putfield 145, 3) := dk_181 0 145 (dk_at dksX1_register_3 12 rfl rfl)
theorem dX1_register_86 : decode cX1_register 86 = .ok (.aload_n 0, 1) := dk_42 (dk_at dksX1_register_3 15 rfl rfl)
theorem dX1_register_87 : decode cX1_register 87 = .ok (.iconst 0, 1) := dk_3 (dk_at dksX1_register_3 16 rfl rfl)
theorem dX1_register_88 : decode cX1_register 88 = .ok (.putfield 148, 3) := dk_181 0 148 (dk_at dksX1_register_3 17 rfl rfl)
theorem dX1_register_91 : decode cX1_register 91 = .ok (.aload_n 0, 1) := dk_42 (dk_at dksX1_register_3 20 rfl rfl)
theorem dX1_register_92 : decode cX1_register 92 = .ok (.iconst 0, 1) := dk_3 (dk_at dksX1_register_3 21 rfl rfl)
theorem dX1_register_93 : decode cX1_register 93 = .ok (.putfield 151, 3) := dk_181 0 151 (dk_at dksX1_register_4 0 rfl rfl)
theorem dX1_register_96 : decode cX1_register 96 = .ok (.aload_n 0, 1) := dk_42 (dk_at dksX1_register_4 3 rfl rfl)
theorem dX1_register_97 : decode cX1_register 97 = .ok (.getfield 73, 3) := dk_180 0 73 (dk_at dksX1_register_4 4 rfl rfl)
theorem dX1_register_100 : decode cX1_register 100 = .ok (.getfield 89, 3) := dk_180 0 89 (dk_at dksX1_register_4 7 rfl rfl)
theorem dX1_register_103 : decode cX1_register 103 = .ok (.ireturn, 1) := dk_172 (dk_at dksX1_register_4 10 rfl rfl)
abbrev cX1_within : ByteArray := prog_1_method_4_code
def yX1_within : MethodName := ⟨RX1, "within", "(III)V"⟩
def dkwX1_within_1 : List UInt8 := [89, 183, 0, 100, 191]
abbrev dktX1_within_1 : List UInt8 := dkwX1_within_1 ++ []
def dkwX1_within_0 : List UInt8 := [27, 28, 161, 0, 9, 27, 29, 163, 0, 4, 177, 42, 180, 0, 54, 4, 92, 46, 4, 96, 79, 187, 0, 98]
abbrev dktX1_within_0 : List UInt8 := dkwX1_within_0 ++ dktX1_within_1
theorem dksX1_within_0 : cX1_within.data.toList.drop 0 = dktX1_within_0 := by decide +kernel
theorem dksX1_within_1 : cX1_within.data.toList.drop 24 = dktX1_within_1 := dk_seg dksX1_within_0 24 rfl rfl
theorem dX1_within_0 : decode cX1_within 0 = .ok (.iload_n 1, 1) := dk_27 (dk_at dksX1_within_0 0 rfl rfl)
theorem dX1_within_1 : decode cX1_within 1 = .ok (.iload_n 2, 1) := dk_28 (dk_at dksX1_within_0 1 rfl rfl)
theorem dX1_within_2 : decode cX1_within 2 = .ok (.if_icmp .lt 9, 3) := dk_161 0 9 (dk_at dksX1_within_0 2 rfl rfl)
theorem dX1_within_5 : decode cX1_within 5 = .ok (.iload_n 1, 1) := dk_27 (dk_at dksX1_within_0 5 rfl rfl)
theorem dX1_within_6 : decode cX1_within 6 = .ok (.iload_n 3, 1) := dk_29 (dk_at dksX1_within_0 6 rfl rfl)
theorem dX1_within_7 : decode cX1_within 7 = .ok (.if_icmp .gt 4, 3) := dk_163 0 4 (dk_at dksX1_within_0 7 rfl rfl)
theorem dX1_within_10 : decode cX1_within 10 = .ok (.return_, 1) := dk_177 (dk_at dksX1_within_0 10 rfl rfl)
theorem dX1_within_11 : decode cX1_within 11 = .ok (.aload_n 0, 1) := dk_42 (dk_at dksX1_within_0 11 rfl rfl)
theorem dX1_within_12 : decode cX1_within 12 = .ok (.getfield 54, 3) := dk_180 0 54 (dk_at dksX1_within_0 12 rfl rfl)
theorem dX1_within_15 : decode cX1_within 15 = .ok (.iconst 1, 1) := dk_4 (dk_at dksX1_within_0 15 rfl rfl)
theorem dX1_within_16 : decode cX1_within 16 = .ok (.dup2, 1) := dk_92 (dk_at dksX1_within_0 16 rfl rfl)
theorem dX1_within_17 : decode cX1_within 17 = .ok (.iaload, 1) := dk_46 (dk_at dksX1_within_0 17 rfl rfl)
theorem dX1_within_18 : decode cX1_within 18 = .ok (.iconst 1, 1) := dk_4 (dk_at dksX1_within_0 18 rfl rfl)
theorem dX1_within_19 : decode cX1_within 19 = .ok (.iadd, 1) := dk_96 (dk_at dksX1_within_0 19 rfl rfl)
theorem dX1_within_20 : decode cX1_within 20 = .ok (.iastore, 1) := dk_79 (dk_at dksX1_within_0 20 rfl rfl)
theorem dX1_within_21 : decode cX1_within 21 = .ok (.new 98, 3) := dk_187 0 98 (dk_at dksX1_within_0 21 rfl rfl)
theorem dX1_within_24 : decode cX1_within 24 = .ok (.dup, 1) := dk_89 (dk_at dksX1_within_1 0 rfl rfl)
theorem dX1_within_25 : decode cX1_within 25 = .ok (.invokespecial 100, 3) := dk_183 0 100 (dk_at dksX1_within_1 1 rfl rfl)
theorem dX1_within_28 : decode cX1_within 28 = .ok (.athrow, 1) := dk_191 (dk_at dksX1_within_1 4 rfl rfl)
abbrev cX1_reader : ByteArray := prog_1_method_6_code
def yX1_reader : MethodName := ⟨RX1, "reader", "(I)LPassagePapers$Reader;"⟩
def dkwX1_reader_0 : List UInt8 := [42, 3, 181, 0, 101, 42, 2, 181, 0, 77, 187, 0, 104, 89, 42, 180, 0, 9, 27, 183, 0, 106, 176]
abbrev dktX1_reader_0 : List UInt8 := dkwX1_reader_0 ++ []
theorem dksX1_reader_0 : cX1_reader.data.toList.drop 0 = dktX1_reader_0 := by decide +kernel
theorem dX1_reader_0 : decode cX1_reader 0 = .ok (.aload_n 0, 1) := dk_42 (dk_at dksX1_reader_0 0 rfl rfl)
theorem dX1_reader_1 : decode cX1_reader 1 = .ok (.iconst 0, 1) := dk_3 (dk_at dksX1_reader_0 1 rfl rfl)
theorem dX1_reader_2 : decode cX1_reader 2 = .ok (.putfield 101, 3) := dk_181 0 101 (dk_at dksX1_reader_0 2 rfl rfl)
theorem dX1_reader_5 : decode cX1_reader 5 = .ok (.aload_n 0, 1) := dk_42 (dk_at dksX1_reader_0 5 rfl rfl)
theorem dX1_reader_6 : decode cX1_reader 6 = .ok (.iconst (-1), 1) := dk_2 (dk_at dksX1_reader_0 6 rfl rfl)
theorem dX1_reader_7 : decode cX1_reader 7 = .ok (.putfield 77, 3) := dk_181 0 77 (dk_at dksX1_reader_0 7 rfl rfl)
theorem dX1_reader_10 : decode cX1_reader 10 = .ok (.new 104, 3) := dk_187 0 104 (dk_at dksX1_reader_0 10 rfl rfl)
theorem dX1_reader_13 : decode cX1_reader 13 = .ok (.dup, 1) := dk_89 (dk_at dksX1_reader_0 13 rfl rfl)
theorem dX1_reader_14 : decode cX1_reader 14 = .ok (.aload_n 0, 1) := dk_42 (dk_at dksX1_reader_0 14 rfl rfl)
theorem dX1_reader_15 : decode cX1_reader 15 = .ok (.getfield 9, 3) := dk_180 0 9 (dk_at dksX1_reader_0 15 rfl rfl)
theorem dX1_reader_18 : decode cX1_reader 18 = .ok (.iload_n 1, 1) := dk_27 (dk_at dksX1_reader_0 18 rfl rfl)
theorem dX1_reader_19 : decode cX1_reader 19 = .ok (.invokespecial 106, 3) := dk_183 0 106 (dk_at dksX1_reader_0 19 rfl rfl)
theorem dX1_reader_22 : decode cX1_reader 22 = .ok (.areturn, 1) := dk_176 (dk_at dksX1_reader_0 22 rfl rfl)
abbrev cX1_faulty : ByteArray := prog_1_method_7_code
def yX1_faulty : MethodName := ⟨RX1, "faulty", "(LPassagePapers$Wrong;)I"⟩
def dkwX1_faulty_0 : List UInt8 := [42, 43, 180, 0, 109, 181, 0, 77, 43, 180, 0, 114, 16, 10, 100, 172]
abbrev dktX1_faulty_0 : List UInt8 := dkwX1_faulty_0 ++ []
theorem dksX1_faulty_0 : cX1_faulty.data.toList.drop 0 = dktX1_faulty_0 := by decide +kernel
theorem dX1_faulty_0 : decode cX1_faulty 0 = .ok (.aload_n 0, 1) := dk_42 (dk_at dksX1_faulty_0 0 rfl rfl)
theorem dX1_faulty_1 : decode cX1_faulty 1 = .ok (.aload_n 1, 1) := dk_43 (dk_at dksX1_faulty_0 1 rfl rfl)
theorem dX1_faulty_2 : decode cX1_faulty 2 = .ok (.getfield 109, 3) := dk_180 0 109 (dk_at dksX1_faulty_0 2 rfl rfl)
theorem dX1_faulty_5 : decode cX1_faulty 5 = .ok (.putfield 77, 3) := dk_181 0 77 (dk_at dksX1_faulty_0 5 rfl rfl)
theorem dX1_faulty_8 : decode cX1_faulty 8 = .ok (.aload_n 1, 1) := dk_43 (dk_at dksX1_faulty_0 8 rfl rfl)
theorem dX1_faulty_9 : decode cX1_faulty 9 = .ok (.getfield 114, 3) := dk_180 0 114 (dk_at dksX1_faulty_0 9 rfl rfl)
theorem dX1_faulty_12 : decode cX1_faulty 12 = .ok (.bipush 10, 2) := dk_16 10 (dk_at dksX1_faulty_0 12 rfl rfl)
theorem dX1_faulty_14 : decode cX1_faulty 14 = .ok (.isub, 1) := dk_100 (dk_at dksX1_faulty_0 14 rfl rfl)
theorem dX1_faulty_15 : decode cX1_faulty 15 = .ok (.ireturn, 1) := dk_172 (dk_at dksX1_faulty_0 15 rfl rfl)
abbrev cX1_law : ByteArray := prog_1_method_9_code
def yX1_law : MethodName := ⟨RX1, "law", "(II)I"⟩
def dkwX1_law_2 : List UInt8 := [167, 0, 10, 78, 42, 45, 182, 0, 134, 172, 4, 172]
abbrev dktX1_law_2 : List UInt8 := dkwX1_law_2 ++ []
def dkwX1_law_1 : List UInt8 := [180, 0, 16, 180, 0, 141, 27, 187, 0, 160, 89, 42, 28, 182, 0, 123, 183, 0, 162, 182, 0, 163, 83]
abbrev dktX1_law_1 : List UInt8 := dkwX1_law_1 ++ dktX1_law_2
def dkwX1_law_0 : List UInt8 := [42, 27, 3, 4, 182, 0, 117, 42, 28, 3, 42, 180, 0, 101, 17, 0, 150, 184, 0, 154, 182, 0, 117, 42]
abbrev dktX1_law_0 : List UInt8 := dkwX1_law_0 ++ dktX1_law_1
theorem dksX1_law_0 : cX1_law.data.toList.drop 0 = dktX1_law_0 := by decide +kernel
theorem dksX1_law_1 : cX1_law.data.toList.drop 24 = dktX1_law_1 := dk_seg dksX1_law_0 24 rfl rfl
theorem dksX1_law_2 : cX1_law.data.toList.drop 47 = dktX1_law_2 := dk_seg dksX1_law_1 23 rfl rfl
theorem dX1_law_0 : decode cX1_law 0 = .ok (.aload_n 0, 1) := dk_42 (dk_at dksX1_law_0 0 rfl rfl)
theorem dX1_law_1 : decode cX1_law 1 = .ok (.iload_n 1, 1) := dk_27 (dk_at dksX1_law_0 1 rfl rfl)
theorem dX1_law_2 : decode cX1_law 2 = .ok (.iconst 0, 1) := dk_3 (dk_at dksX1_law_0 2 rfl rfl)
theorem dX1_law_3 : decode cX1_law 3 = .ok (.iconst 1, 1) := dk_4 (dk_at dksX1_law_0 3 rfl rfl)
theorem dX1_law_4 : decode cX1_law 4 = .ok (.invokevirtual 117, 3) := dk_182 0 117 (dk_at dksX1_law_0 4 rfl rfl)
theorem dX1_law_7 : decode cX1_law 7 = .ok (.aload_n 0, 1) := dk_42 (dk_at dksX1_law_0 7 rfl rfl)
theorem dX1_law_8 : decode cX1_law 8 = .ok (.iload_n 2, 1) := dk_28 (dk_at dksX1_law_0 8 rfl rfl)
theorem dX1_law_9 : decode cX1_law 9 = .ok (.iconst 0, 1) := dk_3 (dk_at dksX1_law_0 9 rfl rfl)
theorem dX1_law_10 : decode cX1_law 10 = .ok (.aload_n 0, 1) := dk_42 (dk_at dksX1_law_0 10 rfl rfl)
theorem dX1_law_11 : decode cX1_law 11 = .ok (.getfield 101, 3) := dk_180 0 101 (dk_at dksX1_law_0 11 rfl rfl)
theorem dX1_law_14 : decode cX1_law 14 = .ok (.sipush 150, 3) := dk_17 0 150 (dk_at dksX1_law_0 14 rfl rfl)
theorem dX1_law_17 : decode cX1_law 17 = .ok (.invokestatic 154, 3) := dk_184 0 154 (dk_at dksX1_law_0 17 rfl rfl)
theorem dX1_law_20 : decode cX1_law 20 = .ok (.invokevirtual 117, 3) := dk_182 0 117 (dk_at dksX1_law_0 20 rfl rfl)
theorem dX1_law_23 : decode cX1_law 23 = .ok (.aload_n 0, 1) := dk_42 (dk_at dksX1_law_0 23 rfl rfl)
theorem dX1_law_24 : decode cX1_law 24 = .ok (.getfield 16, 3) := dk_180 0 16 (dk_at dksX1_law_1 0 rfl rfl)
theorem dX1_law_27 : decode cX1_law 27 = .ok (.getfield 141, 3) := dk_180 0 141 (dk_at dksX1_law_1 3 rfl rfl)
theorem dX1_law_30 : decode cX1_law 30 = .ok (.iload_n 1, 1) := dk_27 (dk_at dksX1_law_1 6 rfl rfl)
theorem dX1_law_31 : decode cX1_law 31 = .ok (.new 160, 3) := dk_187 0 160 (dk_at dksX1_law_1 7 rfl rfl)
theorem dX1_law_34 : decode cX1_law 34 = .ok (.dup, 1) := dk_89 (dk_at dksX1_law_1 10 rfl rfl)
theorem dX1_law_35 : decode cX1_law 35 = .ok (.aload_n 0, 1) := dk_42 (dk_at dksX1_law_1 11 rfl rfl)
theorem dX1_law_36 : decode cX1_law 36 = .ok (.iload_n 2, 1) := dk_28 (dk_at dksX1_law_1 12 rfl rfl)
theorem dX1_law_37 : decode cX1_law 37 = .ok (.invokevirtual 123, 3) := dk_182 0 123 (dk_at dksX1_law_1 13 rfl rfl)
theorem dX1_law_40 : decode cX1_law 40 = .ok (.invokespecial 162, 3) := dk_183 0 162 (dk_at dksX1_law_1 16 rfl rfl)
theorem dX1_law_43 : decode cX1_law 43 = .ok (.invokevirtual 163, 3) := dk_182 0 163 (dk_at dksX1_law_1 19 rfl rfl)
theorem dX1_law_46 : decode cX1_law 46 = .ok (.aastore, 1) := dk_83 (dk_at dksX1_law_1 22 rfl rfl)
theorem dX1_law_47 : decode cX1_law 47 = .ok (.goto 10, 3) := dk_167 0 10 (dk_at dksX1_law_2 0 rfl rfl)
theorem dX1_law_50 : decode cX1_law 50 = .ok (.astore_n 3, 1) := dk_78 (dk_at dksX1_law_2 3 rfl rfl)
theorem dX1_law_51 : decode cX1_law 51 = .ok (.aload_n 0, 1) := dk_42 (dk_at dksX1_law_2 4 rfl rfl)
theorem dX1_law_52 : decode cX1_law 52 = .ok (.aload_n 3, 1) := dk_45 (dk_at dksX1_law_2 5 rfl rfl)
theorem dX1_law_53 : decode cX1_law 53 = .ok (.invokevirtual 134, 3) := dk_182 0 134 (dk_at dksX1_law_2 6 rfl rfl)
theorem dX1_law_56 : decode cX1_law 56 = .ok (.ireturn, 1) := dk_172 (dk_at dksX1_law_2 9 rfl rfl)
theorem dX1_law_57 : decode cX1_law 57 = .ok (.iconst 1, 1) := dk_4 (dk_at dksX1_law_2 10 rfl rfl)
theorem dX1_law_58 : decode cX1_law 58 = .ok (.ireturn, 1) := dk_172 (dk_at dksX1_law_2 11 rfl rfl)
abbrev cX1_work : ByteArray := prog_1_method_10_code
def yX1_work : MethodName := ⟨RX1, "work", "(I)I"⟩
def dkwX1_work_5 : List UInt8 := [25, 4, 182, 0, 182, 42, 25, 4, 180, 0, 188, 181, 0, 148, 25, 4, 180, 0, 190, 172]
abbrev dktX1_work_5 : List UInt8 := dkwX1_work_5 ++ []
def dkwX1_work_4 : List UInt8 := [181, 0, 138, 187, 0, 174, 89, 42, 180, 0, 25, 182, 0, 81, 45, 182, 0, 176, 183, 0, 179, 58, 4, 44]
abbrev dktX1_work_4 : List UInt8 := dkwX1_work_4 ++ dktX1_work_5
def dkwX1_work_3 : List UInt8 := [182, 0, 134, 172, 42, 180, 0, 25, 182, 0, 81, 78, 42, 180, 0, 25, 89, 180, 0, 138, 4, 96]
abbrev dktX1_work_3 : List UInt8 := dkwX1_work_3 ++ dktX1_work_4
def dkwX1_work_2 : List UInt8 := [42, 27, 182, 0, 123, 42, 180, 0, 73, 183, 0, 168, 182, 0, 171, 77, 167, 0, 10, 78, 42, 45]
abbrev dktX1_work_2 : List UInt8 := dkwX1_work_2 ++ dktX1_work_3
def dkwX1_work_1 : List UInt8 := [16, 16, 160, 0, 16, 42, 3, 181, 0, 101, 42, 2, 181, 0, 77, 16, 236, 172, 1, 77, 187, 0, 166, 89]
abbrev dktX1_work_1 : List UInt8 := dkwX1_work_1 ++ dktX1_work_2
def dkwX1_work_0 : List UInt8 := [42, 27, 3, 42, 180, 0, 101, 17, 0, 150, 184, 0, 154, 182, 0, 117, 42, 180, 0, 25, 180, 0, 138]
abbrev dktX1_work_0 : List UInt8 := dkwX1_work_0 ++ dktX1_work_1
theorem dksX1_work_0 : cX1_work.data.toList.drop 0 = dktX1_work_0 := by decide +kernel
theorem dksX1_work_1 : cX1_work.data.toList.drop 23 = dktX1_work_1 := dk_seg dksX1_work_0 23 rfl rfl
theorem dksX1_work_2 : cX1_work.data.toList.drop 47 = dktX1_work_2 := dk_seg dksX1_work_1 24 rfl rfl
theorem dksX1_work_3 : cX1_work.data.toList.drop 69 = dktX1_work_3 := dk_seg dksX1_work_2 22 rfl rfl
theorem dksX1_work_4 : cX1_work.data.toList.drop 91 = dktX1_work_4 := dk_seg dksX1_work_3 22 rfl rfl
theorem dksX1_work_5 : cX1_work.data.toList.drop 115 = dktX1_work_5 := dk_seg dksX1_work_4 24 rfl rfl
theorem dX1_work_0 : decode cX1_work 0 = .ok (.aload_n 0, 1) := dk_42 (dk_at dksX1_work_0 0 rfl rfl)
theorem dX1_work_1 : decode cX1_work 1 = .ok (.iload_n 1, 1) := dk_27 (dk_at dksX1_work_0 1 rfl rfl)
theorem dX1_work_2 : decode cX1_work 2 = .ok (.iconst 0, 1) := dk_3 (dk_at dksX1_work_0 2 rfl rfl)
theorem dX1_work_3 : decode cX1_work 3 = .ok (.aload_n 0, 1) := dk_42 (dk_at dksX1_work_0 3 rfl rfl)
theorem dX1_work_4 : decode cX1_work 4 = .ok (.getfield 101, 3) := dk_180 0 101 (dk_at dksX1_work_0 4 rfl rfl)
theorem dX1_work_7 : decode cX1_work 7 = .ok (.sipush 150, 3) := dk_17 0 150 (dk_at dksX1_work_0 7 rfl rfl)
theorem dX1_work_10 : decode cX1_work 10 = .ok (.invokestatic 154, 3) := dk_184 0 154 (dk_at dksX1_work_0 10 rfl rfl)
theorem dX1_work_13 : decode cX1_work 13 = .ok (.invokevirtual 117, 3) := dk_182 0 117 (dk_at dksX1_work_0 13 rfl rfl)
theorem dX1_work_16 : decode cX1_work 16 = .ok (.aload_n 0, 1) := dk_42 (dk_at dksX1_work_0 16 rfl rfl)
theorem dX1_work_17 : decode cX1_work 17 = .ok (.getfield 25, 3) := dk_180 0 25 (dk_at dksX1_work_0 17 rfl rfl)
theorem dX1_work_20 : decode cX1_work 20 = .ok (.getfield 138, 3) := dk_180 0 138 (dk_at dksX1_work_0 20 rfl rfl)
theorem dX1_work_23 : decode cX1_work 23 = .ok (.bipush 16, 2) := dk_16 16 (dk_at dksX1_work_1 0 rfl rfl)
theorem dX1_work_25 : decode cX1_work 25 = .ok (.if_icmp .ne 16, 3) := dk_160 0 16 (dk_at dksX1_work_1 2 rfl rfl)
theorem dX1_work_28 : decode cX1_work 28 = .ok (.aload_n 0, 1) := dk_42 (dk_at dksX1_work_1 5 rfl rfl)
theorem dX1_work_29 : decode cX1_work 29 = .ok (.iconst 0, 1) := dk_3 (dk_at dksX1_work_1 6 rfl rfl)
theorem dX1_work_30 : decode cX1_work 30 = .ok (.putfield 101, 3) := dk_181 0 101 (dk_at dksX1_work_1 7 rfl rfl)
theorem dX1_work_33 : decode cX1_work 33 = .ok (.aload_n 0, 1) := dk_42 (dk_at dksX1_work_1 10 rfl rfl)
theorem dX1_work_34 : decode cX1_work 34 = .ok (.iconst (-1), 1) := dk_2 (dk_at dksX1_work_1 11 rfl rfl)
theorem dX1_work_35 : decode cX1_work 35 = .ok (.putfield 77, 3) := dk_181 0 77 (dk_at dksX1_work_1 12 rfl rfl)
theorem dX1_work_38 : decode cX1_work 38 = .ok (.bipush (-20), 2) := dk_16 236 (dk_at dksX1_work_1 15 rfl rfl)
theorem dX1_work_40 : decode cX1_work 40 = .ok (.ireturn, 1) := dk_172 (dk_at dksX1_work_1 17 rfl rfl)
theorem dX1_work_41 : decode cX1_work 41 = .ok (.aconst_null, 1) := dk_1 (dk_at dksX1_work_1 18 rfl rfl)
theorem dX1_work_42 : decode cX1_work 42 = .ok (.astore_n 2, 1) := dk_77 (dk_at dksX1_work_1 19 rfl rfl)
theorem dX1_work_43 : decode cX1_work 43 = .ok (.new 166, 3) := dk_187 0 166 (dk_at dksX1_work_1 20 rfl rfl)
theorem dX1_work_46 : decode cX1_work 46 = .ok (.dup, 1) := dk_89 (dk_at dksX1_work_1 23 rfl rfl)
theorem dX1_work_47 : decode cX1_work 47 = .ok (.aload_n 0, 1) := dk_42 (dk_at dksX1_work_2 0 rfl rfl)
theorem dX1_work_48 : decode cX1_work 48 = .ok (.iload_n 1, 1) := dk_27 (dk_at dksX1_work_2 1 rfl rfl)
theorem dX1_work_49 : decode cX1_work 49 = .ok (.invokevirtual 123, 3) := dk_182 0 123 (dk_at dksX1_work_2 2 rfl rfl)
theorem dX1_work_52 : decode cX1_work 52 = .ok (.aload_n 0, 1) := dk_42 (dk_at dksX1_work_2 5 rfl rfl)
theorem dX1_work_53 : decode cX1_work 53 = .ok (.getfield 73, 3) := dk_180 0 73 (dk_at dksX1_work_2 6 rfl rfl)
theorem dX1_work_56 : decode cX1_work 56 = .ok (.invokespecial 168, 3) := dk_183 0 168 (dk_at dksX1_work_2 9 rfl rfl)
theorem dX1_work_59 : decode cX1_work 59 = .ok (.invokevirtual 171, 3) := dk_182 0 171 (dk_at dksX1_work_2 12 rfl rfl)
theorem dX1_work_62 : decode cX1_work 62 = .ok (.astore_n 2, 1) := dk_77 (dk_at dksX1_work_2 15 rfl rfl)
theorem dX1_work_63 : decode cX1_work 63 = .ok (.goto 10, 3) := dk_167 0 10 (dk_at dksX1_work_2 16 rfl rfl)
theorem dX1_work_66 : decode cX1_work 66 = .ok (.astore_n 3, 1) := dk_78 (dk_at dksX1_work_2 19 rfl rfl)
theorem dX1_work_67 : decode cX1_work 67 = .ok (.aload_n 0, 1) := dk_42 (dk_at dksX1_work_2 20 rfl rfl)
theorem dX1_work_68 : decode cX1_work 68 = .ok (.aload_n 3, 1) := dk_45 (dk_at dksX1_work_2 21 rfl rfl)
theorem dX1_work_69 : decode cX1_work 69 = .ok (.invokevirtual 134, 3) := dk_182 0 134 (dk_at dksX1_work_3 0 rfl rfl)
theorem dX1_work_72 : decode cX1_work 72 = .ok (.ireturn, 1) := dk_172 (dk_at dksX1_work_3 3 rfl rfl)
theorem dX1_work_73 : decode cX1_work 73 = .ok (.aload_n 0, 1) := dk_42 (dk_at dksX1_work_3 4 rfl rfl)
theorem dX1_work_74 : decode cX1_work 74 = .ok (.getfield 25, 3) := dk_180 0 25 (dk_at dksX1_work_3 5 rfl rfl)
theorem dX1_work_77 : decode cX1_work 77 = .ok (.invokevirtual 81, 3) := dk_182 0 81 (dk_at dksX1_work_3 8 rfl rfl)
theorem dX1_work_80 : decode cX1_work 80 = .ok (.astore_n 3, 1) := dk_78 (dk_at dksX1_work_3 11 rfl rfl)
theorem dX1_work_81 : decode cX1_work 81 = .ok (.aload_n 0, 1) := dk_42 (dk_at dksX1_work_3 12 rfl rfl)
theorem dX1_work_82 : decode cX1_work 82 = .ok (.getfield 25, 3) := dk_180 0 25 (dk_at dksX1_work_3 13 rfl rfl)
theorem dX1_work_85 : decode cX1_work 85 = .ok (.dup, 1) := dk_89 (dk_at dksX1_work_3 16 rfl rfl)
theorem dX1_work_86 : decode cX1_work 86 = .ok (.getfield 138, 3) := dk_180 0 138 (dk_at dksX1_work_3 17 rfl rfl)
theorem dX1_work_89 : decode cX1_work 89 = .ok (.iconst 1, 1) := dk_4 (dk_at dksX1_work_3 20 rfl rfl)
theorem dX1_work_90 : decode cX1_work 90 = .ok (.iadd, 1) := dk_96 (dk_at dksX1_work_3 21 rfl rfl)
theorem dX1_work_91 : decode cX1_work 91 = .ok (.putfield 138, 3) := dk_181 0 138 (dk_at dksX1_work_4 0 rfl rfl)
theorem dX1_work_94 : decode cX1_work 94 = .ok (.new 174, 3) := dk_187 0 174 (dk_at dksX1_work_4 3 rfl rfl)
theorem dX1_work_97 : decode cX1_work 97 = .ok (.dup, 1) := dk_89 (dk_at dksX1_work_4 6 rfl rfl)
theorem dX1_work_98 : decode cX1_work 98 = .ok (.aload_n 0, 1) := dk_42 (dk_at dksX1_work_4 7 rfl rfl)
theorem dX1_work_99 : decode cX1_work 99 = .ok (.getfield 25, 3) := dk_180 0 25 (dk_at dksX1_work_4 8 rfl rfl)
theorem dX1_work_102 : decode cX1_work 102 = .ok (.invokevirtual 81, 3) := dk_182 0 81 (dk_at dksX1_work_4 11 rfl rfl)
theorem dX1_work_105 : decode cX1_work 105 = .ok (.aload_n 3, 1) := dk_45 (dk_at dksX1_work_4 14 rfl rfl)
theorem dX1_work_106 : decode cX1_work 106 = .ok (.invokevirtual 176, 3) := dk_182 0 176 (dk_at dksX1_work_4 15 rfl rfl)
theorem dX1_work_109 : decode cX1_work 109 = .ok (.invokespecial 179, 3) := dk_183 0 179 (dk_at dksX1_work_4 18 rfl rfl)
theorem dX1_work_112 : decode cX1_work 112 = .ok (.astore 4, 2) := dk_58 4 (dk_at dksX1_work_4 21 rfl rfl)
theorem dX1_work_114 : decode cX1_work 114 = .ok (.aload_n 2, 1) := dk_44 (dk_at dksX1_work_4 23 rfl rfl)
theorem dX1_work_115 : decode cX1_work 115 = .ok (.aload 4, 2) := dk_25 4 (dk_at dksX1_work_5 0 rfl rfl)
theorem dX1_work_117 : decode cX1_work 117 = .ok (.invokevirtual 182, 3) := dk_182 0 182 (dk_at dksX1_work_5 2 rfl rfl)
theorem dX1_work_120 : decode cX1_work 120 = .ok (.aload_n 0, 1) := dk_42 (dk_at dksX1_work_5 5 rfl rfl)
theorem dX1_work_121 : decode cX1_work 121 = .ok (.aload 4, 2) := dk_25 4 (dk_at dksX1_work_5 6 rfl rfl)
theorem dX1_work_123 : decode cX1_work 123 = .ok (.getfield 188, 3) := dk_180 0 188 (dk_at dksX1_work_5 8 rfl rfl)
theorem dX1_work_126 : decode cX1_work 126 = .ok (.putfield 148, 3) := dk_181 0 148 (dk_at dksX1_work_5 11 rfl rfl)
theorem dX1_work_129 : decode cX1_work 129 = .ok (.aload 4, 2) := dk_25 4 (dk_at dksX1_work_5 14 rfl rfl)
theorem dX1_work_131 : decode cX1_work 131 = .ok (.getfield 190, 3) := dk_180 0 190 (dk_at dksX1_work_5 16 rfl rfl)
theorem dX1_work_134 : decode cX1_work 134 = .ok (.ireturn, 1) := dk_172 (dk_at dksX1_work_5 19 rfl rfl)
abbrev cX1_book : ByteArray := prog_1_method_11_code
def yX1_book : MethodName := ⟨RX1, "book", "(I)I"⟩
def dkwX1_book_8 : List UInt8 := [184, 0, 208, 42, 180, 0, 145, 172]
abbrev dktX1_book_8 : List UInt8 := dkwX1_book_8 ++ []
def dkwX1_book_7 : List UInt8 := [181, 0, 145, 44, 3, 42, 180, 0, 58, 3, 16, 8, 184, 0, 208, 45, 3, 42, 180, 0, 61, 3, 16, 8]
abbrev dktX1_book_7 : List UInt8 := dkwX1_book_7 ++ dktX1_book_8
def dkwX1_book_6 : List UInt8 := [182, 0, 204, 132, 4, 1, 167, 255, 146, 167, 0, 12, 58, 5, 42, 25, 5, 182, 0, 134, 172, 42, 21, 4]
abbrev dktX1_book_6 : List UInt8 := dkwX1_book_6 ++ dktX1_book_7
def dkwX1_book_5 : List UInt8 := [44, 21, 4, 21, 7, 79, 45, 21, 4, 25, 5, 3, 17, 3, 231, 182, 0, 198, 79, 25, 5, 16, 59]
abbrev dktX1_book_5 : List UInt8 := dkwX1_book_5 ++ dktX1_book_6
def dkwX1_book_4 : List UInt8 := [132, 8, 1, 167, 255, 226, 21, 4, 16, 8, 160, 0, 14, 187, 0, 110, 89, 6, 21, 6, 183, 0, 201, 191]
abbrev dktX1_book_4 : List UInt8 := dkwX1_book_4 ++ dktX1_book_5
def dkwX1_book_3 : List UInt8 := [162, 0, 29, 44, 21, 8, 46, 21, 7, 160, 0, 14, 187, 0, 110, 89, 5, 21, 6, 183, 0, 201, 191]
abbrev dktX1_book_3 : List UInt8 := dkwX1_book_3 ++ dktX1_book_4
def dkwX1_book_2 : List UInt8 := [182, 0, 196, 54, 6, 25, 5, 3, 17, 1, 243, 182, 0, 198, 54, 7, 3, 54, 8, 21, 8, 21, 4]
abbrev dktX1_book_2 : List UInt8 := dkwX1_book_2 ++ dktX1_book_3
def dkwX1_book_1 : List UInt8 := [78, 3, 54, 4, 42, 27, 182, 0, 123, 58, 5, 25, 5, 182, 0, 193, 2, 159, 0, 107, 25, 5]
abbrev dktX1_book_1 : List UInt8 := dkwX1_book_1 ++ dktX1_book_2
def dkwX1_book_0 : List UInt8 := [42, 27, 3, 42, 180, 0, 101, 16, 100, 184, 0, 154, 182, 0, 117, 16, 8, 188, 10, 77, 16, 8, 188, 10]
abbrev dktX1_book_0 : List UInt8 := dkwX1_book_0 ++ dktX1_book_1
theorem dksX1_book_0 : cX1_book.data.toList.drop 0 = dktX1_book_0 := by decide +kernel
theorem dksX1_book_1 : cX1_book.data.toList.drop 24 = dktX1_book_1 := dk_seg dksX1_book_0 24 rfl rfl
theorem dksX1_book_2 : cX1_book.data.toList.drop 46 = dktX1_book_2 := dk_seg dksX1_book_1 22 rfl rfl
theorem dksX1_book_3 : cX1_book.data.toList.drop 69 = dktX1_book_3 := dk_seg dksX1_book_2 23 rfl rfl
theorem dksX1_book_4 : cX1_book.data.toList.drop 92 = dktX1_book_4 := dk_seg dksX1_book_3 23 rfl rfl
theorem dksX1_book_5 : cX1_book.data.toList.drop 116 = dktX1_book_5 := dk_seg dksX1_book_4 24 rfl rfl
theorem dksX1_book_6 : cX1_book.data.toList.drop 139 = dktX1_book_6 := dk_seg dksX1_book_5 23 rfl rfl
theorem dksX1_book_7 : cX1_book.data.toList.drop 163 = dktX1_book_7 := dk_seg dksX1_book_6 24 rfl rfl
theorem dksX1_book_8 : cX1_book.data.toList.drop 187 = dktX1_book_8 := dk_seg dksX1_book_7 24 rfl rfl
theorem dX1_book_0 : decode cX1_book 0 = .ok (.aload_n 0, 1) := dk_42 (dk_at dksX1_book_0 0 rfl rfl)
theorem dX1_book_1 : decode cX1_book 1 = .ok (.iload_n 1, 1) := dk_27 (dk_at dksX1_book_0 1 rfl rfl)
theorem dX1_book_2 : decode cX1_book 2 = .ok (.iconst 0, 1) := dk_3 (dk_at dksX1_book_0 2 rfl rfl)
theorem dX1_book_3 : decode cX1_book 3 = .ok (.aload_n 0, 1) := dk_42 (dk_at dksX1_book_0 3 rfl rfl)
theorem dX1_book_4 : decode cX1_book 4 = .ok (.getfield 101, 3) := dk_180 0 101 (dk_at dksX1_book_0 4 rfl rfl)
theorem dX1_book_7 : decode cX1_book 7 = .ok (.bipush 100, 2) := dk_16 100 (dk_at dksX1_book_0 7 rfl rfl)
theorem dX1_book_9 : decode cX1_book 9 = .ok (.invokestatic 154, 3) := dk_184 0 154 (dk_at dksX1_book_0 9 rfl rfl)
theorem dX1_book_12 : decode cX1_book 12 = .ok (.invokevirtual 117, 3) := dk_182 0 117 (dk_at dksX1_book_0 12 rfl rfl)
theorem dX1_book_15 : decode cX1_book 15 = .ok (.bipush 8, 2) := dk_16 8 (dk_at dksX1_book_0 15 rfl rfl)
theorem dX1_book_17 : decode cX1_book 17 = .ok (.newarray .int, 2) := dk_188_10 (dk_at dksX1_book_0 17 rfl rfl)
theorem dX1_book_19 : decode cX1_book 19 = .ok (.astore_n 2, 1) := dk_77 (dk_at dksX1_book_0 19 rfl rfl)
theorem dX1_book_20 : decode cX1_book 20 = .ok (.bipush 8, 2) := dk_16 8 (dk_at dksX1_book_0 20 rfl rfl)
theorem dX1_book_22 : decode cX1_book 22 = .ok (.newarray .int, 2) := dk_188_10 (dk_at dksX1_book_0 22 rfl rfl)
theorem dX1_book_24 : decode cX1_book 24 = .ok (.astore_n 3, 1) := dk_78 (dk_at dksX1_book_1 0 rfl rfl)
theorem dX1_book_25 : decode cX1_book 25 = .ok (.iconst 0, 1) := dk_3 (dk_at dksX1_book_1 1 rfl rfl)
theorem dX1_book_26 : decode cX1_book 26 = .ok (.istore 4, 2) := dk_54 4 (dk_at dksX1_book_1 2 rfl rfl)
theorem dX1_book_28 : decode cX1_book 28 = .ok (.aload_n 0, 1) := dk_42 (dk_at dksX1_book_1 4 rfl rfl)
theorem dX1_book_29 : decode cX1_book 29 = .ok (.iload_n 1, 1) := dk_27 (dk_at dksX1_book_1 5 rfl rfl)
theorem dX1_book_30 : decode cX1_book 30 = .ok (.invokevirtual 123, 3) := dk_182 0 123 (dk_at dksX1_book_1 6 rfl rfl)
theorem dX1_book_33 : decode cX1_book 33 = .ok (.astore 5, 2) := dk_58 5 (dk_at dksX1_book_1 9 rfl rfl)
theorem dX1_book_35 : decode cX1_book 35 = .ok (.aload 5, 2) := dk_25 5 (dk_at dksX1_book_1 11 rfl rfl)
theorem dX1_book_37 : decode cX1_book 37 = .ok (.invokevirtual 193, 3) := dk_182 0 193 (dk_at dksX1_book_1 13 rfl rfl)
theorem dX1_book_40 : decode cX1_book 40 = .ok (.iconst (-1), 1) := dk_2 (dk_at dksX1_book_1 16 rfl rfl)
theorem dX1_book_41 : decode cX1_book 41 = .ok (.if_icmp .eq 107, 3) := dk_159 0 107 (dk_at dksX1_book_1 17 rfl rfl)
theorem dX1_book_44 : decode cX1_book 44 = .ok (.aload 5, 2) := dk_25 5 (dk_at dksX1_book_1 20 rfl rfl)
theorem dX1_book_46 : decode cX1_book 46 = .ok (.invokevirtual 196, 3) := dk_182 0 196 (dk_at dksX1_book_2 0 rfl rfl)
theorem dX1_book_49 : decode cX1_book 49 = .ok (.istore 6, 2) := dk_54 6 (dk_at dksX1_book_2 3 rfl rfl)
theorem dX1_book_51 : decode cX1_book 51 = .ok (.aload 5, 2) := dk_25 5 (dk_at dksX1_book_2 5 rfl rfl)
theorem dX1_book_53 : decode cX1_book 53 = .ok (.iconst 0, 1) := dk_3 (dk_at dksX1_book_2 7 rfl rfl)
theorem dX1_book_54 : decode cX1_book 54 = .ok (.sipush 499, 3) := dk_17 1 243 (dk_at dksX1_book_2 8 rfl rfl)
theorem dX1_book_57 : decode cX1_book 57 = .ok (.invokevirtual 198, 3) := dk_182 0 198 (dk_at dksX1_book_2 11 rfl rfl)
theorem dX1_book_60 : decode cX1_book 60 = .ok (.istore 7, 2) := dk_54 7 (dk_at dksX1_book_2 14 rfl rfl)
theorem dX1_book_62 : decode cX1_book 62 = .ok (.iconst 0, 1) := dk_3 (dk_at dksX1_book_2 16 rfl rfl)
theorem dX1_book_63 : decode cX1_book 63 = .ok (.istore 8, 2) := dk_54 8 (dk_at dksX1_book_2 17 rfl rfl)
theorem dX1_book_65 : decode cX1_book 65 = .ok (.iload 8, 2) := dk_21 8 (dk_at dksX1_book_2 19 rfl rfl)
theorem dX1_book_67 : decode cX1_book 67 = .ok (.iload 4, 2) := dk_21 4 (dk_at dksX1_book_2 21 rfl rfl)
theorem dX1_book_69 : decode cX1_book 69 = .ok (.if_icmp .ge 29, 3) := dk_162 0 29 (dk_at dksX1_book_3 0 rfl rfl)
theorem dX1_book_72 : decode cX1_book 72 = .ok (.aload_n 2, 1) := dk_44 (dk_at dksX1_book_3 3 rfl rfl)
theorem dX1_book_73 : decode cX1_book 73 = .ok (.iload 8, 2) := dk_21 8 (dk_at dksX1_book_3 4 rfl rfl)
theorem dX1_book_75 : decode cX1_book 75 = .ok (.iaload, 1) := dk_46 (dk_at dksX1_book_3 6 rfl rfl)
theorem dX1_book_76 : decode cX1_book 76 = .ok (.iload 7, 2) := dk_21 7 (dk_at dksX1_book_3 7 rfl rfl)
theorem dX1_book_78 : decode cX1_book 78 = .ok (.if_icmp .ne 14, 3) := dk_160 0 14 (dk_at dksX1_book_3 9 rfl rfl)
theorem dX1_book_81 : decode cX1_book 81 = .ok (.new 110, 3) := dk_187 0 110 (dk_at dksX1_book_3 12 rfl rfl)
theorem dX1_book_84 : decode cX1_book 84 = .ok (.dup, 1) := dk_89 (dk_at dksX1_book_3 15 rfl rfl)
theorem dX1_book_85 : decode cX1_book 85 = .ok (.iconst 2, 1) := dk_5 (dk_at dksX1_book_3 16 rfl rfl)
theorem dX1_book_86 : decode cX1_book 86 = .ok (.iload 6, 2) := dk_21 6 (dk_at dksX1_book_3 17 rfl rfl)
theorem dX1_book_88 : decode cX1_book 88 = .ok (.invokespecial 201, 3) := dk_183 0 201 (dk_at dksX1_book_3 19 rfl rfl)
theorem dX1_book_91 : decode cX1_book 91 = .ok (.athrow, 1) := dk_191 (dk_at dksX1_book_3 22 rfl rfl)
theorem dX1_book_92 : decode cX1_book 92 = .ok (.iinc 8 1, 3) := dk_132 8 1 (dk_at dksX1_book_4 0 rfl rfl)
theorem dX1_book_95 : decode cX1_book 95 = .ok (.goto (-30), 3) := dk_167 255 226 (dk_at dksX1_book_4 3 rfl rfl)
theorem dX1_book_98 : decode cX1_book 98 = .ok (.iload 4, 2) := dk_21 4 (dk_at dksX1_book_4 6 rfl rfl)
theorem dX1_book_100 : decode cX1_book 100 = .ok (.bipush 8, 2) := dk_16 8 (dk_at dksX1_book_4 8 rfl rfl)
theorem dX1_book_102 : decode cX1_book 102 = .ok (.if_icmp .ne 14, 3) := dk_160 0 14 (dk_at dksX1_book_4 10 rfl rfl)
theorem dX1_book_105 : decode cX1_book 105 = .ok (.new 110, 3) := dk_187 0 110 (dk_at dksX1_book_4 13 rfl rfl)
theorem dX1_book_108 : decode cX1_book 108 = .ok (.dup, 1) := dk_89 (dk_at dksX1_book_4 16 rfl rfl)
theorem dX1_book_109 : decode cX1_book 109 = .ok (.iconst 3, 1) := dk_6 (dk_at dksX1_book_4 17 rfl rfl)
theorem dX1_book_110 : decode cX1_book 110 = .ok (.iload 6, 2) := dk_21 6 (dk_at dksX1_book_4 18 rfl rfl)
theorem dX1_book_112 : decode cX1_book 112 = .ok (.invokespecial 201, 3) := dk_183 0 201 (dk_at dksX1_book_4 20 rfl rfl)
theorem dX1_book_115 : decode cX1_book 115 = .ok (.athrow, 1) := dk_191 (dk_at dksX1_book_4 23 rfl rfl)
theorem dX1_book_116 : decode cX1_book 116 = .ok (.aload_n 2, 1) := dk_44 (dk_at dksX1_book_5 0 rfl rfl)
theorem dX1_book_117 : decode cX1_book 117 = .ok (.iload 4, 2) := dk_21 4 (dk_at dksX1_book_5 1 rfl rfl)
theorem dX1_book_119 : decode cX1_book 119 = .ok (.iload 7, 2) := dk_21 7 (dk_at dksX1_book_5 3 rfl rfl)
theorem dX1_book_121 : decode cX1_book 121 = .ok (.iastore, 1) := dk_79 (dk_at dksX1_book_5 5 rfl rfl)
theorem dX1_book_122 : decode cX1_book 122 = .ok (.aload_n 3, 1) := dk_45 (dk_at dksX1_book_5 6 rfl rfl)
theorem dX1_book_123 : decode cX1_book 123 = .ok (.iload 4, 2) := dk_21 4 (dk_at dksX1_book_5 7 rfl rfl)
theorem dX1_book_125 : decode cX1_book 125 = .ok (.aload 5, 2) := dk_25 5 (dk_at dksX1_book_5 9 rfl rfl)
theorem dX1_book_127 : decode cX1_book 127 = .ok (.iconst 0, 1) := dk_3 (dk_at dksX1_book_5 11 rfl rfl)
theorem dX1_book_128 : decode cX1_book 128 = .ok (.sipush 999, 3) := dk_17 3 231 (dk_at dksX1_book_5 12 rfl rfl)
theorem dX1_book_131 : decode cX1_book 131 = .ok (.invokevirtual 198, 3) := dk_182 0 198 (dk_at dksX1_book_5 15 rfl rfl)
theorem dX1_book_134 : decode cX1_book 134 = .ok (.iastore, 1) := dk_79 (dk_at dksX1_book_5 18 rfl rfl)
theorem dX1_book_135 : decode cX1_book 135 = .ok (.aload 5, 2) := dk_25 5 (dk_at dksX1_book_5 19 rfl rfl)
theorem dX1_book_137 : decode cX1_book 137 = .ok (.bipush 59, 2) := dk_16 59 (dk_at dksX1_book_5 21 rfl rfl)
theorem dX1_book_139 : decode cX1_book 139 = .ok (.invokevirtual 204, 3) := dk_182 0 204 (dk_at dksX1_book_6 0 rfl rfl)
theorem dX1_book_142 : decode cX1_book 142 = .ok (.iinc 4 1, 3) := dk_132 4 1 (dk_at dksX1_book_6 3 rfl rfl)
theorem dX1_book_145 : decode cX1_book 145 = .ok (.goto (-110), 3) := dk_167 255 146 (dk_at dksX1_book_6 6 rfl rfl)
theorem dX1_book_148 : decode cX1_book 148 = .ok (.goto 12, 3) := dk_167 0 12 (dk_at dksX1_book_6 9 rfl rfl)
theorem dX1_book_151 : decode cX1_book 151 = .ok (.astore 5, 2) := dk_58 5 (dk_at dksX1_book_6 12 rfl rfl)
theorem dX1_book_153 : decode cX1_book 153 = .ok (.aload_n 0, 1) := dk_42 (dk_at dksX1_book_6 14 rfl rfl)
theorem dX1_book_154 : decode cX1_book 154 = .ok (.aload 5, 2) := dk_25 5 (dk_at dksX1_book_6 15 rfl rfl)
theorem dX1_book_156 : decode cX1_book 156 = .ok (.invokevirtual 134, 3) := dk_182 0 134 (dk_at dksX1_book_6 17 rfl rfl)
theorem dX1_book_159 : decode cX1_book 159 = .ok (.ireturn, 1) := dk_172 (dk_at dksX1_book_6 20 rfl rfl)
theorem dX1_book_160 : decode cX1_book 160 = .ok (.aload_n 0, 1) := dk_42 (dk_at dksX1_book_6 21 rfl rfl)
theorem dX1_book_161 : decode cX1_book 161 = .ok (.iload 4, 2) := dk_21 4 (dk_at dksX1_book_6 22 rfl rfl)
theorem dX1_book_163 : decode cX1_book 163 = .ok (.putfield 145, 3) := dk_181 0 145 (dk_at dksX1_book_7 0 rfl rfl)
theorem dX1_book_166 : decode cX1_book 166 = .ok (.aload_n 2, 1) := dk_44 (dk_at dksX1_book_7 3 rfl rfl)
theorem dX1_book_167 : decode cX1_book 167 = .ok (.iconst 0, 1) := dk_3 (dk_at dksX1_book_7 4 rfl rfl)
theorem dX1_book_168 : decode cX1_book 168 = .ok (.aload_n 0, 1) := dk_42 (dk_at dksX1_book_7 5 rfl rfl)
theorem dX1_book_169 : decode cX1_book 169 = .ok (.getfield 58, 3) := dk_180 0 58 (dk_at dksX1_book_7 6 rfl rfl)
theorem dX1_book_172 : decode cX1_book 172 = .ok (.iconst 0, 1) := dk_3 (dk_at dksX1_book_7 9 rfl rfl)
theorem dX1_book_173 : decode cX1_book 173 = .ok (.bipush 8, 2) := dk_16 8 (dk_at dksX1_book_7 10 rfl rfl)
theorem dX1_book_175 : decode cX1_book 175 = .ok (.invokestatic 208, 3) := dk_184 0 208 (dk_at dksX1_book_7 12 rfl rfl)
theorem dX1_book_178 : decode cX1_book 178 = .ok (.aload_n 3, 1) := dk_45 (dk_at dksX1_book_7 15 rfl rfl)
theorem dX1_book_179 : decode cX1_book 179 = .ok (.iconst 0, 1) := dk_3 (dk_at dksX1_book_7 16 rfl rfl)
theorem dX1_book_180 : decode cX1_book 180 = .ok (.aload_n 0, 1) := dk_42 (dk_at dksX1_book_7 17 rfl rfl)
theorem dX1_book_181 : decode cX1_book 181 = .ok (.getfield 61, 3) := dk_180 0 61 (dk_at dksX1_book_7 18 rfl rfl)
theorem dX1_book_184 : decode cX1_book 184 = .ok (.iconst 0, 1) := dk_3 (dk_at dksX1_book_7 21 rfl rfl)
theorem dX1_book_185 : decode cX1_book 185 = .ok (.bipush 8, 2) := dk_16 8 (dk_at dksX1_book_7 22 rfl rfl)
theorem dX1_book_187 : decode cX1_book 187 = .ok (.invokestatic 208, 3) := dk_184 0 208 (dk_at dksX1_book_8 0 rfl rfl)
theorem dX1_book_190 : decode cX1_book 190 = .ok (.aload_n 0, 1) := dk_42 (dk_at dksX1_book_8 3 rfl rfl)
theorem dX1_book_191 : decode cX1_book 191 = .ok (.getfield 145, 3) := dk_180 0 145 (dk_at dksX1_book_8 4 rfl rfl)
theorem dX1_book_194 : decode cX1_book 194 = .ok (.ireturn, 1) := dk_172 (dk_at dksX1_book_8 7 rfl rfl)
abbrev cX1_told : ByteArray := prog_1_method_14_code
def yX1_told : MethodName := ⟨RX1, "told", "(I)I"⟩
def dkwX1_told_4 : List UInt8 := [7, 100, 182, 0, 223, 172]
abbrev dktX1_told_4 : List UInt8 := dkwX1_told_4 ++ []
def dkwX1_told_3 : List UInt8 := [180, 0, 217, 172, 42, 180, 0, 145, 172, 42, 180, 0, 148, 172, 42, 180, 0, 73, 180, 0, 220, 172, 44, 27]
abbrev dktX1_told_3 : List UInt8 := dkwX1_told_3 ++ dktX1_told_4
def dkwX1_told_2 : List UInt8 := [42, 180, 0, 73, 180, 0, 89, 172, 42, 180, 0, 73, 180, 0, 95, 172, 44, 180, 0, 214, 172, 44]
abbrev dktX1_told_2 : List UInt8 := dkwX1_told_2 ++ dktX1_told_3
def dkwX1_told_1 : List UInt8 := [170, 0, 0, 0, 0, 0, 103, 0, 0, 0, 0, 0, 0, 0, 10, 0, 0, 0, 59, 0, 0, 0, 67, 0, 0, 0, 75, 0, 0, 0, 80, 0, 0, 0, 103, 0, 0, 0, 103, 0, 0, 0, 103, 0, 0, 0, 103, 0, 0, 0, 85, 0, 0, 0, 90, 0, 0, 0, 95]
abbrev dktX1_told_1 : List UInt8 := dkwX1_told_1 ++ dktX1_told_2
def dkwX1_told_0 : List UInt8 := [42, 27, 3, 16, 10, 182, 0, 117, 42, 180, 0, 25, 182, 0, 81, 77, 27]
abbrev dktX1_told_0 : List UInt8 := dkwX1_told_0 ++ dktX1_told_1
theorem dksX1_told_0 : cX1_told.data.toList.drop 0 = dktX1_told_0 := by decide +kernel
theorem dksX1_told_1 : cX1_told.data.toList.drop 17 = dktX1_told_1 := dk_seg dksX1_told_0 17 rfl rfl
theorem dksX1_told_2 : cX1_told.data.toList.drop 76 = dktX1_told_2 := dk_seg dksX1_told_1 59 rfl rfl
theorem dksX1_told_3 : cX1_told.data.toList.drop 98 = dktX1_told_3 := dk_seg dksX1_told_2 22 rfl rfl
theorem dksX1_told_4 : cX1_told.data.toList.drop 122 = dktX1_told_4 := dk_seg dksX1_told_3 24 rfl rfl
theorem dX1_told_0 : decode cX1_told 0 = .ok (.aload_n 0, 1) := dk_42 (dk_at dksX1_told_0 0 rfl rfl)
theorem dX1_told_1 : decode cX1_told 1 = .ok (.iload_n 1, 1) := dk_27 (dk_at dksX1_told_0 1 rfl rfl)
theorem dX1_told_2 : decode cX1_told 2 = .ok (.iconst 0, 1) := dk_3 (dk_at dksX1_told_0 2 rfl rfl)
theorem dX1_told_3 : decode cX1_told 3 = .ok (.bipush 10, 2) := dk_16 10 (dk_at dksX1_told_0 3 rfl rfl)
theorem dX1_told_5 : decode cX1_told 5 = .ok (.invokevirtual 117, 3) := dk_182 0 117 (dk_at dksX1_told_0 5 rfl rfl)
theorem dX1_told_8 : decode cX1_told 8 = .ok (.aload_n 0, 1) := dk_42 (dk_at dksX1_told_0 8 rfl rfl)
theorem dX1_told_9 : decode cX1_told 9 = .ok (.getfield 25, 3) := dk_180 0 25 (dk_at dksX1_told_0 9 rfl rfl)
theorem dX1_told_12 : decode cX1_told 12 = .ok (.invokevirtual 81, 3) := dk_182 0 81 (dk_at dksX1_told_0 12 rfl rfl)
theorem dX1_told_15 : decode cX1_told 15 = .ok (.astore_n 2, 1) := dk_77 (dk_at dksX1_told_0 15 rfl rfl)
theorem dX1_told_16 : decode cX1_told 16 = .ok (.iload_n 1, 1) := dk_27 (dk_at dksX1_told_0 16 rfl rfl)
theorem dX1_told_17 : decode cX1_told 17 = .ok (.tableswitch 103 0 10 #[59, 67, 75, 80, 103, 103, 103, 103, 85, 90, 95], 59) := by decide +kernel
theorem dX1_told_76 : decode cX1_told 76 = .ok (.aload_n 0, 1) := dk_42 (dk_at dksX1_told_2 0 rfl rfl)
theorem dX1_told_77 : decode cX1_told 77 = .ok (.getfield 73, 3) := dk_180 0 73 (dk_at dksX1_told_2 1 rfl rfl)
theorem dX1_told_80 : decode cX1_told 80 = .ok (.getfield 89, 3) := dk_180 0 89 (dk_at dksX1_told_2 4 rfl rfl)
theorem dX1_told_83 : decode cX1_told 83 = .ok (.ireturn, 1) := dk_172 (dk_at dksX1_told_2 7 rfl rfl)
theorem dX1_told_84 : decode cX1_told 84 = .ok (.aload_n 0, 1) := dk_42 (dk_at dksX1_told_2 8 rfl rfl)
theorem dX1_told_85 : decode cX1_told 85 = .ok (.getfield 73, 3) := dk_180 0 73 (dk_at dksX1_told_2 9 rfl rfl)
theorem dX1_told_88 : decode cX1_told 88 = .ok (.getfield 95, 3) := dk_180 0 95 (dk_at dksX1_told_2 12 rfl rfl)
theorem dX1_told_91 : decode cX1_told 91 = .ok (.ireturn, 1) := dk_172 (dk_at dksX1_told_2 15 rfl rfl)
theorem dX1_told_92 : decode cX1_told 92 = .ok (.aload_n 2, 1) := dk_44 (dk_at dksX1_told_2 16 rfl rfl)
theorem dX1_told_93 : decode cX1_told 93 = .ok (.getfield 214, 3) := dk_180 0 214 (dk_at dksX1_told_2 17 rfl rfl)
theorem dX1_told_96 : decode cX1_told 96 = .ok (.ireturn, 1) := dk_172 (dk_at dksX1_told_2 20 rfl rfl)
theorem dX1_told_97 : decode cX1_told 97 = .ok (.aload_n 2, 1) := dk_44 (dk_at dksX1_told_2 21 rfl rfl)
theorem dX1_told_98 : decode cX1_told 98 = .ok (.getfield 217, 3) := dk_180 0 217 (dk_at dksX1_told_3 0 rfl rfl)
theorem dX1_told_101 : decode cX1_told 101 = .ok (.ireturn, 1) := dk_172 (dk_at dksX1_told_3 3 rfl rfl)
theorem dX1_told_102 : decode cX1_told 102 = .ok (.aload_n 0, 1) := dk_42 (dk_at dksX1_told_3 4 rfl rfl)
theorem dX1_told_103 : decode cX1_told 103 = .ok (.getfield 145, 3) := dk_180 0 145 (dk_at dksX1_told_3 5 rfl rfl)
theorem dX1_told_106 : decode cX1_told 106 = .ok (.ireturn, 1) := dk_172 (dk_at dksX1_told_3 8 rfl rfl)
theorem dX1_told_107 : decode cX1_told 107 = .ok (.aload_n 0, 1) := dk_42 (dk_at dksX1_told_3 9 rfl rfl)
theorem dX1_told_108 : decode cX1_told 108 = .ok (.getfield 148, 3) := dk_180 0 148 (dk_at dksX1_told_3 10 rfl rfl)
theorem dX1_told_111 : decode cX1_told 111 = .ok (.ireturn, 1) := dk_172 (dk_at dksX1_told_3 13 rfl rfl)
theorem dX1_told_112 : decode cX1_told 112 = .ok (.aload_n 0, 1) := dk_42 (dk_at dksX1_told_3 14 rfl rfl)
theorem dX1_told_113 : decode cX1_told 113 = .ok (.getfield 73, 3) := dk_180 0 73 (dk_at dksX1_told_3 15 rfl rfl)
theorem dX1_told_116 : decode cX1_told 116 = .ok (.getfield 220, 3) := dk_180 0 220 (dk_at dksX1_told_3 18 rfl rfl)
theorem dX1_told_119 : decode cX1_told 119 = .ok (.ireturn, 1) := dk_172 (dk_at dksX1_told_3 21 rfl rfl)
theorem dX1_told_120 : decode cX1_told 120 = .ok (.aload_n 2, 1) := dk_44 (dk_at dksX1_told_3 22 rfl rfl)
theorem dX1_told_121 : decode cX1_told 121 = .ok (.iload_n 1, 1) := dk_27 (dk_at dksX1_told_3 23 rfl rfl)
theorem dX1_told_122 : decode cX1_told 122 = .ok (.iconst 4, 1) := dk_7 (dk_at dksX1_told_4 0 rfl rfl)
theorem dX1_told_123 : decode cX1_told 123 = .ok (.isub, 1) := dk_100 (dk_at dksX1_told_4 1 rfl rfl)
theorem dX1_told_124 : decode cX1_told 124 = .ok (.invokevirtual 223, 3) := dk_182 0 223 (dk_at dksX1_told_4 2 rfl rfl)
theorem dX1_told_127 : decode cX1_told 127 = .ok (.ireturn, 1) := dk_172 (dk_at dksX1_told_4 5 rfl rfl)
abbrev cX1_signer : ByteArray := prog_1_method_15_code
def yX1_signer : MethodName := ⟨RX1, "signer", "(II)I"⟩
def dkwX1_signer_5 : List UInt8 := [153, 0, 7, 4, 167, 0, 4, 3, 172, 45, 180, 1, 1, 27, 46, 172]
abbrev dktX1_signer_5 : List UInt8 := dkwX1_signer_5 ++ []
def dkwX1_signer_4 : List UInt8 := [27, 46, 172, 45, 180, 0, 247, 27, 46, 172, 45, 180, 0, 250, 27, 46, 172, 45, 180, 0, 253, 27, 51]
abbrev dktX1_signer_4 : List UInt8 := dkwX1_signer_4 ++ dktX1_signer_5
def dkwX1_signer_3 : List UInt8 := [180, 0, 236, 27, 46, 172, 45, 180, 0, 239, 27, 46, 172, 45, 180, 0, 241, 27, 46, 172, 45, 180, 0, 244]
abbrev dktX1_signer_3 : List UInt8 := dkwX1_signer_3 ++ dktX1_signer_4
def dkwX1_signer_2 : List UInt8 := [42, 180, 0, 73, 180, 0, 230, 27, 46, 172, 42, 180, 0, 73, 180, 0, 233, 27, 46, 172, 42, 180, 0, 73]
abbrev dktX1_signer_2 : List UInt8 := dkwX1_signer_2 ++ dktX1_signer_3
def dkwX1_signer_1 : List UInt8 := [170, 0, 0, 0, 0, 130, 0, 0, 0, 0, 0, 0, 0, 8, 0, 0, 0, 50, 0, 0, 0, 60, 0, 0, 0, 70, 0, 0, 0, 80, 0, 0, 0, 87, 0, 0, 0, 94, 0, 0, 0, 101, 0, 0, 0, 108, 0, 0, 0, 115]
abbrev dktX1_signer_1 : List UInt8 := dkwX1_signer_1 ++ dktX1_signer_2
def dkwX1_signer_0 : List UInt8 := [42, 27, 182, 0, 226, 42, 28, 3, 16, 9, 182, 0, 117, 42, 180, 0, 25, 182, 0, 81, 78, 28]
abbrev dktX1_signer_0 : List UInt8 := dkwX1_signer_0 ++ dktX1_signer_1
theorem dksX1_signer_0 : cX1_signer.data.toList.drop 0 = dktX1_signer_0 := by decide +kernel
theorem dksX1_signer_1 : cX1_signer.data.toList.drop 22 = dktX1_signer_1 := dk_seg dksX1_signer_0 22 rfl rfl
theorem dksX1_signer_2 : cX1_signer.data.toList.drop 72 = dktX1_signer_2 := dk_seg dksX1_signer_1 50 rfl rfl
theorem dksX1_signer_3 : cX1_signer.data.toList.drop 96 = dktX1_signer_3 := dk_seg dksX1_signer_2 24 rfl rfl
theorem dksX1_signer_4 : cX1_signer.data.toList.drop 120 = dktX1_signer_4 := dk_seg dksX1_signer_3 24 rfl rfl
theorem dksX1_signer_5 : cX1_signer.data.toList.drop 143 = dktX1_signer_5 := dk_seg dksX1_signer_4 23 rfl rfl
theorem dX1_signer_0 : decode cX1_signer 0 = .ok (.aload_n 0, 1) := dk_42 (dk_at dksX1_signer_0 0 rfl rfl)
theorem dX1_signer_1 : decode cX1_signer 1 = .ok (.iload_n 1, 1) := dk_27 (dk_at dksX1_signer_0 1 rfl rfl)
theorem dX1_signer_2 : decode cX1_signer 2 = .ok (.invokevirtual 226, 3) := dk_182 0 226 (dk_at dksX1_signer_0 2 rfl rfl)
theorem dX1_signer_5 : decode cX1_signer 5 = .ok (.aload_n 0, 1) := dk_42 (dk_at dksX1_signer_0 5 rfl rfl)
theorem dX1_signer_6 : decode cX1_signer 6 = .ok (.iload_n 2, 1) := dk_28 (dk_at dksX1_signer_0 6 rfl rfl)
theorem dX1_signer_7 : decode cX1_signer 7 = .ok (.iconst 0, 1) := dk_3 (dk_at dksX1_signer_0 7 rfl rfl)
theorem dX1_signer_8 : decode cX1_signer 8 = .ok (.bipush 9, 2) := dk_16 9 (dk_at dksX1_signer_0 8 rfl rfl)
theorem dX1_signer_10 : decode cX1_signer 10 = .ok (.invokevirtual 117, 3) := dk_182 0 117 (dk_at dksX1_signer_0 10 rfl rfl)
theorem dX1_signer_13 : decode cX1_signer 13 = .ok (.aload_n 0, 1) := dk_42 (dk_at dksX1_signer_0 13 rfl rfl)
theorem dX1_signer_14 : decode cX1_signer 14 = .ok (.getfield 25, 3) := dk_180 0 25 (dk_at dksX1_signer_0 14 rfl rfl)
theorem dX1_signer_17 : decode cX1_signer 17 = .ok (.invokevirtual 81, 3) := dk_182 0 81 (dk_at dksX1_signer_0 17 rfl rfl)
theorem dX1_signer_20 : decode cX1_signer 20 = .ok (.astore_n 3, 1) := dk_78 (dk_at dksX1_signer_0 20 rfl rfl)
theorem dX1_signer_21 : decode cX1_signer 21 = .ok (.iload_n 2, 1) := dk_28 (dk_at dksX1_signer_0 21 rfl rfl)
theorem dX1_signer_22 : decode cX1_signer 22 = .ok (.tableswitch 130 0 8 #[50, 60, 70, 80, 87, 94, 101, 108, 115], 50) := by decide +kernel
theorem dX1_signer_72 : decode cX1_signer 72 = .ok (.aload_n 0, 1) := dk_42 (dk_at dksX1_signer_2 0 rfl rfl)
theorem dX1_signer_73 : decode cX1_signer 73 = .ok (.getfield 73, 3) := dk_180 0 73 (dk_at dksX1_signer_2 1 rfl rfl)
theorem dX1_signer_76 : decode cX1_signer 76 = .ok (.getfield 230, 3) := dk_180 0 230 (dk_at dksX1_signer_2 4 rfl rfl)
theorem dX1_signer_79 : decode cX1_signer 79 = .ok (.iload_n 1, 1) := dk_27 (dk_at dksX1_signer_2 7 rfl rfl)
theorem dX1_signer_80 : decode cX1_signer 80 = .ok (.iaload, 1) := dk_46 (dk_at dksX1_signer_2 8 rfl rfl)
theorem dX1_signer_81 : decode cX1_signer 81 = .ok (.ireturn, 1) := dk_172 (dk_at dksX1_signer_2 9 rfl rfl)
theorem dX1_signer_82 : decode cX1_signer 82 = .ok (.aload_n 0, 1) := dk_42 (dk_at dksX1_signer_2 10 rfl rfl)
theorem dX1_signer_83 : decode cX1_signer 83 = .ok (.getfield 73, 3) := dk_180 0 73 (dk_at dksX1_signer_2 11 rfl rfl)
theorem dX1_signer_86 : decode cX1_signer 86 = .ok (.getfield 233, 3) := dk_180 0 233 (dk_at dksX1_signer_2 14 rfl rfl)
theorem dX1_signer_89 : decode cX1_signer 89 = .ok (.iload_n 1, 1) := dk_27 (dk_at dksX1_signer_2 17 rfl rfl)
theorem dX1_signer_90 : decode cX1_signer 90 = .ok (.iaload, 1) := dk_46 (dk_at dksX1_signer_2 18 rfl rfl)
theorem dX1_signer_91 : decode cX1_signer 91 = .ok (.ireturn, 1) := dk_172 (dk_at dksX1_signer_2 19 rfl rfl)
theorem dX1_signer_92 : decode cX1_signer 92 = .ok (.aload_n 0, 1) := dk_42 (dk_at dksX1_signer_2 20 rfl rfl)
theorem dX1_signer_93 : decode cX1_signer 93 = .ok (.getfield 73, 3) := dk_180 0 73 (dk_at dksX1_signer_2 21 rfl rfl)
theorem dX1_signer_96 : decode cX1_signer 96 = .ok (.getfield 236, 3) := dk_180 0 236 (dk_at dksX1_signer_3 0 rfl rfl)
theorem dX1_signer_99 : decode cX1_signer 99 = .ok (.iload_n 1, 1) := dk_27 (dk_at dksX1_signer_3 3 rfl rfl)
theorem dX1_signer_100 : decode cX1_signer 100 = .ok (.iaload, 1) := dk_46 (dk_at dksX1_signer_3 4 rfl rfl)
theorem dX1_signer_101 : decode cX1_signer 101 = .ok (.ireturn, 1) := dk_172 (dk_at dksX1_signer_3 5 rfl rfl)
theorem dX1_signer_102 : decode cX1_signer 102 = .ok (.aload_n 3, 1) := dk_45 (dk_at dksX1_signer_3 6 rfl rfl)
theorem dX1_signer_103 : decode cX1_signer 103 = .ok (.getfield 239, 3) := dk_180 0 239 (dk_at dksX1_signer_3 7 rfl rfl)
theorem dX1_signer_106 : decode cX1_signer 106 = .ok (.iload_n 1, 1) := dk_27 (dk_at dksX1_signer_3 10 rfl rfl)
theorem dX1_signer_107 : decode cX1_signer 107 = .ok (.iaload, 1) := dk_46 (dk_at dksX1_signer_3 11 rfl rfl)
theorem dX1_signer_108 : decode cX1_signer 108 = .ok (.ireturn, 1) := dk_172 (dk_at dksX1_signer_3 12 rfl rfl)
theorem dX1_signer_109 : decode cX1_signer 109 = .ok (.aload_n 3, 1) := dk_45 (dk_at dksX1_signer_3 13 rfl rfl)
theorem dX1_signer_110 : decode cX1_signer 110 = .ok (.getfield 241, 3) := dk_180 0 241 (dk_at dksX1_signer_3 14 rfl rfl)
theorem dX1_signer_113 : decode cX1_signer 113 = .ok (.iload_n 1, 1) := dk_27 (dk_at dksX1_signer_3 17 rfl rfl)
theorem dX1_signer_114 : decode cX1_signer 114 = .ok (.iaload, 1) := dk_46 (dk_at dksX1_signer_3 18 rfl rfl)
theorem dX1_signer_115 : decode cX1_signer 115 = .ok (.ireturn, 1) := dk_172 (dk_at dksX1_signer_3 19 rfl rfl)
theorem dX1_signer_116 : decode cX1_signer 116 = .ok (.aload_n 3, 1) := dk_45 (dk_at dksX1_signer_3 20 rfl rfl)
theorem dX1_signer_117 : decode cX1_signer 117 = .ok (.getfield 244, 3) := dk_180 0 244 (dk_at dksX1_signer_3 21 rfl rfl)
theorem dX1_signer_120 : decode cX1_signer 120 = .ok (.iload_n 1, 1) := dk_27 (dk_at dksX1_signer_4 0 rfl rfl)
theorem dX1_signer_121 : decode cX1_signer 121 = .ok (.iaload, 1) := dk_46 (dk_at dksX1_signer_4 1 rfl rfl)
theorem dX1_signer_122 : decode cX1_signer 122 = .ok (.ireturn, 1) := dk_172 (dk_at dksX1_signer_4 2 rfl rfl)
theorem dX1_signer_123 : decode cX1_signer 123 = .ok (.aload_n 3, 1) := dk_45 (dk_at dksX1_signer_4 3 rfl rfl)
theorem dX1_signer_124 : decode cX1_signer 124 = .ok (.getfield 247, 3) := dk_180 0 247 (dk_at dksX1_signer_4 4 rfl rfl)
theorem dX1_signer_127 : decode cX1_signer 127 = .ok (.iload_n 1, 1) := dk_27 (dk_at dksX1_signer_4 7 rfl rfl)
theorem dX1_signer_128 : decode cX1_signer 128 = .ok (.iaload, 1) := dk_46 (dk_at dksX1_signer_4 8 rfl rfl)
theorem dX1_signer_129 : decode cX1_signer 129 = .ok (.ireturn, 1) := dk_172 (dk_at dksX1_signer_4 9 rfl rfl)
theorem dX1_signer_130 : decode cX1_signer 130 = .ok (.aload_n 3, 1) := dk_45 (dk_at dksX1_signer_4 10 rfl rfl)
theorem dX1_signer_131 : decode cX1_signer 131 = .ok (.getfield 250, 3) := dk_180 0 250 (dk_at dksX1_signer_4 11 rfl rfl)
theorem dX1_signer_134 : decode cX1_signer 134 = .ok (.iload_n 1, 1) := dk_27 (dk_at dksX1_signer_4 14 rfl rfl)
theorem dX1_signer_135 : decode cX1_signer 135 = .ok (.iaload, 1) := dk_46 (dk_at dksX1_signer_4 15 rfl rfl)
theorem dX1_signer_136 : decode cX1_signer 136 = .ok (.ireturn, 1) := dk_172 (dk_at dksX1_signer_4 16 rfl rfl)
theorem dX1_signer_137 : decode cX1_signer 137 = .ok (.aload_n 3, 1) := dk_45 (dk_at dksX1_signer_4 17 rfl rfl)
theorem dX1_signer_138 : decode cX1_signer 138 = .ok (.getfield 253, 3) := dk_180 0 253 (dk_at dksX1_signer_4 18 rfl rfl)
theorem dX1_signer_141 : decode cX1_signer 141 = .ok (.iload_n 1, 1) := dk_27 (dk_at dksX1_signer_4 21 rfl rfl)
theorem dX1_signer_142 : decode cX1_signer 142 = .ok (.baload, 1) := dk_51 (dk_at dksX1_signer_4 22 rfl rfl)
theorem dX1_signer_143 : decode cX1_signer 143 = .ok (.ifCond .eq 7, 3) := dk_153 0 7 (dk_at dksX1_signer_5 0 rfl rfl)
theorem dX1_signer_146 : decode cX1_signer 146 = .ok (.iconst 1, 1) := dk_4 (dk_at dksX1_signer_5 3 rfl rfl)
theorem dX1_signer_147 : decode cX1_signer 147 = .ok (.goto 4, 3) := dk_167 0 4 (dk_at dksX1_signer_5 4 rfl rfl)
theorem dX1_signer_150 : decode cX1_signer 150 = .ok (.iconst 0, 1) := dk_3 (dk_at dksX1_signer_5 7 rfl rfl)
theorem dX1_signer_151 : decode cX1_signer 151 = .ok (.ireturn, 1) := dk_172 (dk_at dksX1_signer_5 8 rfl rfl)
theorem dX1_signer_152 : decode cX1_signer 152 = .ok (.aload_n 3, 1) := dk_45 (dk_at dksX1_signer_5 9 rfl rfl)
theorem dX1_signer_153 : decode cX1_signer 153 = .ok (.getfield 257, 3) := dk_180 1 1 (dk_at dksX1_signer_5 10 rfl rfl)
theorem dX1_signer_156 : decode cX1_signer 156 = .ok (.iload_n 1, 1) := dk_27 (dk_at dksX1_signer_5 13 rfl rfl)
theorem dX1_signer_157 : decode cX1_signer 157 = .ok (.iaload, 1) := dk_46 (dk_at dksX1_signer_5 14 rfl rfl)
theorem dX1_signer_158 : decode cX1_signer 158 = .ok (.ireturn, 1) := dk_172 (dk_at dksX1_signer_5 15 rfl rfl)
abbrev cX1_signerOf : ByteArray := prog_1_method_2_code
def yX1_signerOf : MethodName := ⟨RX1, "signerOf", "(I)V"⟩
def dkwX1_signerOf_1 : List UInt8 := [96, 79, 187, 0, 92, 89, 183, 0, 94, 191]
abbrev dktX1_signerOf_1 : List UInt8 := dkwX1_signerOf_1 ++ []
def dkwX1_signerOf_0 : List UInt8 := [27, 155, 0, 15, 27, 42, 180, 0, 73, 180, 0, 89, 162, 0, 4, 177, 42, 180, 0, 54, 3, 92, 46, 4]
abbrev dktX1_signerOf_0 : List UInt8 := dkwX1_signerOf_0 ++ dktX1_signerOf_1
theorem dksX1_signerOf_0 : cX1_signerOf.data.toList.drop 0 = dktX1_signerOf_0 := by decide +kernel
theorem dksX1_signerOf_1 : cX1_signerOf.data.toList.drop 24 = dktX1_signerOf_1 := dk_seg dksX1_signerOf_0 24 rfl rfl
theorem dX1_signerOf_0 : decode cX1_signerOf 0 = .ok (.iload_n 1, 1) := dk_27 (dk_at dksX1_signerOf_0 0 rfl rfl)
theorem dX1_signerOf_1 : decode cX1_signerOf 1 = .ok (.ifCond .lt 15, 3) := dk_155 0 15 (dk_at dksX1_signerOf_0 1 rfl rfl)
theorem dX1_signerOf_4 : decode cX1_signerOf 4 = .ok (.iload_n 1, 1) := dk_27 (dk_at dksX1_signerOf_0 4 rfl rfl)
theorem dX1_signerOf_5 : decode cX1_signerOf 5 = .ok (.aload_n 0, 1) := dk_42 (dk_at dksX1_signerOf_0 5 rfl rfl)
theorem dX1_signerOf_6 : decode cX1_signerOf 6 = .ok (.getfield 73, 3) := dk_180 0 73 (dk_at dksX1_signerOf_0 6 rfl rfl)
theorem dX1_signerOf_9 : decode cX1_signerOf 9 = .ok (.getfield 89, 3) := dk_180 0 89 (dk_at dksX1_signerOf_0 9 rfl rfl)
theorem dX1_signerOf_12 : decode cX1_signerOf 12 = .ok (.if_icmp .ge 4, 3) := dk_162 0 4 (dk_at dksX1_signerOf_0 12 rfl rfl)
theorem dX1_signerOf_15 : decode cX1_signerOf 15 = .ok (.return_, 1) := dk_177 (dk_at dksX1_signerOf_0 15 rfl rfl)
theorem dX1_signerOf_16 : decode cX1_signerOf 16 = .ok (.aload_n 0, 1) := dk_42 (dk_at dksX1_signerOf_0 16 rfl rfl)
theorem dX1_signerOf_17 : decode cX1_signerOf 17 = .ok (.getfield 54, 3) := dk_180 0 54 (dk_at dksX1_signerOf_0 17 rfl rfl)
theorem dX1_signerOf_20 : decode cX1_signerOf 20 = .ok (.iconst 0, 1) := dk_3 (dk_at dksX1_signerOf_0 20 rfl rfl)
theorem dX1_signerOf_21 : decode cX1_signerOf 21 = .ok (.dup2, 1) := dk_92 (dk_at dksX1_signerOf_0 21 rfl rfl)
theorem dX1_signerOf_22 : decode cX1_signerOf 22 = .ok (.iaload, 1) := dk_46 (dk_at dksX1_signerOf_0 22 rfl rfl)
theorem dX1_signerOf_23 : decode cX1_signerOf 23 = .ok (.iconst 1, 1) := dk_4 (dk_at dksX1_signerOf_0 23 rfl rfl)
theorem dX1_signerOf_24 : decode cX1_signerOf 24 = .ok (.iadd, 1) := dk_96 (dk_at dksX1_signerOf_1 0 rfl rfl)
theorem dX1_signerOf_25 : decode cX1_signerOf 25 = .ok (.iastore, 1) := dk_79 (dk_at dksX1_signerOf_1 1 rfl rfl)
theorem dX1_signerOf_26 : decode cX1_signerOf 26 = .ok (.new 92, 3) := dk_187 0 92 (dk_at dksX1_signerOf_1 2 rfl rfl)
theorem dX1_signerOf_29 : decode cX1_signerOf 29 = .ok (.dup, 1) := dk_89 (dk_at dksX1_signerOf_1 5 rfl rfl)
theorem dX1_signerOf_30 : decode cX1_signerOf 30 = .ok (.invokespecial 94, 3) := dk_183 0 94 (dk_at dksX1_signerOf_1 6 rfl rfl)
theorem dX1_signerOf_33 : decode cX1_signerOf 33 = .ok (.athrow, 1) := dk_191 (dk_at dksX1_signerOf_1 9 rfl rfl)
abbrev cX1_taker : ByteArray := prog_1_method_16_code
def yX1_taker : MethodName := ⟨RX1, "taker", "(II)I"⟩
def dkwX1_taker_3 : List UInt8 := [182, 1, 16, 172]
abbrev dktX1_taker_3 : List UInt8 := dkwX1_taker_3 ++ []
def dkwX1_taker_2 : List UInt8 := [160, 0, 15, 42, 180, 0, 73, 180, 1, 13, 27, 46, 167, 0, 14, 42, 180, 0, 25, 182, 0, 81, 27]
abbrev dktX1_taker_2 : List UInt8 := dkwX1_taker_2 ++ dktX1_taker_3
def dkwX1_taker_1 : List UInt8 := [46, 167, 0, 48, 28, 4, 160, 0, 15, 42, 180, 0, 73, 180, 1, 10, 27, 46, 167, 0, 31, 28, 5]
abbrev dktX1_taker_1 : List UInt8 := dkwX1_taker_1 ++ dktX1_taker_2
def dkwX1_taker_0 : List UInt8 := [42, 27, 182, 1, 4, 42, 28, 3, 6, 182, 0, 117, 28, 154, 0, 15, 42, 180, 0, 73, 180, 1, 7, 27]
abbrev dktX1_taker_0 : List UInt8 := dkwX1_taker_0 ++ dktX1_taker_1
theorem dksX1_taker_0 : cX1_taker.data.toList.drop 0 = dktX1_taker_0 := by decide +kernel
theorem dksX1_taker_1 : cX1_taker.data.toList.drop 24 = dktX1_taker_1 := dk_seg dksX1_taker_0 24 rfl rfl
theorem dksX1_taker_2 : cX1_taker.data.toList.drop 47 = dktX1_taker_2 := dk_seg dksX1_taker_1 23 rfl rfl
theorem dksX1_taker_3 : cX1_taker.data.toList.drop 70 = dktX1_taker_3 := dk_seg dksX1_taker_2 23 rfl rfl
theorem dX1_taker_0 : decode cX1_taker 0 = .ok (.aload_n 0, 1) := dk_42 (dk_at dksX1_taker_0 0 rfl rfl)
theorem dX1_taker_1 : decode cX1_taker 1 = .ok (.iload_n 1, 1) := dk_27 (dk_at dksX1_taker_0 1 rfl rfl)
theorem dX1_taker_2 : decode cX1_taker 2 = .ok (.invokevirtual 260, 3) := dk_182 1 4 (dk_at dksX1_taker_0 2 rfl rfl)
theorem dX1_taker_5 : decode cX1_taker 5 = .ok (.aload_n 0, 1) := dk_42 (dk_at dksX1_taker_0 5 rfl rfl)
theorem dX1_taker_6 : decode cX1_taker 6 = .ok (.iload_n 2, 1) := dk_28 (dk_at dksX1_taker_0 6 rfl rfl)
theorem dX1_taker_7 : decode cX1_taker 7 = .ok (.iconst 0, 1) := dk_3 (dk_at dksX1_taker_0 7 rfl rfl)
theorem dX1_taker_8 : decode cX1_taker 8 = .ok (.iconst 3, 1) := dk_6 (dk_at dksX1_taker_0 8 rfl rfl)
theorem dX1_taker_9 : decode cX1_taker 9 = .ok (.invokevirtual 117, 3) := dk_182 0 117 (dk_at dksX1_taker_0 9 rfl rfl)
theorem dX1_taker_12 : decode cX1_taker 12 = .ok (.iload_n 2, 1) := dk_28 (dk_at dksX1_taker_0 12 rfl rfl)
theorem dX1_taker_13 : decode cX1_taker 13 = .ok (.ifCond .ne 15, 3) := dk_154 0 15 (dk_at dksX1_taker_0 13 rfl rfl)
theorem dX1_taker_16 : decode cX1_taker 16 = .ok (.aload_n 0, 1) := dk_42 (dk_at dksX1_taker_0 16 rfl rfl)
theorem dX1_taker_17 : decode cX1_taker 17 = .ok (.getfield 73, 3) := dk_180 0 73 (dk_at dksX1_taker_0 17 rfl rfl)
theorem dX1_taker_20 : decode cX1_taker 20 = .ok (.getfield 263, 3) := dk_180 1 7 (dk_at dksX1_taker_0 20 rfl rfl)
theorem dX1_taker_23 : decode cX1_taker 23 = .ok (.iload_n 1, 1) := dk_27 (dk_at dksX1_taker_0 23 rfl rfl)
theorem dX1_taker_24 : decode cX1_taker 24 = .ok (.iaload, 1) := dk_46 (dk_at dksX1_taker_1 0 rfl rfl)
theorem dX1_taker_25 : decode cX1_taker 25 = .ok (.goto 48, 3) := dk_167 0 48 (dk_at dksX1_taker_1 1 rfl rfl)
theorem dX1_taker_28 : decode cX1_taker 28 = .ok (.iload_n 2, 1) := dk_28 (dk_at dksX1_taker_1 4 rfl rfl)
theorem dX1_taker_29 : decode cX1_taker 29 = .ok (.iconst 1, 1) := dk_4 (dk_at dksX1_taker_1 5 rfl rfl)
theorem dX1_taker_30 : decode cX1_taker 30 = .ok (.if_icmp .ne 15, 3) := dk_160 0 15 (dk_at dksX1_taker_1 6 rfl rfl)
theorem dX1_taker_33 : decode cX1_taker 33 = .ok (.aload_n 0, 1) := dk_42 (dk_at dksX1_taker_1 9 rfl rfl)
theorem dX1_taker_34 : decode cX1_taker 34 = .ok (.getfield 73, 3) := dk_180 0 73 (dk_at dksX1_taker_1 10 rfl rfl)
theorem dX1_taker_37 : decode cX1_taker 37 = .ok (.getfield 266, 3) := dk_180 1 10 (dk_at dksX1_taker_1 13 rfl rfl)
theorem dX1_taker_40 : decode cX1_taker 40 = .ok (.iload_n 1, 1) := dk_27 (dk_at dksX1_taker_1 16 rfl rfl)
theorem dX1_taker_41 : decode cX1_taker 41 = .ok (.iaload, 1) := dk_46 (dk_at dksX1_taker_1 17 rfl rfl)
theorem dX1_taker_42 : decode cX1_taker 42 = .ok (.goto 31, 3) := dk_167 0 31 (dk_at dksX1_taker_1 18 rfl rfl)
theorem dX1_taker_45 : decode cX1_taker 45 = .ok (.iload_n 2, 1) := dk_28 (dk_at dksX1_taker_1 21 rfl rfl)
theorem dX1_taker_46 : decode cX1_taker 46 = .ok (.iconst 2, 1) := dk_5 (dk_at dksX1_taker_1 22 rfl rfl)
theorem dX1_taker_47 : decode cX1_taker 47 = .ok (.if_icmp .ne 15, 3) := dk_160 0 15 (dk_at dksX1_taker_2 0 rfl rfl)
theorem dX1_taker_50 : decode cX1_taker 50 = .ok (.aload_n 0, 1) := dk_42 (dk_at dksX1_taker_2 3 rfl rfl)
theorem dX1_taker_51 : decode cX1_taker 51 = .ok (.getfield 73, 3) := dk_180 0 73 (dk_at dksX1_taker_2 4 rfl rfl)
theorem dX1_taker_54 : decode cX1_taker 54 = .ok (.getfield 269, 3) := dk_180 1 13 (dk_at dksX1_taker_2 7 rfl rfl)
theorem dX1_taker_57 : decode cX1_taker 57 = .ok (.iload_n 1, 1) := dk_27 (dk_at dksX1_taker_2 10 rfl rfl)
theorem dX1_taker_58 : decode cX1_taker 58 = .ok (.iaload, 1) := dk_46 (dk_at dksX1_taker_2 11 rfl rfl)
theorem dX1_taker_59 : decode cX1_taker 59 = .ok (.goto 14, 3) := dk_167 0 14 (dk_at dksX1_taker_2 12 rfl rfl)
theorem dX1_taker_62 : decode cX1_taker 62 = .ok (.aload_n 0, 1) := dk_42 (dk_at dksX1_taker_2 15 rfl rfl)
theorem dX1_taker_63 : decode cX1_taker 63 = .ok (.getfield 25, 3) := dk_180 0 25 (dk_at dksX1_taker_2 16 rfl rfl)
theorem dX1_taker_66 : decode cX1_taker 66 = .ok (.invokevirtual 81, 3) := dk_182 0 81 (dk_at dksX1_taker_2 19 rfl rfl)
theorem dX1_taker_69 : decode cX1_taker 69 = .ok (.iload_n 1, 1) := dk_27 (dk_at dksX1_taker_2 22 rfl rfl)
theorem dX1_taker_70 : decode cX1_taker 70 = .ok (.invokevirtual 272, 3) := dk_182 1 16 (dk_at dksX1_taker_3 0 rfl rfl)
theorem dX1_taker_73 : decode cX1_taker 73 = .ok (.ireturn, 1) := dk_172 (dk_at dksX1_taker_3 3 rfl rfl)
abbrev cX1_takerOf : ByteArray := prog_1_method_3_code
def yX1_takerOf : MethodName := ⟨RX1, "takerOf", "(I)V"⟩
def dkwX1_takerOf_1 : List UInt8 := [96, 79, 187, 0, 92, 89, 183, 0, 94, 191]
abbrev dktX1_takerOf_1 : List UInt8 := dkwX1_takerOf_1 ++ []
def dkwX1_takerOf_0 : List UInt8 := [27, 155, 0, 15, 27, 42, 180, 0, 73, 180, 0, 95, 162, 0, 4, 177, 42, 180, 0, 54, 3, 92, 46, 4]
abbrev dktX1_takerOf_0 : List UInt8 := dkwX1_takerOf_0 ++ dktX1_takerOf_1
theorem dksX1_takerOf_0 : cX1_takerOf.data.toList.drop 0 = dktX1_takerOf_0 := by decide +kernel
theorem dksX1_takerOf_1 : cX1_takerOf.data.toList.drop 24 = dktX1_takerOf_1 := dk_seg dksX1_takerOf_0 24 rfl rfl
theorem dX1_takerOf_0 : decode cX1_takerOf 0 = .ok (.iload_n 1, 1) := dk_27 (dk_at dksX1_takerOf_0 0 rfl rfl)
theorem dX1_takerOf_1 : decode cX1_takerOf 1 = .ok (.ifCond .lt 15, 3) := dk_155 0 15 (dk_at dksX1_takerOf_0 1 rfl rfl)
theorem dX1_takerOf_4 : decode cX1_takerOf 4 = .ok (.iload_n 1, 1) := dk_27 (dk_at dksX1_takerOf_0 4 rfl rfl)
theorem dX1_takerOf_5 : decode cX1_takerOf 5 = .ok (.aload_n 0, 1) := dk_42 (dk_at dksX1_takerOf_0 5 rfl rfl)
theorem dX1_takerOf_6 : decode cX1_takerOf 6 = .ok (.getfield 73, 3) := dk_180 0 73 (dk_at dksX1_takerOf_0 6 rfl rfl)
theorem dX1_takerOf_9 : decode cX1_takerOf 9 = .ok (.getfield 95, 3) := dk_180 0 95 (dk_at dksX1_takerOf_0 9 rfl rfl)
theorem dX1_takerOf_12 : decode cX1_takerOf 12 = .ok (.if_icmp .ge 4, 3) := dk_162 0 4 (dk_at dksX1_takerOf_0 12 rfl rfl)
theorem dX1_takerOf_15 : decode cX1_takerOf 15 = .ok (.return_, 1) := dk_177 (dk_at dksX1_takerOf_0 15 rfl rfl)
theorem dX1_takerOf_16 : decode cX1_takerOf 16 = .ok (.aload_n 0, 1) := dk_42 (dk_at dksX1_takerOf_0 16 rfl rfl)
theorem dX1_takerOf_17 : decode cX1_takerOf 17 = .ok (.getfield 54, 3) := dk_180 0 54 (dk_at dksX1_takerOf_0 17 rfl rfl)
theorem dX1_takerOf_20 : decode cX1_takerOf 20 = .ok (.iconst 0, 1) := dk_3 (dk_at dksX1_takerOf_0 20 rfl rfl)
theorem dX1_takerOf_21 : decode cX1_takerOf 21 = .ok (.dup2, 1) := dk_92 (dk_at dksX1_takerOf_0 21 rfl rfl)
theorem dX1_takerOf_22 : decode cX1_takerOf 22 = .ok (.iaload, 1) := dk_46 (dk_at dksX1_takerOf_0 22 rfl rfl)
theorem dX1_takerOf_23 : decode cX1_takerOf 23 = .ok (.iconst 1, 1) := dk_4 (dk_at dksX1_takerOf_0 23 rfl rfl)
theorem dX1_takerOf_24 : decode cX1_takerOf 24 = .ok (.iadd, 1) := dk_96 (dk_at dksX1_takerOf_1 0 rfl rfl)
theorem dX1_takerOf_25 : decode cX1_takerOf 25 = .ok (.iastore, 1) := dk_79 (dk_at dksX1_takerOf_1 1 rfl rfl)
theorem dX1_takerOf_26 : decode cX1_takerOf 26 = .ok (.new 92, 3) := dk_187 0 92 (dk_at dksX1_takerOf_1 2 rfl rfl)
theorem dX1_takerOf_29 : decode cX1_takerOf 29 = .ok (.dup, 1) := dk_89 (dk_at dksX1_takerOf_1 5 rfl rfl)
theorem dX1_takerOf_30 : decode cX1_takerOf 30 = .ok (.invokespecial 94, 3) := dk_183 0 94 (dk_at dksX1_takerOf_1 6 rfl rfl)
theorem dX1_takerOf_33 : decode cX1_takerOf 33 = .ok (.athrow, 1) := dk_191 (dk_at dksX1_takerOf_1 9 rfl rfl)
abbrev cX1_asks : ByteArray := prog_1_method_17_code
def yX1_asks : MethodName := ⟨RX1, "asks", "(II)I"⟩
def dkwX1_asks_1 : List UInt8 := [172]
abbrev dktX1_asks_1 : List UInt8 := dkwX1_asks_1 ++ []
def dkwX1_asks_0 : List UInt8 := [42, 27, 182, 0, 226, 42, 28, 3, 4, 182, 0, 117, 42, 180, 0, 25, 182, 0, 81, 27, 28, 182, 1, 19]
abbrev dktX1_asks_0 : List UInt8 := dkwX1_asks_0 ++ dktX1_asks_1
theorem dksX1_asks_0 : cX1_asks.data.toList.drop 0 = dktX1_asks_0 := by decide +kernel
theorem dksX1_asks_1 : cX1_asks.data.toList.drop 24 = dktX1_asks_1 := dk_seg dksX1_asks_0 24 rfl rfl
theorem dX1_asks_0 : decode cX1_asks 0 = .ok (.aload_n 0, 1) := dk_42 (dk_at dksX1_asks_0 0 rfl rfl)
theorem dX1_asks_1 : decode cX1_asks 1 = .ok (.iload_n 1, 1) := dk_27 (dk_at dksX1_asks_0 1 rfl rfl)
theorem dX1_asks_2 : decode cX1_asks 2 = .ok (.invokevirtual 226, 3) := dk_182 0 226 (dk_at dksX1_asks_0 2 rfl rfl)
theorem dX1_asks_5 : decode cX1_asks 5 = .ok (.aload_n 0, 1) := dk_42 (dk_at dksX1_asks_0 5 rfl rfl)
theorem dX1_asks_6 : decode cX1_asks 6 = .ok (.iload_n 2, 1) := dk_28 (dk_at dksX1_asks_0 6 rfl rfl)
theorem dX1_asks_7 : decode cX1_asks 7 = .ok (.iconst 0, 1) := dk_3 (dk_at dksX1_asks_0 7 rfl rfl)
theorem dX1_asks_8 : decode cX1_asks 8 = .ok (.iconst 1, 1) := dk_4 (dk_at dksX1_asks_0 8 rfl rfl)
theorem dX1_asks_9 : decode cX1_asks 9 = .ok (.invokevirtual 117, 3) := dk_182 0 117 (dk_at dksX1_asks_0 9 rfl rfl)
theorem dX1_asks_12 : decode cX1_asks 12 = .ok (.aload_n 0, 1) := dk_42 (dk_at dksX1_asks_0 12 rfl rfl)
theorem dX1_asks_13 : decode cX1_asks 13 = .ok (.getfield 25, 3) := dk_180 0 25 (dk_at dksX1_asks_0 13 rfl rfl)
theorem dX1_asks_16 : decode cX1_asks 16 = .ok (.invokevirtual 81, 3) := dk_182 0 81 (dk_at dksX1_asks_0 16 rfl rfl)
theorem dX1_asks_19 : decode cX1_asks 19 = .ok (.iload_n 1, 1) := dk_27 (dk_at dksX1_asks_0 19 rfl rfl)
theorem dX1_asks_20 : decode cX1_asks 20 = .ok (.iload_n 2, 1) := dk_28 (dk_at dksX1_asks_0 20 rfl rfl)
theorem dX1_asks_21 : decode cX1_asks 21 = .ok (.invokevirtual 275, 3) := dk_182 1 19 (dk_at dksX1_asks_0 21 rfl rfl)
theorem dX1_asks_24 : decode cX1_asks 24 = .ok (.ireturn, 1) := dk_172 (dk_at dksX1_asks_1 0 rfl rfl)
abbrev cX1_owes : ByteArray := prog_1_method_18_code
def yX1_owes : MethodName := ⟨RX1, "owes", "(I)I"⟩
def dkwX1_owes_0 : List UInt8 := [42, 27, 182, 0, 226, 42, 180, 0, 25, 182, 0, 81, 27, 182, 1, 22, 172]
abbrev dktX1_owes_0 : List UInt8 := dkwX1_owes_0 ++ []
theorem dksX1_owes_0 : cX1_owes.data.toList.drop 0 = dktX1_owes_0 := by decide +kernel
theorem dX1_owes_0 : decode cX1_owes 0 = .ok (.aload_n 0, 1) := dk_42 (dk_at dksX1_owes_0 0 rfl rfl)
theorem dX1_owes_1 : decode cX1_owes 1 = .ok (.iload_n 1, 1) := dk_27 (dk_at dksX1_owes_0 1 rfl rfl)
theorem dX1_owes_2 : decode cX1_owes 2 = .ok (.invokevirtual 226, 3) := dk_182 0 226 (dk_at dksX1_owes_0 2 rfl rfl)
theorem dX1_owes_5 : decode cX1_owes 5 = .ok (.aload_n 0, 1) := dk_42 (dk_at dksX1_owes_0 5 rfl rfl)
theorem dX1_owes_6 : decode cX1_owes 6 = .ok (.getfield 25, 3) := dk_180 0 25 (dk_at dksX1_owes_0 6 rfl rfl)
theorem dX1_owes_9 : decode cX1_owes 9 = .ok (.invokevirtual 81, 3) := dk_182 0 81 (dk_at dksX1_owes_0 9 rfl rfl)
theorem dX1_owes_12 : decode cX1_owes 12 = .ok (.iload_n 1, 1) := dk_27 (dk_at dksX1_owes_0 12 rfl rfl)
theorem dX1_owes_13 : decode cX1_owes 13 = .ok (.invokevirtual 278, 3) := dk_182 1 22 (dk_at dksX1_owes_0 13 rfl rfl)
theorem dX1_owes_16 : decode cX1_owes 16 = .ok (.ireturn, 1) := dk_172 (dk_at dksX1_owes_0 16 rfl rfl)
abbrev cX1_would : ByteArray := prog_1_method_19_code
def yX1_would : MethodName := ⟨RX1, "would", "(IIIIII)I"⟩
def dkwX1_would_4 : List UInt8 := [180, 0, 50, 21, 6, 181, 1, 36, 42, 180, 0, 16, 42, 180, 0, 50, 3, 182, 1, 37, 172]
abbrev dktX1_would_4 : List UInt8 := dkwX1_would_4 ++ []
def dkwX1_would_3 : List UInt8 := [181, 1, 29, 42, 180, 0, 50, 21, 4, 181, 1, 31, 42, 180, 0, 50, 21, 5, 181, 1, 33, 42]
abbrev dktX1_would_3 : List UInt8 := dkwX1_would_3 ++ dktX1_would_4
def dkwX1_would_2 : List UInt8 := [182, 0, 117, 42, 180, 0, 50, 27, 181, 1, 25, 42, 180, 0, 50, 28, 181, 1, 27, 42, 180, 0, 50, 29]
abbrev dktX1_would_2 : List UInt8 := dkwX1_would_2 ++ dktX1_would_3
def dkwX1_would_1 : List UInt8 := [21, 4, 3, 16, 99, 182, 0, 117, 42, 21, 5, 3, 4, 182, 0, 117, 42, 21, 6, 3, 17, 3, 132]
abbrev dktX1_would_1 : List UInt8 := dkwX1_would_1 ++ dktX1_would_2
def dkwX1_would_0 : List UInt8 := [42, 27, 4, 16, 9, 182, 0, 117, 42, 28, 3, 16, 99, 182, 0, 117, 42, 29, 3, 8, 182, 0, 117, 42]
abbrev dktX1_would_0 : List UInt8 := dkwX1_would_0 ++ dktX1_would_1
theorem dksX1_would_0 : cX1_would.data.toList.drop 0 = dktX1_would_0 := by decide +kernel
theorem dksX1_would_1 : cX1_would.data.toList.drop 24 = dktX1_would_1 := dk_seg dksX1_would_0 24 rfl rfl
theorem dksX1_would_2 : cX1_would.data.toList.drop 47 = dktX1_would_2 := dk_seg dksX1_would_1 23 rfl rfl
theorem dksX1_would_3 : cX1_would.data.toList.drop 71 = dktX1_would_3 := dk_seg dksX1_would_2 24 rfl rfl
theorem dksX1_would_4 : cX1_would.data.toList.drop 93 = dktX1_would_4 := dk_seg dksX1_would_3 22 rfl rfl
theorem dX1_would_0 : decode cX1_would 0 = .ok (.aload_n 0, 1) := dk_42 (dk_at dksX1_would_0 0 rfl rfl)
theorem dX1_would_1 : decode cX1_would 1 = .ok (.iload_n 1, 1) := dk_27 (dk_at dksX1_would_0 1 rfl rfl)
theorem dX1_would_2 : decode cX1_would 2 = .ok (.iconst 1, 1) := dk_4 (dk_at dksX1_would_0 2 rfl rfl)
theorem dX1_would_3 : decode cX1_would 3 = .ok (.bipush 9, 2) := dk_16 9 (dk_at dksX1_would_0 3 rfl rfl)
theorem dX1_would_5 : decode cX1_would 5 = .ok (.invokevirtual 117, 3) := dk_182 0 117 (dk_at dksX1_would_0 5 rfl rfl)
theorem dX1_would_8 : decode cX1_would 8 = .ok (.aload_n 0, 1) := dk_42 (dk_at dksX1_would_0 8 rfl rfl)
theorem dX1_would_9 : decode cX1_would 9 = .ok (.iload_n 2, 1) := dk_28 (dk_at dksX1_would_0 9 rfl rfl)
theorem dX1_would_10 : decode cX1_would 10 = .ok (.iconst 0, 1) := dk_3 (dk_at dksX1_would_0 10 rfl rfl)
theorem dX1_would_11 : decode cX1_would 11 = .ok (.bipush 99, 2) := dk_16 99 (dk_at dksX1_would_0 11 rfl rfl)
theorem dX1_would_13 : decode cX1_would 13 = .ok (.invokevirtual 117, 3) := dk_182 0 117 (dk_at dksX1_would_0 13 rfl rfl)
theorem dX1_would_16 : decode cX1_would 16 = .ok (.aload_n 0, 1) := dk_42 (dk_at dksX1_would_0 16 rfl rfl)
theorem dX1_would_17 : decode cX1_would 17 = .ok (.iload_n 3, 1) := dk_29 (dk_at dksX1_would_0 17 rfl rfl)
theorem dX1_would_18 : decode cX1_would 18 = .ok (.iconst 0, 1) := dk_3 (dk_at dksX1_would_0 18 rfl rfl)
theorem dX1_would_19 : decode cX1_would 19 = .ok (.iconst 5, 1) := dk_8 (dk_at dksX1_would_0 19 rfl rfl)
theorem dX1_would_20 : decode cX1_would 20 = .ok (.invokevirtual 117, 3) := dk_182 0 117 (dk_at dksX1_would_0 20 rfl rfl)
theorem dX1_would_23 : decode cX1_would 23 = .ok (.aload_n 0, 1) := dk_42 (dk_at dksX1_would_0 23 rfl rfl)
theorem dX1_would_24 : decode cX1_would 24 = .ok (.iload 4, 2) := dk_21 4 (dk_at dksX1_would_1 0 rfl rfl)
theorem dX1_would_26 : decode cX1_would 26 = .ok (.iconst 0, 1) := dk_3 (dk_at dksX1_would_1 2 rfl rfl)
theorem dX1_would_27 : decode cX1_would 27 = .ok (.bipush 99, 2) := dk_16 99 (dk_at dksX1_would_1 3 rfl rfl)
theorem dX1_would_29 : decode cX1_would 29 = .ok (.invokevirtual 117, 3) := dk_182 0 117 (dk_at dksX1_would_1 5 rfl rfl)
theorem dX1_would_32 : decode cX1_would 32 = .ok (.aload_n 0, 1) := dk_42 (dk_at dksX1_would_1 8 rfl rfl)
theorem dX1_would_33 : decode cX1_would 33 = .ok (.iload 5, 2) := dk_21 5 (dk_at dksX1_would_1 9 rfl rfl)
theorem dX1_would_35 : decode cX1_would 35 = .ok (.iconst 0, 1) := dk_3 (dk_at dksX1_would_1 11 rfl rfl)
theorem dX1_would_36 : decode cX1_would 36 = .ok (.iconst 1, 1) := dk_4 (dk_at dksX1_would_1 12 rfl rfl)
theorem dX1_would_37 : decode cX1_would 37 = .ok (.invokevirtual 117, 3) := dk_182 0 117 (dk_at dksX1_would_1 13 rfl rfl)
theorem dX1_would_40 : decode cX1_would 40 = .ok (.aload_n 0, 1) := dk_42 (dk_at dksX1_would_1 16 rfl rfl)
theorem dX1_would_41 : decode cX1_would 41 = .ok (.iload 6, 2) := dk_21 6 (dk_at dksX1_would_1 17 rfl rfl)
theorem dX1_would_43 : decode cX1_would 43 = .ok (.iconst 0, 1) := dk_3 (dk_at dksX1_would_1 19 rfl rfl)
theorem dX1_would_44 : decode cX1_would 44 = .ok (.sipush 900, 3) := dk_17 3 132 (dk_at dksX1_would_1 20 rfl rfl)
theorem dX1_would_47 : decode cX1_would 47 = .ok (.invokevirtual 117, 3) := dk_182 0 117 (dk_at dksX1_would_2 0 rfl rfl)
theorem dX1_would_50 : decode cX1_would 50 = .ok (.aload_n 0, 1) := dk_42 (dk_at dksX1_would_2 3 rfl rfl)
theorem dX1_would_51 : decode cX1_would 51 = .ok (.getfield 50, 3) := dk_180 0 50 (dk_at dksX1_would_2 4 rfl rfl)
theorem dX1_would_54 : decode cX1_would 54 = .ok (.iload_n 1, 1) := dk_27 (dk_at dksX1_would_2 7 rfl rfl)
theorem dX1_would_55 : decode cX1_would 55 = .ok (.putfield 281, 3) := dk_181 1 25 (dk_at dksX1_would_2 8 rfl rfl)
theorem dX1_would_58 : decode cX1_would 58 = .ok (.aload_n 0, 1) := dk_42 (dk_at dksX1_would_2 11 rfl rfl)
theorem dX1_would_59 : decode cX1_would 59 = .ok (.getfield 50, 3) := dk_180 0 50 (dk_at dksX1_would_2 12 rfl rfl)
theorem dX1_would_62 : decode cX1_would 62 = .ok (.iload_n 2, 1) := dk_28 (dk_at dksX1_would_2 15 rfl rfl)
theorem dX1_would_63 : decode cX1_would 63 = .ok (.putfield 283, 3) := dk_181 1 27 (dk_at dksX1_would_2 16 rfl rfl)
theorem dX1_would_66 : decode cX1_would 66 = .ok (.aload_n 0, 1) := dk_42 (dk_at dksX1_would_2 19 rfl rfl)
theorem dX1_would_67 : decode cX1_would 67 = .ok (.getfield 50, 3) := dk_180 0 50 (dk_at dksX1_would_2 20 rfl rfl)
theorem dX1_would_70 : decode cX1_would 70 = .ok (.iload_n 3, 1) := dk_29 (dk_at dksX1_would_2 23 rfl rfl)
theorem dX1_would_71 : decode cX1_would 71 = .ok (.putfield 285, 3) := dk_181 1 29 (dk_at dksX1_would_3 0 rfl rfl)
theorem dX1_would_74 : decode cX1_would 74 = .ok (.aload_n 0, 1) := dk_42 (dk_at dksX1_would_3 3 rfl rfl)
theorem dX1_would_75 : decode cX1_would 75 = .ok (.getfield 50, 3) := dk_180 0 50 (dk_at dksX1_would_3 4 rfl rfl)
theorem dX1_would_78 : decode cX1_would 78 = .ok (.iload 4, 2) := dk_21 4 (dk_at dksX1_would_3 7 rfl rfl)
theorem dX1_would_80 : decode cX1_would 80 = .ok (.putfield 287, 3) := dk_181 1 31 (dk_at dksX1_would_3 9 rfl rfl)
theorem dX1_would_83 : decode cX1_would 83 = .ok (.aload_n 0, 1) := dk_42 (dk_at dksX1_would_3 12 rfl rfl)
theorem dX1_would_84 : decode cX1_would 84 = .ok (.getfield 50, 3) := dk_180 0 50 (dk_at dksX1_would_3 13 rfl rfl)
theorem dX1_would_87 : decode cX1_would 87 = .ok (.iload 5, 2) := dk_21 5 (dk_at dksX1_would_3 16 rfl rfl)
theorem dX1_would_89 : decode cX1_would 89 = .ok (.putfield 289, 3) := dk_181 1 33 (dk_at dksX1_would_3 18 rfl rfl)
theorem dX1_would_92 : decode cX1_would 92 = .ok (.aload_n 0, 1) := dk_42 (dk_at dksX1_would_3 21 rfl rfl)
theorem dX1_would_93 : decode cX1_would 93 = .ok (.getfield 50, 3) := dk_180 0 50 (dk_at dksX1_would_4 0 rfl rfl)
theorem dX1_would_96 : decode cX1_would 96 = .ok (.iload 6, 2) := dk_21 6 (dk_at dksX1_would_4 3 rfl rfl)
theorem dX1_would_98 : decode cX1_would 98 = .ok (.putfield 292, 3) := dk_181 1 36 (dk_at dksX1_would_4 5 rfl rfl)
theorem dX1_would_101 : decode cX1_would 101 = .ok (.aload_n 0, 1) := dk_42 (dk_at dksX1_would_4 8 rfl rfl)
theorem dX1_would_102 : decode cX1_would 102 = .ok (.getfield 16, 3) := dk_180 0 16 (dk_at dksX1_would_4 9 rfl rfl)
theorem dX1_would_105 : decode cX1_would 105 = .ok (.aload_n 0, 1) := dk_42 (dk_at dksX1_would_4 12 rfl rfl)
theorem dX1_would_106 : decode cX1_would 106 = .ok (.getfield 50, 3) := dk_180 0 50 (dk_at dksX1_would_4 13 rfl rfl)
theorem dX1_would_109 : decode cX1_would 109 = .ok (.iconst 0, 1) := dk_3 (dk_at dksX1_would_4 16 rfl rfl)
theorem dX1_would_110 : decode cX1_would 110 = .ok (.invokevirtual 293, 3) := dk_182 1 37 (dk_at dksX1_would_4 17 rfl rfl)
theorem dX1_would_113 : decode cX1_would 113 = .ok (.ireturn, 1) := dk_172 (dk_at dksX1_would_4 20 rfl rfl)
abbrev cX1_freeIn : ByteArray := prog_1_method_23_code
def yX1_freeIn : MethodName := ⟨RX1, "freeIn", "(I)I"⟩
def dkwX1_freeIn_0 : List UInt8 := [42, 27, 3, 182, 1, 56, 172]
abbrev dktX1_freeIn_0 : List UInt8 := dkwX1_freeIn_0 ++ []
theorem dksX1_freeIn_0 : cX1_freeIn.data.toList.drop 0 = dktX1_freeIn_0 := by decide +kernel
theorem dX1_freeIn_0 : decode cX1_freeIn 0 = .ok (.aload_n 0, 1) := dk_42 (dk_at dksX1_freeIn_0 0 rfl rfl)
theorem dX1_freeIn_1 : decode cX1_freeIn 1 = .ok (.iload_n 1, 1) := dk_27 (dk_at dksX1_freeIn_0 1 rfl rfl)
theorem dX1_freeIn_2 : decode cX1_freeIn 2 = .ok (.iconst 0, 1) := dk_3 (dk_at dksX1_freeIn_0 2 rfl rfl)
theorem dX1_freeIn_3 : decode cX1_freeIn 3 = .ok (.invokevirtual 312, 3) := dk_182 1 56 (dk_at dksX1_freeIn_0 3 rfl rfl)
theorem dX1_freeIn_6 : decode cX1_freeIn 6 = .ok (.ireturn, 1) := dk_172 (dk_at dksX1_freeIn_0 6 rfl rfl)
abbrev cX1_freeBy : ByteArray := prog_1_method_22_code
def yX1_freeBy : MethodName := ⟨RX1, "freeBy", "(II)I"⟩
def dkwX1_freeBy_2 : List UInt8 := [182, 1, 40, 154, 0, 5, 29, 172, 132, 3, 1, 167, 255, 226, 2, 172]
abbrev dktX1_freeBy_2 : List UInt8 := dkwX1_freeBy_2 ++ []
def dkwX1_freeBy_1 : List UInt8 := [2, 172, 4, 62, 29, 17, 2, 88, 163, 0, 29, 42, 180, 0, 36, 182, 1, 53, 42, 180, 0, 36, 27]
abbrev dktX1_freeBy_1 : List UInt8 := dkwX1_freeBy_1 ++ dktX1_freeBy_2
def dkwX1_freeBy_0 : List UInt8 := [42, 27, 182, 0, 226, 42, 182, 1, 47, 28, 181, 1, 50, 42, 180, 0, 36, 27, 182, 1, 40, 154, 0, 5]
abbrev dktX1_freeBy_0 : List UInt8 := dkwX1_freeBy_0 ++ dktX1_freeBy_1
theorem dksX1_freeBy_0 : cX1_freeBy.data.toList.drop 0 = dktX1_freeBy_0 := by decide +kernel
theorem dksX1_freeBy_1 : cX1_freeBy.data.toList.drop 24 = dktX1_freeBy_1 := dk_seg dksX1_freeBy_0 24 rfl rfl
theorem dksX1_freeBy_2 : cX1_freeBy.data.toList.drop 47 = dktX1_freeBy_2 := dk_seg dksX1_freeBy_1 23 rfl rfl
theorem dX1_freeBy_0 : decode cX1_freeBy 0 = .ok (.aload_n 0, 1) := dk_42 (dk_at dksX1_freeBy_0 0 rfl rfl)
theorem dX1_freeBy_1 : decode cX1_freeBy 1 = .ok (.iload_n 1, 1) := dk_27 (dk_at dksX1_freeBy_0 1 rfl rfl)
theorem dX1_freeBy_2 : decode cX1_freeBy 2 = .ok (.invokevirtual 226, 3) := dk_182 0 226 (dk_at dksX1_freeBy_0 2 rfl rfl)
theorem dX1_freeBy_5 : decode cX1_freeBy 5 = .ok (.aload_n 0, 1) := dk_42 (dk_at dksX1_freeBy_0 5 rfl rfl)
theorem dX1_freeBy_6 : decode cX1_freeBy 6 = .ok (.invokevirtual 303, 3) := dk_182 1 47 (dk_at dksX1_freeBy_0 6 rfl rfl)
theorem dX1_freeBy_9 : decode cX1_freeBy 9 = .ok (.iload_n 2, 1) := dk_28 (dk_at dksX1_freeBy_0 9 rfl rfl)
theorem dX1_freeBy_10 : decode cX1_freeBy 10 = .ok (.putfield 306, 3) := dk_181 1 50 (dk_at dksX1_freeBy_0 10 rfl rfl)
theorem dX1_freeBy_13 : decode cX1_freeBy 13 = .ok (.aload_n 0, 1) := dk_42 (dk_at dksX1_freeBy_0 13 rfl rfl)
theorem dX1_freeBy_14 : decode cX1_freeBy 14 = .ok (.getfield 36, 3) := dk_180 0 36 (dk_at dksX1_freeBy_0 14 rfl rfl)
theorem dX1_freeBy_17 : decode cX1_freeBy 17 = .ok (.iload_n 1, 1) := dk_27 (dk_at dksX1_freeBy_0 17 rfl rfl)
theorem dX1_freeBy_18 : decode cX1_freeBy 18 = .ok (.invokevirtual 296, 3) := dk_182 1 40 (dk_at dksX1_freeBy_0 18 rfl rfl)
theorem dX1_freeBy_21 : decode cX1_freeBy 21 = .ok (.ifCond .ne 5, 3) := dk_154 0 5 (dk_at dksX1_freeBy_0 21 rfl rfl)
theorem dX1_freeBy_24 : decode cX1_freeBy 24 = .ok (.iconst (-1), 1) := dk_2 (dk_at dksX1_freeBy_1 0 rfl rfl)
theorem dX1_freeBy_25 : decode cX1_freeBy 25 = .ok (.ireturn, 1) := dk_172 (dk_at dksX1_freeBy_1 1 rfl rfl)
theorem dX1_freeBy_26 : decode cX1_freeBy 26 = .ok (.iconst 1, 1) := dk_4 (dk_at dksX1_freeBy_1 2 rfl rfl)
theorem dX1_freeBy_27 : decode cX1_freeBy 27 = .ok (.istore_n 3, 1) := dk_62 (dk_at dksX1_freeBy_1 3 rfl rfl)
theorem dX1_freeBy_28 : decode cX1_freeBy 28 = .ok (.iload_n 3, 1) := dk_29 (dk_at dksX1_freeBy_1 4 rfl rfl)
theorem dX1_freeBy_29 : decode cX1_freeBy 29 = .ok (.sipush 600, 3) := dk_17 2 88 (dk_at dksX1_freeBy_1 5 rfl rfl)
theorem dX1_freeBy_32 : decode cX1_freeBy 32 = .ok (.if_icmp .gt 29, 3) := dk_163 0 29 (dk_at dksX1_freeBy_1 8 rfl rfl)
theorem dX1_freeBy_35 : decode cX1_freeBy 35 = .ok (.aload_n 0, 1) := dk_42 (dk_at dksX1_freeBy_1 11 rfl rfl)
theorem dX1_freeBy_36 : decode cX1_freeBy 36 = .ok (.getfield 36, 3) := dk_180 0 36 (dk_at dksX1_freeBy_1 12 rfl rfl)
theorem dX1_freeBy_39 : decode cX1_freeBy 39 = .ok (.invokevirtual 309, 3) := dk_182 1 53 (dk_at dksX1_freeBy_1 15 rfl rfl)
theorem dX1_freeBy_42 : decode cX1_freeBy 42 = .ok (.aload_n 0, 1) := dk_42 (dk_at dksX1_freeBy_1 18 rfl rfl)
theorem dX1_freeBy_43 : decode cX1_freeBy 43 = .ok (.getfield 36, 3) := dk_180 0 36 (dk_at dksX1_freeBy_1 19 rfl rfl)
theorem dX1_freeBy_46 : decode cX1_freeBy 46 = .ok (.iload_n 1, 1) := dk_27 (dk_at dksX1_freeBy_1 22 rfl rfl)
theorem dX1_freeBy_47 : decode cX1_freeBy 47 = .ok (.invokevirtual 296, 3) := dk_182 1 40 (dk_at dksX1_freeBy_2 0 rfl rfl)
theorem dX1_freeBy_50 : decode cX1_freeBy 50 = .ok (.ifCond .ne 5, 3) := dk_154 0 5 (dk_at dksX1_freeBy_2 3 rfl rfl)
theorem dX1_freeBy_53 : decode cX1_freeBy 53 = .ok (.iload_n 3, 1) := dk_29 (dk_at dksX1_freeBy_2 6 rfl rfl)
theorem dX1_freeBy_54 : decode cX1_freeBy 54 = .ok (.ireturn, 1) := dk_172 (dk_at dksX1_freeBy_2 7 rfl rfl)
theorem dX1_freeBy_55 : decode cX1_freeBy 55 = .ok (.iinc 3 1, 3) := dk_132 3 1 (dk_at dksX1_freeBy_2 8 rfl rfl)
theorem dX1_freeBy_58 : decode cX1_freeBy 58 = .ok (.goto (-30), 3) := dk_167 255 226 (dk_at dksX1_freeBy_2 11 rfl rfl)
theorem dX1_freeBy_61 : decode cX1_freeBy 61 = .ok (.iconst (-1), 1) := dk_2 (dk_at dksX1_freeBy_2 14 rfl rfl)
theorem dX1_freeBy_62 : decode cX1_freeBy 62 = .ok (.ireturn, 1) := dk_172 (dk_at dksX1_freeBy_2 15 rfl rfl)
abbrev cX1_tried : ByteArray := prog_1_method_21_code
def yX1_tried : MethodName := ⟨RX1, "tried", "()LPassagePapers$State;"⟩
def dkwX1_tried_0 : List UInt8 := [42, 180, 0, 36, 42, 180, 0, 25, 182, 0, 81, 182, 0, 176, 176]
abbrev dktX1_tried_0 : List UInt8 := dkwX1_tried_0 ++ []
theorem dksX1_tried_0 : cX1_tried.data.toList.drop 0 = dktX1_tried_0 := by decide +kernel
theorem dX1_tried_0 : decode cX1_tried 0 = .ok (.aload_n 0, 1) := dk_42 (dk_at dksX1_tried_0 0 rfl rfl)
theorem dX1_tried_1 : decode cX1_tried 1 = .ok (.getfield 36, 3) := dk_180 0 36 (dk_at dksX1_tried_0 1 rfl rfl)
theorem dX1_tried_4 : decode cX1_tried 4 = .ok (.aload_n 0, 1) := dk_42 (dk_at dksX1_tried_0 4 rfl rfl)
theorem dX1_tried_5 : decode cX1_tried 5 = .ok (.getfield 25, 3) := dk_180 0 25 (dk_at dksX1_tried_0 5 rfl rfl)
theorem dX1_tried_8 : decode cX1_tried 8 = .ok (.invokevirtual 81, 3) := dk_182 0 81 (dk_at dksX1_tried_0 8 rfl rfl)
theorem dX1_tried_11 : decode cX1_tried 11 = .ok (.invokevirtual 176, 3) := dk_182 0 176 (dk_at dksX1_tried_0 11 rfl rfl)
theorem dX1_tried_14 : decode cX1_tried 14 = .ok (.areturn, 1) := dk_176 (dk_at dksX1_tried_0 14 rfl rfl)
abbrev cX1_otherwise : ByteArray := prog_1_method_24_code
def yX1_otherwise : MethodName := ⟨RX1, "otherwise", "(I)I"⟩
def dkwX1_otherwise_0 : List UInt8 := [42, 27, 4, 182, 1, 56, 172]
abbrev dktX1_otherwise_0 : List UInt8 := dkwX1_otherwise_0 ++ []
theorem dksX1_otherwise_0 : cX1_otherwise.data.toList.drop 0 = dktX1_otherwise_0 := by decide +kernel
theorem dX1_otherwise_0 : decode cX1_otherwise 0 = .ok (.aload_n 0, 1) := dk_42 (dk_at dksX1_otherwise_0 0 rfl rfl)
theorem dX1_otherwise_1 : decode cX1_otherwise 1 = .ok (.iload_n 1, 1) := dk_27 (dk_at dksX1_otherwise_0 1 rfl rfl)
theorem dX1_otherwise_2 : decode cX1_otherwise 2 = .ok (.iconst 1, 1) := dk_4 (dk_at dksX1_otherwise_0 2 rfl rfl)
theorem dX1_otherwise_3 : decode cX1_otherwise 3 = .ok (.invokevirtual 312, 3) := dk_182 1 56 (dk_at dksX1_otherwise_0 3 rfl rfl)
theorem dX1_otherwise_6 : decode cX1_otherwise 6 = .ok (.ireturn, 1) := dk_172 (dk_at dksX1_otherwise_0 6 rfl rfl)
abbrev cX1_ahead : ByteArray := prog_1_method_25_code
def yX1_ahead : MethodName := ⟨RX1, "ahead", "(II)I"⟩
def dkwX1_ahead_3 : List UInt8 := [180, 0, 250, 184, 1, 63, 25, 4, 180, 0, 250, 184, 1, 63, 100, 172]
abbrev dktX1_ahead_3 : List UInt8 := dkwX1_ahead_3 ++ []
def dkwX1_ahead_2 : List UInt8 := [160, 0, 22, 45, 180, 0, 244, 184, 1, 63, 25, 4, 180, 0, 244, 184, 1, 63, 100, 167, 0, 19, 45]
abbrev dktX1_ahead_2 : List UInt8 := dkwX1_ahead_2 ++ dktX1_ahead_3
def dkwX1_ahead_1 : List UInt8 := [78, 42, 180, 0, 25, 182, 0, 81, 58, 4, 28, 154, 0, 11, 45, 6, 182, 0, 223, 167, 0, 43, 28, 4]
abbrev dktX1_ahead_1 : List UInt8 := dkwX1_ahead_1 ++ dktX1_ahead_2
def dkwX1_ahead_0 : List UInt8 := [42, 27, 3, 17, 2, 88, 182, 0, 117, 42, 28, 3, 5, 182, 0, 117, 42, 182, 1, 47, 27, 182, 1, 59]
abbrev dktX1_ahead_0 : List UInt8 := dkwX1_ahead_0 ++ dktX1_ahead_1
theorem dksX1_ahead_0 : cX1_ahead.data.toList.drop 0 = dktX1_ahead_0 := by decide +kernel
theorem dksX1_ahead_1 : cX1_ahead.data.toList.drop 24 = dktX1_ahead_1 := dk_seg dksX1_ahead_0 24 rfl rfl
theorem dksX1_ahead_2 : cX1_ahead.data.toList.drop 48 = dktX1_ahead_2 := dk_seg dksX1_ahead_1 24 rfl rfl
theorem dksX1_ahead_3 : cX1_ahead.data.toList.drop 71 = dktX1_ahead_3 := dk_seg dksX1_ahead_2 23 rfl rfl
theorem dX1_ahead_0 : decode cX1_ahead 0 = .ok (.aload_n 0, 1) := dk_42 (dk_at dksX1_ahead_0 0 rfl rfl)
theorem dX1_ahead_1 : decode cX1_ahead 1 = .ok (.iload_n 1, 1) := dk_27 (dk_at dksX1_ahead_0 1 rfl rfl)
theorem dX1_ahead_2 : decode cX1_ahead 2 = .ok (.iconst 0, 1) := dk_3 (dk_at dksX1_ahead_0 2 rfl rfl)
theorem dX1_ahead_3 : decode cX1_ahead 3 = .ok (.sipush 600, 3) := dk_17 2 88 (dk_at dksX1_ahead_0 3 rfl rfl)
theorem dX1_ahead_6 : decode cX1_ahead 6 = .ok (.invokevirtual 117, 3) := dk_182 0 117 (dk_at dksX1_ahead_0 6 rfl rfl)
theorem dX1_ahead_9 : decode cX1_ahead 9 = .ok (.aload_n 0, 1) := dk_42 (dk_at dksX1_ahead_0 9 rfl rfl)
theorem dX1_ahead_10 : decode cX1_ahead 10 = .ok (.iload_n 2, 1) := dk_28 (dk_at dksX1_ahead_0 10 rfl rfl)
theorem dX1_ahead_11 : decode cX1_ahead 11 = .ok (.iconst 0, 1) := dk_3 (dk_at dksX1_ahead_0 11 rfl rfl)
theorem dX1_ahead_12 : decode cX1_ahead 12 = .ok (.iconst 2, 1) := dk_5 (dk_at dksX1_ahead_0 12 rfl rfl)
theorem dX1_ahead_13 : decode cX1_ahead 13 = .ok (.invokevirtual 117, 3) := dk_182 0 117 (dk_at dksX1_ahead_0 13 rfl rfl)
theorem dX1_ahead_16 : decode cX1_ahead 16 = .ok (.aload_n 0, 1) := dk_42 (dk_at dksX1_ahead_0 16 rfl rfl)
theorem dX1_ahead_17 : decode cX1_ahead 17 = .ok (.invokevirtual 303, 3) := dk_182 1 47 (dk_at dksX1_ahead_0 17 rfl rfl)
theorem dX1_ahead_20 : decode cX1_ahead 20 = .ok (.iload_n 1, 1) := dk_27 (dk_at dksX1_ahead_0 20 rfl rfl)
theorem dX1_ahead_21 : decode cX1_ahead 21 = .ok (.invokevirtual 315, 3) := dk_182 1 59 (dk_at dksX1_ahead_0 21 rfl rfl)
theorem dX1_ahead_24 : decode cX1_ahead 24 = .ok (.astore_n 3, 1) := dk_78 (dk_at dksX1_ahead_1 0 rfl rfl)
theorem dX1_ahead_25 : decode cX1_ahead 25 = .ok (.aload_n 0, 1) := dk_42 (dk_at dksX1_ahead_1 1 rfl rfl)
theorem dX1_ahead_26 : decode cX1_ahead 26 = .ok (.getfield 25, 3) := dk_180 0 25 (dk_at dksX1_ahead_1 2 rfl rfl)
theorem dX1_ahead_29 : decode cX1_ahead 29 = .ok (.invokevirtual 81, 3) := dk_182 0 81 (dk_at dksX1_ahead_1 5 rfl rfl)
theorem dX1_ahead_32 : decode cX1_ahead 32 = .ok (.astore 4, 2) := dk_58 4 (dk_at dksX1_ahead_1 8 rfl rfl)
theorem dX1_ahead_34 : decode cX1_ahead 34 = .ok (.iload_n 2, 1) := dk_28 (dk_at dksX1_ahead_1 10 rfl rfl)
theorem dX1_ahead_35 : decode cX1_ahead 35 = .ok (.ifCond .ne 11, 3) := dk_154 0 11 (dk_at dksX1_ahead_1 11 rfl rfl)
theorem dX1_ahead_38 : decode cX1_ahead 38 = .ok (.aload_n 3, 1) := dk_45 (dk_at dksX1_ahead_1 14 rfl rfl)
theorem dX1_ahead_39 : decode cX1_ahead 39 = .ok (.iconst 3, 1) := dk_6 (dk_at dksX1_ahead_1 15 rfl rfl)
theorem dX1_ahead_40 : decode cX1_ahead 40 = .ok (.invokevirtual 223, 3) := dk_182 0 223 (dk_at dksX1_ahead_1 16 rfl rfl)
theorem dX1_ahead_43 : decode cX1_ahead 43 = .ok (.goto 43, 3) := dk_167 0 43 (dk_at dksX1_ahead_1 19 rfl rfl)
theorem dX1_ahead_46 : decode cX1_ahead 46 = .ok (.iload_n 2, 1) := dk_28 (dk_at dksX1_ahead_1 22 rfl rfl)
theorem dX1_ahead_47 : decode cX1_ahead 47 = .ok (.iconst 1, 1) := dk_4 (dk_at dksX1_ahead_1 23 rfl rfl)
theorem dX1_ahead_48 : decode cX1_ahead 48 = .ok (.if_icmp .ne 22, 3) := dk_160 0 22 (dk_at dksX1_ahead_2 0 rfl rfl)
theorem dX1_ahead_51 : decode cX1_ahead 51 = .ok (.aload_n 3, 1) := dk_45 (dk_at dksX1_ahead_2 3 rfl rfl)
theorem dX1_ahead_52 : decode cX1_ahead 52 = .ok (.getfield 244, 3) := dk_180 0 244 (dk_at dksX1_ahead_2 4 rfl rfl)
theorem dX1_ahead_55 : decode cX1_ahead 55 = .ok (.invokestatic 319, 3) := dk_184 1 63 (dk_at dksX1_ahead_2 7 rfl rfl)
theorem dX1_ahead_58 : decode cX1_ahead 58 = .ok (.aload 4, 2) := dk_25 4 (dk_at dksX1_ahead_2 10 rfl rfl)
theorem dX1_ahead_60 : decode cX1_ahead 60 = .ok (.getfield 244, 3) := dk_180 0 244 (dk_at dksX1_ahead_2 12 rfl rfl)
theorem dX1_ahead_63 : decode cX1_ahead 63 = .ok (.invokestatic 319, 3) := dk_184 1 63 (dk_at dksX1_ahead_2 15 rfl rfl)
theorem dX1_ahead_66 : decode cX1_ahead 66 = .ok (.isub, 1) := dk_100 (dk_at dksX1_ahead_2 18 rfl rfl)
theorem dX1_ahead_67 : decode cX1_ahead 67 = .ok (.goto 19, 3) := dk_167 0 19 (dk_at dksX1_ahead_2 19 rfl rfl)
theorem dX1_ahead_70 : decode cX1_ahead 70 = .ok (.aload_n 3, 1) := dk_45 (dk_at dksX1_ahead_2 22 rfl rfl)
theorem dX1_ahead_71 : decode cX1_ahead 71 = .ok (.getfield 250, 3) := dk_180 0 250 (dk_at dksX1_ahead_3 0 rfl rfl)
theorem dX1_ahead_74 : decode cX1_ahead 74 = .ok (.invokestatic 319, 3) := dk_184 1 63 (dk_at dksX1_ahead_3 3 rfl rfl)
theorem dX1_ahead_77 : decode cX1_ahead 77 = .ok (.aload 4, 2) := dk_25 4 (dk_at dksX1_ahead_3 6 rfl rfl)
theorem dX1_ahead_79 : decode cX1_ahead 79 = .ok (.getfield 250, 3) := dk_180 0 250 (dk_at dksX1_ahead_3 8 rfl rfl)
theorem dX1_ahead_82 : decode cX1_ahead 82 = .ok (.invokestatic 319, 3) := dk_184 1 63 (dk_at dksX1_ahead_3 11 rfl rfl)
theorem dX1_ahead_85 : decode cX1_ahead 85 = .ok (.isub, 1) := dk_100 (dk_at dksX1_ahead_3 14 rfl rfl)
theorem dX1_ahead_86 : decode cX1_ahead 86 = .ok (.ireturn, 1) := dk_172 (dk_at dksX1_ahead_3 15 rfl rfl)
abbrev cX1_gives : ByteArray := prog_1_method_26_code
def yX1_gives : MethodName := ⟨RX1, "gives", "(II)I"⟩
def dkwX1_gives_0 : List UInt8 := [42, 27, 182, 1, 4, 42, 28, 182, 0, 226, 42, 180, 0, 25, 182, 0, 81, 27, 28, 182, 1, 67, 172]
abbrev dktX1_gives_0 : List UInt8 := dkwX1_gives_0 ++ []
theorem dksX1_gives_0 : cX1_gives.data.toList.drop 0 = dktX1_gives_0 := by decide +kernel
theorem dX1_gives_0 : decode cX1_gives 0 = .ok (.aload_n 0, 1) := dk_42 (dk_at dksX1_gives_0 0 rfl rfl)
theorem dX1_gives_1 : decode cX1_gives 1 = .ok (.iload_n 1, 1) := dk_27 (dk_at dksX1_gives_0 1 rfl rfl)
theorem dX1_gives_2 : decode cX1_gives 2 = .ok (.invokevirtual 260, 3) := dk_182 1 4 (dk_at dksX1_gives_0 2 rfl rfl)
theorem dX1_gives_5 : decode cX1_gives 5 = .ok (.aload_n 0, 1) := dk_42 (dk_at dksX1_gives_0 5 rfl rfl)
theorem dX1_gives_6 : decode cX1_gives 6 = .ok (.iload_n 2, 1) := dk_28 (dk_at dksX1_gives_0 6 rfl rfl)
theorem dX1_gives_7 : decode cX1_gives 7 = .ok (.invokevirtual 226, 3) := dk_182 0 226 (dk_at dksX1_gives_0 7 rfl rfl)
theorem dX1_gives_10 : decode cX1_gives 10 = .ok (.aload_n 0, 1) := dk_42 (dk_at dksX1_gives_0 10 rfl rfl)
theorem dX1_gives_11 : decode cX1_gives 11 = .ok (.getfield 25, 3) := dk_180 0 25 (dk_at dksX1_gives_0 11 rfl rfl)
theorem dX1_gives_14 : decode cX1_gives 14 = .ok (.invokevirtual 81, 3) := dk_182 0 81 (dk_at dksX1_gives_0 14 rfl rfl)
theorem dX1_gives_17 : decode cX1_gives 17 = .ok (.iload_n 1, 1) := dk_27 (dk_at dksX1_gives_0 17 rfl rfl)
theorem dX1_gives_18 : decode cX1_gives 18 = .ok (.iload_n 2, 1) := dk_28 (dk_at dksX1_gives_0 18 rfl rfl)
theorem dX1_gives_19 : decode cX1_gives 19 = .ok (.invokevirtual 323, 3) := dk_182 1 67 (dk_at dksX1_gives_0 19 rfl rfl)
theorem dX1_gives_22 : decode cX1_gives 22 = .ok (.ireturn, 1) := dk_172 (dk_at dksX1_gives_0 22 rfl rfl)
abbrev cX1_best : ByteArray := prog_1_method_27_code
def yX1_best : MethodName := ⟨RX1, "best", "(I)I"⟩
def dkwX1_best_1 : List UInt8 := [154, 0, 13, 42, 180, 0, 43, 180, 1, 73, 167, 0, 10, 42, 180, 0, 43, 182, 1, 76, 172]
abbrev dktX1_best_1 : List UInt8 := dkwX1_best_1 ++ []
def dkwX1_best_0 : List UInt8 := [42, 27, 3, 4, 182, 0, 117, 42, 180, 0, 43, 42, 180, 0, 25, 182, 0, 81, 182, 1, 70, 27]
abbrev dktX1_best_0 : List UInt8 := dkwX1_best_0 ++ dktX1_best_1
theorem dksX1_best_0 : cX1_best.data.toList.drop 0 = dktX1_best_0 := by decide +kernel
theorem dksX1_best_1 : cX1_best.data.toList.drop 22 = dktX1_best_1 := dk_seg dksX1_best_0 22 rfl rfl
theorem dX1_best_0 : decode cX1_best 0 = .ok (.aload_n 0, 1) := dk_42 (dk_at dksX1_best_0 0 rfl rfl)
theorem dX1_best_1 : decode cX1_best 1 = .ok (.iload_n 1, 1) := dk_27 (dk_at dksX1_best_0 1 rfl rfl)
theorem dX1_best_2 : decode cX1_best 2 = .ok (.iconst 0, 1) := dk_3 (dk_at dksX1_best_0 2 rfl rfl)
theorem dX1_best_3 : decode cX1_best 3 = .ok (.iconst 1, 1) := dk_4 (dk_at dksX1_best_0 3 rfl rfl)
theorem dX1_best_4 : decode cX1_best 4 = .ok (.invokevirtual 117, 3) := dk_182 0 117 (dk_at dksX1_best_0 4 rfl rfl)
theorem dX1_best_7 : decode cX1_best 7 = .ok (.aload_n 0, 1) := dk_42 (dk_at dksX1_best_0 7 rfl rfl)
theorem dX1_best_8 : decode cX1_best 8 = .ok (.getfield 43, 3) := dk_180 0 43 (dk_at dksX1_best_0 8 rfl rfl)
theorem dX1_best_11 : decode cX1_best 11 = .ok (.aload_n 0, 1) := dk_42 (dk_at dksX1_best_0 11 rfl rfl)
theorem dX1_best_12 : decode cX1_best 12 = .ok (.getfield 25, 3) := dk_180 0 25 (dk_at dksX1_best_0 12 rfl rfl)
theorem dX1_best_15 : decode cX1_best 15 = .ok (.invokevirtual 81, 3) := dk_182 0 81 (dk_at dksX1_best_0 15 rfl rfl)
theorem dX1_best_18 : decode cX1_best 18 = .ok (.invokevirtual 326, 3) := dk_182 1 70 (dk_at dksX1_best_0 18 rfl rfl)
theorem dX1_best_21 : decode cX1_best 21 = .ok (.iload_n 1, 1) := dk_27 (dk_at dksX1_best_0 21 rfl rfl)
theorem dX1_best_22 : decode cX1_best 22 = .ok (.ifCond .ne 13, 3) := dk_154 0 13 (dk_at dksX1_best_1 0 rfl rfl)
theorem dX1_best_25 : decode cX1_best 25 = .ok (.aload_n 0, 1) := dk_42 (dk_at dksX1_best_1 3 rfl rfl)
theorem dX1_best_26 : decode cX1_best 26 = .ok (.getfield 43, 3) := dk_180 0 43 (dk_at dksX1_best_1 4 rfl rfl)
theorem dX1_best_29 : decode cX1_best 29 = .ok (.getfield 329, 3) := dk_180 1 73 (dk_at dksX1_best_1 7 rfl rfl)
theorem dX1_best_32 : decode cX1_best 32 = .ok (.goto 10, 3) := dk_167 0 10 (dk_at dksX1_best_1 10 rfl rfl)
theorem dX1_best_35 : decode cX1_best 35 = .ok (.aload_n 0, 1) := dk_42 (dk_at dksX1_best_1 13 rfl rfl)
theorem dX1_best_36 : decode cX1_best 36 = .ok (.getfield 43, 3) := dk_180 0 43 (dk_at dksX1_best_1 14 rfl rfl)
theorem dX1_best_39 : decode cX1_best 39 = .ok (.invokevirtual 332, 3) := dk_182 1 76 (dk_at dksX1_best_1 17 rfl rfl)
theorem dX1_best_42 : decode cX1_best 42 = .ok (.ireturn, 1) := dk_172 (dk_at dksX1_best_1 20 rfl rfl)
abbrev cX1_bestFor : ByteArray := prog_1_method_28_code
def yX1_bestFor : MethodName := ⟨RX1, "bestFor", "(I)I"⟩
def dkwX1_bestFor_1 : List UInt8 := [180, 1, 79, 27, 46, 172]
abbrev dktX1_bestFor_1 : List UInt8 := dkwX1_bestFor_1 ++ []
def dkwX1_bestFor_0 : List UInt8 := [42, 27, 182, 0, 226, 42, 180, 0, 43, 42, 180, 0, 25, 182, 0, 81, 182, 1, 70, 42, 180, 0, 43]
abbrev dktX1_bestFor_0 : List UInt8 := dkwX1_bestFor_0 ++ dktX1_bestFor_1
theorem dksX1_bestFor_0 : cX1_bestFor.data.toList.drop 0 = dktX1_bestFor_0 := by decide +kernel
theorem dksX1_bestFor_1 : cX1_bestFor.data.toList.drop 23 = dktX1_bestFor_1 := dk_seg dksX1_bestFor_0 23 rfl rfl
theorem dX1_bestFor_0 : decode cX1_bestFor 0 = .ok (.aload_n 0, 1) := dk_42 (dk_at dksX1_bestFor_0 0 rfl rfl)
theorem dX1_bestFor_1 : decode cX1_bestFor 1 = .ok (.iload_n 1, 1) := dk_27 (dk_at dksX1_bestFor_0 1 rfl rfl)
theorem dX1_bestFor_2 : decode cX1_bestFor 2 = .ok (.invokevirtual 226, 3) := dk_182 0 226 (dk_at dksX1_bestFor_0 2 rfl rfl)
theorem dX1_bestFor_5 : decode cX1_bestFor 5 = .ok (.aload_n 0, 1) := dk_42 (dk_at dksX1_bestFor_0 5 rfl rfl)
theorem dX1_bestFor_6 : decode cX1_bestFor 6 = .ok (.getfield 43, 3) := dk_180 0 43 (dk_at dksX1_bestFor_0 6 rfl rfl)
theorem dX1_bestFor_9 : decode cX1_bestFor 9 = .ok (.aload_n 0, 1) := dk_42 (dk_at dksX1_bestFor_0 9 rfl rfl)
theorem dX1_bestFor_10 : decode cX1_bestFor 10 = .ok (.getfield 25, 3) := dk_180 0 25 (dk_at dksX1_bestFor_0 10 rfl rfl)
theorem dX1_bestFor_13 : decode cX1_bestFor 13 = .ok (.invokevirtual 81, 3) := dk_182 0 81 (dk_at dksX1_bestFor_0 13 rfl rfl)
theorem dX1_bestFor_16 : decode cX1_bestFor 16 = .ok (.invokevirtual 326, 3) := dk_182 1 70 (dk_at dksX1_bestFor_0 16 rfl rfl)
theorem dX1_bestFor_19 : decode cX1_bestFor 19 = .ok (.aload_n 0, 1) := dk_42 (dk_at dksX1_bestFor_0 19 rfl rfl)
theorem dX1_bestFor_20 : decode cX1_bestFor 20 = .ok (.getfield 43, 3) := dk_180 0 43 (dk_at dksX1_bestFor_0 20 rfl rfl)
theorem dX1_bestFor_23 : decode cX1_bestFor 23 = .ok (.getfield 335, 3) := dk_180 1 79 (dk_at dksX1_bestFor_1 0 rfl rfl)
theorem dX1_bestFor_26 : decode cX1_bestFor 26 = .ok (.iload_n 1, 1) := dk_27 (dk_at dksX1_bestFor_1 3 rfl rfl)
theorem dX1_bestFor_27 : decode cX1_bestFor 27 = .ok (.iaload, 1) := dk_46 (dk_at dksX1_bestFor_1 4 rfl rfl)
theorem dX1_bestFor_28 : decode cX1_bestFor 28 = .ok (.ireturn, 1) := dk_172 (dk_at dksX1_bestFor_1 5 rfl rfl)
abbrev cX1_kin : ByteArray := prog_1_method_30_code
def yX1_kin : MethodName := ⟨RX1, "kin", "(I)I"⟩
def dkwX1_kin_0 : List UInt8 := [42, 27, 182, 0, 226, 42, 180, 0, 73, 27, 182, 1, 82, 172]
abbrev dktX1_kin_0 : List UInt8 := dkwX1_kin_0 ++ []
theorem dksX1_kin_0 : cX1_kin.data.toList.drop 0 = dktX1_kin_0 := by decide +kernel
theorem dX1_kin_0 : decode cX1_kin 0 = .ok (.aload_n 0, 1) := dk_42 (dk_at dksX1_kin_0 0 rfl rfl)
theorem dX1_kin_1 : decode cX1_kin 1 = .ok (.iload_n 1, 1) := dk_27 (dk_at dksX1_kin_0 1 rfl rfl)
theorem dX1_kin_2 : decode cX1_kin 2 = .ok (.invokevirtual 226, 3) := dk_182 0 226 (dk_at dksX1_kin_0 2 rfl rfl)
theorem dX1_kin_5 : decode cX1_kin 5 = .ok (.aload_n 0, 1) := dk_42 (dk_at dksX1_kin_0 5 rfl rfl)
theorem dX1_kin_6 : decode cX1_kin 6 = .ok (.getfield 73, 3) := dk_180 0 73 (dk_at dksX1_kin_0 6 rfl rfl)
theorem dX1_kin_9 : decode cX1_kin 9 = .ok (.iload_n 1, 1) := dk_27 (dk_at dksX1_kin_0 9 rfl rfl)
theorem dX1_kin_10 : decode cX1_kin 10 = .ok (.invokevirtual 338, 3) := dk_182 1 82 (dk_at dksX1_kin_0 10 rfl rfl)
theorem dX1_kin_13 : decode cX1_kin 13 = .ok (.ireturn, 1) := dk_172 (dk_at dksX1_kin_0 13 rfl rfl)
abbrev cX1_fare : ByteArray := prog_1_method_31_code
def yX1_fare : MethodName := ⟨RX1, "fare", "(I)I"⟩
def dkwX1_fare_1 : List UInt8 := [42, 180, 0, 25, 182, 0, 81, 27, 182, 1, 85, 172]
abbrev dktX1_fare_1 : List UInt8 := dkwX1_fare_1 ++ []
def dkwX1_fare_0 : List UInt8 := [42, 27, 182, 0, 226, 42, 180, 0, 25, 182, 0, 81, 180, 0, 239, 27, 46, 154, 0, 7, 2, 167, 0, 14]
abbrev dktX1_fare_0 : List UInt8 := dkwX1_fare_0 ++ dktX1_fare_1
theorem dksX1_fare_0 : cX1_fare.data.toList.drop 0 = dktX1_fare_0 := by decide +kernel
theorem dksX1_fare_1 : cX1_fare.data.toList.drop 24 = dktX1_fare_1 := dk_seg dksX1_fare_0 24 rfl rfl
theorem dX1_fare_0 : decode cX1_fare 0 = .ok (.aload_n 0, 1) := dk_42 (dk_at dksX1_fare_0 0 rfl rfl)
theorem dX1_fare_1 : decode cX1_fare 1 = .ok (.iload_n 1, 1) := dk_27 (dk_at dksX1_fare_0 1 rfl rfl)
theorem dX1_fare_2 : decode cX1_fare 2 = .ok (.invokevirtual 226, 3) := dk_182 0 226 (dk_at dksX1_fare_0 2 rfl rfl)
theorem dX1_fare_5 : decode cX1_fare 5 = .ok (.aload_n 0, 1) := dk_42 (dk_at dksX1_fare_0 5 rfl rfl)
theorem dX1_fare_6 : decode cX1_fare 6 = .ok (.getfield 25, 3) := dk_180 0 25 (dk_at dksX1_fare_0 6 rfl rfl)
theorem dX1_fare_9 : decode cX1_fare 9 = .ok (.invokevirtual 81, 3) := dk_182 0 81 (dk_at dksX1_fare_0 9 rfl rfl)
theorem dX1_fare_12 : decode cX1_fare 12 = .ok (.getfield 239, 3) := dk_180 0 239 (dk_at dksX1_fare_0 12 rfl rfl)
theorem dX1_fare_15 : decode cX1_fare 15 = .ok (.iload_n 1, 1) := dk_27 (dk_at dksX1_fare_0 15 rfl rfl)
theorem dX1_fare_16 : decode cX1_fare 16 = .ok (.iaload, 1) := dk_46 (dk_at dksX1_fare_0 16 rfl rfl)
theorem dX1_fare_17 : decode cX1_fare 17 = .ok (.ifCond .ne 7, 3) := dk_154 0 7 (dk_at dksX1_fare_0 17 rfl rfl)
theorem dX1_fare_20 : decode cX1_fare 20 = .ok (.iconst (-1), 1) := dk_2 (dk_at dksX1_fare_0 20 rfl rfl)
theorem dX1_fare_21 : decode cX1_fare 21 = .ok (.goto 14, 3) := dk_167 0 14 (dk_at dksX1_fare_0 21 rfl rfl)
theorem dX1_fare_24 : decode cX1_fare 24 = .ok (.aload_n 0, 1) := dk_42 (dk_at dksX1_fare_1 0 rfl rfl)
theorem dX1_fare_25 : decode cX1_fare 25 = .ok (.getfield 25, 3) := dk_180 0 25 (dk_at dksX1_fare_1 1 rfl rfl)
theorem dX1_fare_28 : decode cX1_fare 28 = .ok (.invokevirtual 81, 3) := dk_182 0 81 (dk_at dksX1_fare_1 4 rfl rfl)
theorem dX1_fare_31 : decode cX1_fare 31 = .ok (.iload_n 1, 1) := dk_27 (dk_at dksX1_fare_1 7 rfl rfl)
theorem dX1_fare_32 : decode cX1_fare 32 = .ok (.invokevirtual 341, 3) := dk_182 1 85 (dk_at dksX1_fare_1 8 rfl rfl)
theorem dX1_fare_35 : decode cX1_fare 35 = .ok (.ireturn, 1) := dk_172 (dk_at dksX1_fare_1 11 rfl rfl)
abbrev cX1_canPay : ByteArray := prog_1_method_32_code
def yX1_canPay : MethodName := ⟨RX1, "canPay", "(I)Z"⟩
def dkwX1_canPay_0 : List UInt8 := [42, 27, 182, 0, 226, 42, 180, 0, 25, 182, 0, 81, 27, 182, 1, 88, 172]
abbrev dktX1_canPay_0 : List UInt8 := dkwX1_canPay_0 ++ []
theorem dksX1_canPay_0 : cX1_canPay.data.toList.drop 0 = dktX1_canPay_0 := by decide +kernel
theorem dX1_canPay_0 : decode cX1_canPay 0 = .ok (.aload_n 0, 1) := dk_42 (dk_at dksX1_canPay_0 0 rfl rfl)
theorem dX1_canPay_1 : decode cX1_canPay 1 = .ok (.iload_n 1, 1) := dk_27 (dk_at dksX1_canPay_0 1 rfl rfl)
theorem dX1_canPay_2 : decode cX1_canPay 2 = .ok (.invokevirtual 226, 3) := dk_182 0 226 (dk_at dksX1_canPay_0 2 rfl rfl)
theorem dX1_canPay_5 : decode cX1_canPay 5 = .ok (.aload_n 0, 1) := dk_42 (dk_at dksX1_canPay_0 5 rfl rfl)
theorem dX1_canPay_6 : decode cX1_canPay 6 = .ok (.getfield 25, 3) := dk_180 0 25 (dk_at dksX1_canPay_0 6 rfl rfl)
theorem dX1_canPay_9 : decode cX1_canPay 9 = .ok (.invokevirtual 81, 3) := dk_182 0 81 (dk_at dksX1_canPay_0 9 rfl rfl)
theorem dX1_canPay_12 : decode cX1_canPay 12 = .ok (.iload_n 1, 1) := dk_27 (dk_at dksX1_canPay_0 12 rfl rfl)
theorem dX1_canPay_13 : decode cX1_canPay 13 = .ok (.invokevirtual 344, 3) := dk_182 1 88 (dk_at dksX1_canPay_0 13 rfl rfl)
theorem dX1_canPay_16 : decode cX1_canPay 16 = .ok (.ireturn, 1) := dk_172 (dk_at dksX1_canPay_0 16 rfl rfl)
abbrev cX1_enough : ByteArray := prog_1_method_33_code
def yX1_enough : MethodName := ⟨RX1, "enough", "(I)I"⟩
def dkwX1_enough_0 : List UInt8 := [42, 27, 3, 16, 99, 182, 0, 117, 27, 42, 180, 0, 25, 182, 0, 81, 3, 182, 0, 223, 104, 172]
abbrev dktX1_enough_0 : List UInt8 := dkwX1_enough_0 ++ []
theorem dksX1_enough_0 : cX1_enough.data.toList.drop 0 = dktX1_enough_0 := by decide +kernel
theorem dX1_enough_0 : decode cX1_enough 0 = .ok (.aload_n 0, 1) := dk_42 (dk_at dksX1_enough_0 0 rfl rfl)
theorem dX1_enough_1 : decode cX1_enough 1 = .ok (.iload_n 1, 1) := dk_27 (dk_at dksX1_enough_0 1 rfl rfl)
theorem dX1_enough_2 : decode cX1_enough 2 = .ok (.iconst 0, 1) := dk_3 (dk_at dksX1_enough_0 2 rfl rfl)
theorem dX1_enough_3 : decode cX1_enough 3 = .ok (.bipush 99, 2) := dk_16 99 (dk_at dksX1_enough_0 3 rfl rfl)
theorem dX1_enough_5 : decode cX1_enough 5 = .ok (.invokevirtual 117, 3) := dk_182 0 117 (dk_at dksX1_enough_0 5 rfl rfl)
theorem dX1_enough_8 : decode cX1_enough 8 = .ok (.iload_n 1, 1) := dk_27 (dk_at dksX1_enough_0 8 rfl rfl)
theorem dX1_enough_9 : decode cX1_enough 9 = .ok (.aload_n 0, 1) := dk_42 (dk_at dksX1_enough_0 9 rfl rfl)
theorem dX1_enough_10 : decode cX1_enough 10 = .ok (.getfield 25, 3) := dk_180 0 25 (dk_at dksX1_enough_0 10 rfl rfl)
theorem dX1_enough_13 : decode cX1_enough 13 = .ok (.invokevirtual 81, 3) := dk_182 0 81 (dk_at dksX1_enough_0 13 rfl rfl)
theorem dX1_enough_16 : decode cX1_enough 16 = .ok (.iconst 0, 1) := dk_3 (dk_at dksX1_enough_0 16 rfl rfl)
theorem dX1_enough_17 : decode cX1_enough 17 = .ok (.invokevirtual 223, 3) := dk_182 0 223 (dk_at dksX1_enough_0 17 rfl rfl)
theorem dX1_enough_20 : decode cX1_enough 20 = .ok (.imul, 1) := dk_104 (dk_at dksX1_enough_0 20 rfl rfl)
theorem dX1_enough_21 : decode cX1_enough 21 = .ok (.ireturn, 1) := dk_172 (dk_at dksX1_enough_0 21 rfl rfl)
abbrev cX1_level : ByteArray := prog_1_method_34_code
def yX1_level : MethodName := ⟨RX1, "level", "(I)I"⟩
def dkwX1_level_1 : List UInt8 := [2, 167, 0, 19, 27, 42, 180, 0, 25, 182, 0, 81, 180, 0, 217, 28, 108, 184, 0, 154, 172]
abbrev dktX1_level_1 : List UInt8 := dkwX1_level_1 ++ []
def dkwX1_level_0 : List UInt8 := [42, 27, 3, 16, 99, 182, 0, 117, 42, 180, 0, 25, 182, 0, 81, 3, 182, 0, 223, 61, 28, 154, 0, 7]
abbrev dktX1_level_0 : List UInt8 := dkwX1_level_0 ++ dktX1_level_1
theorem dksX1_level_0 : cX1_level.data.toList.drop 0 = dktX1_level_0 := by decide +kernel
theorem dksX1_level_1 : cX1_level.data.toList.drop 24 = dktX1_level_1 := dk_seg dksX1_level_0 24 rfl rfl
theorem dX1_level_0 : decode cX1_level 0 = .ok (.aload_n 0, 1) := dk_42 (dk_at dksX1_level_0 0 rfl rfl)
theorem dX1_level_1 : decode cX1_level 1 = .ok (.iload_n 1, 1) := dk_27 (dk_at dksX1_level_0 1 rfl rfl)
theorem dX1_level_2 : decode cX1_level 2 = .ok (.iconst 0, 1) := dk_3 (dk_at dksX1_level_0 2 rfl rfl)
theorem dX1_level_3 : decode cX1_level 3 = .ok (.bipush 99, 2) := dk_16 99 (dk_at dksX1_level_0 3 rfl rfl)
theorem dX1_level_5 : decode cX1_level 5 = .ok (.invokevirtual 117, 3) := dk_182 0 117 (dk_at dksX1_level_0 5 rfl rfl)
theorem dX1_level_8 : decode cX1_level 8 = .ok (.aload_n 0, 1) := dk_42 (dk_at dksX1_level_0 8 rfl rfl)
theorem dX1_level_9 : decode cX1_level 9 = .ok (.getfield 25, 3) := dk_180 0 25 (dk_at dksX1_level_0 9 rfl rfl)
theorem dX1_level_12 : decode cX1_level 12 = .ok (.invokevirtual 81, 3) := dk_182 0 81 (dk_at dksX1_level_0 12 rfl rfl)
theorem dX1_level_15 : decode cX1_level 15 = .ok (.iconst 0, 1) := dk_3 (dk_at dksX1_level_0 15 rfl rfl)
theorem dX1_level_16 : decode cX1_level 16 = .ok (.invokevirtual 223, 3) := dk_182 0 223 (dk_at dksX1_level_0 16 rfl rfl)
theorem dX1_level_19 : decode cX1_level 19 = .ok (.istore_n 2, 1) := dk_61 (dk_at dksX1_level_0 19 rfl rfl)
theorem dX1_level_20 : decode cX1_level 20 = .ok (.iload_n 2, 1) := dk_28 (dk_at dksX1_level_0 20 rfl rfl)
theorem dX1_level_21 : decode cX1_level 21 = .ok (.ifCond .ne 7, 3) := dk_154 0 7 (dk_at dksX1_level_0 21 rfl rfl)
theorem dX1_level_24 : decode cX1_level 24 = .ok (.iconst (-1), 1) := dk_2 (dk_at dksX1_level_1 0 rfl rfl)
theorem dX1_level_25 : decode cX1_level 25 = .ok (.goto 19, 3) := dk_167 0 19 (dk_at dksX1_level_1 1 rfl rfl)
theorem dX1_level_28 : decode cX1_level 28 = .ok (.iload_n 1, 1) := dk_27 (dk_at dksX1_level_1 4 rfl rfl)
theorem dX1_level_29 : decode cX1_level 29 = .ok (.aload_n 0, 1) := dk_42 (dk_at dksX1_level_1 5 rfl rfl)
theorem dX1_level_30 : decode cX1_level 30 = .ok (.getfield 25, 3) := dk_180 0 25 (dk_at dksX1_level_1 6 rfl rfl)
theorem dX1_level_33 : decode cX1_level 33 = .ok (.invokevirtual 81, 3) := dk_182 0 81 (dk_at dksX1_level_1 9 rfl rfl)
theorem dX1_level_36 : decode cX1_level 36 = .ok (.getfield 217, 3) := dk_180 0 217 (dk_at dksX1_level_1 12 rfl rfl)
theorem dX1_level_39 : decode cX1_level 39 = .ok (.iload_n 2, 1) := dk_28 (dk_at dksX1_level_1 15 rfl rfl)
theorem dX1_level_40 : decode cX1_level 40 = .ok (.idiv, 1) := dk_108 (dk_at dksX1_level_1 16 rfl rfl)
theorem dX1_level_41 : decode cX1_level 41 = .ok (.invokestatic 154, 3) := dk_184 0 154 (dk_at dksX1_level_1 17 rfl rfl)
theorem dX1_level_44 : decode cX1_level 44 = .ok (.ireturn, 1) := dk_172 (dk_at dksX1_level_1 20 rfl rfl)
abbrev cX1_terms : ByteArray := prog_1_method_37_code
def yX1_terms : MethodName := ⟨RX1, "terms", "(II)I"⟩
def dkwX1_terms_6 : List UInt8 := [160, 0, 8, 21, 4, 167, 0, 15, 28, 5, 160, 0, 8, 21, 5, 167, 0, 5, 21, 6, 172]
abbrev dktX1_terms_6 : List UInt8 := dkwX1_terms_6 ++ []
def dkwX1_terms_5 : List UInt8 := [54, 6, 132, 8, 1, 167, 255, 170, 132, 7, 1, 167, 255, 154, 28, 154, 0, 7, 29, 167, 0, 25, 28, 4]
abbrev dktX1_terms_5 : List UInt8 := dkwX1_terms_5 ++ dktX1_terms_6
def dkwX1_terms_4 : List UInt8 := [160, 0, 8, 21, 9, 167, 0, 10, 21, 5, 21, 9, 184, 0, 154, 54, 5, 21, 6, 21, 9, 184, 1, 91]
abbrev dktX1_terms_4 : List UInt8 := dkwX1_terms_4 ++ dktX1_terms_5
def dkwX1_terms_3 : List UInt8 := [167, 0, 49, 29, 132, 3, 1, 154, 0, 13, 16, 100, 21, 7, 104, 21, 8, 96, 54, 4, 21, 5, 2]
abbrev dktX1_terms_3 : List UInt8 := dkwX1_terms_3 ++ dktX1_terms_4
def dkwX1_terms_2 : List UInt8 := [182, 0, 81, 27, 21, 7, 21, 8, 3, 182, 1, 94, 54, 9, 42, 21, 9, 182, 1, 98, 154, 0, 6]
abbrev dktX1_terms_2 : List UInt8 := dkwX1_terms_2 ++ dktX1_terms_3
def dkwX1_terms_1 : List UInt8 := [54, 7, 21, 7, 16, 9, 163, 0, 101, 3, 54, 8, 21, 8, 16, 24, 163, 0, 85, 42, 180, 0, 25]
abbrev dktX1_terms_1 : List UInt8 := dkwX1_terms_1 ++ dktX1_terms_2
def dkwX1_terms_0 : List UInt8 := [42, 27, 182, 0, 226, 42, 28, 3, 6, 182, 0, 117, 3, 62, 2, 54, 4, 2, 54, 5, 2, 54, 6, 4]
abbrev dktX1_terms_0 : List UInt8 := dkwX1_terms_0 ++ dktX1_terms_1
theorem dksX1_terms_0 : cX1_terms.data.toList.drop 0 = dktX1_terms_0 := by decide +kernel
theorem dksX1_terms_1 : cX1_terms.data.toList.drop 24 = dktX1_terms_1 := dk_seg dksX1_terms_0 24 rfl rfl
theorem dksX1_terms_2 : cX1_terms.data.toList.drop 47 = dktX1_terms_2 := dk_seg dksX1_terms_1 23 rfl rfl
theorem dksX1_terms_3 : cX1_terms.data.toList.drop 70 = dktX1_terms_3 := dk_seg dksX1_terms_2 23 rfl rfl
theorem dksX1_terms_4 : cX1_terms.data.toList.drop 93 = dktX1_terms_4 := dk_seg dksX1_terms_3 23 rfl rfl
theorem dksX1_terms_5 : cX1_terms.data.toList.drop 117 = dktX1_terms_5 := dk_seg dksX1_terms_4 24 rfl rfl
theorem dksX1_terms_6 : cX1_terms.data.toList.drop 141 = dktX1_terms_6 := dk_seg dksX1_terms_5 24 rfl rfl
theorem dX1_terms_0 : decode cX1_terms 0 = .ok (.aload_n 0, 1) := dk_42 (dk_at dksX1_terms_0 0 rfl rfl)
theorem dX1_terms_1 : decode cX1_terms 1 = .ok (.iload_n 1, 1) := dk_27 (dk_at dksX1_terms_0 1 rfl rfl)
theorem dX1_terms_2 : decode cX1_terms 2 = .ok (.invokevirtual 226, 3) := dk_182 0 226 (dk_at dksX1_terms_0 2 rfl rfl)
theorem dX1_terms_5 : decode cX1_terms 5 = .ok (.aload_n 0, 1) := dk_42 (dk_at dksX1_terms_0 5 rfl rfl)
theorem dX1_terms_6 : decode cX1_terms 6 = .ok (.iload_n 2, 1) := dk_28 (dk_at dksX1_terms_0 6 rfl rfl)
theorem dX1_terms_7 : decode cX1_terms 7 = .ok (.iconst 0, 1) := dk_3 (dk_at dksX1_terms_0 7 rfl rfl)
theorem dX1_terms_8 : decode cX1_terms 8 = .ok (.iconst 3, 1) := dk_6 (dk_at dksX1_terms_0 8 rfl rfl)
theorem dX1_terms_9 : decode cX1_terms 9 = .ok (.invokevirtual 117, 3) := dk_182 0 117 (dk_at dksX1_terms_0 9 rfl rfl)
theorem dX1_terms_12 : decode cX1_terms 12 = .ok (.iconst 0, 1) := dk_3 (dk_at dksX1_terms_0 12 rfl rfl)
theorem dX1_terms_13 : decode cX1_terms 13 = .ok (.istore_n 3, 1) := dk_62 (dk_at dksX1_terms_0 13 rfl rfl)
theorem dX1_terms_14 : decode cX1_terms 14 = .ok (.iconst (-1), 1) := dk_2 (dk_at dksX1_terms_0 14 rfl rfl)
theorem dX1_terms_15 : decode cX1_terms 15 = .ok (.istore 4, 2) := dk_54 4 (dk_at dksX1_terms_0 15 rfl rfl)
theorem dX1_terms_17 : decode cX1_terms 17 = .ok (.iconst (-1), 1) := dk_2 (dk_at dksX1_terms_0 17 rfl rfl)
theorem dX1_terms_18 : decode cX1_terms 18 = .ok (.istore 5, 2) := dk_54 5 (dk_at dksX1_terms_0 18 rfl rfl)
theorem dX1_terms_20 : decode cX1_terms 20 = .ok (.iconst (-1), 1) := dk_2 (dk_at dksX1_terms_0 20 rfl rfl)
theorem dX1_terms_21 : decode cX1_terms 21 = .ok (.istore 6, 2) := dk_54 6 (dk_at dksX1_terms_0 21 rfl rfl)
theorem dX1_terms_23 : decode cX1_terms 23 = .ok (.iconst 1, 1) := dk_4 (dk_at dksX1_terms_0 23 rfl rfl)
theorem dX1_terms_24 : decode cX1_terms 24 = .ok (.istore 7, 2) := dk_54 7 (dk_at dksX1_terms_1 0 rfl rfl)
theorem dX1_terms_26 : decode cX1_terms 26 = .ok (.iload 7, 2) := dk_21 7 (dk_at dksX1_terms_1 2 rfl rfl)
theorem dX1_terms_28 : decode cX1_terms 28 = .ok (.bipush 9, 2) := dk_16 9 (dk_at dksX1_terms_1 4 rfl rfl)
theorem dX1_terms_30 : decode cX1_terms 30 = .ok (.if_icmp .gt 101, 3) := dk_163 0 101 (dk_at dksX1_terms_1 6 rfl rfl)
theorem dX1_terms_33 : decode cX1_terms 33 = .ok (.iconst 0, 1) := dk_3 (dk_at dksX1_terms_1 9 rfl rfl)
theorem dX1_terms_34 : decode cX1_terms 34 = .ok (.istore 8, 2) := dk_54 8 (dk_at dksX1_terms_1 10 rfl rfl)
theorem dX1_terms_36 : decode cX1_terms 36 = .ok (.iload 8, 2) := dk_21 8 (dk_at dksX1_terms_1 12 rfl rfl)
theorem dX1_terms_38 : decode cX1_terms 38 = .ok (.bipush 24, 2) := dk_16 24 (dk_at dksX1_terms_1 14 rfl rfl)
theorem dX1_terms_40 : decode cX1_terms 40 = .ok (.if_icmp .gt 85, 3) := dk_163 0 85 (dk_at dksX1_terms_1 16 rfl rfl)
theorem dX1_terms_43 : decode cX1_terms 43 = .ok (.aload_n 0, 1) := dk_42 (dk_at dksX1_terms_1 19 rfl rfl)
theorem dX1_terms_44 : decode cX1_terms 44 = .ok (.getfield 25, 3) := dk_180 0 25 (dk_at dksX1_terms_1 20 rfl rfl)
theorem dX1_terms_47 : decode cX1_terms 47 = .ok (.invokevirtual 81, 3) := dk_182 0 81 (dk_at dksX1_terms_2 0 rfl rfl)
theorem dX1_terms_50 : decode cX1_terms 50 = .ok (.iload_n 1, 1) := dk_27 (dk_at dksX1_terms_2 3 rfl rfl)
theorem dX1_terms_51 : decode cX1_terms 51 = .ok (.iload 7, 2) := dk_21 7 (dk_at dksX1_terms_2 4 rfl rfl)
theorem dX1_terms_53 : decode cX1_terms 53 = .ok (.iload 8, 2) := dk_21 8 (dk_at dksX1_terms_2 6 rfl rfl)
theorem dX1_terms_55 : decode cX1_terms 55 = .ok (.iconst 0, 1) := dk_3 (dk_at dksX1_terms_2 8 rfl rfl)
theorem dX1_terms_56 : decode cX1_terms 56 = .ok (.invokevirtual 350, 3) := dk_182 1 94 (dk_at dksX1_terms_2 9 rfl rfl)
theorem dX1_terms_59 : decode cX1_terms 59 = .ok (.istore 9, 2) := dk_54 9 (dk_at dksX1_terms_2 12 rfl rfl)
theorem dX1_terms_61 : decode cX1_terms 61 = .ok (.aload_n 0, 1) := dk_42 (dk_at dksX1_terms_2 14 rfl rfl)
theorem dX1_terms_62 : decode cX1_terms 62 = .ok (.iload 9, 2) := dk_21 9 (dk_at dksX1_terms_2 15 rfl rfl)
theorem dX1_terms_64 : decode cX1_terms 64 = .ok (.invokevirtual 354, 3) := dk_182 1 98 (dk_at dksX1_terms_2 17 rfl rfl)
theorem dX1_terms_67 : decode cX1_terms 67 = .ok (.ifCond .ne 6, 3) := dk_154 0 6 (dk_at dksX1_terms_2 20 rfl rfl)
theorem dX1_terms_70 : decode cX1_terms 70 = .ok (.goto 49, 3) := dk_167 0 49 (dk_at dksX1_terms_3 0 rfl rfl)
theorem dX1_terms_73 : decode cX1_terms 73 = .ok (.iload_n 3, 1) := dk_29 (dk_at dksX1_terms_3 3 rfl rfl)
theorem dX1_terms_74 : decode cX1_terms 74 = .ok (.iinc 3 1, 3) := dk_132 3 1 (dk_at dksX1_terms_3 4 rfl rfl)
theorem dX1_terms_77 : decode cX1_terms 77 = .ok (.ifCond .ne 13, 3) := dk_154 0 13 (dk_at dksX1_terms_3 7 rfl rfl)
theorem dX1_terms_80 : decode cX1_terms 80 = .ok (.bipush 100, 2) := dk_16 100 (dk_at dksX1_terms_3 10 rfl rfl)
theorem dX1_terms_82 : decode cX1_terms 82 = .ok (.iload 7, 2) := dk_21 7 (dk_at dksX1_terms_3 12 rfl rfl)
theorem dX1_terms_84 : decode cX1_terms 84 = .ok (.imul, 1) := dk_104 (dk_at dksX1_terms_3 14 rfl rfl)
theorem dX1_terms_85 : decode cX1_terms 85 = .ok (.iload 8, 2) := dk_21 8 (dk_at dksX1_terms_3 15 rfl rfl)
theorem dX1_terms_87 : decode cX1_terms 87 = .ok (.iadd, 1) := dk_96 (dk_at dksX1_terms_3 17 rfl rfl)
theorem dX1_terms_88 : decode cX1_terms 88 = .ok (.istore 4, 2) := dk_54 4 (dk_at dksX1_terms_3 18 rfl rfl)
theorem dX1_terms_90 : decode cX1_terms 90 = .ok (.iload 5, 2) := dk_21 5 (dk_at dksX1_terms_3 20 rfl rfl)
theorem dX1_terms_92 : decode cX1_terms 92 = .ok (.iconst (-1), 1) := dk_2 (dk_at dksX1_terms_3 22 rfl rfl)
theorem dX1_terms_93 : decode cX1_terms 93 = .ok (.if_icmp .ne 8, 3) := dk_160 0 8 (dk_at dksX1_terms_4 0 rfl rfl)
theorem dX1_terms_96 : decode cX1_terms 96 = .ok (.iload 9, 2) := dk_21 9 (dk_at dksX1_terms_4 3 rfl rfl)
theorem dX1_terms_98 : decode cX1_terms 98 = .ok (.goto 10, 3) := dk_167 0 10 (dk_at dksX1_terms_4 5 rfl rfl)
theorem dX1_terms_101 : decode cX1_terms 101 = .ok (.iload 5, 2) := dk_21 5 (dk_at dksX1_terms_4 8 rfl rfl)
theorem dX1_terms_103 : decode cX1_terms 103 = .ok (.iload 9, 2) := dk_21 9 (dk_at dksX1_terms_4 10 rfl rfl)
theorem dX1_terms_105 : decode cX1_terms 105 = .ok (.invokestatic 154, 3) := dk_184 0 154 (dk_at dksX1_terms_4 12 rfl rfl)
theorem dX1_terms_108 : decode cX1_terms 108 = .ok (.istore 5, 2) := dk_54 5 (dk_at dksX1_terms_4 15 rfl rfl)
theorem dX1_terms_110 : decode cX1_terms 110 = .ok (.iload 6, 2) := dk_21 6 (dk_at dksX1_terms_4 17 rfl rfl)
theorem dX1_terms_112 : decode cX1_terms 112 = .ok (.iload 9, 2) := dk_21 9 (dk_at dksX1_terms_4 19 rfl rfl)
theorem dX1_terms_114 : decode cX1_terms 114 = .ok (.invokestatic 347, 3) := dk_184 1 91 (dk_at dksX1_terms_4 21 rfl rfl)
theorem dX1_terms_117 : decode cX1_terms 117 = .ok (.istore 6, 2) := dk_54 6 (dk_at dksX1_terms_5 0 rfl rfl)
theorem dX1_terms_119 : decode cX1_terms 119 = .ok (.iinc 8 1, 3) := dk_132 8 1 (dk_at dksX1_terms_5 2 rfl rfl)
theorem dX1_terms_122 : decode cX1_terms 122 = .ok (.goto (-86), 3) := dk_167 255 170 (dk_at dksX1_terms_5 5 rfl rfl)
theorem dX1_terms_125 : decode cX1_terms 125 = .ok (.iinc 7 1, 3) := dk_132 7 1 (dk_at dksX1_terms_5 8 rfl rfl)
theorem dX1_terms_128 : decode cX1_terms 128 = .ok (.goto (-102), 3) := dk_167 255 154 (dk_at dksX1_terms_5 11 rfl rfl)
theorem dX1_terms_131 : decode cX1_terms 131 = .ok (.iload_n 2, 1) := dk_28 (dk_at dksX1_terms_5 14 rfl rfl)
theorem dX1_terms_132 : decode cX1_terms 132 = .ok (.ifCond .ne 7, 3) := dk_154 0 7 (dk_at dksX1_terms_5 15 rfl rfl)
theorem dX1_terms_135 : decode cX1_terms 135 = .ok (.iload_n 3, 1) := dk_29 (dk_at dksX1_terms_5 18 rfl rfl)
theorem dX1_terms_136 : decode cX1_terms 136 = .ok (.goto 25, 3) := dk_167 0 25 (dk_at dksX1_terms_5 19 rfl rfl)
theorem dX1_terms_139 : decode cX1_terms 139 = .ok (.iload_n 2, 1) := dk_28 (dk_at dksX1_terms_5 22 rfl rfl)
theorem dX1_terms_140 : decode cX1_terms 140 = .ok (.iconst 1, 1) := dk_4 (dk_at dksX1_terms_5 23 rfl rfl)
theorem dX1_terms_141 : decode cX1_terms 141 = .ok (.if_icmp .ne 8, 3) := dk_160 0 8 (dk_at dksX1_terms_6 0 rfl rfl)
theorem dX1_terms_144 : decode cX1_terms 144 = .ok (.iload 4, 2) := dk_21 4 (dk_at dksX1_terms_6 3 rfl rfl)
theorem dX1_terms_146 : decode cX1_terms 146 = .ok (.goto 15, 3) := dk_167 0 15 (dk_at dksX1_terms_6 5 rfl rfl)
theorem dX1_terms_149 : decode cX1_terms 149 = .ok (.iload_n 2, 1) := dk_28 (dk_at dksX1_terms_6 8 rfl rfl)
theorem dX1_terms_150 : decode cX1_terms 150 = .ok (.iconst 2, 1) := dk_5 (dk_at dksX1_terms_6 9 rfl rfl)
theorem dX1_terms_151 : decode cX1_terms 151 = .ok (.if_icmp .ne 8, 3) := dk_160 0 8 (dk_at dksX1_terms_6 10 rfl rfl)
theorem dX1_terms_154 : decode cX1_terms 154 = .ok (.iload 5, 2) := dk_21 5 (dk_at dksX1_terms_6 13 rfl rfl)
theorem dX1_terms_156 : decode cX1_terms 156 = .ok (.goto 5, 3) := dk_167 0 5 (dk_at dksX1_terms_6 15 rfl rfl)
theorem dX1_terms_159 : decode cX1_terms 159 = .ok (.iload 6, 2) := dk_21 6 (dk_at dksX1_terms_6 18 rfl rfl)
theorem dX1_terms_161 : decode cX1_terms 161 = .ok (.ireturn, 1) := dk_172 (dk_at dksX1_terms_6 20 rfl rfl)
abbrev cX1_isSaid : ByteArray := prog_1_method_36_code
def yX1_isSaid : MethodName := ⟨RX1, "isSaid", "(I)Z"⟩
def dkwX1_isSaid_1 : List UInt8 := [180, 0, 61, 28, 46, 159, 0, 5, 3, 172, 132, 2, 1, 167, 255, 222, 4, 172]
abbrev dktX1_isSaid_1 : List UInt8 := dkwX1_isSaid_1 ++ []
def dkwX1_isSaid_0 : List UInt8 := [3, 61, 28, 42, 180, 0, 145, 162, 0, 32, 3, 27, 42, 180, 0, 58, 28, 46, 100, 184, 1, 91, 42]
abbrev dktX1_isSaid_0 : List UInt8 := dkwX1_isSaid_0 ++ dktX1_isSaid_1
theorem dksX1_isSaid_0 : cX1_isSaid.data.toList.drop 0 = dktX1_isSaid_0 := by decide +kernel
theorem dksX1_isSaid_1 : cX1_isSaid.data.toList.drop 23 = dktX1_isSaid_1 := dk_seg dksX1_isSaid_0 23 rfl rfl
theorem dX1_isSaid_0 : decode cX1_isSaid 0 = .ok (.iconst 0, 1) := dk_3 (dk_at dksX1_isSaid_0 0 rfl rfl)
theorem dX1_isSaid_1 : decode cX1_isSaid 1 = .ok (.istore_n 2, 1) := dk_61 (dk_at dksX1_isSaid_0 1 rfl rfl)
theorem dX1_isSaid_2 : decode cX1_isSaid 2 = .ok (.iload_n 2, 1) := dk_28 (dk_at dksX1_isSaid_0 2 rfl rfl)
theorem dX1_isSaid_3 : decode cX1_isSaid 3 = .ok (.aload_n 0, 1) := dk_42 (dk_at dksX1_isSaid_0 3 rfl rfl)
theorem dX1_isSaid_4 : decode cX1_isSaid 4 = .ok (.getfield 145, 3) := dk_180 0 145 (dk_at dksX1_isSaid_0 4 rfl rfl)
theorem dX1_isSaid_7 : decode cX1_isSaid 7 = .ok (.if_icmp .ge 32, 3) := dk_162 0 32 (dk_at dksX1_isSaid_0 7 rfl rfl)
theorem dX1_isSaid_10 : decode cX1_isSaid 10 = .ok (.iconst 0, 1) := dk_3 (dk_at dksX1_isSaid_0 10 rfl rfl)
theorem dX1_isSaid_11 : decode cX1_isSaid 11 = .ok (.iload_n 1, 1) := dk_27 (dk_at dksX1_isSaid_0 11 rfl rfl)
theorem dX1_isSaid_12 : decode cX1_isSaid 12 = .ok (.aload_n 0, 1) := dk_42 (dk_at dksX1_isSaid_0 12 rfl rfl)
theorem dX1_isSaid_13 : decode cX1_isSaid 13 = .ok (.getfield 58, 3) := dk_180 0 58 (dk_at dksX1_isSaid_0 13 rfl rfl)
theorem dX1_isSaid_16 : decode cX1_isSaid 16 = .ok (.iload_n 2, 1) := dk_28 (dk_at dksX1_isSaid_0 16 rfl rfl)
theorem dX1_isSaid_17 : decode cX1_isSaid 17 = .ok (.iaload, 1) := dk_46 (dk_at dksX1_isSaid_0 17 rfl rfl)
theorem dX1_isSaid_18 : decode cX1_isSaid 18 = .ok (.isub, 1) := dk_100 (dk_at dksX1_isSaid_0 18 rfl rfl)
theorem dX1_isSaid_19 : decode cX1_isSaid 19 = .ok (.invokestatic 347, 3) := dk_184 1 91 (dk_at dksX1_isSaid_0 19 rfl rfl)
theorem dX1_isSaid_22 : decode cX1_isSaid 22 = .ok (.aload_n 0, 1) := dk_42 (dk_at dksX1_isSaid_0 22 rfl rfl)
theorem dX1_isSaid_23 : decode cX1_isSaid 23 = .ok (.getfield 61, 3) := dk_180 0 61 (dk_at dksX1_isSaid_1 0 rfl rfl)
theorem dX1_isSaid_26 : decode cX1_isSaid 26 = .ok (.iload_n 2, 1) := dk_28 (dk_at dksX1_isSaid_1 3 rfl rfl)
theorem dX1_isSaid_27 : decode cX1_isSaid 27 = .ok (.iaload, 1) := dk_46 (dk_at dksX1_isSaid_1 4 rfl rfl)
theorem dX1_isSaid_28 : decode cX1_isSaid 28 = .ok (.if_icmp .eq 5, 3) := dk_159 0 5 (dk_at dksX1_isSaid_1 5 rfl rfl)
theorem dX1_isSaid_31 : decode cX1_isSaid 31 = .ok (.iconst 0, 1) := dk_3 (dk_at dksX1_isSaid_1 8 rfl rfl)
theorem dX1_isSaid_32 : decode cX1_isSaid 32 = .ok (.ireturn, 1) := dk_172 (dk_at dksX1_isSaid_1 9 rfl rfl)
theorem dX1_isSaid_33 : decode cX1_isSaid 33 = .ok (.iinc 2 1, 3) := dk_132 2 1 (dk_at dksX1_isSaid_1 10 rfl rfl)
theorem dX1_isSaid_36 : decode cX1_isSaid 36 = .ok (.goto (-34), 3) := dk_167 255 222 (dk_at dksX1_isSaid_1 13 rfl rfl)
theorem dX1_isSaid_39 : decode cX1_isSaid 39 = .ok (.iconst 1, 1) := dk_4 (dk_at dksX1_isSaid_1 16 rfl rfl)
theorem dX1_isSaid_40 : decode cX1_isSaid 40 = .ok (.ireturn, 1) := dk_172 (dk_at dksX1_isSaid_1 17 rfl rfl)
abbrev cX1_ask : ByteArray := prog_1_method_40_code
def yX1_ask : MethodName := ⟨RX1, "ask", "(II)I"⟩
def dkwX1_ask_5 : List UInt8 := [21, 7, 54, 4, 132, 6, 1, 167, 255, 161, 28, 154, 0, 7, 29, 167, 0, 5, 21, 4, 172]
abbrev dktX1_ask_5 : List UInt8 := dkwX1_ask_5 ++ []
def dkwX1_ask_4 : List UInt8 := [132, 8, 1, 167, 255, 231, 29, 2, 159, 0, 13, 21, 7, 21, 4, 161, 0, 6, 167, 0, 10, 21, 6, 62]
abbrev dktX1_ask_4 : List UInt8 := dkwX1_ask_4 ++ dktX1_ask_5
def dkwX1_ask_3 : List UInt8 := [21, 8, 17, 3, 231, 163, 0, 23, 21, 7, 42, 180, 0, 67, 21, 8, 46, 184, 1, 91, 54, 7]
abbrev dktX1_ask_3 : List UInt8 := dkwX1_ask_3 ++ dktX1_ask_4
def dkwX1_ask_2 : List UInt8 := [54, 5, 42, 21, 6, 182, 1, 104, 153, 0, 6, 167, 0, 63, 21, 5, 54, 7, 21, 6, 4, 96, 54, 8]
abbrev dktX1_ask_2 : List UInt8 := dkwX1_ask_2 ++ dktX1_ask_3
def dkwX1_ask_1 : List UInt8 := [54, 5, 3, 54, 6, 21, 6, 17, 1, 244, 162, 0, 93, 21, 5, 42, 180, 0, 67, 21, 6, 46, 96]
abbrev dktX1_ask_1 : List UInt8 := dkwX1_ask_1 ++ dktX1_ask_2
def dkwX1_ask_0 : List UInt8 := [42, 27, 182, 0, 226, 42, 28, 3, 4, 182, 0, 117, 42, 27, 182, 1, 101, 2, 62, 2, 54, 4, 3]
abbrev dktX1_ask_0 : List UInt8 := dkwX1_ask_0 ++ dktX1_ask_1
theorem dksX1_ask_0 : cX1_ask.data.toList.drop 0 = dktX1_ask_0 := by decide +kernel
theorem dksX1_ask_1 : cX1_ask.data.toList.drop 23 = dktX1_ask_1 := dk_seg dksX1_ask_0 23 rfl rfl
theorem dksX1_ask_2 : cX1_ask.data.toList.drop 46 = dktX1_ask_2 := dk_seg dksX1_ask_1 23 rfl rfl
theorem dksX1_ask_3 : cX1_ask.data.toList.drop 70 = dktX1_ask_3 := dk_seg dksX1_ask_2 24 rfl rfl
theorem dksX1_ask_4 : cX1_ask.data.toList.drop 92 = dktX1_ask_4 := dk_seg dksX1_ask_3 22 rfl rfl
theorem dksX1_ask_5 : cX1_ask.data.toList.drop 116 = dktX1_ask_5 := dk_seg dksX1_ask_4 24 rfl rfl
theorem dX1_ask_0 : decode cX1_ask 0 = .ok (.aload_n 0, 1) := dk_42 (dk_at dksX1_ask_0 0 rfl rfl)
theorem dX1_ask_1 : decode cX1_ask 1 = .ok (.iload_n 1, 1) := dk_27 (dk_at dksX1_ask_0 1 rfl rfl)
theorem dX1_ask_2 : decode cX1_ask 2 = .ok (.invokevirtual 226, 3) := dk_182 0 226 (dk_at dksX1_ask_0 2 rfl rfl)
theorem dX1_ask_5 : decode cX1_ask 5 = .ok (.aload_n 0, 1) := dk_42 (dk_at dksX1_ask_0 5 rfl rfl)
theorem dX1_ask_6 : decode cX1_ask 6 = .ok (.iload_n 2, 1) := dk_28 (dk_at dksX1_ask_0 6 rfl rfl)
theorem dX1_ask_7 : decode cX1_ask 7 = .ok (.iconst 0, 1) := dk_3 (dk_at dksX1_ask_0 7 rfl rfl)
theorem dX1_ask_8 : decode cX1_ask 8 = .ok (.iconst 1, 1) := dk_4 (dk_at dksX1_ask_0 8 rfl rfl)
theorem dX1_ask_9 : decode cX1_ask 9 = .ok (.invokevirtual 117, 3) := dk_182 0 117 (dk_at dksX1_ask_0 9 rfl rfl)
theorem dX1_ask_12 : decode cX1_ask 12 = .ok (.aload_n 0, 1) := dk_42 (dk_at dksX1_ask_0 12 rfl rfl)
theorem dX1_ask_13 : decode cX1_ask 13 = .ok (.iload_n 1, 1) := dk_27 (dk_at dksX1_ask_0 13 rfl rfl)
theorem dX1_ask_14 : decode cX1_ask 14 = .ok (.invokevirtual 357, 3) := dk_182 1 101 (dk_at dksX1_ask_0 14 rfl rfl)
theorem dX1_ask_17 : decode cX1_ask 17 = .ok (.iconst (-1), 1) := dk_2 (dk_at dksX1_ask_0 17 rfl rfl)
theorem dX1_ask_18 : decode cX1_ask 18 = .ok (.istore_n 3, 1) := dk_62 (dk_at dksX1_ask_0 18 rfl rfl)
theorem dX1_ask_19 : decode cX1_ask 19 = .ok (.iconst (-1), 1) := dk_2 (dk_at dksX1_ask_0 19 rfl rfl)
theorem dX1_ask_20 : decode cX1_ask 20 = .ok (.istore 4, 2) := dk_54 4 (dk_at dksX1_ask_0 20 rfl rfl)
theorem dX1_ask_22 : decode cX1_ask 22 = .ok (.iconst 0, 1) := dk_3 (dk_at dksX1_ask_0 22 rfl rfl)
theorem dX1_ask_23 : decode cX1_ask 23 = .ok (.istore 5, 2) := dk_54 5 (dk_at dksX1_ask_1 0 rfl rfl)
theorem dX1_ask_25 : decode cX1_ask 25 = .ok (.iconst 0, 1) := dk_3 (dk_at dksX1_ask_1 2 rfl rfl)
theorem dX1_ask_26 : decode cX1_ask 26 = .ok (.istore 6, 2) := dk_54 6 (dk_at dksX1_ask_1 3 rfl rfl)
theorem dX1_ask_28 : decode cX1_ask 28 = .ok (.iload 6, 2) := dk_21 6 (dk_at dksX1_ask_1 5 rfl rfl)
theorem dX1_ask_30 : decode cX1_ask 30 = .ok (.sipush 500, 3) := dk_17 1 244 (dk_at dksX1_ask_1 7 rfl rfl)
theorem dX1_ask_33 : decode cX1_ask 33 = .ok (.if_icmp .ge 93, 3) := dk_162 0 93 (dk_at dksX1_ask_1 10 rfl rfl)
theorem dX1_ask_36 : decode cX1_ask 36 = .ok (.iload 5, 2) := dk_21 5 (dk_at dksX1_ask_1 13 rfl rfl)
theorem dX1_ask_38 : decode cX1_ask 38 = .ok (.aload_n 0, 1) := dk_42 (dk_at dksX1_ask_1 15 rfl rfl)
theorem dX1_ask_39 : decode cX1_ask 39 = .ok (.getfield 67, 3) := dk_180 0 67 (dk_at dksX1_ask_1 16 rfl rfl)
theorem dX1_ask_42 : decode cX1_ask 42 = .ok (.iload 6, 2) := dk_21 6 (dk_at dksX1_ask_1 19 rfl rfl)
theorem dX1_ask_44 : decode cX1_ask 44 = .ok (.iaload, 1) := dk_46 (dk_at dksX1_ask_1 21 rfl rfl)
theorem dX1_ask_45 : decode cX1_ask 45 = .ok (.iadd, 1) := dk_96 (dk_at dksX1_ask_1 22 rfl rfl)
theorem dX1_ask_46 : decode cX1_ask 46 = .ok (.istore 5, 2) := dk_54 5 (dk_at dksX1_ask_2 0 rfl rfl)
theorem dX1_ask_48 : decode cX1_ask 48 = .ok (.aload_n 0, 1) := dk_42 (dk_at dksX1_ask_2 2 rfl rfl)
theorem dX1_ask_49 : decode cX1_ask 49 = .ok (.iload 6, 2) := dk_21 6 (dk_at dksX1_ask_2 3 rfl rfl)
theorem dX1_ask_51 : decode cX1_ask 51 = .ok (.invokevirtual 360, 3) := dk_182 1 104 (dk_at dksX1_ask_2 5 rfl rfl)
theorem dX1_ask_54 : decode cX1_ask 54 = .ok (.ifCond .eq 6, 3) := dk_153 0 6 (dk_at dksX1_ask_2 8 rfl rfl)
theorem dX1_ask_57 : decode cX1_ask 57 = .ok (.goto 63, 3) := dk_167 0 63 (dk_at dksX1_ask_2 11 rfl rfl)
theorem dX1_ask_60 : decode cX1_ask 60 = .ok (.iload 5, 2) := dk_21 5 (dk_at dksX1_ask_2 14 rfl rfl)
theorem dX1_ask_62 : decode cX1_ask 62 = .ok (.istore 7, 2) := dk_54 7 (dk_at dksX1_ask_2 16 rfl rfl)
theorem dX1_ask_64 : decode cX1_ask 64 = .ok (.iload 6, 2) := dk_21 6 (dk_at dksX1_ask_2 18 rfl rfl)
theorem dX1_ask_66 : decode cX1_ask 66 = .ok (.iconst 1, 1) := dk_4 (dk_at dksX1_ask_2 20 rfl rfl)
theorem dX1_ask_67 : decode cX1_ask 67 = .ok (.iadd, 1) := dk_96 (dk_at dksX1_ask_2 21 rfl rfl)
theorem dX1_ask_68 : decode cX1_ask 68 = .ok (.istore 8, 2) := dk_54 8 (dk_at dksX1_ask_2 22 rfl rfl)
theorem dX1_ask_70 : decode cX1_ask 70 = .ok (.iload 8, 2) := dk_21 8 (dk_at dksX1_ask_3 0 rfl rfl)
theorem dX1_ask_72 : decode cX1_ask 72 = .ok (.sipush 999, 3) := dk_17 3 231 (dk_at dksX1_ask_3 2 rfl rfl)
theorem dX1_ask_75 : decode cX1_ask 75 = .ok (.if_icmp .gt 23, 3) := dk_163 0 23 (dk_at dksX1_ask_3 5 rfl rfl)
theorem dX1_ask_78 : decode cX1_ask 78 = .ok (.iload 7, 2) := dk_21 7 (dk_at dksX1_ask_3 8 rfl rfl)
theorem dX1_ask_80 : decode cX1_ask 80 = .ok (.aload_n 0, 1) := dk_42 (dk_at dksX1_ask_3 10 rfl rfl)
theorem dX1_ask_81 : decode cX1_ask 81 = .ok (.getfield 67, 3) := dk_180 0 67 (dk_at dksX1_ask_3 11 rfl rfl)
theorem dX1_ask_84 : decode cX1_ask 84 = .ok (.iload 8, 2) := dk_21 8 (dk_at dksX1_ask_3 14 rfl rfl)
theorem dX1_ask_86 : decode cX1_ask 86 = .ok (.iaload, 1) := dk_46 (dk_at dksX1_ask_3 16 rfl rfl)
theorem dX1_ask_87 : decode cX1_ask 87 = .ok (.invokestatic 347, 3) := dk_184 1 91 (dk_at dksX1_ask_3 17 rfl rfl)
theorem dX1_ask_90 : decode cX1_ask 90 = .ok (.istore 7, 2) := dk_54 7 (dk_at dksX1_ask_3 20 rfl rfl)
theorem dX1_ask_92 : decode cX1_ask 92 = .ok (.iinc 8 1, 3) := dk_132 8 1 (dk_at dksX1_ask_4 0 rfl rfl)
theorem dX1_ask_95 : decode cX1_ask 95 = .ok (.goto (-25), 3) := dk_167 255 231 (dk_at dksX1_ask_4 3 rfl rfl)
theorem dX1_ask_98 : decode cX1_ask 98 = .ok (.iload_n 3, 1) := dk_29 (dk_at dksX1_ask_4 6 rfl rfl)
theorem dX1_ask_99 : decode cX1_ask 99 = .ok (.iconst (-1), 1) := dk_2 (dk_at dksX1_ask_4 7 rfl rfl)
theorem dX1_ask_100 : decode cX1_ask 100 = .ok (.if_icmp .eq 13, 3) := dk_159 0 13 (dk_at dksX1_ask_4 8 rfl rfl)
theorem dX1_ask_103 : decode cX1_ask 103 = .ok (.iload 7, 2) := dk_21 7 (dk_at dksX1_ask_4 11 rfl rfl)
theorem dX1_ask_105 : decode cX1_ask 105 = .ok (.iload 4, 2) := dk_21 4 (dk_at dksX1_ask_4 13 rfl rfl)
theorem dX1_ask_107 : decode cX1_ask 107 = .ok (.if_icmp .lt 6, 3) := dk_161 0 6 (dk_at dksX1_ask_4 15 rfl rfl)
theorem dX1_ask_110 : decode cX1_ask 110 = .ok (.goto 10, 3) := dk_167 0 10 (dk_at dksX1_ask_4 18 rfl rfl)
theorem dX1_ask_113 : decode cX1_ask 113 = .ok (.iload 6, 2) := dk_21 6 (dk_at dksX1_ask_4 21 rfl rfl)
theorem dX1_ask_115 : decode cX1_ask 115 = .ok (.istore_n 3, 1) := dk_62 (dk_at dksX1_ask_4 23 rfl rfl)
theorem dX1_ask_116 : decode cX1_ask 116 = .ok (.iload 7, 2) := dk_21 7 (dk_at dksX1_ask_5 0 rfl rfl)
theorem dX1_ask_118 : decode cX1_ask 118 = .ok (.istore 4, 2) := dk_54 4 (dk_at dksX1_ask_5 2 rfl rfl)
theorem dX1_ask_120 : decode cX1_ask 120 = .ok (.iinc 6 1, 3) := dk_132 6 1 (dk_at dksX1_ask_5 4 rfl rfl)
theorem dX1_ask_123 : decode cX1_ask 123 = .ok (.goto (-95), 3) := dk_167 255 161 (dk_at dksX1_ask_5 7 rfl rfl)
theorem dX1_ask_126 : decode cX1_ask 126 = .ok (.iload_n 2, 1) := dk_28 (dk_at dksX1_ask_5 10 rfl rfl)
theorem dX1_ask_127 : decode cX1_ask 127 = .ok (.ifCond .ne 7, 3) := dk_154 0 7 (dk_at dksX1_ask_5 11 rfl rfl)
theorem dX1_ask_130 : decode cX1_ask 130 = .ok (.iload_n 3, 1) := dk_29 (dk_at dksX1_ask_5 14 rfl rfl)
theorem dX1_ask_131 : decode cX1_ask 131 = .ok (.goto 5, 3) := dk_167 0 5 (dk_at dksX1_ask_5 15 rfl rfl)
theorem dX1_ask_134 : decode cX1_ask 134 = .ok (.iload 4, 2) := dk_21 4 (dk_at dksX1_ask_5 18 rfl rfl)
theorem dX1_ask_136 : decode cX1_ask 136 = .ok (.ireturn, 1) := dk_172 (dk_at dksX1_ask_5 20 rfl rfl)
abbrev cX1_counts : ByteArray := prog_1_method_39_code
def yX1_counts : MethodName := ⟨RX1, "counts", "(I)V"⟩
def dkwX1_counts_3 : List UInt8 := [96, 79, 132, 3, 1, 167, 255, 211, 132, 2, 1, 167, 255, 197, 177]
abbrev dktX1_counts_3 : List UInt8 := dkwX1_counts_3 ++ []
def dkwX1_counts_2 : List UInt8 := [3, 182, 1, 94, 54, 4, 42, 21, 4, 182, 1, 98, 153, 0, 14, 42, 180, 0, 67, 21, 4, 92, 46, 4]
abbrev dktX1_counts_2 : List UInt8 := dkwX1_counts_2 ++ dktX1_counts_3
def dkwX1_counts_1 : List UInt8 := [28, 16, 9, 163, 0, 59, 3, 62, 29, 16, 24, 163, 0, 45, 42, 180, 0, 25, 182, 0, 81, 27, 28, 29]
abbrev dktX1_counts_1 : List UInt8 := dkwX1_counts_1 ++ dktX1_counts_2
def dkwX1_counts_0 : List UInt8 := [3, 61, 28, 17, 3, 231, 163, 0, 16, 42, 180, 0, 67, 28, 3, 79, 132, 2, 1, 167, 255, 239, 4, 61]
abbrev dktX1_counts_0 : List UInt8 := dkwX1_counts_0 ++ dktX1_counts_1
theorem dksX1_counts_0 : cX1_counts.data.toList.drop 0 = dktX1_counts_0 := by decide +kernel
theorem dksX1_counts_1 : cX1_counts.data.toList.drop 24 = dktX1_counts_1 := dk_seg dksX1_counts_0 24 rfl rfl
theorem dksX1_counts_2 : cX1_counts.data.toList.drop 48 = dktX1_counts_2 := dk_seg dksX1_counts_1 24 rfl rfl
theorem dksX1_counts_3 : cX1_counts.data.toList.drop 72 = dktX1_counts_3 := dk_seg dksX1_counts_2 24 rfl rfl
theorem dX1_counts_0 : decode cX1_counts 0 = .ok (.iconst 0, 1) := dk_3 (dk_at dksX1_counts_0 0 rfl rfl)
theorem dX1_counts_1 : decode cX1_counts 1 = .ok (.istore_n 2, 1) := dk_61 (dk_at dksX1_counts_0 1 rfl rfl)
theorem dX1_counts_2 : decode cX1_counts 2 = .ok (.iload_n 2, 1) := dk_28 (dk_at dksX1_counts_0 2 rfl rfl)
theorem dX1_counts_3 : decode cX1_counts 3 = .ok (.sipush 999, 3) := dk_17 3 231 (dk_at dksX1_counts_0 3 rfl rfl)
theorem dX1_counts_6 : decode cX1_counts 6 = .ok (.if_icmp .gt 16, 3) := dk_163 0 16 (dk_at dksX1_counts_0 6 rfl rfl)
theorem dX1_counts_9 : decode cX1_counts 9 = .ok (.aload_n 0, 1) := dk_42 (dk_at dksX1_counts_0 9 rfl rfl)
theorem dX1_counts_10 : decode cX1_counts 10 = .ok (.getfield 67, 3) := dk_180 0 67 (dk_at dksX1_counts_0 10 rfl rfl)
theorem dX1_counts_13 : decode cX1_counts 13 = .ok (.iload_n 2, 1) := dk_28 (dk_at dksX1_counts_0 13 rfl rfl)
theorem dX1_counts_14 : decode cX1_counts 14 = .ok (.iconst 0, 1) := dk_3 (dk_at dksX1_counts_0 14 rfl rfl)
theorem dX1_counts_15 : decode cX1_counts 15 = .ok (.iastore, 1) := dk_79 (dk_at dksX1_counts_0 15 rfl rfl)
theorem dX1_counts_16 : decode cX1_counts 16 = .ok (.iinc 2 1, 3) := dk_132 2 1 (dk_at dksX1_counts_0 16 rfl rfl)
theorem dX1_counts_19 : decode cX1_counts 19 = .ok (.goto (-17), 3) := dk_167 255 239 (dk_at dksX1_counts_0 19 rfl rfl)
theorem dX1_counts_22 : decode cX1_counts 22 = .ok (.iconst 1, 1) := dk_4 (dk_at dksX1_counts_0 22 rfl rfl)
theorem dX1_counts_23 : decode cX1_counts 23 = .ok (.istore_n 2, 1) := dk_61 (dk_at dksX1_counts_0 23 rfl rfl)
theorem dX1_counts_24 : decode cX1_counts 24 = .ok (.iload_n 2, 1) := dk_28 (dk_at dksX1_counts_1 0 rfl rfl)
theorem dX1_counts_25 : decode cX1_counts 25 = .ok (.bipush 9, 2) := dk_16 9 (dk_at dksX1_counts_1 1 rfl rfl)
theorem dX1_counts_27 : decode cX1_counts 27 = .ok (.if_icmp .gt 59, 3) := dk_163 0 59 (dk_at dksX1_counts_1 3 rfl rfl)
theorem dX1_counts_30 : decode cX1_counts 30 = .ok (.iconst 0, 1) := dk_3 (dk_at dksX1_counts_1 6 rfl rfl)
theorem dX1_counts_31 : decode cX1_counts 31 = .ok (.istore_n 3, 1) := dk_62 (dk_at dksX1_counts_1 7 rfl rfl)
theorem dX1_counts_32 : decode cX1_counts 32 = .ok (.iload_n 3, 1) := dk_29 (dk_at dksX1_counts_1 8 rfl rfl)
theorem dX1_counts_33 : decode cX1_counts 33 = .ok (.bipush 24, 2) := dk_16 24 (dk_at dksX1_counts_1 9 rfl rfl)
theorem dX1_counts_35 : decode cX1_counts 35 = .ok (.if_icmp .gt 45, 3) := dk_163 0 45 (dk_at dksX1_counts_1 11 rfl rfl)
theorem dX1_counts_38 : decode cX1_counts 38 = .ok (.aload_n 0, 1) := dk_42 (dk_at dksX1_counts_1 14 rfl rfl)
theorem dX1_counts_39 : decode cX1_counts 39 = .ok (.getfield 25, 3) := dk_180 0 25 (dk_at dksX1_counts_1 15 rfl rfl)
theorem dX1_counts_42 : decode cX1_counts 42 = .ok (.invokevirtual 81, 3) := dk_182 0 81 (dk_at dksX1_counts_1 18 rfl rfl)
theorem dX1_counts_45 : decode cX1_counts 45 = .ok (.iload_n 1, 1) := dk_27 (dk_at dksX1_counts_1 21 rfl rfl)
theorem dX1_counts_46 : decode cX1_counts 46 = .ok (.iload_n 2, 1) := dk_28 (dk_at dksX1_counts_1 22 rfl rfl)
theorem dX1_counts_47 : decode cX1_counts 47 = .ok (.iload_n 3, 1) := dk_29 (dk_at dksX1_counts_1 23 rfl rfl)
theorem dX1_counts_48 : decode cX1_counts 48 = .ok (.iconst 0, 1) := dk_3 (dk_at dksX1_counts_2 0 rfl rfl)
theorem dX1_counts_49 : decode cX1_counts 49 = .ok (.invokevirtual 350, 3) := dk_182 1 94 (dk_at dksX1_counts_2 1 rfl rfl)
theorem dX1_counts_52 : decode cX1_counts 52 = .ok (.istore 4, 2) := dk_54 4 (dk_at dksX1_counts_2 4 rfl rfl)
theorem dX1_counts_54 : decode cX1_counts 54 = .ok (.aload_n 0, 1) := dk_42 (dk_at dksX1_counts_2 6 rfl rfl)
theorem dX1_counts_55 : decode cX1_counts 55 = .ok (.iload 4, 2) := dk_21 4 (dk_at dksX1_counts_2 7 rfl rfl)
theorem dX1_counts_57 : decode cX1_counts 57 = .ok (.invokevirtual 354, 3) := dk_182 1 98 (dk_at dksX1_counts_2 9 rfl rfl)
theorem dX1_counts_60 : decode cX1_counts 60 = .ok (.ifCond .eq 14, 3) := dk_153 0 14 (dk_at dksX1_counts_2 12 rfl rfl)
theorem dX1_counts_63 : decode cX1_counts 63 = .ok (.aload_n 0, 1) := dk_42 (dk_at dksX1_counts_2 15 rfl rfl)
theorem dX1_counts_64 : decode cX1_counts 64 = .ok (.getfield 67, 3) := dk_180 0 67 (dk_at dksX1_counts_2 16 rfl rfl)
theorem dX1_counts_67 : decode cX1_counts 67 = .ok (.iload 4, 2) := dk_21 4 (dk_at dksX1_counts_2 19 rfl rfl)
theorem dX1_counts_69 : decode cX1_counts 69 = .ok (.dup2, 1) := dk_92 (dk_at dksX1_counts_2 21 rfl rfl)
theorem dX1_counts_70 : decode cX1_counts 70 = .ok (.iaload, 1) := dk_46 (dk_at dksX1_counts_2 22 rfl rfl)
theorem dX1_counts_71 : decode cX1_counts 71 = .ok (.iconst 1, 1) := dk_4 (dk_at dksX1_counts_2 23 rfl rfl)
theorem dX1_counts_72 : decode cX1_counts 72 = .ok (.iadd, 1) := dk_96 (dk_at dksX1_counts_3 0 rfl rfl)
theorem dX1_counts_73 : decode cX1_counts 73 = .ok (.iastore, 1) := dk_79 (dk_at dksX1_counts_3 1 rfl rfl)
theorem dX1_counts_74 : decode cX1_counts 74 = .ok (.iinc 3 1, 3) := dk_132 3 1 (dk_at dksX1_counts_3 2 rfl rfl)
theorem dX1_counts_77 : decode cX1_counts 77 = .ok (.goto (-45), 3) := dk_167 255 211 (dk_at dksX1_counts_3 5 rfl rfl)
theorem dX1_counts_80 : decode cX1_counts 80 = .ok (.iinc 2 1, 3) := dk_132 2 1 (dk_at dksX1_counts_3 8 rfl rfl)
theorem dX1_counts_83 : decode cX1_counts 83 = .ok (.goto (-59), 3) := dk_167 255 197 (dk_at dksX1_counts_3 11 rfl rfl)
theorem dX1_counts_86 : decode cX1_counts 86 = .ok (.return_, 1) := dk_177 (dk_at dksX1_counts_3 14 rfl rfl)
abbrev cX1_isTold : ByteArray := prog_1_method_38_code
def yX1_isTold : MethodName := ⟨RX1, "isTold", "(I)Z"⟩
def dkwX1_isTold_1 : List UInt8 := [132, 2, 1, 167, 255, 233, 3, 172]
abbrev dktX1_isTold_1 : List UInt8 := dkwX1_isTold_1 ++ []
def dkwX1_isTold_0 : List UInt8 := [3, 61, 28, 42, 180, 0, 145, 162, 0, 21, 42, 180, 0, 58, 28, 46, 27, 160, 0, 5, 4, 172]
abbrev dktX1_isTold_0 : List UInt8 := dkwX1_isTold_0 ++ dktX1_isTold_1
theorem dksX1_isTold_0 : cX1_isTold.data.toList.drop 0 = dktX1_isTold_0 := by decide +kernel
theorem dksX1_isTold_1 : cX1_isTold.data.toList.drop 22 = dktX1_isTold_1 := dk_seg dksX1_isTold_0 22 rfl rfl
theorem dX1_isTold_0 : decode cX1_isTold 0 = .ok (.iconst 0, 1) := dk_3 (dk_at dksX1_isTold_0 0 rfl rfl)
theorem dX1_isTold_1 : decode cX1_isTold 1 = .ok (.istore_n 2, 1) := dk_61 (dk_at dksX1_isTold_0 1 rfl rfl)
theorem dX1_isTold_2 : decode cX1_isTold 2 = .ok (.iload_n 2, 1) := dk_28 (dk_at dksX1_isTold_0 2 rfl rfl)
theorem dX1_isTold_3 : decode cX1_isTold 3 = .ok (.aload_n 0, 1) := dk_42 (dk_at dksX1_isTold_0 3 rfl rfl)
theorem dX1_isTold_4 : decode cX1_isTold 4 = .ok (.getfield 145, 3) := dk_180 0 145 (dk_at dksX1_isTold_0 4 rfl rfl)
theorem dX1_isTold_7 : decode cX1_isTold 7 = .ok (.if_icmp .ge 21, 3) := dk_162 0 21 (dk_at dksX1_isTold_0 7 rfl rfl)
theorem dX1_isTold_10 : decode cX1_isTold 10 = .ok (.aload_n 0, 1) := dk_42 (dk_at dksX1_isTold_0 10 rfl rfl)
theorem dX1_isTold_11 : decode cX1_isTold 11 = .ok (.getfield 58, 3) := dk_180 0 58 (dk_at dksX1_isTold_0 11 rfl rfl)
theorem dX1_isTold_14 : decode cX1_isTold 14 = .ok (.iload_n 2, 1) := dk_28 (dk_at dksX1_isTold_0 14 rfl rfl)
theorem dX1_isTold_15 : decode cX1_isTold 15 = .ok (.iaload, 1) := dk_46 (dk_at dksX1_isTold_0 15 rfl rfl)
theorem dX1_isTold_16 : decode cX1_isTold 16 = .ok (.iload_n 1, 1) := dk_27 (dk_at dksX1_isTold_0 16 rfl rfl)
theorem dX1_isTold_17 : decode cX1_isTold 17 = .ok (.if_icmp .ne 5, 3) := dk_160 0 5 (dk_at dksX1_isTold_0 17 rfl rfl)
theorem dX1_isTold_20 : decode cX1_isTold 20 = .ok (.iconst 1, 1) := dk_4 (dk_at dksX1_isTold_0 20 rfl rfl)
theorem dX1_isTold_21 : decode cX1_isTold 21 = .ok (.ireturn, 1) := dk_172 (dk_at dksX1_isTold_0 21 rfl rfl)
theorem dX1_isTold_22 : decode cX1_isTold 22 = .ok (.iinc 2 1, 3) := dk_132 2 1 (dk_at dksX1_isTold_1 0 rfl rfl)
theorem dX1_isTold_25 : decode cX1_isTold 25 = .ok (.goto (-23), 3) := dk_167 255 233 (dk_at dksX1_isTold_1 3 rfl rfl)
theorem dX1_isTold_28 : decode cX1_isTold 28 = .ok (.iconst 0, 1) := dk_3 (dk_at dksX1_isTold_1 6 rfl rfl)
theorem dX1_isTold_29 : decode cX1_isTold 29 = .ok (.ireturn, 1) := dk_172 (dk_at dksX1_isTold_1 7 rfl rfl)
abbrev cX1_court : ByteArray := prog_1_method_45_code
def yX1_court : MethodName := ⟨RX1, "court", "(III)J"⟩
def dkwX1_court_1 : List UInt8 := [4, 96, 28, 184, 1, 107, 27, 184, 1, 114, 29, 184, 1, 118, 173]
abbrev dktX1_court_1 : List UInt8 := dkwX1_court_1 ++ []
def dkwX1_court_0 : List UInt8 := [42, 27, 182, 1, 111, 42, 28, 3, 16, 16, 182, 0, 117, 42, 29, 3, 4, 182, 0, 117, 27, 27, 5, 108]
abbrev dktX1_court_0 : List UInt8 := dkwX1_court_0 ++ dktX1_court_1
theorem dksX1_court_0 : cX1_court.data.toList.drop 0 = dktX1_court_0 := by decide +kernel
theorem dksX1_court_1 : cX1_court.data.toList.drop 24 = dktX1_court_1 := dk_seg dksX1_court_0 24 rfl rfl
theorem dX1_court_0 : decode cX1_court 0 = .ok (.aload_n 0, 1) := dk_42 (dk_at dksX1_court_0 0 rfl rfl)
theorem dX1_court_1 : decode cX1_court 1 = .ok (.iload_n 1, 1) := dk_27 (dk_at dksX1_court_0 1 rfl rfl)
theorem dX1_court_2 : decode cX1_court 2 = .ok (.invokevirtual 367, 3) := dk_182 1 111 (dk_at dksX1_court_0 2 rfl rfl)
theorem dX1_court_5 : decode cX1_court 5 = .ok (.aload_n 0, 1) := dk_42 (dk_at dksX1_court_0 5 rfl rfl)
theorem dX1_court_6 : decode cX1_court 6 = .ok (.iload_n 2, 1) := dk_28 (dk_at dksX1_court_0 6 rfl rfl)
theorem dX1_court_7 : decode cX1_court 7 = .ok (.iconst 0, 1) := dk_3 (dk_at dksX1_court_0 7 rfl rfl)
theorem dX1_court_8 : decode cX1_court 8 = .ok (.bipush 16, 2) := dk_16 16 (dk_at dksX1_court_0 8 rfl rfl)
theorem dX1_court_10 : decode cX1_court 10 = .ok (.invokevirtual 117, 3) := dk_182 0 117 (dk_at dksX1_court_0 10 rfl rfl)
theorem dX1_court_13 : decode cX1_court 13 = .ok (.aload_n 0, 1) := dk_42 (dk_at dksX1_court_0 13 rfl rfl)
theorem dX1_court_14 : decode cX1_court 14 = .ok (.iload_n 3, 1) := dk_29 (dk_at dksX1_court_0 14 rfl rfl)
theorem dX1_court_15 : decode cX1_court 15 = .ok (.iconst 0, 1) := dk_3 (dk_at dksX1_court_0 15 rfl rfl)
theorem dX1_court_16 : decode cX1_court 16 = .ok (.iconst 1, 1) := dk_4 (dk_at dksX1_court_0 16 rfl rfl)
theorem dX1_court_17 : decode cX1_court 17 = .ok (.invokevirtual 117, 3) := dk_182 0 117 (dk_at dksX1_court_0 17 rfl rfl)
theorem dX1_court_20 : decode cX1_court 20 = .ok (.iload_n 1, 1) := dk_27 (dk_at dksX1_court_0 20 rfl rfl)
theorem dX1_court_21 : decode cX1_court 21 = .ok (.iload_n 1, 1) := dk_27 (dk_at dksX1_court_0 21 rfl rfl)
theorem dX1_court_22 : decode cX1_court 22 = .ok (.iconst 2, 1) := dk_5 (dk_at dksX1_court_0 22 rfl rfl)
theorem dX1_court_23 : decode cX1_court 23 = .ok (.idiv, 1) := dk_108 (dk_at dksX1_court_0 23 rfl rfl)
theorem dX1_court_24 : decode cX1_court 24 = .ok (.iconst 1, 1) := dk_4 (dk_at dksX1_court_1 0 rfl rfl)
theorem dX1_court_25 : decode cX1_court 25 = .ok (.iadd, 1) := dk_96 (dk_at dksX1_court_1 1 rfl rfl)
theorem dX1_court_26 : decode cX1_court 26 = .ok (.iload_n 2, 1) := dk_28 (dk_at dksX1_court_1 2 rfl rfl)
theorem dX1_court_27 : decode cX1_court 27 = .ok (.invokestatic 363, 3) := dk_184 1 107 (dk_at dksX1_court_1 3 rfl rfl)
theorem dX1_court_30 : decode cX1_court 30 = .ok (.iload_n 1, 1) := dk_27 (dk_at dksX1_court_1 6 rfl rfl)
theorem dX1_court_31 : decode cX1_court 31 = .ok (.invokestatic 370, 3) := dk_184 1 114 (dk_at dksX1_court_1 7 rfl rfl)
theorem dX1_court_34 : decode cX1_court 34 = .ok (.iload_n 3, 1) := dk_29 (dk_at dksX1_court_1 10 rfl rfl)
theorem dX1_court_35 : decode cX1_court 35 = .ok (.invokestatic 374, 3) := dk_184 1 118 (dk_at dksX1_court_1 11 rfl rfl)
theorem dX1_court_38 : decode cX1_court 38 = .ok (.lreturn, 1) := dk_173 (dk_at dksX1_court_1 14 rfl rfl)
abbrev cX1_odd : ByteArray := prog_1_method_44_code
def yX1_odd : MethodName := ⟨RX1, "odd", "(I)V"⟩
def dkwX1_odd_0 : List UInt8 := [42, 27, 5, 112, 154, 0, 7, 3, 167, 0, 4, 27, 4, 16, 9, 182, 0, 117, 177]
abbrev dktX1_odd_0 : List UInt8 := dkwX1_odd_0 ++ []
theorem dksX1_odd_0 : cX1_odd.data.toList.drop 0 = dktX1_odd_0 := by decide +kernel
theorem dX1_odd_0 : decode cX1_odd 0 = .ok (.aload_n 0, 1) := dk_42 (dk_at dksX1_odd_0 0 rfl rfl)
theorem dX1_odd_1 : decode cX1_odd 1 = .ok (.iload_n 1, 1) := dk_27 (dk_at dksX1_odd_0 1 rfl rfl)
theorem dX1_odd_2 : decode cX1_odd 2 = .ok (.iconst 2, 1) := dk_5 (dk_at dksX1_odd_0 2 rfl rfl)
theorem dX1_odd_3 : decode cX1_odd 3 = .ok (.irem, 1) := dk_112 (dk_at dksX1_odd_0 3 rfl rfl)
theorem dX1_odd_4 : decode cX1_odd 4 = .ok (.ifCond .ne 7, 3) := dk_154 0 7 (dk_at dksX1_odd_0 4 rfl rfl)
theorem dX1_odd_7 : decode cX1_odd 7 = .ok (.iconst 0, 1) := dk_3 (dk_at dksX1_odd_0 7 rfl rfl)
theorem dX1_odd_8 : decode cX1_odd 8 = .ok (.goto 4, 3) := dk_167 0 4 (dk_at dksX1_odd_0 8 rfl rfl)
theorem dX1_odd_11 : decode cX1_odd 11 = .ok (.iload_n 1, 1) := dk_27 (dk_at dksX1_odd_0 11 rfl rfl)
theorem dX1_odd_12 : decode cX1_odd 12 = .ok (.iconst 1, 1) := dk_4 (dk_at dksX1_odd_0 12 rfl rfl)
theorem dX1_odd_13 : decode cX1_odd 13 = .ok (.bipush 9, 2) := dk_16 9 (dk_at dksX1_odd_0 13 rfl rfl)
theorem dX1_odd_15 : decode cX1_odd 15 = .ok (.invokevirtual 117, 3) := dk_182 0 117 (dk_at dksX1_odd_0 15 rfl rfl)
theorem dX1_odd_18 : decode cX1_odd 18 = .ok (.return_, 1) := dk_177 (dk_at dksX1_odd_0 18 rfl rfl)
abbrev cX1_rights : ByteArray := prog_1_method_42_code
def yX1_rights : MethodName := ⟨RX1, "rights", "(III)J"⟩
def dkwX1_rights_1 : List UInt8 := [184, 1, 91, 28, 184, 1, 107, 105, 16, 16, 28, 100, 133, 26, 4, 100, 27, 28, 184, 1, 107, 105, 97, 173]
abbrev dktX1_rights_1 : List UInt8 := dkwX1_rights_1 ++ []
def dkwX1_rights_0 : List UInt8 := [27, 26, 164, 0, 5, 9, 173, 26, 154, 0, 5, 10, 173, 28, 133, 26, 4, 100, 3, 27, 4, 100]
abbrev dktX1_rights_0 : List UInt8 := dkwX1_rights_0 ++ dktX1_rights_1
theorem dksX1_rights_0 : cX1_rights.data.toList.drop 0 = dktX1_rights_0 := by decide +kernel
theorem dksX1_rights_1 : cX1_rights.data.toList.drop 22 = dktX1_rights_1 := dk_seg dksX1_rights_0 22 rfl rfl
theorem dX1_rights_0 : decode cX1_rights 0 = .ok (.iload_n 1, 1) := dk_27 (dk_at dksX1_rights_0 0 rfl rfl)
theorem dX1_rights_1 : decode cX1_rights 1 = .ok (.iload_n 0, 1) := dk_26 (dk_at dksX1_rights_0 1 rfl rfl)
theorem dX1_rights_2 : decode cX1_rights 2 = .ok (.if_icmp .le 5, 3) := dk_164 0 5 (dk_at dksX1_rights_0 2 rfl rfl)
theorem dX1_rights_5 : decode cX1_rights 5 = .ok (.lconst 0, 1) := dk_9 (dk_at dksX1_rights_0 5 rfl rfl)
theorem dX1_rights_6 : decode cX1_rights 6 = .ok (.lreturn, 1) := dk_173 (dk_at dksX1_rights_0 6 rfl rfl)
theorem dX1_rights_7 : decode cX1_rights 7 = .ok (.iload_n 0, 1) := dk_26 (dk_at dksX1_rights_0 7 rfl rfl)
theorem dX1_rights_8 : decode cX1_rights 8 = .ok (.ifCond .ne 5, 3) := dk_154 0 5 (dk_at dksX1_rights_0 8 rfl rfl)
theorem dX1_rights_11 : decode cX1_rights 11 = .ok (.lconst 1, 1) := dk_10 (dk_at dksX1_rights_0 11 rfl rfl)
theorem dX1_rights_12 : decode cX1_rights 12 = .ok (.lreturn, 1) := dk_173 (dk_at dksX1_rights_0 12 rfl rfl)
theorem dX1_rights_13 : decode cX1_rights 13 = .ok (.iload_n 2, 1) := dk_28 (dk_at dksX1_rights_0 13 rfl rfl)
theorem dX1_rights_14 : decode cX1_rights 14 = .ok (.i2l, 1) := dk_133 (dk_at dksX1_rights_0 14 rfl rfl)
theorem dX1_rights_15 : decode cX1_rights 15 = .ok (.iload_n 0, 1) := dk_26 (dk_at dksX1_rights_0 15 rfl rfl)
theorem dX1_rights_16 : decode cX1_rights 16 = .ok (.iconst 1, 1) := dk_4 (dk_at dksX1_rights_0 16 rfl rfl)
theorem dX1_rights_17 : decode cX1_rights 17 = .ok (.isub, 1) := dk_100 (dk_at dksX1_rights_0 17 rfl rfl)
theorem dX1_rights_18 : decode cX1_rights 18 = .ok (.iconst 0, 1) := dk_3 (dk_at dksX1_rights_0 18 rfl rfl)
theorem dX1_rights_19 : decode cX1_rights 19 = .ok (.iload_n 1, 1) := dk_27 (dk_at dksX1_rights_0 19 rfl rfl)
theorem dX1_rights_20 : decode cX1_rights 20 = .ok (.iconst 1, 1) := dk_4 (dk_at dksX1_rights_0 20 rfl rfl)
theorem dX1_rights_21 : decode cX1_rights 21 = .ok (.isub, 1) := dk_100 (dk_at dksX1_rights_0 21 rfl rfl)
theorem dX1_rights_22 : decode cX1_rights 22 = .ok (.invokestatic 347, 3) := dk_184 1 91 (dk_at dksX1_rights_1 0 rfl rfl)
theorem dX1_rights_25 : decode cX1_rights 25 = .ok (.iload_n 2, 1) := dk_28 (dk_at dksX1_rights_1 3 rfl rfl)
theorem dX1_rights_26 : decode cX1_rights 26 = .ok (.invokestatic 363, 3) := dk_184 1 107 (dk_at dksX1_rights_1 4 rfl rfl)
theorem dX1_rights_29 : decode cX1_rights 29 = .ok (.lmul, 1) := dk_105 (dk_at dksX1_rights_1 7 rfl rfl)
theorem dX1_rights_30 : decode cX1_rights 30 = .ok (.bipush 16, 2) := dk_16 16 (dk_at dksX1_rights_1 8 rfl rfl)
theorem dX1_rights_32 : decode cX1_rights 32 = .ok (.iload_n 2, 1) := dk_28 (dk_at dksX1_rights_1 10 rfl rfl)
theorem dX1_rights_33 : decode cX1_rights 33 = .ok (.isub, 1) := dk_100 (dk_at dksX1_rights_1 11 rfl rfl)
theorem dX1_rights_34 : decode cX1_rights 34 = .ok (.i2l, 1) := dk_133 (dk_at dksX1_rights_1 12 rfl rfl)
theorem dX1_rights_35 : decode cX1_rights 35 = .ok (.iload_n 0, 1) := dk_26 (dk_at dksX1_rights_1 13 rfl rfl)
theorem dX1_rights_36 : decode cX1_rights 36 = .ok (.iconst 1, 1) := dk_4 (dk_at dksX1_rights_1 14 rfl rfl)
theorem dX1_rights_37 : decode cX1_rights 37 = .ok (.isub, 1) := dk_100 (dk_at dksX1_rights_1 15 rfl rfl)
theorem dX1_rights_38 : decode cX1_rights 38 = .ok (.iload_n 1, 1) := dk_27 (dk_at dksX1_rights_1 16 rfl rfl)
theorem dX1_rights_39 : decode cX1_rights 39 = .ok (.iload_n 2, 1) := dk_28 (dk_at dksX1_rights_1 17 rfl rfl)
theorem dX1_rights_40 : decode cX1_rights 40 = .ok (.invokestatic 363, 3) := dk_184 1 107 (dk_at dksX1_rights_1 18 rfl rfl)
theorem dX1_rights_43 : decode cX1_rights 43 = .ok (.lmul, 1) := dk_105 (dk_at dksX1_rights_1 21 rfl rfl)
theorem dX1_rights_44 : decode cX1_rights 44 = .ok (.ladd, 1) := dk_97 (dk_at dksX1_rights_1 22 rfl rfl)
theorem dX1_rights_45 : decode cX1_rights 45 = .ok (.lreturn, 1) := dk_173 (dk_at dksX1_rights_1 23 rfl rfl)
abbrev cX1_whole : ByteArray := prog_1_method_43_code
def yX1_whole : MethodName := ⟨RX1, "whole", "(I)J"⟩
def dkwX1_whole_0 : List UInt8 := [10, 7, 26, 104, 121, 173]
abbrev dktX1_whole_0 : List UInt8 := dkwX1_whole_0 ++ []
theorem dksX1_whole_0 : cX1_whole.data.toList.drop 0 = dktX1_whole_0 := by decide +kernel
theorem dX1_whole_0 : decode cX1_whole 0 = .ok (.lconst 1, 1) := dk_10 (dk_at dksX1_whole_0 0 rfl rfl)
theorem dX1_whole_1 : decode cX1_whole 1 = .ok (.iconst 4, 1) := dk_7 (dk_at dksX1_whole_0 1 rfl rfl)
theorem dX1_whole_2 : decode cX1_whole 2 = .ok (.iload_n 0, 1) := dk_26 (dk_at dksX1_whole_0 2 rfl rfl)
theorem dX1_whole_3 : decode cX1_whole 3 = .ok (.imul, 1) := dk_104 (dk_at dksX1_whole_0 3 rfl rfl)
theorem dX1_whole_4 : decode cX1_whole 4 = .ok (.lshl, 1) := dk_121 (dk_at dksX1_whole_0 4 rfl rfl)
theorem dX1_whole_5 : decode cX1_whole 5 = .ok (.lreturn, 1) := dk_173 (dk_at dksX1_whole_0 5 rfl rfl)
abbrev cX1_part : ByteArray := prog_1_method_41_code
def yX1_part : MethodName := ⟨RX1, "part", "(JJI)J"⟩
def dkwX1_part_1 : List UInt8 := [22, 9, 55, 7, 167, 255, 234, 21, 4, 154, 0, 10, 30, 22, 5, 109, 167, 0, 7, 32, 22, 5, 109, 173]
abbrev dktX1_part_1 : List UInt8 := dkwX1_part_1 ++ []
def dkwX1_part_0 : List UInt8 := [32, 55, 5, 30, 55, 7, 22, 7, 9, 148, 153, 0, 21, 22, 5, 22, 7, 113, 55, 9, 22, 7, 55, 5]
abbrev dktX1_part_0 : List UInt8 := dkwX1_part_0 ++ dktX1_part_1
theorem dksX1_part_0 : cX1_part.data.toList.drop 0 = dktX1_part_0 := by decide +kernel
theorem dksX1_part_1 : cX1_part.data.toList.drop 24 = dktX1_part_1 := dk_seg dksX1_part_0 24 rfl rfl
theorem dX1_part_0 : decode cX1_part 0 = .ok (.lload_n 2, 1) := dk_32 (dk_at dksX1_part_0 0 rfl rfl)
theorem dX1_part_1 : decode cX1_part 1 = .ok (.lstore 5, 2) := dk_55 5 (dk_at dksX1_part_0 1 rfl rfl)
theorem dX1_part_3 : decode cX1_part 3 = .ok (.lload_n 0, 1) := dk_30 (dk_at dksX1_part_0 3 rfl rfl)
theorem dX1_part_4 : decode cX1_part 4 = .ok (.lstore 7, 2) := dk_55 7 (dk_at dksX1_part_0 4 rfl rfl)
theorem dX1_part_6 : decode cX1_part 6 = .ok (.lload 7, 2) := dk_22 7 (dk_at dksX1_part_0 6 rfl rfl)
theorem dX1_part_8 : decode cX1_part 8 = .ok (.lconst 0, 1) := dk_9 (dk_at dksX1_part_0 8 rfl rfl)
theorem dX1_part_9 : decode cX1_part 9 = .ok (.lcmp, 1) := dk_148 (dk_at dksX1_part_0 9 rfl rfl)
theorem dX1_part_10 : decode cX1_part 10 = .ok (.ifCond .eq 21, 3) := dk_153 0 21 (dk_at dksX1_part_0 10 rfl rfl)
theorem dX1_part_13 : decode cX1_part 13 = .ok (.lload 5, 2) := dk_22 5 (dk_at dksX1_part_0 13 rfl rfl)
theorem dX1_part_15 : decode cX1_part 15 = .ok (.lload 7, 2) := dk_22 7 (dk_at dksX1_part_0 15 rfl rfl)
theorem dX1_part_17 : decode cX1_part 17 = .ok (.lrem, 1) := dk_113 (dk_at dksX1_part_0 17 rfl rfl)
theorem dX1_part_18 : decode cX1_part 18 = .ok (.lstore 9, 2) := dk_55 9 (dk_at dksX1_part_0 18 rfl rfl)
theorem dX1_part_20 : decode cX1_part 20 = .ok (.lload 7, 2) := dk_22 7 (dk_at dksX1_part_0 20 rfl rfl)
theorem dX1_part_22 : decode cX1_part 22 = .ok (.lstore 5, 2) := dk_55 5 (dk_at dksX1_part_0 22 rfl rfl)
theorem dX1_part_24 : decode cX1_part 24 = .ok (.lload 9, 2) := dk_22 9 (dk_at dksX1_part_1 0 rfl rfl)
theorem dX1_part_26 : decode cX1_part 26 = .ok (.lstore 7, 2) := dk_55 7 (dk_at dksX1_part_1 2 rfl rfl)
theorem dX1_part_28 : decode cX1_part 28 = .ok (.goto (-22), 3) := dk_167 255 234 (dk_at dksX1_part_1 4 rfl rfl)
theorem dX1_part_31 : decode cX1_part 31 = .ok (.iload 4, 2) := dk_21 4 (dk_at dksX1_part_1 7 rfl rfl)
theorem dX1_part_33 : decode cX1_part 33 = .ok (.ifCond .ne 10, 3) := dk_154 0 10 (dk_at dksX1_part_1 9 rfl rfl)
theorem dX1_part_36 : decode cX1_part 36 = .ok (.lload_n 0, 1) := dk_30 (dk_at dksX1_part_1 12 rfl rfl)
theorem dX1_part_37 : decode cX1_part 37 = .ok (.lload 5, 2) := dk_22 5 (dk_at dksX1_part_1 13 rfl rfl)
theorem dX1_part_39 : decode cX1_part 39 = .ok (.ldiv, 1) := dk_109 (dk_at dksX1_part_1 15 rfl rfl)
theorem dX1_part_40 : decode cX1_part 40 = .ok (.goto 7, 3) := dk_167 0 7 (dk_at dksX1_part_1 16 rfl rfl)
theorem dX1_part_43 : decode cX1_part 43 = .ok (.lload_n 2, 1) := dk_32 (dk_at dksX1_part_1 19 rfl rfl)
theorem dX1_part_44 : decode cX1_part 44 = .ok (.lload 5, 2) := dk_22 5 (dk_at dksX1_part_1 20 rfl rfl)
theorem dX1_part_46 : decode cX1_part 46 = .ok (.ldiv, 1) := dk_109 (dk_at dksX1_part_1 22 rfl rfl)
theorem dX1_part_47 : decode cX1_part 47 = .ok (.lreturn, 1) := dk_173 (dk_at dksX1_part_1 23 rfl rfl)
abbrev cX1_witnesses : ByteArray := prog_1_method_46_code
def yX1_witnesses : MethodName := ⟨RX1, "witnesses", "(II)I"⟩
def dkwX1_witnesses_2 : List UInt8 := [155, 0, 5, 29, 172, 132, 3, 2, 167, 255, 220, 2, 172]
abbrev dktX1_witnesses_2 : List UInt8 := dkwX1_witnesses_2 ++ []
def dkwX1_witnesses_1 : List UInt8 := [20, 1, 122, 29, 29, 5, 108, 4, 96, 27, 184, 1, 107, 105, 28, 133, 29, 184, 1, 114, 105, 148]
abbrev dktX1_witnesses_1 : List UInt8 := dkwX1_witnesses_1 ++ dktX1_witnesses_2
def dkwX1_witnesses_0 : List UInt8 := [42, 27, 3, 16, 16, 182, 0, 117, 42, 28, 3, 16, 16, 182, 0, 117, 4, 62, 29, 16, 10, 162, 0, 36]
abbrev dktX1_witnesses_0 : List UInt8 := dkwX1_witnesses_0 ++ dktX1_witnesses_1
theorem dksX1_witnesses_0 : cX1_witnesses.data.toList.drop 0 = dktX1_witnesses_0 := by decide +kernel
theorem dksX1_witnesses_1 : cX1_witnesses.data.toList.drop 24 = dktX1_witnesses_1 := dk_seg dksX1_witnesses_0 24 rfl rfl
theorem dksX1_witnesses_2 : cX1_witnesses.data.toList.drop 46 = dktX1_witnesses_2 := dk_seg dksX1_witnesses_1 22 rfl rfl
theorem dX1_witnesses_0 : decode cX1_witnesses 0 = .ok (.aload_n 0, 1) := dk_42 (dk_at dksX1_witnesses_0 0 rfl rfl)
theorem dX1_witnesses_1 : decode cX1_witnesses 1 = .ok (.iload_n 1, 1) := dk_27 (dk_at dksX1_witnesses_0 1 rfl rfl)
theorem dX1_witnesses_2 : decode cX1_witnesses 2 = .ok (.iconst 0, 1) := dk_3 (dk_at dksX1_witnesses_0 2 rfl rfl)
theorem dX1_witnesses_3 : decode cX1_witnesses 3 = .ok (.bipush 16, 2) := dk_16 16 (dk_at dksX1_witnesses_0 3 rfl rfl)
theorem dX1_witnesses_5 : decode cX1_witnesses 5 = .ok (.invokevirtual 117, 3) := dk_182 0 117 (dk_at dksX1_witnesses_0 5 rfl rfl)
theorem dX1_witnesses_8 : decode cX1_witnesses 8 = .ok (.aload_n 0, 1) := dk_42 (dk_at dksX1_witnesses_0 8 rfl rfl)
theorem dX1_witnesses_9 : decode cX1_witnesses 9 = .ok (.iload_n 2, 1) := dk_28 (dk_at dksX1_witnesses_0 9 rfl rfl)
theorem dX1_witnesses_10 : decode cX1_witnesses 10 = .ok (.iconst 0, 1) := dk_3 (dk_at dksX1_witnesses_0 10 rfl rfl)
theorem dX1_witnesses_11 : decode cX1_witnesses 11 = .ok (.bipush 16, 2) := dk_16 16 (dk_at dksX1_witnesses_0 11 rfl rfl)
theorem dX1_witnesses_13 : decode cX1_witnesses 13 = .ok (.invokevirtual 117, 3) := dk_182 0 117 (dk_at dksX1_witnesses_0 13 rfl rfl)
theorem dX1_witnesses_16 : decode cX1_witnesses 16 = .ok (.iconst 1, 1) := dk_4 (dk_at dksX1_witnesses_0 16 rfl rfl)
theorem dX1_witnesses_17 : decode cX1_witnesses 17 = .ok (.istore_n 3, 1) := dk_62 (dk_at dksX1_witnesses_0 17 rfl rfl)
theorem dX1_witnesses_18 : decode cX1_witnesses 18 = .ok (.iload_n 3, 1) := dk_29 (dk_at dksX1_witnesses_0 18 rfl rfl)
theorem dX1_witnesses_19 : decode cX1_witnesses 19 = .ok (.bipush 10, 2) := dk_16 10 (dk_at dksX1_witnesses_0 19 rfl rfl)
theorem dX1_witnesses_21 : decode cX1_witnesses 21 = .ok (.if_icmp .ge 36, 3) := dk_162 0 36 (dk_at dksX1_witnesses_0 21 rfl rfl)
theorem dX1_witnesses_24 : decode cX1_witnesses 24 = .ok (.ldc2_w 378, 3) := dk_20 1 122 (dk_at dksX1_witnesses_1 0 rfl rfl)
theorem dX1_witnesses_27 : decode cX1_witnesses 27 = .ok (.iload_n 3, 1) := dk_29 (dk_at dksX1_witnesses_1 3 rfl rfl)
theorem dX1_witnesses_28 : decode cX1_witnesses 28 = .ok (.iload_n 3, 1) := dk_29 (dk_at dksX1_witnesses_1 4 rfl rfl)
theorem dX1_witnesses_29 : decode cX1_witnesses 29 = .ok (.iconst 2, 1) := dk_5 (dk_at dksX1_witnesses_1 5 rfl rfl)
theorem dX1_witnesses_30 : decode cX1_witnesses 30 = .ok (.idiv, 1) := dk_108 (dk_at dksX1_witnesses_1 6 rfl rfl)
theorem dX1_witnesses_31 : decode cX1_witnesses 31 = .ok (.iconst 1, 1) := dk_4 (dk_at dksX1_witnesses_1 7 rfl rfl)
theorem dX1_witnesses_32 : decode cX1_witnesses 32 = .ok (.iadd, 1) := dk_96 (dk_at dksX1_witnesses_1 8 rfl rfl)
theorem dX1_witnesses_33 : decode cX1_witnesses 33 = .ok (.iload_n 1, 1) := dk_27 (dk_at dksX1_witnesses_1 9 rfl rfl)
theorem dX1_witnesses_34 : decode cX1_witnesses 34 = .ok (.invokestatic 363, 3) := dk_184 1 107 (dk_at dksX1_witnesses_1 10 rfl rfl)
theorem dX1_witnesses_37 : decode cX1_witnesses 37 = .ok (.lmul, 1) := dk_105 (dk_at dksX1_witnesses_1 13 rfl rfl)
theorem dX1_witnesses_38 : decode cX1_witnesses 38 = .ok (.iload_n 2, 1) := dk_28 (dk_at dksX1_witnesses_1 14 rfl rfl)
theorem dX1_witnesses_39 : decode cX1_witnesses 39 = .ok (.i2l, 1) := dk_133 (dk_at dksX1_witnesses_1 15 rfl rfl)
theorem dX1_witnesses_40 : decode cX1_witnesses 40 = .ok (.iload_n 3, 1) := dk_29 (dk_at dksX1_witnesses_1 16 rfl rfl)
theorem dX1_witnesses_41 : decode cX1_witnesses 41 = .ok (.invokestatic 370, 3) := dk_184 1 114 (dk_at dksX1_witnesses_1 17 rfl rfl)
theorem dX1_witnesses_44 : decode cX1_witnesses 44 = .ok (.lmul, 1) := dk_105 (dk_at dksX1_witnesses_1 20 rfl rfl)
theorem dX1_witnesses_45 : decode cX1_witnesses 45 = .ok (.lcmp, 1) := dk_148 (dk_at dksX1_witnesses_1 21 rfl rfl)
theorem dX1_witnesses_46 : decode cX1_witnesses 46 = .ok (.ifCond .lt 5, 3) := dk_155 0 5 (dk_at dksX1_witnesses_2 0 rfl rfl)
theorem dX1_witnesses_49 : decode cX1_witnesses 49 = .ok (.iload_n 3, 1) := dk_29 (dk_at dksX1_witnesses_2 3 rfl rfl)
theorem dX1_witnesses_50 : decode cX1_witnesses 50 = .ok (.ireturn, 1) := dk_172 (dk_at dksX1_witnesses_2 4 rfl rfl)
theorem dX1_witnesses_51 : decode cX1_witnesses 51 = .ok (.iinc 3 2, 3) := dk_132 3 2 (dk_at dksX1_witnesses_2 5 rfl rfl)
theorem dX1_witnesses_54 : decode cX1_witnesses 54 = .ok (.goto (-36), 3) := dk_167 255 220 (dk_at dksX1_witnesses_2 8 rfl rfl)
theorem dX1_witnesses_57 : decode cX1_witnesses 57 = .ok (.iconst (-1), 1) := dk_2 (dk_at dksX1_witnesses_2 11 rfl rfl)
theorem dX1_witnesses_58 : decode cX1_witnesses 58 = .ok (.ireturn, 1) := dk_172 (dk_at dksX1_witnesses_2 12 rfl rfl)
abbrev cX1_loan : ByteArray := prog_1_method_47_code
def yX1_loan : MethodName := ⟨RX1, "loan", "(III)I"⟩
def dkwX1_loan_3 : List UInt8 := [136, 96, 28, 100, 184, 1, 91, 54, 4, 132, 5, 1, 167, 255, 205, 2, 172]
abbrev dktX1_loan_3 : List UInt8 := dkwX1_loan_3 ++ []
def dkwX1_loan_2 : List UInt8 := [172, 21, 4, 19, 1, 124, 164, 0, 5, 2, 172, 3, 21, 4, 21, 4, 133, 29, 133, 105, 20, 1, 125, 109]
abbrev dktX1_loan_2 : List UInt8 := dkwX1_loan_2 ++ dktX1_loan_3
def dkwX1_loan_1 : List UInt8 := [182, 0, 117, 27, 54, 4, 3, 54, 5, 21, 5, 17, 2, 88, 163, 0, 49, 21, 4, 154, 0, 6, 21, 5]
abbrev dktX1_loan_1 : List UInt8 := dkwX1_loan_1 ++ dktX1_loan_2
def dkwX1_loan_0 : List UInt8 := [42, 27, 3, 17, 39, 15, 182, 0, 117, 42, 28, 3, 17, 3, 231, 182, 0, 117, 42, 29, 3, 16, 100]
abbrev dktX1_loan_0 : List UInt8 := dkwX1_loan_0 ++ dktX1_loan_1
theorem dksX1_loan_0 : cX1_loan.data.toList.drop 0 = dktX1_loan_0 := by decide +kernel
theorem dksX1_loan_1 : cX1_loan.data.toList.drop 23 = dktX1_loan_1 := dk_seg dksX1_loan_0 23 rfl rfl
theorem dksX1_loan_2 : cX1_loan.data.toList.drop 47 = dktX1_loan_2 := dk_seg dksX1_loan_1 24 rfl rfl
theorem dksX1_loan_3 : cX1_loan.data.toList.drop 71 = dktX1_loan_3 := dk_seg dksX1_loan_2 24 rfl rfl
theorem dX1_loan_0 : decode cX1_loan 0 = .ok (.aload_n 0, 1) := dk_42 (dk_at dksX1_loan_0 0 rfl rfl)
theorem dX1_loan_1 : decode cX1_loan 1 = .ok (.iload_n 1, 1) := dk_27 (dk_at dksX1_loan_0 1 rfl rfl)
theorem dX1_loan_2 : decode cX1_loan 2 = .ok (.iconst 0, 1) := dk_3 (dk_at dksX1_loan_0 2 rfl rfl)
theorem dX1_loan_3 : decode cX1_loan 3 = .ok (.sipush 9999, 3) := dk_17 39 15 (dk_at dksX1_loan_0 3 rfl rfl)
theorem dX1_loan_6 : decode cX1_loan 6 = .ok (.invokevirtual 117, 3) := dk_182 0 117 (dk_at dksX1_loan_0 6 rfl rfl)
theorem dX1_loan_9 : decode cX1_loan 9 = .ok (.aload_n 0, 1) := dk_42 (dk_at dksX1_loan_0 9 rfl rfl)
theorem dX1_loan_10 : decode cX1_loan 10 = .ok (.iload_n 2, 1) := dk_28 (dk_at dksX1_loan_0 10 rfl rfl)
theorem dX1_loan_11 : decode cX1_loan 11 = .ok (.iconst 0, 1) := dk_3 (dk_at dksX1_loan_0 11 rfl rfl)
theorem dX1_loan_12 : decode cX1_loan 12 = .ok (.sipush 999, 3) := dk_17 3 231 (dk_at dksX1_loan_0 12 rfl rfl)
theorem dX1_loan_15 : decode cX1_loan 15 = .ok (.invokevirtual 117, 3) := dk_182 0 117 (dk_at dksX1_loan_0 15 rfl rfl)
theorem dX1_loan_18 : decode cX1_loan 18 = .ok (.aload_n 0, 1) := dk_42 (dk_at dksX1_loan_0 18 rfl rfl)
theorem dX1_loan_19 : decode cX1_loan 19 = .ok (.iload_n 3, 1) := dk_29 (dk_at dksX1_loan_0 19 rfl rfl)
theorem dX1_loan_20 : decode cX1_loan 20 = .ok (.iconst 0, 1) := dk_3 (dk_at dksX1_loan_0 20 rfl rfl)
theorem dX1_loan_21 : decode cX1_loan 21 = .ok (.bipush 100, 2) := dk_16 100 (dk_at dksX1_loan_0 21 rfl rfl)
theorem dX1_loan_23 : decode cX1_loan 23 = .ok (.invokevirtual 117, 3) := dk_182 0 117 (dk_at dksX1_loan_1 0 rfl rfl)
theorem dX1_loan_26 : decode cX1_loan 26 = .ok (.iload_n 1, 1) := dk_27 (dk_at dksX1_loan_1 3 rfl rfl)
theorem dX1_loan_27 : decode cX1_loan 27 = .ok (.istore 4, 2) := dk_54 4 (dk_at dksX1_loan_1 4 rfl rfl)
theorem dX1_loan_29 : decode cX1_loan 29 = .ok (.iconst 0, 1) := dk_3 (dk_at dksX1_loan_1 6 rfl rfl)
theorem dX1_loan_30 : decode cX1_loan 30 = .ok (.istore 5, 2) := dk_54 5 (dk_at dksX1_loan_1 7 rfl rfl)
theorem dX1_loan_32 : decode cX1_loan 32 = .ok (.iload 5, 2) := dk_21 5 (dk_at dksX1_loan_1 9 rfl rfl)
theorem dX1_loan_34 : decode cX1_loan 34 = .ok (.sipush 600, 3) := dk_17 2 88 (dk_at dksX1_loan_1 11 rfl rfl)
theorem dX1_loan_37 : decode cX1_loan 37 = .ok (.if_icmp .gt 49, 3) := dk_163 0 49 (dk_at dksX1_loan_1 14 rfl rfl)
theorem dX1_loan_40 : decode cX1_loan 40 = .ok (.iload 4, 2) := dk_21 4 (dk_at dksX1_loan_1 17 rfl rfl)
theorem dX1_loan_42 : decode cX1_loan 42 = .ok (.ifCond .ne 6, 3) := dk_154 0 6 (dk_at dksX1_loan_1 19 rfl rfl)
theorem dX1_loan_45 : decode cX1_loan 45 = .ok (.iload 5, 2) := dk_21 5 (dk_at dksX1_loan_1 22 rfl rfl)
theorem dX1_loan_47 : decode cX1_loan 47 = .ok (.ireturn, 1) := dk_172 (dk_at dksX1_loan_2 0 rfl rfl)
theorem dX1_loan_48 : decode cX1_loan 48 = .ok (.iload 4, 2) := dk_21 4 (dk_at dksX1_loan_2 1 rfl rfl)
theorem dX1_loan_50 : decode cX1_loan 50 = .ok (.ldc_w 380, 3) := dk_19 1 124 (dk_at dksX1_loan_2 3 rfl rfl)
theorem dX1_loan_53 : decode cX1_loan 53 = .ok (.if_icmp .le 5, 3) := dk_164 0 5 (dk_at dksX1_loan_2 6 rfl rfl)
theorem dX1_loan_56 : decode cX1_loan 56 = .ok (.iconst (-1), 1) := dk_2 (dk_at dksX1_loan_2 9 rfl rfl)
theorem dX1_loan_57 : decode cX1_loan 57 = .ok (.ireturn, 1) := dk_172 (dk_at dksX1_loan_2 10 rfl rfl)
theorem dX1_loan_58 : decode cX1_loan 58 = .ok (.iconst 0, 1) := dk_3 (dk_at dksX1_loan_2 11 rfl rfl)
theorem dX1_loan_59 : decode cX1_loan 59 = .ok (.iload 4, 2) := dk_21 4 (dk_at dksX1_loan_2 12 rfl rfl)
theorem dX1_loan_61 : decode cX1_loan 61 = .ok (.iload 4, 2) := dk_21 4 (dk_at dksX1_loan_2 14 rfl rfl)
theorem dX1_loan_63 : decode cX1_loan 63 = .ok (.i2l, 1) := dk_133 (dk_at dksX1_loan_2 16 rfl rfl)
theorem dX1_loan_64 : decode cX1_loan 64 = .ok (.iload_n 3, 1) := dk_29 (dk_at dksX1_loan_2 17 rfl rfl)
theorem dX1_loan_65 : decode cX1_loan 65 = .ok (.i2l, 1) := dk_133 (dk_at dksX1_loan_2 18 rfl rfl)
theorem dX1_loan_66 : decode cX1_loan 66 = .ok (.lmul, 1) := dk_105 (dk_at dksX1_loan_2 19 rfl rfl)
theorem dX1_loan_67 : decode cX1_loan 67 = .ok (.ldc2_w 381, 3) := dk_20 1 125 (dk_at dksX1_loan_2 20 rfl rfl)
theorem dX1_loan_70 : decode cX1_loan 70 = .ok (.ldiv, 1) := dk_109 (dk_at dksX1_loan_2 23 rfl rfl)
theorem dX1_loan_71 : decode cX1_loan 71 = .ok (.l2i, 1) := dk_136 (dk_at dksX1_loan_3 0 rfl rfl)
theorem dX1_loan_72 : decode cX1_loan 72 = .ok (.iadd, 1) := dk_96 (dk_at dksX1_loan_3 1 rfl rfl)
theorem dX1_loan_73 : decode cX1_loan 73 = .ok (.iload_n 2, 1) := dk_28 (dk_at dksX1_loan_3 2 rfl rfl)
theorem dX1_loan_74 : decode cX1_loan 74 = .ok (.isub, 1) := dk_100 (dk_at dksX1_loan_3 3 rfl rfl)
theorem dX1_loan_75 : decode cX1_loan 75 = .ok (.invokestatic 347, 3) := dk_184 1 91 (dk_at dksX1_loan_3 4 rfl rfl)
theorem dX1_loan_78 : decode cX1_loan 78 = .ok (.istore 4, 2) := dk_54 4 (dk_at dksX1_loan_3 7 rfl rfl)
theorem dX1_loan_80 : decode cX1_loan 80 = .ok (.iinc 5 1, 3) := dk_132 5 1 (dk_at dksX1_loan_3 9 rfl rfl)
theorem dX1_loan_83 : decode cX1_loan 83 = .ok (.goto (-51), 3) := dk_167 255 205 (dk_at dksX1_loan_3 12 rfl rfl)
theorem dX1_loan_86 : decode cX1_loan 86 = .ok (.iconst (-1), 1) := dk_2 (dk_at dksX1_loan_3 15 rfl rfl)
theorem dX1_loan_87 : decode cX1_loan 87 = .ok (.ireturn, 1) := dk_172 (dk_at dksX1_loan_3 16 rfl rfl)
abbrev cX1_land : ByteArray := prog_1_method_48_code
def yX1_land : MethodName := ⟨RX1, "land", "(II)I"⟩
def dkwX1_land_6 : List UInt8 := [167, 255, 173, 42, 180, 0, 64, 27, 46, 172]
abbrev dktX1_land_6 : List UInt8 := dkwX1_land_6 ++ []
def dkwX1_land_5 : List UInt8 := [21, 6, 54, 5, 132, 6, 1, 167, 255, 202, 42, 180, 0, 64, 21, 5, 92, 46, 4, 96, 79, 132, 4, 1]
abbrev dktX1_land_5 : List UInt8 := dkwX1_land_5 ++ dktX1_land_6
def dkwX1_land_4 : List UInt8 := [21, 5, 46, 96, 104, 45, 21, 5, 182, 1, 16, 4, 42, 180, 0, 64, 21, 6, 46, 96, 104, 164, 0, 7]
abbrev dktX1_land_4 : List UInt8 := dkwX1_land_4 ++ dktX1_land_5
def dkwX1_land_3 : List UInt8 := [21, 6, 42, 180, 0, 73, 180, 0, 95, 162, 0, 48, 45, 21, 6, 182, 1, 16, 4, 42, 180, 0, 64]
abbrev dktX1_land_3 : List UInt8 := dkwX1_land_3 ++ dktX1_land_4
def dkwX1_land_2 : List UInt8 := [182, 0, 223, 154, 0, 5, 3, 172, 3, 54, 4, 21, 4, 28, 162, 0, 83, 3, 54, 5, 4, 54, 6]
abbrev dktX1_land_2 : List UInt8 := dkwX1_land_2 ++ dktX1_land_3
def dkwX1_land_1 : List UInt8 := [21, 4, 8, 162, 0, 17, 42, 180, 0, 64, 21, 4, 3, 79, 132, 4, 1, 167, 255, 239, 45, 5]
abbrev dktX1_land_1 : List UInt8 := dkwX1_land_1 ++ dktX1_land_2
def dkwX1_land_0 : List UInt8 := [42, 27, 182, 1, 4, 42, 28, 3, 16, 99, 182, 0, 117, 42, 180, 0, 25, 182, 0, 81, 78, 3, 54, 4]
abbrev dktX1_land_0 : List UInt8 := dkwX1_land_0 ++ dktX1_land_1
theorem dksX1_land_0 : cX1_land.data.toList.drop 0 = dktX1_land_0 := by decide +kernel
theorem dksX1_land_1 : cX1_land.data.toList.drop 24 = dktX1_land_1 := dk_seg dksX1_land_0 24 rfl rfl
theorem dksX1_land_2 : cX1_land.data.toList.drop 46 = dktX1_land_2 := dk_seg dksX1_land_1 22 rfl rfl
theorem dksX1_land_3 : cX1_land.data.toList.drop 69 = dktX1_land_3 := dk_seg dksX1_land_2 23 rfl rfl
theorem dksX1_land_4 : cX1_land.data.toList.drop 92 = dktX1_land_4 := dk_seg dksX1_land_3 23 rfl rfl
theorem dksX1_land_5 : cX1_land.data.toList.drop 116 = dktX1_land_5 := dk_seg dksX1_land_4 24 rfl rfl
theorem dksX1_land_6 : cX1_land.data.toList.drop 140 = dktX1_land_6 := dk_seg dksX1_land_5 24 rfl rfl
theorem dX1_land_0 : decode cX1_land 0 = .ok (.aload_n 0, 1) := dk_42 (dk_at dksX1_land_0 0 rfl rfl)
theorem dX1_land_1 : decode cX1_land 1 = .ok (.iload_n 1, 1) := dk_27 (dk_at dksX1_land_0 1 rfl rfl)
theorem dX1_land_2 : decode cX1_land 2 = .ok (.invokevirtual 260, 3) := dk_182 1 4 (dk_at dksX1_land_0 2 rfl rfl)
theorem dX1_land_5 : decode cX1_land 5 = .ok (.aload_n 0, 1) := dk_42 (dk_at dksX1_land_0 5 rfl rfl)
theorem dX1_land_6 : decode cX1_land 6 = .ok (.iload_n 2, 1) := dk_28 (dk_at dksX1_land_0 6 rfl rfl)
theorem dX1_land_7 : decode cX1_land 7 = .ok (.iconst 0, 1) := dk_3 (dk_at dksX1_land_0 7 rfl rfl)
theorem dX1_land_8 : decode cX1_land 8 = .ok (.bipush 99, 2) := dk_16 99 (dk_at dksX1_land_0 8 rfl rfl)
theorem dX1_land_10 : decode cX1_land 10 = .ok (.invokevirtual 117, 3) := dk_182 0 117 (dk_at dksX1_land_0 10 rfl rfl)
theorem dX1_land_13 : decode cX1_land 13 = .ok (.aload_n 0, 1) := dk_42 (dk_at dksX1_land_0 13 rfl rfl)
theorem dX1_land_14 : decode cX1_land 14 = .ok (.getfield 25, 3) := dk_180 0 25 (dk_at dksX1_land_0 14 rfl rfl)
theorem dX1_land_17 : decode cX1_land 17 = .ok (.invokevirtual 81, 3) := dk_182 0 81 (dk_at dksX1_land_0 17 rfl rfl)
theorem dX1_land_20 : decode cX1_land 20 = .ok (.astore_n 3, 1) := dk_78 (dk_at dksX1_land_0 20 rfl rfl)
theorem dX1_land_21 : decode cX1_land 21 = .ok (.iconst 0, 1) := dk_3 (dk_at dksX1_land_0 21 rfl rfl)
theorem dX1_land_22 : decode cX1_land 22 = .ok (.istore 4, 2) := dk_54 4 (dk_at dksX1_land_0 22 rfl rfl)
theorem dX1_land_24 : decode cX1_land 24 = .ok (.iload 4, 2) := dk_21 4 (dk_at dksX1_land_1 0 rfl rfl)
theorem dX1_land_26 : decode cX1_land 26 = .ok (.iconst 5, 1) := dk_8 (dk_at dksX1_land_1 2 rfl rfl)
theorem dX1_land_27 : decode cX1_land 27 = .ok (.if_icmp .ge 17, 3) := dk_162 0 17 (dk_at dksX1_land_1 3 rfl rfl)
theorem dX1_land_30 : decode cX1_land 30 = .ok (.aload_n 0, 1) := dk_42 (dk_at dksX1_land_1 6 rfl rfl)
theorem dX1_land_31 : decode cX1_land 31 = .ok (.getfield 64, 3) := dk_180 0 64 (dk_at dksX1_land_1 7 rfl rfl)
theorem dX1_land_34 : decode cX1_land 34 = .ok (.iload 4, 2) := dk_21 4 (dk_at dksX1_land_1 10 rfl rfl)
theorem dX1_land_36 : decode cX1_land 36 = .ok (.iconst 0, 1) := dk_3 (dk_at dksX1_land_1 12 rfl rfl)
theorem dX1_land_37 : decode cX1_land 37 = .ok (.iastore, 1) := dk_79 (dk_at dksX1_land_1 13 rfl rfl)
theorem dX1_land_38 : decode cX1_land 38 = .ok (.iinc 4 1, 3) := dk_132 4 1 (dk_at dksX1_land_1 14 rfl rfl)
theorem dX1_land_41 : decode cX1_land 41 = .ok (.goto (-17), 3) := dk_167 255 239 (dk_at dksX1_land_1 17 rfl rfl)
theorem dX1_land_44 : decode cX1_land 44 = .ok (.aload_n 3, 1) := dk_45 (dk_at dksX1_land_1 20 rfl rfl)
theorem dX1_land_45 : decode cX1_land 45 = .ok (.iconst 2, 1) := dk_5 (dk_at dksX1_land_1 21 rfl rfl)
theorem dX1_land_46 : decode cX1_land 46 = .ok (.invokevirtual 223, 3) := dk_182 0 223 (dk_at dksX1_land_2 0 rfl rfl)
theorem dX1_land_49 : decode cX1_land 49 = .ok (.ifCond .ne 5, 3) := dk_154 0 5 (dk_at dksX1_land_2 3 rfl rfl)
theorem dX1_land_52 : decode cX1_land 52 = .ok (.iconst 0, 1) := dk_3 (dk_at dksX1_land_2 6 rfl rfl)
theorem dX1_land_53 : decode cX1_land 53 = .ok (.ireturn, 1) := dk_172 (dk_at dksX1_land_2 7 rfl rfl)
theorem dX1_land_54 : decode cX1_land 54 = .ok (.iconst 0, 1) := dk_3 (dk_at dksX1_land_2 8 rfl rfl)
theorem dX1_land_55 : decode cX1_land 55 = .ok (.istore 4, 2) := dk_54 4 (dk_at dksX1_land_2 9 rfl rfl)
theorem dX1_land_57 : decode cX1_land 57 = .ok (.iload 4, 2) := dk_21 4 (dk_at dksX1_land_2 11 rfl rfl)
theorem dX1_land_59 : decode cX1_land 59 = .ok (.iload_n 2, 1) := dk_28 (dk_at dksX1_land_2 13 rfl rfl)
theorem dX1_land_60 : decode cX1_land 60 = .ok (.if_icmp .ge 83, 3) := dk_162 0 83 (dk_at dksX1_land_2 14 rfl rfl)
theorem dX1_land_63 : decode cX1_land 63 = .ok (.iconst 0, 1) := dk_3 (dk_at dksX1_land_2 17 rfl rfl)
theorem dX1_land_64 : decode cX1_land 64 = .ok (.istore 5, 2) := dk_54 5 (dk_at dksX1_land_2 18 rfl rfl)
theorem dX1_land_66 : decode cX1_land 66 = .ok (.iconst 1, 1) := dk_4 (dk_at dksX1_land_2 20 rfl rfl)
theorem dX1_land_67 : decode cX1_land 67 = .ok (.istore 6, 2) := dk_54 6 (dk_at dksX1_land_2 21 rfl rfl)
theorem dX1_land_69 : decode cX1_land 69 = .ok (.iload 6, 2) := dk_21 6 (dk_at dksX1_land_3 0 rfl rfl)
theorem dX1_land_71 : decode cX1_land 71 = .ok (.aload_n 0, 1) := dk_42 (dk_at dksX1_land_3 2 rfl rfl)
theorem dX1_land_72 : decode cX1_land 72 = .ok (.getfield 73, 3) := dk_180 0 73 (dk_at dksX1_land_3 3 rfl rfl)
theorem dX1_land_75 : decode cX1_land 75 = .ok (.getfield 95, 3) := dk_180 0 95 (dk_at dksX1_land_3 6 rfl rfl)
theorem dX1_land_78 : decode cX1_land 78 = .ok (.if_icmp .ge 48, 3) := dk_162 0 48 (dk_at dksX1_land_3 9 rfl rfl)
theorem dX1_land_81 : decode cX1_land 81 = .ok (.aload_n 3, 1) := dk_45 (dk_at dksX1_land_3 12 rfl rfl)
theorem dX1_land_82 : decode cX1_land 82 = .ok (.iload 6, 2) := dk_21 6 (dk_at dksX1_land_3 13 rfl rfl)
theorem dX1_land_84 : decode cX1_land 84 = .ok (.invokevirtual 272, 3) := dk_182 1 16 (dk_at dksX1_land_3 15 rfl rfl)
theorem dX1_land_87 : decode cX1_land 87 = .ok (.iconst 1, 1) := dk_4 (dk_at dksX1_land_3 18 rfl rfl)
theorem dX1_land_88 : decode cX1_land 88 = .ok (.aload_n 0, 1) := dk_42 (dk_at dksX1_land_3 19 rfl rfl)
theorem dX1_land_89 : decode cX1_land 89 = .ok (.getfield 64, 3) := dk_180 0 64 (dk_at dksX1_land_3 20 rfl rfl)
theorem dX1_land_92 : decode cX1_land 92 = .ok (.iload 5, 2) := dk_21 5 (dk_at dksX1_land_4 0 rfl rfl)
theorem dX1_land_94 : decode cX1_land 94 = .ok (.iaload, 1) := dk_46 (dk_at dksX1_land_4 2 rfl rfl)
theorem dX1_land_95 : decode cX1_land 95 = .ok (.iadd, 1) := dk_96 (dk_at dksX1_land_4 3 rfl rfl)
theorem dX1_land_96 : decode cX1_land 96 = .ok (.imul, 1) := dk_104 (dk_at dksX1_land_4 4 rfl rfl)
theorem dX1_land_97 : decode cX1_land 97 = .ok (.aload_n 3, 1) := dk_45 (dk_at dksX1_land_4 5 rfl rfl)
theorem dX1_land_98 : decode cX1_land 98 = .ok (.iload 5, 2) := dk_21 5 (dk_at dksX1_land_4 6 rfl rfl)
theorem dX1_land_100 : decode cX1_land 100 = .ok (.invokevirtual 272, 3) := dk_182 1 16 (dk_at dksX1_land_4 8 rfl rfl)
theorem dX1_land_103 : decode cX1_land 103 = .ok (.iconst 1, 1) := dk_4 (dk_at dksX1_land_4 11 rfl rfl)
theorem dX1_land_104 : decode cX1_land 104 = .ok (.aload_n 0, 1) := dk_42 (dk_at dksX1_land_4 12 rfl rfl)
theorem dX1_land_105 : decode cX1_land 105 = .ok (.getfield 64, 3) := dk_180 0 64 (dk_at dksX1_land_4 13 rfl rfl)
theorem dX1_land_108 : decode cX1_land 108 = .ok (.iload 6, 2) := dk_21 6 (dk_at dksX1_land_4 16 rfl rfl)
theorem dX1_land_110 : decode cX1_land 110 = .ok (.iaload, 1) := dk_46 (dk_at dksX1_land_4 18 rfl rfl)
theorem dX1_land_111 : decode cX1_land 111 = .ok (.iadd, 1) := dk_96 (dk_at dksX1_land_4 19 rfl rfl)
theorem dX1_land_112 : decode cX1_land 112 = .ok (.imul, 1) := dk_104 (dk_at dksX1_land_4 20 rfl rfl)
theorem dX1_land_113 : decode cX1_land 113 = .ok (.if_icmp .le 7, 3) := dk_164 0 7 (dk_at dksX1_land_4 21 rfl rfl)
theorem dX1_land_116 : decode cX1_land 116 = .ok (.iload 6, 2) := dk_21 6 (dk_at dksX1_land_5 0 rfl rfl)
theorem dX1_land_118 : decode cX1_land 118 = .ok (.istore 5, 2) := dk_54 5 (dk_at dksX1_land_5 2 rfl rfl)
theorem dX1_land_120 : decode cX1_land 120 = .ok (.iinc 6 1, 3) := dk_132 6 1 (dk_at dksX1_land_5 4 rfl rfl)
theorem dX1_land_123 : decode cX1_land 123 = .ok (.goto (-54), 3) := dk_167 255 202 (dk_at dksX1_land_5 7 rfl rfl)
theorem dX1_land_126 : decode cX1_land 126 = .ok (.aload_n 0, 1) := dk_42 (dk_at dksX1_land_5 10 rfl rfl)
theorem dX1_land_127 : decode cX1_land 127 = .ok (.getfield 64, 3) := dk_180 0 64 (dk_at dksX1_land_5 11 rfl rfl)
theorem dX1_land_130 : decode cX1_land 130 = .ok (.iload 5, 2) := dk_21 5 (dk_at dksX1_land_5 14 rfl rfl)
theorem dX1_land_132 : decode cX1_land 132 = .ok (.dup2, 1) := dk_92 (dk_at dksX1_land_5 16 rfl rfl)
theorem dX1_land_133 : decode cX1_land 133 = .ok (.iaload, 1) := dk_46 (dk_at dksX1_land_5 17 rfl rfl)
theorem dX1_land_134 : decode cX1_land 134 = .ok (.iconst 1, 1) := dk_4 (dk_at dksX1_land_5 18 rfl rfl)
theorem dX1_land_135 : decode cX1_land 135 = .ok (.iadd, 1) := dk_96 (dk_at dksX1_land_5 19 rfl rfl)
theorem dX1_land_136 : decode cX1_land 136 = .ok (.iastore, 1) := dk_79 (dk_at dksX1_land_5 20 rfl rfl)
theorem dX1_land_137 : decode cX1_land 137 = .ok (.iinc 4 1, 3) := dk_132 4 1 (dk_at dksX1_land_5 21 rfl rfl)
theorem dX1_land_140 : decode cX1_land 140 = .ok (.goto (-83), 3) := dk_167 255 173 (dk_at dksX1_land_6 0 rfl rfl)
theorem dX1_land_143 : decode cX1_land 143 = .ok (.aload_n 0, 1) := dk_42 (dk_at dksX1_land_6 3 rfl rfl)
theorem dX1_land_144 : decode cX1_land 144 = .ok (.getfield 64, 3) := dk_180 0 64 (dk_at dksX1_land_6 4 rfl rfl)
theorem dX1_land_147 : decode cX1_land 147 = .ok (.iload_n 1, 1) := dk_27 (dk_at dksX1_land_6 7 rfl rfl)
theorem dX1_land_148 : decode cX1_land 148 = .ok (.iaload, 1) := dk_46 (dk_at dksX1_land_6 8 rfl rfl)
theorem dX1_land_149 : decode cX1_land 149 = .ok (.ireturn, 1) := dk_172 (dk_at dksX1_land_6 9 rfl rfl)
abbrev cX1_bids : ByteArray := prog_1_method_51_code
def yX1_bids : MethodName := ⟨RX1, "bids", "(IIII)I"⟩
def dkwX1_bids_6 : List UInt8 := [4, 160, 0, 8, 21, 6, 167, 0, 5, 21, 7, 172]
abbrev dktX1_bids_6 : List UInt8 := dkwX1_bids_6 ++ []
def dkwX1_bids_5 : List UInt8 := [132, 9, 255, 167, 255, 189, 132, 8, 255, 167, 255, 175, 21, 4, 154, 0, 8, 21, 5, 167, 0, 16, 21, 4]
abbrev dktX1_bids_5 : List UInt8 := dkwX1_bids_5 ++ dktX1_bids_6
def dkwX1_bids_4 : List UInt8 := [21, 9, 96, 54, 6, 21, 8, 21, 9, 28, 184, 1, 127, 21, 9, 21, 8, 29, 184, 1, 127, 96, 54, 7]
abbrev dktX1_bids_4 : List UInt8 := dkwX1_bids_4 ++ dktX1_bids_5
def dkwX1_bids_3 : List UInt8 := [21, 9, 21, 8, 29, 27, 184, 1, 131, 154, 0, 6, 167, 0, 35, 132, 5, 1, 16, 100, 21, 8, 104]
abbrev dktX1_bids_3 : List UInt8 := dkwX1_bids_3 ++ dktX1_bids_4
def dkwX1_bids_2 : List UInt8 := [155, 0, 82, 27, 54, 9, 21, 9, 155, 0, 68, 21, 8, 21, 9, 28, 27, 184, 1, 131, 153, 0, 50]
abbrev dktX1_bids_2 : List UInt8 := dkwX1_bids_2 ++ dktX1_bids_3
def dkwX1_bids_1 : List UInt8 := [42, 21, 4, 3, 5, 182, 0, 117, 3, 54, 5, 2, 54, 6, 3, 54, 7, 27, 54, 8, 21, 8]
abbrev dktX1_bids_1 : List UInt8 := dkwX1_bids_1 ++ dktX1_bids_2
def dkwX1_bids_0 : List UInt8 := [42, 27, 3, 16, 20, 182, 0, 117, 42, 28, 3, 16, 99, 182, 0, 117, 42, 29, 3, 16, 99, 182, 0, 117]
abbrev dktX1_bids_0 : List UInt8 := dkwX1_bids_0 ++ dktX1_bids_1
theorem dksX1_bids_0 : cX1_bids.data.toList.drop 0 = dktX1_bids_0 := by decide +kernel
theorem dksX1_bids_1 : cX1_bids.data.toList.drop 24 = dktX1_bids_1 := dk_seg dksX1_bids_0 24 rfl rfl
theorem dksX1_bids_2 : cX1_bids.data.toList.drop 46 = dktX1_bids_2 := dk_seg dksX1_bids_1 22 rfl rfl
theorem dksX1_bids_3 : cX1_bids.data.toList.drop 69 = dktX1_bids_3 := dk_seg dksX1_bids_2 23 rfl rfl
theorem dksX1_bids_4 : cX1_bids.data.toList.drop 92 = dktX1_bids_4 := dk_seg dksX1_bids_3 23 rfl rfl
theorem dksX1_bids_5 : cX1_bids.data.toList.drop 116 = dktX1_bids_5 := dk_seg dksX1_bids_4 24 rfl rfl
theorem dksX1_bids_6 : cX1_bids.data.toList.drop 140 = dktX1_bids_6 := dk_seg dksX1_bids_5 24 rfl rfl
theorem dX1_bids_0 : decode cX1_bids 0 = .ok (.aload_n 0, 1) := dk_42 (dk_at dksX1_bids_0 0 rfl rfl)
theorem dX1_bids_1 : decode cX1_bids 1 = .ok (.iload_n 1, 1) := dk_27 (dk_at dksX1_bids_0 1 rfl rfl)
theorem dX1_bids_2 : decode cX1_bids 2 = .ok (.iconst 0, 1) := dk_3 (dk_at dksX1_bids_0 2 rfl rfl)
theorem dX1_bids_3 : decode cX1_bids 3 = .ok (.bipush 20, 2) := dk_16 20 (dk_at dksX1_bids_0 3 rfl rfl)
theorem dX1_bids_5 : decode cX1_bids 5 = .ok (.invokevirtual 117, 3) := dk_182 0 117 (dk_at dksX1_bids_0 5 rfl rfl)
theorem dX1_bids_8 : decode cX1_bids 8 = .ok (.aload_n 0, 1) := dk_42 (dk_at dksX1_bids_0 8 rfl rfl)
theorem dX1_bids_9 : decode cX1_bids 9 = .ok (.iload_n 2, 1) := dk_28 (dk_at dksX1_bids_0 9 rfl rfl)
theorem dX1_bids_10 : decode cX1_bids 10 = .ok (.iconst 0, 1) := dk_3 (dk_at dksX1_bids_0 10 rfl rfl)
theorem dX1_bids_11 : decode cX1_bids 11 = .ok (.bipush 99, 2) := dk_16 99 (dk_at dksX1_bids_0 11 rfl rfl)
theorem dX1_bids_13 : decode cX1_bids 13 = .ok (.invokevirtual 117, 3) := dk_182 0 117 (dk_at dksX1_bids_0 13 rfl rfl)
theorem dX1_bids_16 : decode cX1_bids 16 = .ok (.aload_n 0, 1) := dk_42 (dk_at dksX1_bids_0 16 rfl rfl)
theorem dX1_bids_17 : decode cX1_bids 17 = .ok (.iload_n 3, 1) := dk_29 (dk_at dksX1_bids_0 17 rfl rfl)
theorem dX1_bids_18 : decode cX1_bids 18 = .ok (.iconst 0, 1) := dk_3 (dk_at dksX1_bids_0 18 rfl rfl)
theorem dX1_bids_19 : decode cX1_bids 19 = .ok (.bipush 99, 2) := dk_16 99 (dk_at dksX1_bids_0 19 rfl rfl)
theorem dX1_bids_21 : decode cX1_bids 21 = .ok (.invokevirtual 117, 3) := dk_182 0 117 (dk_at dksX1_bids_0 21 rfl rfl)
theorem dX1_bids_24 : decode cX1_bids 24 = .ok (.aload_n 0, 1) := dk_42 (dk_at dksX1_bids_1 0 rfl rfl)
theorem dX1_bids_25 : decode cX1_bids 25 = .ok (.iload 4, 2) := dk_21 4 (dk_at dksX1_bids_1 1 rfl rfl)
theorem dX1_bids_27 : decode cX1_bids 27 = .ok (.iconst 0, 1) := dk_3 (dk_at dksX1_bids_1 3 rfl rfl)
theorem dX1_bids_28 : decode cX1_bids 28 = .ok (.iconst 2, 1) := dk_5 (dk_at dksX1_bids_1 4 rfl rfl)
theorem dX1_bids_29 : decode cX1_bids 29 = .ok (.invokevirtual 117, 3) := dk_182 0 117 (dk_at dksX1_bids_1 5 rfl rfl)
theorem dX1_bids_32 : decode cX1_bids 32 = .ok (.iconst 0, 1) := dk_3 (dk_at dksX1_bids_1 8 rfl rfl)
theorem dX1_bids_33 : decode cX1_bids 33 = .ok (.istore 5, 2) := dk_54 5 (dk_at dksX1_bids_1 9 rfl rfl)
theorem dX1_bids_35 : decode cX1_bids 35 = .ok (.iconst (-1), 1) := dk_2 (dk_at dksX1_bids_1 11 rfl rfl)
theorem dX1_bids_36 : decode cX1_bids 36 = .ok (.istore 6, 2) := dk_54 6 (dk_at dksX1_bids_1 12 rfl rfl)
theorem dX1_bids_38 : decode cX1_bids 38 = .ok (.iconst 0, 1) := dk_3 (dk_at dksX1_bids_1 14 rfl rfl)
theorem dX1_bids_39 : decode cX1_bids 39 = .ok (.istore 7, 2) := dk_54 7 (dk_at dksX1_bids_1 15 rfl rfl)
theorem dX1_bids_41 : decode cX1_bids 41 = .ok (.iload_n 1, 1) := dk_27 (dk_at dksX1_bids_1 17 rfl rfl)
theorem dX1_bids_42 : decode cX1_bids 42 = .ok (.istore 8, 2) := dk_54 8 (dk_at dksX1_bids_1 18 rfl rfl)
theorem dX1_bids_44 : decode cX1_bids 44 = .ok (.iload 8, 2) := dk_21 8 (dk_at dksX1_bids_1 20 rfl rfl)
theorem dX1_bids_46 : decode cX1_bids 46 = .ok (.ifCond .lt 82, 3) := dk_155 0 82 (dk_at dksX1_bids_2 0 rfl rfl)
theorem dX1_bids_49 : decode cX1_bids 49 = .ok (.iload_n 1, 1) := dk_27 (dk_at dksX1_bids_2 3 rfl rfl)
theorem dX1_bids_50 : decode cX1_bids 50 = .ok (.istore 9, 2) := dk_54 9 (dk_at dksX1_bids_2 4 rfl rfl)
theorem dX1_bids_52 : decode cX1_bids 52 = .ok (.iload 9, 2) := dk_21 9 (dk_at dksX1_bids_2 6 rfl rfl)
theorem dX1_bids_54 : decode cX1_bids 54 = .ok (.ifCond .lt 68, 3) := dk_155 0 68 (dk_at dksX1_bids_2 8 rfl rfl)
theorem dX1_bids_57 : decode cX1_bids 57 = .ok (.iload 8, 2) := dk_21 8 (dk_at dksX1_bids_2 11 rfl rfl)
theorem dX1_bids_59 : decode cX1_bids 59 = .ok (.iload 9, 2) := dk_21 9 (dk_at dksX1_bids_2 13 rfl rfl)
theorem dX1_bids_61 : decode cX1_bids 61 = .ok (.iload_n 2, 1) := dk_28 (dk_at dksX1_bids_2 15 rfl rfl)
theorem dX1_bids_62 : decode cX1_bids 62 = .ok (.iload_n 1, 1) := dk_27 (dk_at dksX1_bids_2 16 rfl rfl)
theorem dX1_bids_63 : decode cX1_bids 63 = .ok (.invokestatic 387, 3) := dk_184 1 131 (dk_at dksX1_bids_2 17 rfl rfl)
theorem dX1_bids_66 : decode cX1_bids 66 = .ok (.ifCond .eq 50, 3) := dk_153 0 50 (dk_at dksX1_bids_2 20 rfl rfl)
theorem dX1_bids_69 : decode cX1_bids 69 = .ok (.iload 9, 2) := dk_21 9 (dk_at dksX1_bids_3 0 rfl rfl)
theorem dX1_bids_71 : decode cX1_bids 71 = .ok (.iload 8, 2) := dk_21 8 (dk_at dksX1_bids_3 2 rfl rfl)
theorem dX1_bids_73 : decode cX1_bids 73 = .ok (.iload_n 3, 1) := dk_29 (dk_at dksX1_bids_3 4 rfl rfl)
theorem dX1_bids_74 : decode cX1_bids 74 = .ok (.iload_n 1, 1) := dk_27 (dk_at dksX1_bids_3 5 rfl rfl)
theorem dX1_bids_75 : decode cX1_bids 75 = .ok (.invokestatic 387, 3) := dk_184 1 131 (dk_at dksX1_bids_3 6 rfl rfl)
theorem dX1_bids_78 : decode cX1_bids 78 = .ok (.ifCond .ne 6, 3) := dk_154 0 6 (dk_at dksX1_bids_3 9 rfl rfl)
theorem dX1_bids_81 : decode cX1_bids 81 = .ok (.goto 35, 3) := dk_167 0 35 (dk_at dksX1_bids_3 12 rfl rfl)
theorem dX1_bids_84 : decode cX1_bids 84 = .ok (.iinc 5 1, 3) := dk_132 5 1 (dk_at dksX1_bids_3 15 rfl rfl)
theorem dX1_bids_87 : decode cX1_bids 87 = .ok (.bipush 100, 2) := dk_16 100 (dk_at dksX1_bids_3 18 rfl rfl)
theorem dX1_bids_89 : decode cX1_bids 89 = .ok (.iload 8, 2) := dk_21 8 (dk_at dksX1_bids_3 20 rfl rfl)
theorem dX1_bids_91 : decode cX1_bids 91 = .ok (.imul, 1) := dk_104 (dk_at dksX1_bids_3 22 rfl rfl)
theorem dX1_bids_92 : decode cX1_bids 92 = .ok (.iload 9, 2) := dk_21 9 (dk_at dksX1_bids_4 0 rfl rfl)
theorem dX1_bids_94 : decode cX1_bids 94 = .ok (.iadd, 1) := dk_96 (dk_at dksX1_bids_4 2 rfl rfl)
theorem dX1_bids_95 : decode cX1_bids 95 = .ok (.istore 6, 2) := dk_54 6 (dk_at dksX1_bids_4 3 rfl rfl)
theorem dX1_bids_97 : decode cX1_bids 97 = .ok (.iload 8, 2) := dk_21 8 (dk_at dksX1_bids_4 5 rfl rfl)
theorem dX1_bids_99 : decode cX1_bids 99 = .ok (.iload 9, 2) := dk_21 9 (dk_at dksX1_bids_4 7 rfl rfl)
theorem dX1_bids_101 : decode cX1_bids 101 = .ok (.iload_n 2, 1) := dk_28 (dk_at dksX1_bids_4 9 rfl rfl)
theorem dX1_bids_102 : decode cX1_bids 102 = .ok (.invokestatic 383, 3) := dk_184 1 127 (dk_at dksX1_bids_4 10 rfl rfl)
theorem dX1_bids_105 : decode cX1_bids 105 = .ok (.iload 9, 2) := dk_21 9 (dk_at dksX1_bids_4 13 rfl rfl)
theorem dX1_bids_107 : decode cX1_bids 107 = .ok (.iload 8, 2) := dk_21 8 (dk_at dksX1_bids_4 15 rfl rfl)
theorem dX1_bids_109 : decode cX1_bids 109 = .ok (.iload_n 3, 1) := dk_29 (dk_at dksX1_bids_4 17 rfl rfl)
theorem dX1_bids_110 : decode cX1_bids 110 = .ok (.invokestatic 383, 3) := dk_184 1 127 (dk_at dksX1_bids_4 18 rfl rfl)
theorem dX1_bids_113 : decode cX1_bids 113 = .ok (.iadd, 1) := dk_96 (dk_at dksX1_bids_4 21 rfl rfl)
theorem dX1_bids_114 : decode cX1_bids 114 = .ok (.istore 7, 2) := dk_54 7 (dk_at dksX1_bids_4 22 rfl rfl)
theorem dX1_bids_116 : decode cX1_bids 116 = .ok (.iinc 9 (-1), 3) := dk_132 9 255 (dk_at dksX1_bids_5 0 rfl rfl)
theorem dX1_bids_119 : decode cX1_bids 119 = .ok (.goto (-67), 3) := dk_167 255 189 (dk_at dksX1_bids_5 3 rfl rfl)
theorem dX1_bids_122 : decode cX1_bids 122 = .ok (.iinc 8 (-1), 3) := dk_132 8 255 (dk_at dksX1_bids_5 6 rfl rfl)
theorem dX1_bids_125 : decode cX1_bids 125 = .ok (.goto (-81), 3) := dk_167 255 175 (dk_at dksX1_bids_5 9 rfl rfl)
theorem dX1_bids_128 : decode cX1_bids 128 = .ok (.iload 4, 2) := dk_21 4 (dk_at dksX1_bids_5 12 rfl rfl)
theorem dX1_bids_130 : decode cX1_bids 130 = .ok (.ifCond .ne 8, 3) := dk_154 0 8 (dk_at dksX1_bids_5 14 rfl rfl)
theorem dX1_bids_133 : decode cX1_bids 133 = .ok (.iload 5, 2) := dk_21 5 (dk_at dksX1_bids_5 17 rfl rfl)
theorem dX1_bids_135 : decode cX1_bids 135 = .ok (.goto 16, 3) := dk_167 0 16 (dk_at dksX1_bids_5 19 rfl rfl)
theorem dX1_bids_138 : decode cX1_bids 138 = .ok (.iload 4, 2) := dk_21 4 (dk_at dksX1_bids_5 22 rfl rfl)
theorem dX1_bids_140 : decode cX1_bids 140 = .ok (.iconst 1, 1) := dk_4 (dk_at dksX1_bids_6 0 rfl rfl)
theorem dX1_bids_141 : decode cX1_bids 141 = .ok (.if_icmp .ne 8, 3) := dk_160 0 8 (dk_at dksX1_bids_6 1 rfl rfl)
theorem dX1_bids_144 : decode cX1_bids 144 = .ok (.iload 6, 2) := dk_21 6 (dk_at dksX1_bids_6 4 rfl rfl)
theorem dX1_bids_146 : decode cX1_bids 146 = .ok (.goto 5, 3) := dk_167 0 5 (dk_at dksX1_bids_6 6 rfl rfl)
theorem dX1_bids_149 : decode cX1_bids 149 = .ok (.iload 7, 2) := dk_21 7 (dk_at dksX1_bids_6 9 rfl rfl)
theorem dX1_bids_151 : decode cX1_bids 151 = .ok (.ireturn, 1) := dk_172 (dk_at dksX1_bids_6 11 rfl rfl)
abbrev cX1_isBest : ByteArray := prog_1_method_50_code
def yX1_isBest : MethodName := ⟨RX1, "isBest", "(IIII)Z"⟩
def dkwX1_isBest_1 : List UInt8 := [164, 0, 5, 3, 172, 132, 4, 1, 167, 255, 229, 4, 172]
abbrev dktX1_isBest_1 : List UInt8 := dkwX1_isBest_1 ++ []
def dkwX1_isBest_0 : List UInt8 := [3, 54, 4, 21, 4, 29, 163, 0, 27, 21, 4, 27, 28, 184, 1, 127, 26, 27, 28, 184, 1, 127]
abbrev dktX1_isBest_0 : List UInt8 := dkwX1_isBest_0 ++ dktX1_isBest_1
theorem dksX1_isBest_0 : cX1_isBest.data.toList.drop 0 = dktX1_isBest_0 := by decide +kernel
theorem dksX1_isBest_1 : cX1_isBest.data.toList.drop 22 = dktX1_isBest_1 := dk_seg dksX1_isBest_0 22 rfl rfl
theorem dX1_isBest_0 : decode cX1_isBest 0 = .ok (.iconst 0, 1) := dk_3 (dk_at dksX1_isBest_0 0 rfl rfl)
theorem dX1_isBest_1 : decode cX1_isBest 1 = .ok (.istore 4, 2) := dk_54 4 (dk_at dksX1_isBest_0 1 rfl rfl)
theorem dX1_isBest_3 : decode cX1_isBest 3 = .ok (.iload 4, 2) := dk_21 4 (dk_at dksX1_isBest_0 3 rfl rfl)
theorem dX1_isBest_5 : decode cX1_isBest 5 = .ok (.iload_n 3, 1) := dk_29 (dk_at dksX1_isBest_0 5 rfl rfl)
theorem dX1_isBest_6 : decode cX1_isBest 6 = .ok (.if_icmp .gt 27, 3) := dk_163 0 27 (dk_at dksX1_isBest_0 6 rfl rfl)
theorem dX1_isBest_9 : decode cX1_isBest 9 = .ok (.iload 4, 2) := dk_21 4 (dk_at dksX1_isBest_0 9 rfl rfl)
theorem dX1_isBest_11 : decode cX1_isBest 11 = .ok (.iload_n 1, 1) := dk_27 (dk_at dksX1_isBest_0 11 rfl rfl)
theorem dX1_isBest_12 : decode cX1_isBest 12 = .ok (.iload_n 2, 1) := dk_28 (dk_at dksX1_isBest_0 12 rfl rfl)
theorem dX1_isBest_13 : decode cX1_isBest 13 = .ok (.invokestatic 383, 3) := dk_184 1 127 (dk_at dksX1_isBest_0 13 rfl rfl)
theorem dX1_isBest_16 : decode cX1_isBest 16 = .ok (.iload_n 0, 1) := dk_26 (dk_at dksX1_isBest_0 16 rfl rfl)
theorem dX1_isBest_17 : decode cX1_isBest 17 = .ok (.iload_n 1, 1) := dk_27 (dk_at dksX1_isBest_0 17 rfl rfl)
theorem dX1_isBest_18 : decode cX1_isBest 18 = .ok (.iload_n 2, 1) := dk_28 (dk_at dksX1_isBest_0 18 rfl rfl)
theorem dX1_isBest_19 : decode cX1_isBest 19 = .ok (.invokestatic 383, 3) := dk_184 1 127 (dk_at dksX1_isBest_0 19 rfl rfl)
theorem dX1_isBest_22 : decode cX1_isBest 22 = .ok (.if_icmp .le 5, 3) := dk_164 0 5 (dk_at dksX1_isBest_1 0 rfl rfl)
theorem dX1_isBest_25 : decode cX1_isBest 25 = .ok (.iconst 0, 1) := dk_3 (dk_at dksX1_isBest_1 3 rfl rfl)
theorem dX1_isBest_26 : decode cX1_isBest 26 = .ok (.ireturn, 1) := dk_172 (dk_at dksX1_isBest_1 4 rfl rfl)
theorem dX1_isBest_27 : decode cX1_isBest 27 = .ok (.iinc 4 1, 3) := dk_132 4 1 (dk_at dksX1_isBest_1 5 rfl rfl)
theorem dX1_isBest_30 : decode cX1_isBest 30 = .ok (.goto (-27), 3) := dk_167 255 229 (dk_at dksX1_isBest_1 8 rfl rfl)
theorem dX1_isBest_33 : decode cX1_isBest 33 = .ok (.iconst 1, 1) := dk_4 (dk_at dksX1_isBest_1 11 rfl rfl)
theorem dX1_isBest_34 : decode cX1_isBest 34 = .ok (.ireturn, 1) := dk_172 (dk_at dksX1_isBest_1 12 rfl rfl)
abbrev cX1_hasBy : ByteArray := prog_1_method_49_code
def yX1_hasBy : MethodName := ⟨RX1, "hasBy", "(III)I"⟩
def dkwX1_hasBy_1 : List UInt8 := [3, 172]
abbrev dktX1_hasBy_1 : List UInt8 := dkwX1_hasBy_1 ++ []
def dkwX1_hasBy_0 : List UInt8 := [26, 27, 164, 0, 9, 28, 26, 100, 167, 0, 17, 26, 27, 160, 0, 11, 28, 26, 100, 5, 108, 167, 0, 4]
abbrev dktX1_hasBy_0 : List UInt8 := dkwX1_hasBy_0 ++ dktX1_hasBy_1
theorem dksX1_hasBy_0 : cX1_hasBy.data.toList.drop 0 = dktX1_hasBy_0 := by decide +kernel
theorem dksX1_hasBy_1 : cX1_hasBy.data.toList.drop 24 = dktX1_hasBy_1 := dk_seg dksX1_hasBy_0 24 rfl rfl
theorem dX1_hasBy_0 : decode cX1_hasBy 0 = .ok (.iload_n 0, 1) := dk_26 (dk_at dksX1_hasBy_0 0 rfl rfl)
theorem dX1_hasBy_1 : decode cX1_hasBy 1 = .ok (.iload_n 1, 1) := dk_27 (dk_at dksX1_hasBy_0 1 rfl rfl)
theorem dX1_hasBy_2 : decode cX1_hasBy 2 = .ok (.if_icmp .le 9, 3) := dk_164 0 9 (dk_at dksX1_hasBy_0 2 rfl rfl)
theorem dX1_hasBy_5 : decode cX1_hasBy 5 = .ok (.iload_n 2, 1) := dk_28 (dk_at dksX1_hasBy_0 5 rfl rfl)
theorem dX1_hasBy_6 : decode cX1_hasBy 6 = .ok (.iload_n 0, 1) := dk_26 (dk_at dksX1_hasBy_0 6 rfl rfl)
theorem dX1_hasBy_7 : decode cX1_hasBy 7 = .ok (.isub, 1) := dk_100 (dk_at dksX1_hasBy_0 7 rfl rfl)
theorem dX1_hasBy_8 : decode cX1_hasBy 8 = .ok (.goto 17, 3) := dk_167 0 17 (dk_at dksX1_hasBy_0 8 rfl rfl)
theorem dX1_hasBy_11 : decode cX1_hasBy 11 = .ok (.iload_n 0, 1) := dk_26 (dk_at dksX1_hasBy_0 11 rfl rfl)
theorem dX1_hasBy_12 : decode cX1_hasBy 12 = .ok (.iload_n 1, 1) := dk_27 (dk_at dksX1_hasBy_0 12 rfl rfl)
theorem dX1_hasBy_13 : decode cX1_hasBy 13 = .ok (.if_icmp .ne 11, 3) := dk_160 0 11 (dk_at dksX1_hasBy_0 13 rfl rfl)
theorem dX1_hasBy_16 : decode cX1_hasBy 16 = .ok (.iload_n 2, 1) := dk_28 (dk_at dksX1_hasBy_0 16 rfl rfl)
theorem dX1_hasBy_17 : decode cX1_hasBy 17 = .ok (.iload_n 0, 1) := dk_26 (dk_at dksX1_hasBy_0 17 rfl rfl)
theorem dX1_hasBy_18 : decode cX1_hasBy 18 = .ok (.isub, 1) := dk_100 (dk_at dksX1_hasBy_0 18 rfl rfl)
theorem dX1_hasBy_19 : decode cX1_hasBy 19 = .ok (.iconst 2, 1) := dk_5 (dk_at dksX1_hasBy_0 19 rfl rfl)
theorem dX1_hasBy_20 : decode cX1_hasBy 20 = .ok (.idiv, 1) := dk_108 (dk_at dksX1_hasBy_0 20 rfl rfl)
theorem dX1_hasBy_21 : decode cX1_hasBy 21 = .ok (.goto 4, 3) := dk_167 0 4 (dk_at dksX1_hasBy_0 21 rfl rfl)
theorem dX1_hasBy_24 : decode cX1_hasBy 24 = .ok (.iconst 0, 1) := dk_3 (dk_at dksX1_hasBy_1 0 rfl rfl)
theorem dX1_hasBy_25 : decode cX1_hasBy 25 = .ok (.ireturn, 1) := dk_172 (dk_at dksX1_hasBy_1 1 rfl rfl)
abbrev cX1_has : ByteArray := prog_1_method_52_code
def yX1_has : MethodName := ⟨RX1, "has", "(III)I"⟩
def dkwX1_has_1 : List UInt8 := [27, 28, 29, 184, 1, 127, 172]
abbrev dktX1_has_1 : List UInt8 := dkwX1_has_1 ++ []
def dkwX1_has_0 : List UInt8 := [42, 27, 3, 16, 99, 182, 0, 117, 42, 28, 3, 16, 99, 182, 0, 117, 42, 29, 3, 16, 99, 182, 0, 117]
abbrev dktX1_has_0 : List UInt8 := dkwX1_has_0 ++ dktX1_has_1
theorem dksX1_has_0 : cX1_has.data.toList.drop 0 = dktX1_has_0 := by decide +kernel
theorem dksX1_has_1 : cX1_has.data.toList.drop 24 = dktX1_has_1 := dk_seg dksX1_has_0 24 rfl rfl
theorem dX1_has_0 : decode cX1_has 0 = .ok (.aload_n 0, 1) := dk_42 (dk_at dksX1_has_0 0 rfl rfl)
theorem dX1_has_1 : decode cX1_has 1 = .ok (.iload_n 1, 1) := dk_27 (dk_at dksX1_has_0 1 rfl rfl)
theorem dX1_has_2 : decode cX1_has 2 = .ok (.iconst 0, 1) := dk_3 (dk_at dksX1_has_0 2 rfl rfl)
theorem dX1_has_3 : decode cX1_has 3 = .ok (.bipush 99, 2) := dk_16 99 (dk_at dksX1_has_0 3 rfl rfl)
theorem dX1_has_5 : decode cX1_has 5 = .ok (.invokevirtual 117, 3) := dk_182 0 117 (dk_at dksX1_has_0 5 rfl rfl)
theorem dX1_has_8 : decode cX1_has 8 = .ok (.aload_n 0, 1) := dk_42 (dk_at dksX1_has_0 8 rfl rfl)
theorem dX1_has_9 : decode cX1_has 9 = .ok (.iload_n 2, 1) := dk_28 (dk_at dksX1_has_0 9 rfl rfl)
theorem dX1_has_10 : decode cX1_has 10 = .ok (.iconst 0, 1) := dk_3 (dk_at dksX1_has_0 10 rfl rfl)
theorem dX1_has_11 : decode cX1_has 11 = .ok (.bipush 99, 2) := dk_16 99 (dk_at dksX1_has_0 11 rfl rfl)
theorem dX1_has_13 : decode cX1_has 13 = .ok (.invokevirtual 117, 3) := dk_182 0 117 (dk_at dksX1_has_0 13 rfl rfl)
theorem dX1_has_16 : decode cX1_has 16 = .ok (.aload_n 0, 1) := dk_42 (dk_at dksX1_has_0 16 rfl rfl)
theorem dX1_has_17 : decode cX1_has 17 = .ok (.iload_n 3, 1) := dk_29 (dk_at dksX1_has_0 17 rfl rfl)
theorem dX1_has_18 : decode cX1_has 18 = .ok (.iconst 0, 1) := dk_3 (dk_at dksX1_has_0 18 rfl rfl)
theorem dX1_has_19 : decode cX1_has 19 = .ok (.bipush 99, 2) := dk_16 99 (dk_at dksX1_has_0 19 rfl rfl)
theorem dX1_has_21 : decode cX1_has 21 = .ok (.invokevirtual 117, 3) := dk_182 0 117 (dk_at dksX1_has_0 21 rfl rfl)
theorem dX1_has_24 : decode cX1_has 24 = .ok (.iload_n 1, 1) := dk_27 (dk_at dksX1_has_1 0 rfl rfl)
theorem dX1_has_25 : decode cX1_has 25 = .ok (.iload_n 2, 1) := dk_28 (dk_at dksX1_has_1 1 rfl rfl)
theorem dX1_has_26 : decode cX1_has 26 = .ok (.iload_n 3, 1) := dk_29 (dk_at dksX1_has_1 2 rfl rfl)
theorem dX1_has_27 : decode cX1_has 27 = .ok (.invokestatic 383, 3) := dk_184 1 127 (dk_at dksX1_has_1 3 rfl rfl)
theorem dX1_has_30 : decode cX1_has 30 = .ok (.ireturn, 1) := dk_172 (dk_at dksX1_has_1 6 rfl rfl)
abbrev cX1_voyage : ByteArray := prog_1_method_56_code
def yX1_voyage : MethodName := ⟨RX1, "voyage", "(IIIII)I"⟩
def dkwX1_voyage_3 : List UInt8 := [25, 6, 6, 182, 0, 223, 172]
abbrev dktX1_voyage_3 : List UInt8 := dkwX1_voyage_3 ++ []
def dkwX1_voyage_2 : List UInt8 := [160, 0, 11, 25, 6, 180, 0, 217, 167, 0, 22, 21, 5, 5, 160, 0, 10, 42, 180, 1, 135, 167, 0, 9]
abbrev dktX1_voyage_2 : List UInt8 := dkwX1_voyage_2 ++ dktX1_voyage_3
def dkwX1_voyage_1 : List UInt8 := [182, 1, 142, 58, 6, 21, 5, 154, 0, 12, 42, 25, 6, 182, 1, 146, 167, 0, 36, 21, 5, 4]
abbrev dktX1_voyage_1 : List UInt8 := dkwX1_voyage_1 ++ dktX1_voyage_2
def dkwX1_voyage_0 : List UInt8 := [42, 28, 29, 21, 4, 182, 1, 139, 42, 21, 5, 3, 6, 182, 0, 117, 42, 27, 28, 29, 21, 4]
abbrev dktX1_voyage_0 : List UInt8 := dkwX1_voyage_0 ++ dktX1_voyage_1
theorem dksX1_voyage_0 : cX1_voyage.data.toList.drop 0 = dktX1_voyage_0 := by decide +kernel
theorem dksX1_voyage_1 : cX1_voyage.data.toList.drop 22 = dktX1_voyage_1 := dk_seg dksX1_voyage_0 22 rfl rfl
theorem dksX1_voyage_2 : cX1_voyage.data.toList.drop 44 = dktX1_voyage_2 := dk_seg dksX1_voyage_1 22 rfl rfl
theorem dksX1_voyage_3 : cX1_voyage.data.toList.drop 68 = dktX1_voyage_3 := dk_seg dksX1_voyage_2 24 rfl rfl
theorem dX1_voyage_0 : decode cX1_voyage 0 = .ok (.aload_n 0, 1) := dk_42 (dk_at dksX1_voyage_0 0 rfl rfl)
theorem dX1_voyage_1 : decode cX1_voyage 1 = .ok (.iload_n 2, 1) := dk_28 (dk_at dksX1_voyage_0 1 rfl rfl)
theorem dX1_voyage_2 : decode cX1_voyage 2 = .ok (.iload_n 3, 1) := dk_29 (dk_at dksX1_voyage_0 2 rfl rfl)
theorem dX1_voyage_3 : decode cX1_voyage 3 = .ok (.iload 4, 2) := dk_21 4 (dk_at dksX1_voyage_0 3 rfl rfl)
theorem dX1_voyage_5 : decode cX1_voyage 5 = .ok (.invokevirtual 395, 3) := dk_182 1 139 (dk_at dksX1_voyage_0 5 rfl rfl)
theorem dX1_voyage_8 : decode cX1_voyage 8 = .ok (.aload_n 0, 1) := dk_42 (dk_at dksX1_voyage_0 8 rfl rfl)
theorem dX1_voyage_9 : decode cX1_voyage 9 = .ok (.iload 5, 2) := dk_21 5 (dk_at dksX1_voyage_0 9 rfl rfl)
theorem dX1_voyage_11 : decode cX1_voyage 11 = .ok (.iconst 0, 1) := dk_3 (dk_at dksX1_voyage_0 11 rfl rfl)
theorem dX1_voyage_12 : decode cX1_voyage 12 = .ok (.iconst 3, 1) := dk_6 (dk_at dksX1_voyage_0 12 rfl rfl)
theorem dX1_voyage_13 : decode cX1_voyage 13 = .ok (.invokevirtual 117, 3) := dk_182 0 117 (dk_at dksX1_voyage_0 13 rfl rfl)
theorem dX1_voyage_16 : decode cX1_voyage 16 = .ok (.aload_n 0, 1) := dk_42 (dk_at dksX1_voyage_0 16 rfl rfl)
theorem dX1_voyage_17 : decode cX1_voyage 17 = .ok (.iload_n 1, 1) := dk_27 (dk_at dksX1_voyage_0 17 rfl rfl)
theorem dX1_voyage_18 : decode cX1_voyage 18 = .ok (.iload_n 2, 1) := dk_28 (dk_at dksX1_voyage_0 18 rfl rfl)
theorem dX1_voyage_19 : decode cX1_voyage 19 = .ok (.iload_n 3, 1) := dk_29 (dk_at dksX1_voyage_0 19 rfl rfl)
theorem dX1_voyage_20 : decode cX1_voyage 20 = .ok (.iload 4, 2) := dk_21 4 (dk_at dksX1_voyage_0 20 rfl rfl)
theorem dX1_voyage_22 : decode cX1_voyage 22 = .ok (.invokevirtual 398, 3) := dk_182 1 142 (dk_at dksX1_voyage_1 0 rfl rfl)
theorem dX1_voyage_25 : decode cX1_voyage 25 = .ok (.astore 6, 2) := dk_58 6 (dk_at dksX1_voyage_1 3 rfl rfl)
theorem dX1_voyage_27 : decode cX1_voyage 27 = .ok (.iload 5, 2) := dk_21 5 (dk_at dksX1_voyage_1 5 rfl rfl)
theorem dX1_voyage_29 : decode cX1_voyage 29 = .ok (.ifCond .ne 12, 3) := dk_154 0 12 (dk_at dksX1_voyage_1 7 rfl rfl)
theorem dX1_voyage_32 : decode cX1_voyage 32 = .ok (.aload_n 0, 1) := dk_42 (dk_at dksX1_voyage_1 10 rfl rfl)
theorem dX1_voyage_33 : decode cX1_voyage 33 = .ok (.aload 6, 2) := dk_25 6 (dk_at dksX1_voyage_1 11 rfl rfl)
theorem dX1_voyage_35 : decode cX1_voyage 35 = .ok (.invokevirtual 402, 3) := dk_182 1 146 (dk_at dksX1_voyage_1 13 rfl rfl)
theorem dX1_voyage_38 : decode cX1_voyage 38 = .ok (.goto 36, 3) := dk_167 0 36 (dk_at dksX1_voyage_1 16 rfl rfl)
theorem dX1_voyage_41 : decode cX1_voyage 41 = .ok (.iload 5, 2) := dk_21 5 (dk_at dksX1_voyage_1 19 rfl rfl)
theorem dX1_voyage_43 : decode cX1_voyage 43 = .ok (.iconst 1, 1) := dk_4 (dk_at dksX1_voyage_1 21 rfl rfl)
theorem dX1_voyage_44 : decode cX1_voyage 44 = .ok (.if_icmp .ne 11, 3) := dk_160 0 11 (dk_at dksX1_voyage_2 0 rfl rfl)
theorem dX1_voyage_47 : decode cX1_voyage 47 = .ok (.aload 6, 2) := dk_25 6 (dk_at dksX1_voyage_2 3 rfl rfl)
theorem dX1_voyage_49 : decode cX1_voyage 49 = .ok (.getfield 217, 3) := dk_180 0 217 (dk_at dksX1_voyage_2 5 rfl rfl)
theorem dX1_voyage_52 : decode cX1_voyage 52 = .ok (.goto 22, 3) := dk_167 0 22 (dk_at dksX1_voyage_2 8 rfl rfl)
theorem dX1_voyage_55 : decode cX1_voyage 55 = .ok (.iload 5, 2) := dk_21 5 (dk_at dksX1_voyage_2 11 rfl rfl)
theorem dX1_voyage_57 : decode cX1_voyage 57 = .ok (.iconst 2, 1) := dk_5 (dk_at dksX1_voyage_2 13 rfl rfl)
theorem dX1_voyage_58 : decode cX1_voyage 58 = .ok (.if_icmp .ne 10, 3) := dk_160 0 10 (dk_at dksX1_voyage_2 14 rfl rfl)
theorem dX1_voyage_61 : decode cX1_voyage 61 = .ok (.aload_n 0, 1) := dk_42 (dk_at dksX1_voyage_2 17 rfl rfl)
theorem dX1_voyage_62 : decode cX1_voyage 62 = .ok (.getfield 391, 3) := dk_180 1 135 (dk_at dksX1_voyage_2 18 rfl rfl)
theorem dX1_voyage_65 : decode cX1_voyage 65 = .ok (.goto 9, 3) := dk_167 0 9 (dk_at dksX1_voyage_2 21 rfl rfl)
theorem dX1_voyage_68 : decode cX1_voyage 68 = .ok (.aload 6, 2) := dk_25 6 (dk_at dksX1_voyage_3 0 rfl rfl)
theorem dX1_voyage_70 : decode cX1_voyage 70 = .ok (.iconst 3, 1) := dk_6 (dk_at dksX1_voyage_3 2 rfl rfl)
theorem dX1_voyage_71 : decode cX1_voyage 71 = .ok (.invokevirtual 223, 3) := dk_182 0 223 (dk_at dksX1_voyage_3 3 rfl rfl)
theorem dX1_voyage_74 : decode cX1_voyage 74 = .ok (.ireturn, 1) := dk_172 (dk_at dksX1_voyage_3 6 rfl rfl)
abbrev cX1_voyageOf : ByteArray := prog_1_method_54_code
def yX1_voyageOf : MethodName := ⟨RX1, "voyageOf", "(III)V"⟩
def dkwX1_voyageOf_1 : List UInt8 := [177]
abbrev dktX1_voyageOf_1 : List UInt8 := dkwX1_voyageOf_1 ++ []
def dkwX1_voyageOf_0 : List UInt8 := [42, 27, 3, 16, 16, 182, 0, 117, 42, 28, 3, 16, 40, 182, 0, 117, 42, 29, 4, 16, 99, 182, 0, 117]
abbrev dktX1_voyageOf_0 : List UInt8 := dkwX1_voyageOf_0 ++ dktX1_voyageOf_1
theorem dksX1_voyageOf_0 : cX1_voyageOf.data.toList.drop 0 = dktX1_voyageOf_0 := by decide +kernel
theorem dksX1_voyageOf_1 : cX1_voyageOf.data.toList.drop 24 = dktX1_voyageOf_1 := dk_seg dksX1_voyageOf_0 24 rfl rfl
theorem dX1_voyageOf_0 : decode cX1_voyageOf 0 = .ok (.aload_n 0, 1) := dk_42 (dk_at dksX1_voyageOf_0 0 rfl rfl)
theorem dX1_voyageOf_1 : decode cX1_voyageOf 1 = .ok (.iload_n 1, 1) := dk_27 (dk_at dksX1_voyageOf_0 1 rfl rfl)
theorem dX1_voyageOf_2 : decode cX1_voyageOf 2 = .ok (.iconst 0, 1) := dk_3 (dk_at dksX1_voyageOf_0 2 rfl rfl)
theorem dX1_voyageOf_3 : decode cX1_voyageOf 3 = .ok (.bipush 16, 2) := dk_16 16 (dk_at dksX1_voyageOf_0 3 rfl rfl)
theorem dX1_voyageOf_5 : decode cX1_voyageOf 5 = .ok (.invokevirtual 117, 3) := dk_182 0 117 (dk_at dksX1_voyageOf_0 5 rfl rfl)
theorem dX1_voyageOf_8 : decode cX1_voyageOf 8 = .ok (.aload_n 0, 1) := dk_42 (dk_at dksX1_voyageOf_0 8 rfl rfl)
theorem dX1_voyageOf_9 : decode cX1_voyageOf 9 = .ok (.iload_n 2, 1) := dk_28 (dk_at dksX1_voyageOf_0 9 rfl rfl)
theorem dX1_voyageOf_10 : decode cX1_voyageOf 10 = .ok (.iconst 0, 1) := dk_3 (dk_at dksX1_voyageOf_0 10 rfl rfl)
theorem dX1_voyageOf_11 : decode cX1_voyageOf 11 = .ok (.bipush 40, 2) := dk_16 40 (dk_at dksX1_voyageOf_0 11 rfl rfl)
theorem dX1_voyageOf_13 : decode cX1_voyageOf 13 = .ok (.invokevirtual 117, 3) := dk_182 0 117 (dk_at dksX1_voyageOf_0 13 rfl rfl)
theorem dX1_voyageOf_16 : decode cX1_voyageOf 16 = .ok (.aload_n 0, 1) := dk_42 (dk_at dksX1_voyageOf_0 16 rfl rfl)
theorem dX1_voyageOf_17 : decode cX1_voyageOf 17 = .ok (.iload_n 3, 1) := dk_29 (dk_at dksX1_voyageOf_0 17 rfl rfl)
theorem dX1_voyageOf_18 : decode cX1_voyageOf 18 = .ok (.iconst 1, 1) := dk_4 (dk_at dksX1_voyageOf_0 18 rfl rfl)
theorem dX1_voyageOf_19 : decode cX1_voyageOf 19 = .ok (.bipush 99, 2) := dk_16 99 (dk_at dksX1_voyageOf_0 19 rfl rfl)
theorem dX1_voyageOf_21 : decode cX1_voyageOf 21 = .ok (.invokevirtual 117, 3) := dk_182 0 117 (dk_at dksX1_voyageOf_0 21 rfl rfl)
theorem dX1_voyageOf_24 : decode cX1_voyageOf 24 = .ok (.return_, 1) := dk_177 (dk_at dksX1_voyageOf_1 0 rfl rfl)
abbrev cX1_sails : ByteArray := prog_1_method_53_code
def yX1_sails : MethodName := ⟨RX1, "sails", "(IIII)LPassagePapers$State;"⟩
def dkwX1_sails_4 : List UInt8 := [42, 180, 0, 36, 176]
abbrev dktX1_sails_4 : List UInt8 := dkwX1_sails_4 ++ []
def dkwX1_sails_3 : List UInt8 := [180, 0, 217, 29, 100, 184, 1, 91, 181, 0, 217, 42, 180, 0, 36, 182, 1, 53, 132, 6, 1, 167, 255, 181]
abbrev dktX1_sails_3 : List UInt8 := dkwX1_sails_3 ++ dktX1_sails_4
def dkwX1_sails_2 : List UInt8 := [28, 162, 0, 33, 42, 89, 180, 1, 135, 4, 96, 181, 1, 135, 42, 180, 0, 36, 3, 42, 180, 0, 36]
abbrev dktX1_sails_2 : List UInt8 := dkwX1_sails_2 ++ dktX1_sails_3
def dkwX1_sails_1 : List UInt8 := [21, 5, 19, 1, 138, 104, 17, 48, 57, 96, 54, 5, 21, 5, 16, 16, 122, 17, 127, 255, 126, 16, 16, 112]
abbrev dktX1_sails_1 : List UInt8 := dkwX1_sails_1 ++ dktX1_sails_2
def dkwX1_sails_0 : List UInt8 := [27, 54, 5, 42, 182, 1, 47, 87, 42, 3, 181, 1, 135, 3, 54, 6, 21, 6, 21, 4, 162, 0, 74]
abbrev dktX1_sails_0 : List UInt8 := dkwX1_sails_0 ++ dktX1_sails_1
theorem dksX1_sails_0 : cX1_sails.data.toList.drop 0 = dktX1_sails_0 := by decide +kernel
theorem dksX1_sails_1 : cX1_sails.data.toList.drop 23 = dktX1_sails_1 := dk_seg dksX1_sails_0 23 rfl rfl
theorem dksX1_sails_2 : cX1_sails.data.toList.drop 47 = dktX1_sails_2 := dk_seg dksX1_sails_1 24 rfl rfl
theorem dksX1_sails_3 : cX1_sails.data.toList.drop 70 = dktX1_sails_3 := dk_seg dksX1_sails_2 23 rfl rfl
theorem dksX1_sails_4 : cX1_sails.data.toList.drop 94 = dktX1_sails_4 := dk_seg dksX1_sails_3 24 rfl rfl
theorem dX1_sails_0 : decode cX1_sails 0 = .ok (.iload_n 1, 1) := dk_27 (dk_at dksX1_sails_0 0 rfl rfl)
theorem dX1_sails_1 : decode cX1_sails 1 = .ok (.istore 5, 2) := dk_54 5 (dk_at dksX1_sails_0 1 rfl rfl)
theorem dX1_sails_3 : decode cX1_sails 3 = .ok (.aload_n 0, 1) := dk_42 (dk_at dksX1_sails_0 3 rfl rfl)
theorem dX1_sails_4 : decode cX1_sails 4 = .ok (.invokevirtual 303, 3) := dk_182 1 47 (dk_at dksX1_sails_0 4 rfl rfl)
theorem dX1_sails_7 : decode cX1_sails 7 = .ok (.pop, 1) := dk_87 (dk_at dksX1_sails_0 7 rfl rfl)
theorem dX1_sails_8 : decode cX1_sails 8 = .ok (.aload_n 0, 1) := dk_42 (dk_at dksX1_sails_0 8 rfl rfl)
theorem dX1_sails_9 : decode cX1_sails 9 = .ok (.iconst 0, 1) := dk_3 (dk_at dksX1_sails_0 9 rfl rfl)
theorem dX1_sails_10 : decode cX1_sails 10 = .ok (.putfield 391, 3) := dk_181 1 135 (dk_at dksX1_sails_0 10 rfl rfl)
theorem dX1_sails_13 : decode cX1_sails 13 = .ok (.iconst 0, 1) := dk_3 (dk_at dksX1_sails_0 13 rfl rfl)
theorem dX1_sails_14 : decode cX1_sails 14 = .ok (.istore 6, 2) := dk_54 6 (dk_at dksX1_sails_0 14 rfl rfl)
theorem dX1_sails_16 : decode cX1_sails 16 = .ok (.iload 6, 2) := dk_21 6 (dk_at dksX1_sails_0 16 rfl rfl)
theorem dX1_sails_18 : decode cX1_sails 18 = .ok (.iload 4, 2) := dk_21 4 (dk_at dksX1_sails_0 18 rfl rfl)
theorem dX1_sails_20 : decode cX1_sails 20 = .ok (.if_icmp .ge 74, 3) := dk_162 0 74 (dk_at dksX1_sails_0 20 rfl rfl)
theorem dX1_sails_23 : decode cX1_sails 23 = .ok (.iload 5, 2) := dk_21 5 (dk_at dksX1_sails_1 0 rfl rfl)
theorem dX1_sails_25 : decode cX1_sails 25 = .ok (.ldc_w 394, 3) := dk_19 1 138 (dk_at dksX1_sails_1 2 rfl rfl)
theorem dX1_sails_28 : decode cX1_sails 28 = .ok (.imul, 1) := dk_104 (dk_at dksX1_sails_1 5 rfl rfl)
theorem dX1_sails_29 : decode cX1_sails 29 = .ok (.sipush 12345, 3) := dk_17 48 57 (dk_at dksX1_sails_1 6 rfl rfl)
theorem dX1_sails_32 : decode cX1_sails 32 = .ok (.iadd, 1) := dk_96 (dk_at dksX1_sails_1 9 rfl rfl)
theorem dX1_sails_33 : decode cX1_sails 33 = .ok (.istore 5, 2) := dk_54 5 (dk_at dksX1_sails_1 10 rfl rfl)
theorem dX1_sails_35 : decode cX1_sails 35 = .ok (.iload 5, 2) := dk_21 5 (dk_at dksX1_sails_1 12 rfl rfl)
theorem dX1_sails_37 : decode cX1_sails 37 = .ok (.bipush 16, 2) := dk_16 16 (dk_at dksX1_sails_1 14 rfl rfl)
theorem dX1_sails_39 : decode cX1_sails 39 = .ok (.ishr, 1) := dk_122 (dk_at dksX1_sails_1 16 rfl rfl)
theorem dX1_sails_40 : decode cX1_sails 40 = .ok (.sipush 32767, 3) := dk_17 127 255 (dk_at dksX1_sails_1 17 rfl rfl)
theorem dX1_sails_43 : decode cX1_sails 43 = .ok (.iand, 1) := dk_126 (dk_at dksX1_sails_1 20 rfl rfl)
theorem dX1_sails_44 : decode cX1_sails 44 = .ok (.bipush 16, 2) := dk_16 16 (dk_at dksX1_sails_1 21 rfl rfl)
theorem dX1_sails_46 : decode cX1_sails 46 = .ok (.irem, 1) := dk_112 (dk_at dksX1_sails_1 23 rfl rfl)
theorem dX1_sails_47 : decode cX1_sails 47 = .ok (.iload_n 2, 1) := dk_28 (dk_at dksX1_sails_2 0 rfl rfl)
theorem dX1_sails_48 : decode cX1_sails 48 = .ok (.if_icmp .ge 33, 3) := dk_162 0 33 (dk_at dksX1_sails_2 1 rfl rfl)
theorem dX1_sails_51 : decode cX1_sails 51 = .ok (.aload_n 0, 1) := dk_42 (dk_at dksX1_sails_2 4 rfl rfl)
theorem dX1_sails_52 : decode cX1_sails 52 = .ok (.dup, 1) := dk_89 (dk_at dksX1_sails_2 5 rfl rfl)
theorem dX1_sails_53 : decode cX1_sails 53 = .ok (.getfield 391, 3) := dk_180 1 135 (dk_at dksX1_sails_2 6 rfl rfl)
theorem dX1_sails_56 : decode cX1_sails 56 = .ok (.iconst 1, 1) := dk_4 (dk_at dksX1_sails_2 9 rfl rfl)
theorem dX1_sails_57 : decode cX1_sails 57 = .ok (.iadd, 1) := dk_96 (dk_at dksX1_sails_2 10 rfl rfl)
theorem dX1_sails_58 : decode cX1_sails 58 = .ok (.putfield 391, 3) := dk_181 1 135 (dk_at dksX1_sails_2 11 rfl rfl)
theorem dX1_sails_61 : decode cX1_sails 61 = .ok (.aload_n 0, 1) := dk_42 (dk_at dksX1_sails_2 14 rfl rfl)
theorem dX1_sails_62 : decode cX1_sails 62 = .ok (.getfield 36, 3) := dk_180 0 36 (dk_at dksX1_sails_2 15 rfl rfl)
theorem dX1_sails_65 : decode cX1_sails 65 = .ok (.iconst 0, 1) := dk_3 (dk_at dksX1_sails_2 18 rfl rfl)
theorem dX1_sails_66 : decode cX1_sails 66 = .ok (.aload_n 0, 1) := dk_42 (dk_at dksX1_sails_2 19 rfl rfl)
theorem dX1_sails_67 : decode cX1_sails 67 = .ok (.getfield 36, 3) := dk_180 0 36 (dk_at dksX1_sails_2 20 rfl rfl)
theorem dX1_sails_70 : decode cX1_sails 70 = .ok (.getfield 217, 3) := dk_180 0 217 (dk_at dksX1_sails_3 0 rfl rfl)
theorem dX1_sails_73 : decode cX1_sails 73 = .ok (.iload_n 3, 1) := dk_29 (dk_at dksX1_sails_3 3 rfl rfl)
theorem dX1_sails_74 : decode cX1_sails 74 = .ok (.isub, 1) := dk_100 (dk_at dksX1_sails_3 4 rfl rfl)
theorem dX1_sails_75 : decode cX1_sails 75 = .ok (.invokestatic 347, 3) := dk_184 1 91 (dk_at dksX1_sails_3 5 rfl rfl)
theorem dX1_sails_78 : decode cX1_sails 78 = .ok (.putfield 217, 3) := dk_181 0 217 (dk_at dksX1_sails_3 8 rfl rfl)
theorem dX1_sails_81 : decode cX1_sails 81 = .ok (.aload_n 0, 1) := dk_42 (dk_at dksX1_sails_3 11 rfl rfl)
theorem dX1_sails_82 : decode cX1_sails 82 = .ok (.getfield 36, 3) := dk_180 0 36 (dk_at dksX1_sails_3 12 rfl rfl)
theorem dX1_sails_85 : decode cX1_sails 85 = .ok (.invokevirtual 309, 3) := dk_182 1 53 (dk_at dksX1_sails_3 15 rfl rfl)
theorem dX1_sails_88 : decode cX1_sails 88 = .ok (.iinc 6 1, 3) := dk_132 6 1 (dk_at dksX1_sails_3 18 rfl rfl)
theorem dX1_sails_91 : decode cX1_sails 91 = .ok (.goto (-75), 3) := dk_167 255 181 (dk_at dksX1_sails_3 21 rfl rfl)
theorem dX1_sails_94 : decode cX1_sails 94 = .ok (.aload_n 0, 1) := dk_42 (dk_at dksX1_sails_4 0 rfl rfl)
theorem dX1_sails_95 : decode cX1_sails 95 = .ok (.getfield 36, 3) := dk_180 0 36 (dk_at dksX1_sails_4 1 rfl rfl)
theorem dX1_sails_98 : decode cX1_sails 98 = .ok (.areturn, 1) := dk_176 (dk_at dksX1_sails_4 4 rfl rfl)
abbrev cX1_hungrier : ByteArray := prog_1_method_55_code
def yX1_hungrier : MethodName := ⟨RX1, "hungrier", "(LPassagePapers$State;)I"⟩
def dkwX1_hungrier_0 : List UInt8 := [43, 180, 0, 250, 184, 1, 63, 42, 180, 0, 25, 182, 0, 81, 180, 0, 250, 184, 1, 63, 100, 172]
abbrev dktX1_hungrier_0 : List UInt8 := dkwX1_hungrier_0 ++ []
theorem dksX1_hungrier_0 : cX1_hungrier.data.toList.drop 0 = dktX1_hungrier_0 := by decide +kernel
theorem dX1_hungrier_0 : decode cX1_hungrier 0 = .ok (.aload_n 1, 1) := dk_43 (dk_at dksX1_hungrier_0 0 rfl rfl)
theorem dX1_hungrier_1 : decode cX1_hungrier 1 = .ok (.getfield 250, 3) := dk_180 0 250 (dk_at dksX1_hungrier_0 1 rfl rfl)
theorem dX1_hungrier_4 : decode cX1_hungrier 4 = .ok (.invokestatic 319, 3) := dk_184 1 63 (dk_at dksX1_hungrier_0 4 rfl rfl)
theorem dX1_hungrier_7 : decode cX1_hungrier 7 = .ok (.aload_n 0, 1) := dk_42 (dk_at dksX1_hungrier_0 7 rfl rfl)
theorem dX1_hungrier_8 : decode cX1_hungrier 8 = .ok (.getfield 25, 3) := dk_180 0 25 (dk_at dksX1_hungrier_0 8 rfl rfl)
theorem dX1_hungrier_11 : decode cX1_hungrier 11 = .ok (.invokevirtual 81, 3) := dk_182 0 81 (dk_at dksX1_hungrier_0 11 rfl rfl)
theorem dX1_hungrier_14 : decode cX1_hungrier 14 = .ok (.getfield 250, 3) := dk_180 0 250 (dk_at dksX1_hungrier_0 14 rfl rfl)
theorem dX1_hungrier_17 : decode cX1_hungrier 17 = .ok (.invokestatic 319, 3) := dk_184 1 63 (dk_at dksX1_hungrier_0 17 rfl rfl)
theorem dX1_hungrier_20 : decode cX1_hungrier 20 = .ok (.isub, 1) := dk_100 (dk_at dksX1_hungrier_0 20 rfl rfl)
theorem dX1_hungrier_21 : decode cX1_hungrier 21 = .ok (.ireturn, 1) := dk_172 (dk_at dksX1_hungrier_0 21 rfl rfl)
abbrev cX1_span : ByteArray := prog_1_method_57_code
def yX1_span : MethodName := ⟨RX1, "span", "(IIIIII)I"⟩
def dkwX1_span_5 : List UInt8 := [4, 160, 0, 8, 21, 8, 167, 0, 5, 21, 9, 172]
abbrev dktX1_span_5 : List UInt8 := dkwX1_span_5 ++ []
def dkwX1_span_4 : List UInt8 := [154, 0, 6, 132, 9, 1, 132, 10, 1, 167, 255, 192, 21, 6, 154, 0, 8, 21, 7, 167, 0, 16, 21, 6]
abbrev dktX1_span_4 : List UInt8 := dkwX1_span_4 ++ dktX1_span_5
def dkwX1_span_3 : List UInt8 := [167, 0, 10, 21, 7, 21, 11, 184, 0, 154, 54, 7, 21, 8, 21, 11, 184, 1, 91, 54, 8, 21, 11]
abbrev dktX1_span_3 : List UInt8 := dkwX1_span_3 ++ dktX1_span_4
def dkwX1_span_2 : List UInt8 := [21, 10, 96, 29, 21, 4, 21, 5, 182, 1, 142, 182, 1, 146, 54, 11, 21, 10, 154, 0, 8, 21, 11]
abbrev dktX1_span_2 : List UInt8 := dkwX1_span_2 ++ dktX1_span_3
def dkwX1_span_1 : List UInt8 := [182, 0, 117, 3, 54, 7, 3, 54, 8, 3, 54, 9, 3, 54, 10, 21, 10, 28, 162, 0, 64, 42, 42, 27]
abbrev dktX1_span_1 : List UInt8 := dkwX1_span_1 ++ dktX1_span_2
def dkwX1_span_0 : List UInt8 := [42, 28, 4, 16, 20, 182, 0, 117, 42, 29, 21, 4, 21, 5, 182, 1, 139, 42, 21, 6, 3, 5]
abbrev dktX1_span_0 : List UInt8 := dkwX1_span_0 ++ dktX1_span_1
theorem dksX1_span_0 : cX1_span.data.toList.drop 0 = dktX1_span_0 := by decide +kernel
theorem dksX1_span_1 : cX1_span.data.toList.drop 22 = dktX1_span_1 := dk_seg dksX1_span_0 22 rfl rfl
theorem dksX1_span_2 : cX1_span.data.toList.drop 46 = dktX1_span_2 := dk_seg dksX1_span_1 24 rfl rfl
theorem dksX1_span_3 : cX1_span.data.toList.drop 69 = dktX1_span_3 := dk_seg dksX1_span_2 23 rfl rfl
theorem dksX1_span_4 : cX1_span.data.toList.drop 92 = dktX1_span_4 := dk_seg dksX1_span_3 23 rfl rfl
theorem dksX1_span_5 : cX1_span.data.toList.drop 116 = dktX1_span_5 := dk_seg dksX1_span_4 24 rfl rfl
theorem dX1_span_0 : decode cX1_span 0 = .ok (.aload_n 0, 1) := dk_42 (dk_at dksX1_span_0 0 rfl rfl)
theorem dX1_span_1 : decode cX1_span 1 = .ok (.iload_n 2, 1) := dk_28 (dk_at dksX1_span_0 1 rfl rfl)
theorem dX1_span_2 : decode cX1_span 2 = .ok (.iconst 1, 1) := dk_4 (dk_at dksX1_span_0 2 rfl rfl)
theorem dX1_span_3 : decode cX1_span 3 = .ok (.bipush 20, 2) := dk_16 20 (dk_at dksX1_span_0 3 rfl rfl)
theorem dX1_span_5 : decode cX1_span 5 = .ok (.invokevirtual 117, 3) := dk_182 0 117 (dk_at dksX1_span_0 5 rfl rfl)
theorem dX1_span_8 : decode cX1_span 8 = .ok (.aload_n 0, 1) := dk_42 (dk_at dksX1_span_0 8 rfl rfl)
theorem dX1_span_9 : decode cX1_span 9 = .ok (.iload_n 3, 1) := dk_29 (dk_at dksX1_span_0 9 rfl rfl)
theorem dX1_span_10 : decode cX1_span 10 = .ok (.iload 4, 2) := dk_21 4 (dk_at dksX1_span_0 10 rfl rfl)
theorem dX1_span_12 : decode cX1_span 12 = .ok (.iload 5, 2) := dk_21 5 (dk_at dksX1_span_0 12 rfl rfl)
theorem dX1_span_14 : decode cX1_span 14 = .ok (.invokevirtual 395, 3) := dk_182 1 139 (dk_at dksX1_span_0 14 rfl rfl)
theorem dX1_span_17 : decode cX1_span 17 = .ok (.aload_n 0, 1) := dk_42 (dk_at dksX1_span_0 17 rfl rfl)
theorem dX1_span_18 : decode cX1_span 18 = .ok (.iload 6, 2) := dk_21 6 (dk_at dksX1_span_0 18 rfl rfl)
theorem dX1_span_20 : decode cX1_span 20 = .ok (.iconst 0, 1) := dk_3 (dk_at dksX1_span_0 20 rfl rfl)
theorem dX1_span_21 : decode cX1_span 21 = .ok (.iconst 2, 1) := dk_5 (dk_at dksX1_span_0 21 rfl rfl)
theorem dX1_span_22 : decode cX1_span 22 = .ok (.invokevirtual 117, 3) := dk_182 0 117 (dk_at dksX1_span_1 0 rfl rfl)
theorem dX1_span_25 : decode cX1_span 25 = .ok (.iconst 0, 1) := dk_3 (dk_at dksX1_span_1 3 rfl rfl)
theorem dX1_span_26 : decode cX1_span 26 = .ok (.istore 7, 2) := dk_54 7 (dk_at dksX1_span_1 4 rfl rfl)
theorem dX1_span_28 : decode cX1_span 28 = .ok (.iconst 0, 1) := dk_3 (dk_at dksX1_span_1 6 rfl rfl)
theorem dX1_span_29 : decode cX1_span 29 = .ok (.istore 8, 2) := dk_54 8 (dk_at dksX1_span_1 7 rfl rfl)
theorem dX1_span_31 : decode cX1_span 31 = .ok (.iconst 0, 1) := dk_3 (dk_at dksX1_span_1 9 rfl rfl)
theorem dX1_span_32 : decode cX1_span 32 = .ok (.istore 9, 2) := dk_54 9 (dk_at dksX1_span_1 10 rfl rfl)
theorem dX1_span_34 : decode cX1_span 34 = .ok (.iconst 0, 1) := dk_3 (dk_at dksX1_span_1 12 rfl rfl)
theorem dX1_span_35 : decode cX1_span 35 = .ok (.istore 10, 2) := dk_54 10 (dk_at dksX1_span_1 13 rfl rfl)
theorem dX1_span_37 : decode cX1_span 37 = .ok (.iload 10, 2) := dk_21 10 (dk_at dksX1_span_1 15 rfl rfl)
theorem dX1_span_39 : decode cX1_span 39 = .ok (.iload_n 2, 1) := dk_28 (dk_at dksX1_span_1 17 rfl rfl)
theorem dX1_span_40 : decode cX1_span 40 = .ok (.if_icmp .ge 64, 3) := dk_162 0 64 (dk_at dksX1_span_1 18 rfl rfl)
theorem dX1_span_43 : decode cX1_span 43 = .ok (.aload_n 0, 1) := dk_42 (dk_at dksX1_span_1 21 rfl rfl)
theorem dX1_span_44 : decode cX1_span 44 = .ok (.aload_n 0, 1) := dk_42 (dk_at dksX1_span_1 22 rfl rfl)
theorem dX1_span_45 : decode cX1_span 45 = .ok (.iload_n 1, 1) := dk_27 (dk_at dksX1_span_1 23 rfl rfl)
theorem dX1_span_46 : decode cX1_span 46 = .ok (.iload 10, 2) := dk_21 10 (dk_at dksX1_span_2 0 rfl rfl)
theorem dX1_span_48 : decode cX1_span 48 = .ok (.iadd, 1) := dk_96 (dk_at dksX1_span_2 2 rfl rfl)
theorem dX1_span_49 : decode cX1_span 49 = .ok (.iload_n 3, 1) := dk_29 (dk_at dksX1_span_2 3 rfl rfl)
theorem dX1_span_50 : decode cX1_span 50 = .ok (.iload 4, 2) := dk_21 4 (dk_at dksX1_span_2 4 rfl rfl)
theorem dX1_span_52 : decode cX1_span 52 = .ok (.iload 5, 2) := dk_21 5 (dk_at dksX1_span_2 6 rfl rfl)
theorem dX1_span_54 : decode cX1_span 54 = .ok (.invokevirtual 398, 3) := dk_182 1 142 (dk_at dksX1_span_2 8 rfl rfl)
theorem dX1_span_57 : decode cX1_span 57 = .ok (.invokevirtual 402, 3) := dk_182 1 146 (dk_at dksX1_span_2 11 rfl rfl)
theorem dX1_span_60 : decode cX1_span 60 = .ok (.istore 11, 2) := dk_54 11 (dk_at dksX1_span_2 14 rfl rfl)
theorem dX1_span_62 : decode cX1_span 62 = .ok (.iload 10, 2) := dk_21 10 (dk_at dksX1_span_2 16 rfl rfl)
theorem dX1_span_64 : decode cX1_span 64 = .ok (.ifCond .ne 8, 3) := dk_154 0 8 (dk_at dksX1_span_2 18 rfl rfl)
theorem dX1_span_67 : decode cX1_span 67 = .ok (.iload 11, 2) := dk_21 11 (dk_at dksX1_span_2 21 rfl rfl)
theorem dX1_span_69 : decode cX1_span 69 = .ok (.goto 10, 3) := dk_167 0 10 (dk_at dksX1_span_3 0 rfl rfl)
theorem dX1_span_72 : decode cX1_span 72 = .ok (.iload 7, 2) := dk_21 7 (dk_at dksX1_span_3 3 rfl rfl)
theorem dX1_span_74 : decode cX1_span 74 = .ok (.iload 11, 2) := dk_21 11 (dk_at dksX1_span_3 5 rfl rfl)
theorem dX1_span_76 : decode cX1_span 76 = .ok (.invokestatic 154, 3) := dk_184 0 154 (dk_at dksX1_span_3 7 rfl rfl)
theorem dX1_span_79 : decode cX1_span 79 = .ok (.istore 7, 2) := dk_54 7 (dk_at dksX1_span_3 10 rfl rfl)
theorem dX1_span_81 : decode cX1_span 81 = .ok (.iload 8, 2) := dk_21 8 (dk_at dksX1_span_3 12 rfl rfl)
theorem dX1_span_83 : decode cX1_span 83 = .ok (.iload 11, 2) := dk_21 11 (dk_at dksX1_span_3 14 rfl rfl)
theorem dX1_span_85 : decode cX1_span 85 = .ok (.invokestatic 347, 3) := dk_184 1 91 (dk_at dksX1_span_3 16 rfl rfl)
theorem dX1_span_88 : decode cX1_span 88 = .ok (.istore 8, 2) := dk_54 8 (dk_at dksX1_span_3 19 rfl rfl)
theorem dX1_span_90 : decode cX1_span 90 = .ok (.iload 11, 2) := dk_21 11 (dk_at dksX1_span_3 21 rfl rfl)
theorem dX1_span_92 : decode cX1_span 92 = .ok (.ifCond .ne 6, 3) := dk_154 0 6 (dk_at dksX1_span_4 0 rfl rfl)
theorem dX1_span_95 : decode cX1_span 95 = .ok (.iinc 9 1, 3) := dk_132 9 1 (dk_at dksX1_span_4 3 rfl rfl)
theorem dX1_span_98 : decode cX1_span 98 = .ok (.iinc 10 1, 3) := dk_132 10 1 (dk_at dksX1_span_4 6 rfl rfl)
theorem dX1_span_101 : decode cX1_span 101 = .ok (.goto (-64), 3) := dk_167 255 192 (dk_at dksX1_span_4 9 rfl rfl)
theorem dX1_span_104 : decode cX1_span 104 = .ok (.iload 6, 2) := dk_21 6 (dk_at dksX1_span_4 12 rfl rfl)
theorem dX1_span_106 : decode cX1_span 106 = .ok (.ifCond .ne 8, 3) := dk_154 0 8 (dk_at dksX1_span_4 14 rfl rfl)
theorem dX1_span_109 : decode cX1_span 109 = .ok (.iload 7, 2) := dk_21 7 (dk_at dksX1_span_4 17 rfl rfl)
theorem dX1_span_111 : decode cX1_span 111 = .ok (.goto 16, 3) := dk_167 0 16 (dk_at dksX1_span_4 19 rfl rfl)
theorem dX1_span_114 : decode cX1_span 114 = .ok (.iload 6, 2) := dk_21 6 (dk_at dksX1_span_4 22 rfl rfl)
theorem dX1_span_116 : decode cX1_span 116 = .ok (.iconst 1, 1) := dk_4 (dk_at dksX1_span_5 0 rfl rfl)
theorem dX1_span_117 : decode cX1_span 117 = .ok (.if_icmp .ne 8, 3) := dk_160 0 8 (dk_at dksX1_span_5 1 rfl rfl)
theorem dX1_span_120 : decode cX1_span 120 = .ok (.iload 8, 2) := dk_21 8 (dk_at dksX1_span_5 4 rfl rfl)
theorem dX1_span_122 : decode cX1_span 122 = .ok (.goto 5, 3) := dk_167 0 5 (dk_at dksX1_span_5 6 rfl rfl)
theorem dX1_span_125 : decode cX1_span 125 = .ok (.iload 9, 2) := dk_21 9 (dk_at dksX1_span_5 9 rfl rfl)
theorem dX1_span_127 : decode cX1_span 127 = .ok (.ireturn, 1) := dk_172 (dk_at dksX1_span_5 11 rfl rfl)
theorem q90 : (Jvm.Cond.initialized "PassagePapers") ∈ lw_all := lw_g (lw_at lw_m1 1 rfl) rfl
theorem q127 : (Jvm.Cond.instantiable "PassagePapers" (19 : Nat)) ∈ lw_all := lw_g (lw_at lw_m1 38 rfl) rfl
theorem q129 : (Jvm.Cond.instanceMethod ({ cls := "PassagePapers", name := "<init>", desc := "()V" } : Jvm.MethodName)) ∈ lw_all := lw_g (lw_at lw_m1 40 rfl) rfl
theorem q130 : (Jvm.Cond.code ({ cls := "PassagePapers", name := "<init>", desc := "()V" } : Jvm.MethodName) prog_1_method_1_code (1 : Nat) (Option.none : Option Jvm.ClassFile.FieldType)) ∈ lw_all := lw_g (lw_at lw_m1 41 rfl) rfl
theorem q131 : (Jvm.Cond.methodLink "PassagePapers" (1 : Nat) ({ cls := "java/lang/Object", name := "<init>", desc := "()V" } : Jvm.MethodName)) ∈ lw_all := lw_g (lw_at lw_m1 42 rfl) rfl
theorem q134 : (Jvm.Cond.classLink "PassagePapers" (13 : Nat) "PassagePapers$Laws") ∈ lw_all := lw_g (lw_at lw_m1 45 rfl) rfl
theorem q136 : (Jvm.Cond.methodLinkNest "PassagePapers" (15 : Nat) ({ cls := "PassagePapers$Laws", name := "<init>", desc := "()V" } : Jvm.MethodName) "PassagePapers") ∈ lw_tbl := lw_at lw_m1 47 rfl
theorem q143 : (Jvm.Cond.fieldLinkNest "PassagePapers" (141 : Nat) "PassagePapers$Laws" "terms" "[LPassagePapers$Term;" "PassagePapers") ∈ lw_tbl := lw_at lw_m1 54 rfl
theorem q148 : (Jvm.Cond.classLink "PassagePapers" (20 : Nat) "PassagePapers$Kept") ∈ lw_all := lw_g (lw_at lw_m1 59 rfl) rfl
theorem q150 : (Jvm.Cond.methodLink "PassagePapers" (22 : Nat) ({ cls := "PassagePapers$Kept", name := "<init>", desc := "(LPassagePapers$Laws;)V" } : Jvm.MethodName)) ∈ lw_all := lw_g (lw_at lw_m1 61 rfl) rfl
theorem q170 : (Jvm.Cond.fieldLinkNest "PassagePapers" (281 : Nat) "PassagePapers$Sight" "years" "I" "PassagePapers") ∈ lw_tbl := lw_at lw_m1 81 rfl
theorem q174 : (Jvm.Cond.fieldLinkNest "PassagePapers" (283 : Nat) "PassagePapers$Sight" "added" "I" "PassagePapers") ∈ lw_tbl := lw_at lw_m1 85 rfl
theorem q177 : (Jvm.Cond.fieldLinkNest "PassagePapers" (285 : Nat) "PassagePapers$Sight" "trade" "I" "PassagePapers") ∈ lw_tbl := lw_at lw_m1 88 rfl
theorem q180 : (Jvm.Cond.fieldLinkNest "PassagePapers" (287 : Nat) "PassagePapers$Sight" "hungry" "I" "PassagePapers") ∈ lw_tbl := lw_at lw_m1 91 rfl
theorem q185 : (Jvm.Cond.fieldLinkNest "PassagePapers" (289 : Nat) "PassagePapers$Sight" "lost" "I" "PassagePapers") ∈ lw_tbl := lw_at lw_m1 96 rfl
theorem q190 : (Jvm.Cond.fieldLinkNest "PassagePapers" (292 : Nat) "PassagePapers$Sight" "week" "I" "PassagePapers") ∈ lw_tbl := lw_at lw_m1 101 rfl
theorem q219 : (Jvm.Cond.fieldLinkNest "PassagePapers" (230 : Nat) "PassagePapers$Register" "years" "[I" "PassagePapers") ∈ lw_tbl := lw_at lw_m1 130 rfl
theorem q223 : (Jvm.Cond.fieldLinkNest "PassagePapers" (233 : Nat) "PassagePapers$Register" "trade" "[I" "PassagePapers") ∈ lw_tbl := lw_at lw_m1 134 rfl
theorem q226 : (Jvm.Cond.fieldLinkNest "PassagePapers" (236 : Nat) "PassagePapers$Register" "kin" "[I" "PassagePapers") ∈ lw_tbl := lw_at lw_m1 137 rfl
theorem q232 : (Jvm.Cond.fieldLinkNest "PassagePapers" (263 : Nat) "PassagePapers$Register" "wants" "[I" "PassagePapers") ∈ lw_tbl := lw_at lw_m1 143 rfl
theorem q236 : (Jvm.Cond.fieldLinkNest "PassagePapers" (266 : Nat) "PassagePapers$Register" "pays" "[I" "PassagePapers") ∈ lw_tbl := lw_at lw_m1 147 rfl
theorem q242 : (Jvm.Cond.fieldLinkNest "PassagePapers" (269 : Nat) "PassagePapers$Register" "room" "[I" "PassagePapers") ∈ lw_tbl := lw_at lw_m1 153 rfl
theorem q244 : (Jvm.Cond.fieldLinkNest "PassagePapers" (89 : Nat) "PassagePapers$Register" "signers" "I" "PassagePapers") ∈ lw_tbl := lw_at lw_m1 155 rfl
theorem q250 : (Jvm.Cond.fieldLinkNest "PassagePapers" (95 : Nat) "PassagePapers$Register" "takers" "I" "PassagePapers") ∈ lw_tbl := lw_at lw_m1 161 rfl
theorem q259 : (Jvm.Cond.fieldLinkNest "PassagePapers" (220 : Nat) "PassagePapers$Register" "voyage" "I" "PassagePapers") ∈ lw_tbl := lw_at lw_m1 170 rfl
theorem q285 : (Jvm.Cond.fieldLinkNest "PassagePapers" (239 : Nat) "PassagePapers$State" "where" "[I" "PassagePapers") ∈ lw_tbl := lw_at lw_m1 196 rfl
theorem q287 : (Jvm.Cond.fieldLinkNest "PassagePapers" (241 : Nat) "PassagePapers$State" "taker" "[I" "PassagePapers") ∈ lw_tbl := lw_at lw_m1 198 rfl
theorem q289 : (Jvm.Cond.fieldLinkNest "PassagePapers" (244 : Nat) "PassagePapers$State" "service" "[I" "PassagePapers") ∈ lw_tbl := lw_at lw_m1 200 rfl
theorem q291 : (Jvm.Cond.fieldLinkNest "PassagePapers" (247 : Nat) "PassagePapers$State" "added" "[I" "PassagePapers") ∈ lw_tbl := lw_at lw_m1 202 rfl
theorem q293 : (Jvm.Cond.fieldLinkNest "PassagePapers" (250 : Nat) "PassagePapers$State" "hungry" "[I" "PassagePapers") ∈ lw_tbl := lw_at lw_m1 204 rfl
theorem q296 : (Jvm.Cond.fieldLinkNest "PassagePapers" (257 : Nat) "PassagePapers$State" "coins" "[I" "PassagePapers") ∈ lw_tbl := lw_at lw_m1 207 rfl
theorem q298 : (Jvm.Cond.fieldLinkNest "PassagePapers" (253 : Nat) "PassagePapers$State" "isLost" "[Z" "PassagePapers") ∈ lw_tbl := lw_at lw_m1 209 rfl
theorem q304 : (Jvm.Cond.fieldLinkNest "PassagePapers" (214 : Nat) "PassagePapers$State" "week" "I" "PassagePapers") ∈ lw_tbl := lw_at lw_m1 215 rfl
theorem q306 : (Jvm.Cond.fieldLinkNest "PassagePapers" (217 : Nat) "PassagePapers$State" "stores" "I" "PassagePapers") ∈ lw_tbl := lw_at lw_m1 217 rfl
theorem q308 : (Jvm.Cond.fieldLinkNest "PassagePapers" (306 : Nat) "PassagePapers$State" "court" "I" "PassagePapers") ∈ lw_tbl := lw_at lw_m1 219 rfl
theorem q340 : (Jvm.Cond.fieldLinkNest "PassagePapers" (138 : Nat) "PassagePapers$Kept" "many" "I" "PassagePapers") ∈ lw_tbl := lw_at lw_m2 11 rfl
theorem q347 : (Jvm.Cond.classLink "PassagePapers" (33 : Nat) "PassagePapers$State") ∈ lw_all := lw_g (lw_at lw_m2 18 rfl) rfl
theorem q348 : (Jvm.Cond.methodLink "PassagePapers" (35 : Nat) ({ cls := "PassagePapers$State", name := "<init>", desc := "(LPassagePapers$Laws;)V" } : Jvm.MethodName)) ∈ lw_all := lw_g (lw_at lw_m2 19 rfl) rfl
theorem q349 : (Jvm.Cond.classLink "PassagePapers" (40 : Nat) "PassagePapers$Places") ∈ lw_all := lw_g (lw_at lw_m2 20 rfl) rfl
theorem q351 : (Jvm.Cond.methodLinkNest "PassagePapers" (42 : Nat) ({ cls := "PassagePapers$Places", name := "<init>", desc := "()V" } : Jvm.MethodName) "PassagePapers") ∈ lw_tbl := lw_at lw_m2 22 rfl
theorem q357 : (Jvm.Cond.fieldLinkNest "PassagePapers" (335 : Nat) "PassagePapers$Places" "best" "[I" "PassagePapers") ∈ lw_tbl := lw_at lw_m2 28 rfl
theorem q362 : (Jvm.Cond.fieldLinkNest "PassagePapers" (329 : Nat) "PassagePapers$Places" "top" "I" "PassagePapers") ∈ lw_tbl := lw_at lw_m2 33 rfl
theorem q376 : (Jvm.Cond.classLink "PassagePapers" (47 : Nat) "PassagePapers$Sight") ∈ lw_all := lw_g (lw_at lw_m2 47 rfl) rfl
theorem q377 : (Jvm.Cond.methodLinkNest "PassagePapers" (49 : Nat) ({ cls := "PassagePapers$Sight", name := "<init>", desc := "()V" } : Jvm.MethodName) "PassagePapers") ∈ lw_tbl := lw_at lw_m2 48 rfl
theorem q378 : (Jvm.Cond.classLink "PassagePapers" (70 : Nat) "PassagePapers$Register") ∈ lw_all := lw_g (lw_at lw_m2 49 rfl) rfl
theorem q379 : (Jvm.Cond.methodLinkNest "PassagePapers" (72 : Nat) ({ cls := "PassagePapers$Register", name := "<init>", desc := "()V" } : Jvm.MethodName) "PassagePapers") ∈ lw_tbl := lw_at lw_m2 50 rfl
theorem q380 : (Jvm.Cond.methodLink "PassagePapers" (81 : Nat) ({ cls := "PassagePapers$Kept", name := "now", desc := "()LPassagePapers$State;" } : Jvm.MethodName)) ∈ lw_all := lw_g (lw_at lw_m2 51 rfl) rfl
theorem q384 : (Jvm.Cond.methodLink "PassagePapers" (85 : Nat) ({ cls := "PassagePapers$State", name := "begins", desc := "(LPassagePapers$Register;)V" } : Jvm.MethodName)) ∈ lw_all := lw_g (lw_at lw_m2 55 rfl) rfl
theorem q388 : (Jvm.Cond.fieldLink "PassagePapers" (9 : Nat) "PassagePapers" "tape" "[B") ∈ lw_all := lw_g (lw_at lw_m2 59 rfl) rfl
theorem q389 : (Jvm.Cond.fieldLink "PassagePapers" (16 : Nat) "PassagePapers" "laws" "LPassagePapers$Laws;") ∈ lw_all := lw_g (lw_at lw_m2 60 rfl) rfl
theorem q390 : (Jvm.Cond.fieldLink "PassagePapers" (25 : Nat) "PassagePapers" "as" "LPassagePapers$Kept;") ∈ lw_all := lw_g (lw_at lw_m2 61 rfl) rfl
theorem q391 : (Jvm.Cond.fieldLink "PassagePapers" (29 : Nat) "PassagePapers" "images" "[LPassagePapers$Kept;") ∈ lw_all := lw_g (lw_at lw_m2 62 rfl) rfl
theorem q392 : (Jvm.Cond.fieldLink "PassagePapers" (36 : Nat) "PassagePapers" "trial" "LPassagePapers$State;") ∈ lw_all := lw_g (lw_at lw_m2 63 rfl) rfl
theorem q393 : (Jvm.Cond.fieldLink "PassagePapers" (43 : Nat) "PassagePapers" "places" "LPassagePapers$Places;") ∈ lw_all := lw_g (lw_at lw_m2 64 rfl) rfl
theorem q394 : (Jvm.Cond.fieldLink "PassagePapers" (50 : Nat) "PassagePapers" "sight" "LPassagePapers$Sight;") ∈ lw_all := lw_g (lw_at lw_m2 65 rfl) rfl
theorem q395 : (Jvm.Cond.fieldLink "PassagePapers" (54 : Nat) "PassagePapers" "refused" "[I") ∈ lw_all := lw_g (lw_at lw_m2 66 rfl) rfl
theorem q396 : (Jvm.Cond.fieldLink "PassagePapers" (58 : Nat) "PassagePapers" "bookWeek" "[I") ∈ lw_all := lw_g (lw_at lw_m2 67 rfl) rfl
theorem q397 : (Jvm.Cond.fieldLink "PassagePapers" (61 : Nat) "PassagePapers" "bookAsked" "[I") ∈ lw_all := lw_g (lw_at lw_m2 68 rfl) rfl
theorem q398 : (Jvm.Cond.fieldLink "PassagePapers" (64 : Nat) "PassagePapers" "fields" "[I") ∈ lw_all := lw_g (lw_at lw_m2 69 rfl) rfl
theorem q399 : (Jvm.Cond.fieldLink "PassagePapers" (67 : Nat) "PassagePapers" "alike" "[I") ∈ lw_all := lw_g (lw_at lw_m2 70 rfl) rfl
theorem q400 : (Jvm.Cond.fieldLink "PassagePapers" (73 : Nat) "PassagePapers" "register" "LPassagePapers$Register;") ∈ lw_all := lw_g (lw_at lw_m2 71 rfl) rfl
theorem q401 : (Jvm.Cond.fieldLink "PassagePapers" (101 : Nat) "PassagePapers" "fed" "I") ∈ lw_all := lw_g (lw_at lw_m2 72 rfl) rfl
theorem q402 : (Jvm.Cond.fieldLink "PassagePapers" (77 : Nat) "PassagePapers" "place" "I") ∈ lw_all := lw_g (lw_at lw_m2 73 rfl) rfl
theorem q403 : (Jvm.Cond.fieldLink "PassagePapers" (145 : Nat) "PassagePapers" "lines" "I") ∈ lw_all := lw_g (lw_at lw_m2 74 rfl) rfl
theorem q404 : (Jvm.Cond.fieldLink "PassagePapers" (148 : Nat) "PassagePapers" "refusedSteps" "I") ∈ lw_all := lw_g (lw_at lw_m2 75 rfl) rfl
theorem q405 : (Jvm.Cond.fieldLink "PassagePapers" (151 : Nat) "PassagePapers" "kept" "I") ∈ lw_all := lw_g (lw_at lw_m2 76 rfl) rfl
theorem q406 : (Jvm.Cond.fieldLink "PassagePapers" (391 : Nat) "PassagePapers" "spoiled" "I") ∈ lw_all := lw_g (lw_at lw_m2 77 rfl) rfl
theorem q407 : (Jvm.Cond.laysFinal "PassagePapers" "PassagePapers" "tape" "[B") ∈ lw_all := lw_g (lw_at lw_m2 78 rfl) rfl
theorem q408 : (Jvm.Cond.soleField "PassagePapers" "tape") ∈ lw_all := lw_g (lw_at lw_m2 79 rfl) rfl
theorem q409 : (Jvm.Cond.laysFinal "PassagePapers" "PassagePapers" "laws" "LPassagePapers$Laws;") ∈ lw_all := lw_g (lw_at lw_m2 80 rfl) rfl
theorem q410 : (Jvm.Cond.soleField "PassagePapers" "laws") ∈ lw_all := lw_g (lw_at lw_m2 81 rfl) rfl
theorem q411 : (Jvm.Cond.laysFinal "PassagePapers" "PassagePapers" "as" "LPassagePapers$Kept;") ∈ lw_all := lw_g (lw_at lw_m2 82 rfl) rfl
theorem q412 : (Jvm.Cond.soleField "PassagePapers" "as") ∈ lw_all := lw_g (lw_at lw_m2 83 rfl) rfl
theorem q413 : (Jvm.Cond.laysFinal "PassagePapers" "PassagePapers" "images" "[LPassagePapers$Kept;") ∈ lw_all := lw_g (lw_at lw_m2 84 rfl) rfl
theorem q414 : (Jvm.Cond.soleField "PassagePapers" "images") ∈ lw_all := lw_g (lw_at lw_m2 85 rfl) rfl
theorem q415 : (Jvm.Cond.laysFinal "PassagePapers" "PassagePapers" "trial" "LPassagePapers$State;") ∈ lw_all := lw_g (lw_at lw_m2 86 rfl) rfl
theorem q416 : (Jvm.Cond.soleField "PassagePapers" "trial") ∈ lw_all := lw_g (lw_at lw_m2 87 rfl) rfl
theorem q417 : (Jvm.Cond.laysFinal "PassagePapers" "PassagePapers" "places" "LPassagePapers$Places;") ∈ lw_all := lw_g (lw_at lw_m2 88 rfl) rfl
theorem q418 : (Jvm.Cond.soleField "PassagePapers" "places") ∈ lw_all := lw_g (lw_at lw_m2 89 rfl) rfl
theorem q419 : (Jvm.Cond.laysFinal "PassagePapers" "PassagePapers" "sight" "LPassagePapers$Sight;") ∈ lw_all := lw_g (lw_at lw_m2 90 rfl) rfl
theorem q420 : (Jvm.Cond.soleField "PassagePapers" "sight") ∈ lw_all := lw_g (lw_at lw_m2 91 rfl) rfl
theorem q421 : (Jvm.Cond.laysFinal "PassagePapers" "PassagePapers" "refused" "[I") ∈ lw_all := lw_g (lw_at lw_m2 92 rfl) rfl
theorem q422 : (Jvm.Cond.soleField "PassagePapers" "refused") ∈ lw_all := lw_g (lw_at lw_m2 93 rfl) rfl
theorem q423 : (Jvm.Cond.laysFinal "PassagePapers" "PassagePapers" "bookWeek" "[I") ∈ lw_all := lw_g (lw_at lw_m2 94 rfl) rfl
theorem q424 : (Jvm.Cond.soleField "PassagePapers" "bookWeek") ∈ lw_all := lw_g (lw_at lw_m2 95 rfl) rfl
theorem q425 : (Jvm.Cond.laysFinal "PassagePapers" "PassagePapers" "bookAsked" "[I") ∈ lw_all := lw_g (lw_at lw_m2 96 rfl) rfl
theorem q426 : (Jvm.Cond.soleField "PassagePapers" "bookAsked") ∈ lw_all := lw_g (lw_at lw_m2 97 rfl) rfl
theorem q427 : (Jvm.Cond.laysFinal "PassagePapers" "PassagePapers" "fields" "[I") ∈ lw_all := lw_g (lw_at lw_m2 98 rfl) rfl
theorem q428 : (Jvm.Cond.soleField "PassagePapers" "fields") ∈ lw_all := lw_g (lw_at lw_m2 99 rfl) rfl
theorem q429 : (Jvm.Cond.laysFinal "PassagePapers" "PassagePapers" "alike" "[I") ∈ lw_all := lw_g (lw_at lw_m2 100 rfl) rfl
theorem q430 : (Jvm.Cond.soleField "PassagePapers" "alike") ∈ lw_all := lw_g (lw_at lw_m2 101 rfl) rfl
theorem q431 : (Jvm.Cond.lays "PassagePapers" "PassagePapers" "register" "LPassagePapers$Register;") ∈ lw_all := lw_g (lw_at lw_m2 102 rfl) rfl
theorem q432 : (Jvm.Cond.soleField "PassagePapers" "register") ∈ lw_all := lw_g (lw_at lw_m2 103 rfl) rfl
theorem q433 : (Jvm.Cond.lays "PassagePapers" "PassagePapers" "fed" "I") ∈ lw_all := lw_g (lw_at lw_m2 104 rfl) rfl
theorem q434 : (Jvm.Cond.soleField "PassagePapers" "fed") ∈ lw_all := lw_g (lw_at lw_m2 105 rfl) rfl
theorem q435 : (Jvm.Cond.lays "PassagePapers" "PassagePapers" "place" "I") ∈ lw_all := lw_g (lw_at lw_m2 106 rfl) rfl
theorem q436 : (Jvm.Cond.soleField "PassagePapers" "place") ∈ lw_all := lw_g (lw_at lw_m2 107 rfl) rfl
theorem q437 : (Jvm.Cond.lays "PassagePapers" "PassagePapers" "lines" "I") ∈ lw_all := lw_g (lw_at lw_m2 108 rfl) rfl
theorem q438 : (Jvm.Cond.soleField "PassagePapers" "lines") ∈ lw_all := lw_g (lw_at lw_m2 109 rfl) rfl
theorem q439 : (Jvm.Cond.lays "PassagePapers" "PassagePapers" "refusedSteps" "I") ∈ lw_all := lw_g (lw_at lw_m2 110 rfl) rfl
theorem q440 : (Jvm.Cond.soleField "PassagePapers" "refusedSteps") ∈ lw_all := lw_g (lw_at lw_m2 111 rfl) rfl
theorem q441 : (Jvm.Cond.lays "PassagePapers" "PassagePapers" "kept" "I") ∈ lw_all := lw_g (lw_at lw_m2 112 rfl) rfl
theorem q442 : (Jvm.Cond.soleField "PassagePapers" "kept") ∈ lw_all := lw_g (lw_at lw_m2 113 rfl) rfl
theorem q443 : (Jvm.Cond.lays "PassagePapers" "PassagePapers" "spoiled" "I") ∈ lw_all := lw_g (lw_at lw_m2 114 rfl) rfl
theorem q444 : (Jvm.Cond.soleField "PassagePapers" "spoiled") ∈ lw_all := lw_g (lw_at lw_m2 115 rfl) rfl
theorem q445 : (Jvm.Cond.superclass "PassagePapers" "java/lang/Object") ∈ lw_all := lw_g (lw_at lw_m2 116 rfl) rfl
theorem q447 : (Jvm.Cond.instanceMethod ({ cls := "PassagePapers", name := "feed", desc := "(IIIII)I" } : Jvm.MethodName)) ∈ lw_all := lw_g (lw_at lw_m2 118 rfl) rfl
theorem q448 : (Jvm.Cond.selects "PassagePapers" ({ cls := "PassagePapers", name := "feed", desc := "(IIIII)I" } : Jvm.MethodName) ({ cls := "PassagePapers", name := "feed", desc := "(IIIII)I" } : Jvm.MethodName)) ∈ lw_all := lw_g (lw_at lw_m2 119 rfl) rfl
theorem q449 : (Jvm.Cond.code ({ cls := "PassagePapers", name := "feed", desc := "(IIIII)I" } : Jvm.MethodName) prog_1_method_5_code (8 : Nat) (Option.some Jvm.ClassFile.FieldType.int)) ∈ lw_all := lw_g (lw_at lw_m2 120 rfl) rfl
theorem q451 : (Jvm.Cond.instanceMethod ({ cls := "PassagePapers", name := "fault", desc := "()I" } : Jvm.MethodName)) ∈ lw_all := lw_g (lw_at lw_m2 122 rfl) rfl
theorem q452 : (Jvm.Cond.selects "PassagePapers" ({ cls := "PassagePapers", name := "fault", desc := "()I" } : Jvm.MethodName) ({ cls := "PassagePapers", name := "fault", desc := "()I" } : Jvm.MethodName)) ∈ lw_all := lw_g (lw_at lw_m2 123 rfl) rfl
theorem q453 : (Jvm.Cond.code ({ cls := "PassagePapers", name := "fault", desc := "()I" } : Jvm.MethodName) prog_1_method_12_code (1 : Nat) (Option.some Jvm.ClassFile.FieldType.int)) ∈ lw_all := lw_g (lw_at lw_m2 124 rfl) rfl
theorem q455 : (Jvm.Cond.instanceMethod ({ cls := "PassagePapers", name := "undo", desc := "()I" } : Jvm.MethodName)) ∈ lw_all := lw_g (lw_at lw_m2 126 rfl) rfl
theorem q456 : (Jvm.Cond.selects "PassagePapers" ({ cls := "PassagePapers", name := "undo", desc := "()I" } : Jvm.MethodName) ({ cls := "PassagePapers", name := "undo", desc := "()I" } : Jvm.MethodName)) ∈ lw_all := lw_g (lw_at lw_m2 127 rfl) rfl
theorem q457 : (Jvm.Cond.code ({ cls := "PassagePapers", name := "undo", desc := "()I" } : Jvm.MethodName) prog_1_method_13_code (1 : Nat) (Option.some Jvm.ClassFile.FieldType.int)) ∈ lw_all := lw_g (lw_at lw_m2 128 rfl) rfl
theorem q459 : (Jvm.Cond.instanceMethod ({ cls := "PassagePapers", name := "held", desc := "()I" } : Jvm.MethodName)) ∈ lw_all := lw_g (lw_at lw_m2 130 rfl) rfl
theorem q460 : (Jvm.Cond.selects "PassagePapers" ({ cls := "PassagePapers", name := "held", desc := "()I" } : Jvm.MethodName) ({ cls := "PassagePapers", name := "held", desc := "()I" } : Jvm.MethodName)) ∈ lw_all := lw_g (lw_at lw_m2 131 rfl) rfl
theorem q461 : (Jvm.Cond.code ({ cls := "PassagePapers", name := "held", desc := "()I" } : Jvm.MethodName) prog_1_method_20_code (3 : Nat) (Option.some Jvm.ClassFile.FieldType.int)) ∈ lw_all := lw_g (lw_at lw_m2 132 rfl) rfl
theorem q462 : (Jvm.Cond.methodLink "PassagePapers" (296 : Nat) ({ cls := "PassagePapers$State", name := "isBound", desc := "(I)Z" } : Jvm.MethodName)) ∈ lw_all := lw_g (lw_at lw_m2 133 rfl) rfl
theorem q466 : (Jvm.Cond.methodLink "PassagePapers" (300 : Nat) ({ cls := "PassagePapers$State", name := "owesBy", desc := "(II)I" } : Jvm.MethodName)) ∈ lw_all := lw_g (lw_at lw_m2 137 rfl) rfl
theorem q530 : (Jvm.Cond.instanceMethod ({ cls := "PassagePapers", name := "parted", desc := "()I" } : Jvm.MethodName)) ∈ lw_all := lw_g (lw_at lw_m2 201 rfl) rfl
theorem q531 : (Jvm.Cond.selects "PassagePapers" ({ cls := "PassagePapers", name := "parted", desc := "()I" } : Jvm.MethodName) ({ cls := "PassagePapers", name := "parted", desc := "()I" } : Jvm.MethodName)) ∈ lw_all := lw_g (lw_at lw_m2 202 rfl) rfl
theorem q532 : (Jvm.Cond.code ({ cls := "PassagePapers", name := "parted", desc := "()I" } : Jvm.MethodName) prog_1_method_29_code (5 : Nat) (Option.some Jvm.ClassFile.FieldType.int)) ∈ lw_all := lw_g (lw_at lw_m2 203 rfl) rfl
theorem q533 : (Jvm.Cond.methodLink "PassagePapers" (338 : Nat) ({ cls := "PassagePapers$Register", name := "kinOf", desc := "(I)I" } : Jvm.MethodName)) ∈ lw_all := lw_g (lw_at lw_m2 204 rfl) rfl
theorem q535 : (Jvm.Cond.instanceMethod ({ cls := "PassagePapers", name := "hunger", desc := "()I" } : Jvm.MethodName)) ∈ lw_all := lw_g (lw_at lw_m2 206 rfl) rfl
theorem q536 : (Jvm.Cond.selects "PassagePapers" ({ cls := "PassagePapers", name := "hunger", desc := "()I" } : Jvm.MethodName) ({ cls := "PassagePapers", name := "hunger", desc := "()I" } : Jvm.MethodName)) ∈ lw_all := lw_g (lw_at lw_m2 207 rfl) rfl
theorem q537 : (Jvm.Cond.code ({ cls := "PassagePapers", name := "hunger", desc := "()I" } : Jvm.MethodName) prog_1_method_35_code (3 : Nat) (Option.some Jvm.ClassFile.FieldType.int)) ∈ lw_all := lw_g (lw_at lw_m2 208 rfl) rfl
theorem q538 : (Jvm.Cond.methodLink "PassagePapers" (223 : Nat) ({ cls := "PassagePapers$State", name := "many", desc := "(I)I" } : Jvm.MethodName)) ∈ lw_all := lw_g (lw_at lw_m2 209 rfl) rfl
theorem q543 : (Jvm.Cond.instanceMethod ({ cls := "PassagePapers", name := "image", desc := "()I" } : Jvm.MethodName)) ∈ lw_all := lw_g (lw_at lw_m2 214 rfl) rfl
theorem q544 : (Jvm.Cond.selects "PassagePapers" ({ cls := "PassagePapers", name := "image", desc := "()I" } : Jvm.MethodName) ({ cls := "PassagePapers", name := "image", desc := "()I" } : Jvm.MethodName)) ∈ lw_all := lw_g (lw_at lw_m2 215 rfl) rfl
theorem q545 : (Jvm.Cond.code ({ cls := "PassagePapers", name := "image", desc := "()I" } : Jvm.MethodName) prog_1_method_58_code (1 : Nat) (Option.some Jvm.ClassFile.FieldType.int)) ∈ lw_all := lw_g (lw_at lw_m2 216 rfl) rfl
theorem q546 : (Jvm.Cond.methodLink "PassagePapers" (406 : Nat) ({ cls := "PassagePapers$Kept", name := "as", desc := "(LPassagePapers$Kept;)V" } : Jvm.MethodName)) ∈ lw_all := lw_g (lw_at lw_m2 217 rfl) rfl
theorem q561 : (Jvm.Cond.instanceMethod ({ cls := "PassagePapers", name := "restore", desc := "()I" } : Jvm.MethodName)) ∈ lw_all := lw_g (lw_at lw_m2 232 rfl) rfl
theorem q562 : (Jvm.Cond.selects "PassagePapers" ({ cls := "PassagePapers", name := "restore", desc := "()I" } : Jvm.MethodName) ({ cls := "PassagePapers", name := "restore", desc := "()I" } : Jvm.MethodName)) ∈ lw_all := lw_g (lw_at lw_m2 233 rfl) rfl
theorem q563 : (Jvm.Cond.code ({ cls := "PassagePapers", name := "restore", desc := "()I" } : Jvm.MethodName) prog_1_method_59_code (1 : Nat) (Option.some Jvm.ClassFile.FieldType.int)) ∈ lw_all := lw_g (lw_at lw_m2 234 rfl) rfl
theorem q565 : (Jvm.Cond.instanceMethod ({ cls := "PassagePapers", name := "status", desc := "(I)I" } : Jvm.MethodName)) ∈ lw_all := lw_g (lw_at lw_m2 236 rfl) rfl
theorem q566 : (Jvm.Cond.selects "PassagePapers" ({ cls := "PassagePapers", name := "status", desc := "(I)I" } : Jvm.MethodName) ({ cls := "PassagePapers", name := "status", desc := "(I)I" } : Jvm.MethodName)) ∈ lw_all := lw_g (lw_at lw_m2 237 rfl) rfl
theorem q567 : (Jvm.Cond.code ({ cls := "PassagePapers", name := "status", desc := "(I)I" } : Jvm.MethodName) prog_1_method_60_code (2 : Nat) (Option.some Jvm.ClassFile.FieldType.int)) ∈ lw_all := lw_g (lw_at lw_m2 238 rfl) rfl
theorem q569 : (Jvm.Cond.instanceMethod ({ cls := "PassagePapers", name := "count", desc := "(I)I" } : Jvm.MethodName)) ∈ lw_all := lw_g (lw_at lw_m3 0 rfl) rfl
theorem q570 : (Jvm.Cond.selects "PassagePapers" ({ cls := "PassagePapers", name := "count", desc := "(I)I" } : Jvm.MethodName) ({ cls := "PassagePapers", name := "count", desc := "(I)I" } : Jvm.MethodName)) ∈ lw_all := lw_g (lw_at lw_m3 1 rfl) rfl
theorem q571 : (Jvm.Cond.code ({ cls := "PassagePapers", name := "count", desc := "(I)I" } : Jvm.MethodName) prog_1_method_61_code (2 : Nat) (Option.some Jvm.ClassFile.FieldType.int)) ∈ lw_all := lw_g (lw_at lw_m3 2 rfl) rfl
theorem q577 : (Jvm.Cond.instanceMethod ({ cls := "PassagePapers", name := "register", desc := "(I)I" } : Jvm.MethodName)) ∈ lw_all := lw_g (lw_at lw_m3 8 rfl) rfl
theorem q578 : (Jvm.Cond.selects "PassagePapers" ({ cls := "PassagePapers", name := "register", desc := "(I)I" } : Jvm.MethodName) ({ cls := "PassagePapers", name := "register", desc := "(I)I" } : Jvm.MethodName)) ∈ lw_all := lw_g (lw_at lw_m3 9 rfl) rfl
theorem q579 : (Jvm.Cond.codeWith ({ cls := "PassagePapers", name := "register", desc := "(I)I" } : Jvm.MethodName) prog_1_method_8_code (3 : Nat) (Option.some Jvm.ClassFile.FieldType.int) [((10 : Nat), (29 : Nat), (32 : Nat), (110 : Nat))]) ∈ lw_all := lw_g (lw_at lw_m3 10 rfl) rfl
theorem q580 : (Jvm.Cond.classLink "PassagePapers" (110 : Nat) "PassagePapers$Wrong") ∈ lw_all := lw_g (lw_at lw_m3 11 rfl) rfl
theorem q581 : (Jvm.Cond.methodLink "PassagePapers" (117 : Nat) ({ cls := "PassagePapers", name := "within", desc := "(III)V" } : Jvm.MethodName)) ∈ lw_all := lw_g (lw_at lw_m3 12 rfl) rfl
theorem q582 : (Jvm.Cond.privateMethod ({ cls := "PassagePapers", name := "within", desc := "(III)V" } : Jvm.MethodName)) ∈ lw_tbl := lw_at lw_m3 13 rfl
theorem q583 : (Jvm.Cond.instanceMethod ({ cls := "PassagePapers", name := "within", desc := "(III)V" } : Jvm.MethodName)) ∈ lw_all := lw_g (lw_at lw_m3 14 rfl) rfl
theorem q584 : (Jvm.Cond.code ({ cls := "PassagePapers", name := "within", desc := "(III)V" } : Jvm.MethodName) prog_1_method_4_code (4 : Nat) (Option.none : Option Jvm.ClassFile.FieldType)) ∈ lw_all := lw_g (lw_at lw_m3 15 rfl) rfl
theorem q585 : (Jvm.Cond.classLink "PassagePapers" (98 : Nat) "java/lang/IllegalArgumentException") ∈ lw_all := lw_g (lw_at lw_m3 16 rfl) rfl
theorem q626 : (Jvm.Cond.methodLink "PassagePapers" (100 : Nat) ({ cls := "java/lang/IllegalArgumentException", name := "<init>", desc := "()V" } : Jvm.MethodName)) ∈ lw_all := lw_g (lw_at lw_m3 57 rfl) rfl
theorem q649 : (Jvm.Cond.classLink "PassagePapers" (121 : Nat) "PassagePapers$RegisterReader") ∈ lw_all := lw_g (lw_at lw_m3 80 rfl) rfl
theorem q651 : (Jvm.Cond.methodLink "PassagePapers" (123 : Nat) ({ cls := "PassagePapers", name := "reader", desc := "(I)LPassagePapers$Reader;" } : Jvm.MethodName)) ∈ lw_all := lw_g (lw_at lw_m3 82 rfl) rfl
theorem q652 : (Jvm.Cond.privateMethod ({ cls := "PassagePapers", name := "reader", desc := "(I)LPassagePapers$Reader;" } : Jvm.MethodName)) ∈ lw_tbl := lw_at lw_m3 83 rfl
theorem q653 : (Jvm.Cond.instanceMethod ({ cls := "PassagePapers", name := "reader", desc := "(I)LPassagePapers$Reader;" } : Jvm.MethodName)) ∈ lw_all := lw_g (lw_at lw_m3 84 rfl) rfl
theorem q654 : (Jvm.Cond.code ({ cls := "PassagePapers", name := "reader", desc := "(I)LPassagePapers$Reader;" } : Jvm.MethodName) prog_1_method_6_code (2 : Nat) (Option.some (Jvm.ClassFile.FieldType.object "PassagePapers$Reader"))) ∈ lw_all := lw_g (lw_at lw_m3 85 rfl) rfl
theorem q655 : (Jvm.Cond.classLink "PassagePapers" (104 : Nat) "PassagePapers$Reader") ∈ lw_all := lw_g (lw_at lw_m3 86 rfl) rfl
theorem q657 : (Jvm.Cond.methodLink "PassagePapers" (106 : Nat) ({ cls := "PassagePapers$Reader", name := "<init>", desc := "([BI)V" } : Jvm.MethodName)) ∈ lw_all := lw_g (lw_at lw_m3 88 rfl) rfl
theorem q674 : (Jvm.Cond.methodLink "PassagePapers" (127 : Nat) ({ cls := "PassagePapers$RegisterReader", name := "<init>", desc := "(LPassagePapers$Reader;)V" } : Jvm.MethodName)) ∈ lw_all := lw_g (lw_at lw_m3 105 rfl) rfl
theorem q700 : (Jvm.Cond.methodLink "PassagePapers" (130 : Nat) ({ cls := "PassagePapers$RegisterReader", name := "reads", desc := "()LPassagePapers$Register;" } : Jvm.MethodName)) ∈ lw_all := lw_g (lw_at lw_m3 131 rfl) rfl
theorem q800 : (Jvm.Cond.fieldLinkNest "PassagePapers" (114 : Nat) "PassagePapers$Wrong" "why" "I" "PassagePapers") ∈ lw_tbl := lw_at lw_m3 231 rfl
theorem q802 : (Jvm.Cond.fieldLinkNest "PassagePapers" (109 : Nat) "PassagePapers$Wrong" "where" "I" "PassagePapers") ∈ lw_tbl := lw_at lw_m3 233 rfl
theorem q836 : (Jvm.Cond.methodLink "PassagePapers" (134 : Nat) ({ cls := "PassagePapers", name := "faulty", desc := "(LPassagePapers$Wrong;)I" } : Jvm.MethodName)) ∈ lw_all := lw_g (lw_at lw_m4 27 rfl) rfl
theorem q837 : (Jvm.Cond.privateMethod ({ cls := "PassagePapers", name := "faulty", desc := "(LPassagePapers$Wrong;)I" } : Jvm.MethodName)) ∈ lw_tbl := lw_at lw_m4 28 rfl
theorem q838 : (Jvm.Cond.instanceMethod ({ cls := "PassagePapers", name := "faulty", desc := "(LPassagePapers$Wrong;)I" } : Jvm.MethodName)) ∈ lw_all := lw_g (lw_at lw_m4 29 rfl) rfl
theorem q839 : (Jvm.Cond.code ({ cls := "PassagePapers", name := "faulty", desc := "(LPassagePapers$Wrong;)I" } : Jvm.MethodName) prog_1_method_7_code (2 : Nat) (Option.some Jvm.ClassFile.FieldType.int)) ∈ lw_all := lw_g (lw_at lw_m4 30 rfl) rfl
theorem q844 : (Jvm.Cond.instanceMethod ({ cls := "PassagePapers", name := "law", desc := "(II)I" } : Jvm.MethodName)) ∈ lw_all := lw_g (lw_at lw_m4 35 rfl) rfl
theorem q845 : (Jvm.Cond.selects "PassagePapers" ({ cls := "PassagePapers", name := "law", desc := "(II)I" } : Jvm.MethodName) ({ cls := "PassagePapers", name := "law", desc := "(II)I" } : Jvm.MethodName)) ∈ lw_all := lw_g (lw_at lw_m4 36 rfl) rfl
theorem q846 : (Jvm.Cond.codeWith ({ cls := "PassagePapers", name := "law", desc := "(II)I" } : Jvm.MethodName) prog_1_method_9_code (4 : Nat) (Option.some Jvm.ClassFile.FieldType.int) [((23 : Nat), (47 : Nat), (50 : Nat), (110 : Nat))]) ∈ lw_all := lw_g (lw_at lw_m4 37 rfl) rfl
theorem q847 : (Jvm.Cond.methodLink "PassagePapers" (154 : Nat) ({ cls := "java/lang/Math", name := "min", desc := "(II)I" } : Jvm.MethodName)) ∈ lw_all := lw_g (lw_at lw_m4 38 rfl) rfl
theorem q848 : (Jvm.Cond.classLink "PassagePapers" (160 : Nat) "PassagePapers$LawReader") ∈ lw_all := lw_g (lw_at lw_m4 39 rfl) rfl
theorem q850 : (Jvm.Cond.methodLink "PassagePapers" (162 : Nat) ({ cls := "PassagePapers$LawReader", name := "<init>", desc := "(LPassagePapers$Reader;)V" } : Jvm.MethodName)) ∈ lw_all := lw_g (lw_at lw_m4 41 rfl) rfl
theorem q870 : (Jvm.Cond.methodLink "PassagePapers" (163 : Nat) ({ cls := "PassagePapers$LawReader", name := "reads", desc := "()LPassagePapers$Term;" } : Jvm.MethodName)) ∈ lw_all := lw_g (lw_at lw_m4 61 rfl) rfl
theorem q950 : (Jvm.Cond.instanceMethod ({ cls := "PassagePapers", name := "work", desc := "(I)I" } : Jvm.MethodName)) ∈ lw_all := lw_g (lw_at lw_m4 141 rfl) rfl
theorem q951 : (Jvm.Cond.selects "PassagePapers" ({ cls := "PassagePapers", name := "work", desc := "(I)I" } : Jvm.MethodName) ({ cls := "PassagePapers", name := "work", desc := "(I)I" } : Jvm.MethodName)) ∈ lw_all := lw_g (lw_at lw_m4 142 rfl) rfl
theorem q952 : (Jvm.Cond.codeWith ({ cls := "PassagePapers", name := "work", desc := "(I)I" } : Jvm.MethodName) prog_1_method_10_code (5 : Nat) (Option.some Jvm.ClassFile.FieldType.int) [((43 : Nat), (63 : Nat), (66 : Nat), (110 : Nat))]) ∈ lw_all := lw_g (lw_at lw_m4 143 rfl) rfl
theorem q953 : (Jvm.Cond.classLink "PassagePapers" (166 : Nat) "PassagePapers$WorkReader") ∈ lw_all := lw_g (lw_at lw_m4 144 rfl) rfl
theorem q955 : (Jvm.Cond.methodLink "PassagePapers" (168 : Nat) ({ cls := "PassagePapers$WorkReader", name := "<init>", desc := "(LPassagePapers$Reader;LPassagePapers$Register;)V" } : Jvm.MethodName)) ∈ lw_all := lw_g (lw_at lw_m4 146 rfl) rfl
theorem q979 : (Jvm.Cond.methodLink "PassagePapers" (171 : Nat) ({ cls := "PassagePapers$WorkReader", name := "reads", desc := "()LPassagePapers$Row;" } : Jvm.MethodName)) ∈ lw_all := lw_g (lw_at lw_m4 170 rfl) rfl
theorem q1084 : (Jvm.Cond.classLink "PassagePapers" (174 : Nat) "PassagePapers$Run") ∈ lw_all := lw_g (lw_at lw_m5 35 rfl) rfl
theorem q1086 : (Jvm.Cond.methodLink "PassagePapers" (176 : Nat) ({ cls := "PassagePapers$State", name := "as", desc := "(LPassagePapers$State;)LPassagePapers$State;" } : Jvm.MethodName)) ∈ lw_all := lw_g (lw_at lw_m5 37 rfl) rfl
theorem q1087 : (Jvm.Cond.methodLink "PassagePapers" (179 : Nat) ({ cls := "PassagePapers$Run", name := "<init>", desc := "(LPassagePapers$State;)V" } : Jvm.MethodName)) ∈ lw_all := lw_g (lw_at lw_m5 38 rfl) rfl
theorem q1099 : (Jvm.Cond.fieldLinkNest "PassagePapers" (190 : Nat) "PassagePapers$Run" "done" "I" "PassagePapers") ∈ lw_tbl := lw_at lw_m5 50 rfl
theorem q1101 : (Jvm.Cond.fieldLinkNest "PassagePapers" (188 : Nat) "PassagePapers$Run" "refused" "I" "PassagePapers") ∈ lw_tbl := lw_at lw_m5 52 rfl
theorem q1111 : (Jvm.Cond.methodLink "PassagePapers" (182 : Nat) ({ cls := "PassagePapers$Row", name := "acts", desc := "(LPassagePapers$Run;)V" } : Jvm.MethodName)) ∈ lw_all := lw_g (lw_at lw_m5 62 rfl) rfl
theorem q1210 : (Jvm.Cond.instanceMethod ({ cls := "PassagePapers", name := "book", desc := "(I)I" } : Jvm.MethodName)) ∈ lw_all := lw_g (lw_at lw_m5 161 rfl) rfl
theorem q1211 : (Jvm.Cond.selects "PassagePapers" ({ cls := "PassagePapers", name := "book", desc := "(I)I" } : Jvm.MethodName) ({ cls := "PassagePapers", name := "book", desc := "(I)I" } : Jvm.MethodName)) ∈ lw_all := lw_g (lw_at lw_m5 162 rfl) rfl
theorem q1212 : (Jvm.Cond.codeWith ({ cls := "PassagePapers", name := "book", desc := "(I)I" } : Jvm.MethodName) prog_1_method_11_code (9 : Nat) (Option.some Jvm.ClassFile.FieldType.int) [((28 : Nat), (148 : Nat), (151 : Nat), (110 : Nat))]) ∈ lw_all := lw_g (lw_at lw_m5 163 rfl) rfl
theorem q1213 : (Jvm.Cond.methodLink "PassagePapers" (193 : Nat) ({ cls := "PassagePapers$Reader", name := "now", desc := "()I" } : Jvm.MethodName)) ∈ lw_all := lw_g (lw_at lw_m5 164 rfl) rfl
theorem q1214 : (Jvm.Cond.methodLink "PassagePapers" (196 : Nat) ({ cls := "PassagePapers$Reader", name := "place", desc := "()I" } : Jvm.MethodName)) ∈ lw_all := lw_g (lw_at lw_m5 165 rfl) rfl
theorem q1215 : (Jvm.Cond.methodLink "PassagePapers" (198 : Nat) ({ cls := "PassagePapers$Reader", name := "number", desc := "(II)I" } : Jvm.MethodName)) ∈ lw_all := lw_g (lw_at lw_m5 166 rfl) rfl
theorem q1216 : (Jvm.Cond.methodLink "PassagePapers" (201 : Nat) ({ cls := "PassagePapers$Wrong", name := "<init>", desc := "(II)V" } : Jvm.MethodName)) ∈ lw_all := lw_g (lw_at lw_m5 167 rfl) rfl
theorem q1217 : (Jvm.Cond.methodLink "PassagePapers" (204 : Nat) ({ cls := "PassagePapers$Reader", name := "sign", desc := "(C)V" } : Jvm.MethodName)) ∈ lw_all := lw_g (lw_at lw_m5 168 rfl) rfl
theorem q1218 : (Jvm.Cond.methodLink "PassagePapers" (208 : Nat) ({ cls := "java/lang/System", name := "arraycopy", desc := "(Ljava/lang/Object;ILjava/lang/Object;II)V" } : Jvm.MethodName)) ∈ lw_all := lw_g (lw_at lw_m5 169 rfl) rfl
theorem q1223 : (Jvm.Cond.instanceMethod ({ cls := "PassagePapers", name := "told", desc := "(I)I" } : Jvm.MethodName)) ∈ lw_all := lw_g (lw_at lw_m5 174 rfl) rfl
theorem q1224 : (Jvm.Cond.selects "PassagePapers" ({ cls := "PassagePapers", name := "told", desc := "(I)I" } : Jvm.MethodName) ({ cls := "PassagePapers", name := "told", desc := "(I)I" } : Jvm.MethodName)) ∈ lw_all := lw_g (lw_at lw_m5 175 rfl) rfl
theorem q1225 : (Jvm.Cond.code ({ cls := "PassagePapers", name := "told", desc := "(I)I" } : Jvm.MethodName) prog_1_method_14_code (3 : Nat) (Option.some Jvm.ClassFile.FieldType.int)) ∈ lw_all := lw_g (lw_at lw_m5 176 rfl) rfl
theorem q1231 : (Jvm.Cond.instanceMethod ({ cls := "PassagePapers", name := "signer", desc := "(II)I" } : Jvm.MethodName)) ∈ lw_all := lw_g (lw_at lw_m5 182 rfl) rfl
theorem q1232 : (Jvm.Cond.selects "PassagePapers" ({ cls := "PassagePapers", name := "signer", desc := "(II)I" } : Jvm.MethodName) ({ cls := "PassagePapers", name := "signer", desc := "(II)I" } : Jvm.MethodName)) ∈ lw_all := lw_g (lw_at lw_m5 183 rfl) rfl
theorem q1233 : (Jvm.Cond.code ({ cls := "PassagePapers", name := "signer", desc := "(II)I" } : Jvm.MethodName) prog_1_method_15_code (4 : Nat) (Option.some Jvm.ClassFile.FieldType.int)) ∈ lw_all := lw_g (lw_at lw_m5 184 rfl) rfl
theorem q1234 : (Jvm.Cond.methodLink "PassagePapers" (226 : Nat) ({ cls := "PassagePapers", name := "signerOf", desc := "(I)V" } : Jvm.MethodName)) ∈ lw_all := lw_g (lw_at lw_m5 185 rfl) rfl
theorem q1235 : (Jvm.Cond.privateMethod ({ cls := "PassagePapers", name := "signerOf", desc := "(I)V" } : Jvm.MethodName)) ∈ lw_tbl := lw_at lw_m5 186 rfl
theorem q1236 : (Jvm.Cond.instanceMethod ({ cls := "PassagePapers", name := "signerOf", desc := "(I)V" } : Jvm.MethodName)) ∈ lw_all := lw_g (lw_at lw_m5 187 rfl) rfl
theorem q1237 : (Jvm.Cond.code ({ cls := "PassagePapers", name := "signerOf", desc := "(I)V" } : Jvm.MethodName) prog_1_method_2_code (2 : Nat) (Option.none : Option Jvm.ClassFile.FieldType)) ∈ lw_all := lw_g (lw_at lw_m5 188 rfl) rfl
theorem q1238 : (Jvm.Cond.classLink "PassagePapers" (92 : Nat) "java/util/NoSuchElementException") ∈ lw_all := lw_g (lw_at lw_m5 189 rfl) rfl
theorem q1247 : (Jvm.Cond.methodLink "PassagePapers" (94 : Nat) ({ cls := "java/util/NoSuchElementException", name := "<init>", desc := "()V" } : Jvm.MethodName)) ∈ lw_all := lw_g (lw_at lw_m5 198 rfl) rfl
theorem q1257 : (Jvm.Cond.instanceMethod ({ cls := "PassagePapers", name := "taker", desc := "(II)I" } : Jvm.MethodName)) ∈ lw_all := lw_g (lw_at lw_m5 208 rfl) rfl
theorem q1258 : (Jvm.Cond.selects "PassagePapers" ({ cls := "PassagePapers", name := "taker", desc := "(II)I" } : Jvm.MethodName) ({ cls := "PassagePapers", name := "taker", desc := "(II)I" } : Jvm.MethodName)) ∈ lw_all := lw_g (lw_at lw_m5 209 rfl) rfl
theorem q1259 : (Jvm.Cond.code ({ cls := "PassagePapers", name := "taker", desc := "(II)I" } : Jvm.MethodName) prog_1_method_16_code (3 : Nat) (Option.some Jvm.ClassFile.FieldType.int)) ∈ lw_all := lw_g (lw_at lw_m5 210 rfl) rfl
theorem q1260 : (Jvm.Cond.methodLink "PassagePapers" (260 : Nat) ({ cls := "PassagePapers", name := "takerOf", desc := "(I)V" } : Jvm.MethodName)) ∈ lw_all := lw_g (lw_at lw_m5 211 rfl) rfl
theorem q1261 : (Jvm.Cond.privateMethod ({ cls := "PassagePapers", name := "takerOf", desc := "(I)V" } : Jvm.MethodName)) ∈ lw_tbl := lw_at lw_m5 212 rfl
theorem q1262 : (Jvm.Cond.instanceMethod ({ cls := "PassagePapers", name := "takerOf", desc := "(I)V" } : Jvm.MethodName)) ∈ lw_all := lw_g (lw_at lw_m5 213 rfl) rfl
theorem q1263 : (Jvm.Cond.code ({ cls := "PassagePapers", name := "takerOf", desc := "(I)V" } : Jvm.MethodName) prog_1_method_3_code (2 : Nat) (Option.none : Option Jvm.ClassFile.FieldType)) ∈ lw_all := lw_g (lw_at lw_m5 214 rfl) rfl
theorem q1264 : (Jvm.Cond.methodLink "PassagePapers" (272 : Nat) ({ cls := "PassagePapers$State", name := "boundTo", desc := "(I)I" } : Jvm.MethodName)) ∈ lw_all := lw_g (lw_at lw_m5 215 rfl) rfl
theorem q1269 : (Jvm.Cond.instanceMethod ({ cls := "PassagePapers", name := "asks", desc := "(II)I" } : Jvm.MethodName)) ∈ lw_all := lw_g (lw_at lw_m5 220 rfl) rfl
theorem q1270 : (Jvm.Cond.selects "PassagePapers" ({ cls := "PassagePapers", name := "asks", desc := "(II)I" } : Jvm.MethodName) ({ cls := "PassagePapers", name := "asks", desc := "(II)I" } : Jvm.MethodName)) ∈ lw_all := lw_g (lw_at lw_m5 221 rfl) rfl
theorem q1271 : (Jvm.Cond.code ({ cls := "PassagePapers", name := "asks", desc := "(II)I" } : Jvm.MethodName) prog_1_method_17_code (3 : Nat) (Option.some Jvm.ClassFile.FieldType.int)) ∈ lw_all := lw_g (lw_at lw_m5 222 rfl) rfl
theorem q1272 : (Jvm.Cond.methodLink "PassagePapers" (275 : Nat) ({ cls := "PassagePapers$State", name := "asks", desc := "(II)I" } : Jvm.MethodName)) ∈ lw_all := lw_g (lw_at lw_m5 223 rfl) rfl
theorem q1277 : (Jvm.Cond.instanceMethod ({ cls := "PassagePapers", name := "owes", desc := "(I)I" } : Jvm.MethodName)) ∈ lw_all := lw_g (lw_at lw_m5 228 rfl) rfl
theorem q1278 : (Jvm.Cond.selects "PassagePapers" ({ cls := "PassagePapers", name := "owes", desc := "(I)I" } : Jvm.MethodName) ({ cls := "PassagePapers", name := "owes", desc := "(I)I" } : Jvm.MethodName)) ∈ lw_all := lw_g (lw_at lw_m5 229 rfl) rfl
theorem q1279 : (Jvm.Cond.code ({ cls := "PassagePapers", name := "owes", desc := "(I)I" } : Jvm.MethodName) prog_1_method_18_code (2 : Nat) (Option.some Jvm.ClassFile.FieldType.int)) ∈ lw_all := lw_g (lw_at lw_m5 230 rfl) rfl
theorem q1280 : (Jvm.Cond.methodLink "PassagePapers" (278 : Nat) ({ cls := "PassagePapers$State", name := "owes", desc := "(I)I" } : Jvm.MethodName)) ∈ lw_all := lw_g (lw_at lw_m5 231 rfl) rfl
theorem q1285 : (Jvm.Cond.instanceMethod ({ cls := "PassagePapers", name := "would", desc := "(IIIIII)I" } : Jvm.MethodName)) ∈ lw_all := lw_g (lw_at lw_m5 236 rfl) rfl
theorem q1286 : (Jvm.Cond.selects "PassagePapers" ({ cls := "PassagePapers", name := "would", desc := "(IIIIII)I" } : Jvm.MethodName) ({ cls := "PassagePapers", name := "would", desc := "(IIIIII)I" } : Jvm.MethodName)) ∈ lw_all := lw_g (lw_at lw_m5 237 rfl) rfl
theorem q1287 : (Jvm.Cond.code ({ cls := "PassagePapers", name := "would", desc := "(IIIIII)I" } : Jvm.MethodName) prog_1_method_19_code (7 : Nat) (Option.some Jvm.ClassFile.FieldType.int)) ∈ lw_all := lw_g (lw_at lw_m5 238 rfl) rfl
theorem q1288 : (Jvm.Cond.methodLink "PassagePapers" (293 : Nat) ({ cls := "PassagePapers$Laws", name := "asks", desc := "(LPassagePapers$Sight;I)I" } : Jvm.MethodName)) ∈ lw_all := lw_g (lw_at lw_m5 239 rfl) rfl
theorem q1293 : (Jvm.Cond.instanceMethod ({ cls := "PassagePapers", name := "freeIn", desc := "(I)I" } : Jvm.MethodName)) ∈ lw_all := lw_g (lw_at lw_m6 4 rfl) rfl
theorem q1294 : (Jvm.Cond.selects "PassagePapers" ({ cls := "PassagePapers", name := "freeIn", desc := "(I)I" } : Jvm.MethodName) ({ cls := "PassagePapers", name := "freeIn", desc := "(I)I" } : Jvm.MethodName)) ∈ lw_all := lw_g (lw_at lw_m6 5 rfl) rfl
theorem q1295 : (Jvm.Cond.code ({ cls := "PassagePapers", name := "freeIn", desc := "(I)I" } : Jvm.MethodName) prog_1_method_23_code (2 : Nat) (Option.some Jvm.ClassFile.FieldType.int)) ∈ lw_all := lw_g (lw_at lw_m6 6 rfl) rfl
theorem q1296 : (Jvm.Cond.methodLink "PassagePapers" (312 : Nat) ({ cls := "PassagePapers", name := "freeBy", desc := "(II)I" } : Jvm.MethodName)) ∈ lw_all := lw_g (lw_at lw_m6 7 rfl) rfl
theorem q1297 : (Jvm.Cond.privateMethod ({ cls := "PassagePapers", name := "freeBy", desc := "(II)I" } : Jvm.MethodName)) ∈ lw_tbl := lw_at lw_m6 8 rfl
theorem q1298 : (Jvm.Cond.instanceMethod ({ cls := "PassagePapers", name := "freeBy", desc := "(II)I" } : Jvm.MethodName)) ∈ lw_all := lw_g (lw_at lw_m6 9 rfl) rfl
theorem q1299 : (Jvm.Cond.code ({ cls := "PassagePapers", name := "freeBy", desc := "(II)I" } : Jvm.MethodName) prog_1_method_22_code (4 : Nat) (Option.some Jvm.ClassFile.FieldType.int)) ∈ lw_all := lw_g (lw_at lw_m6 10 rfl) rfl
theorem q1300 : (Jvm.Cond.methodLink "PassagePapers" (303 : Nat) ({ cls := "PassagePapers", name := "tried", desc := "()LPassagePapers$State;" } : Jvm.MethodName)) ∈ lw_all := lw_g (lw_at lw_m6 11 rfl) rfl
theorem q1301 : (Jvm.Cond.privateMethod ({ cls := "PassagePapers", name := "tried", desc := "()LPassagePapers$State;" } : Jvm.MethodName)) ∈ lw_tbl := lw_at lw_m6 12 rfl
theorem q1302 : (Jvm.Cond.instanceMethod ({ cls := "PassagePapers", name := "tried", desc := "()LPassagePapers$State;" } : Jvm.MethodName)) ∈ lw_all := lw_g (lw_at lw_m6 13 rfl) rfl
theorem q1303 : (Jvm.Cond.code ({ cls := "PassagePapers", name := "tried", desc := "()LPassagePapers$State;" } : Jvm.MethodName) prog_1_method_21_code (1 : Nat) (Option.some (Jvm.ClassFile.FieldType.object "PassagePapers$State"))) ∈ lw_all := lw_g (lw_at lw_m6 14 rfl) rfl
theorem q1304 : (Jvm.Cond.methodLink "PassagePapers" (309 : Nat) ({ cls := "PassagePapers$State", name := "passes", desc := "()V" } : Jvm.MethodName)) ∈ lw_all := lw_g (lw_at lw_m6 15 rfl) rfl
theorem q1309 : (Jvm.Cond.instanceMethod ({ cls := "PassagePapers", name := "otherwise", desc := "(I)I" } : Jvm.MethodName)) ∈ lw_all := lw_g (lw_at lw_m6 20 rfl) rfl
theorem q1310 : (Jvm.Cond.selects "PassagePapers" ({ cls := "PassagePapers", name := "otherwise", desc := "(I)I" } : Jvm.MethodName) ({ cls := "PassagePapers", name := "otherwise", desc := "(I)I" } : Jvm.MethodName)) ∈ lw_all := lw_g (lw_at lw_m6 21 rfl) rfl
theorem q1311 : (Jvm.Cond.code ({ cls := "PassagePapers", name := "otherwise", desc := "(I)I" } : Jvm.MethodName) prog_1_method_24_code (2 : Nat) (Option.some Jvm.ClassFile.FieldType.int)) ∈ lw_all := lw_g (lw_at lw_m6 22 rfl) rfl
theorem q1316 : (Jvm.Cond.instanceMethod ({ cls := "PassagePapers", name := "ahead", desc := "(II)I" } : Jvm.MethodName)) ∈ lw_all := lw_g (lw_at lw_m6 27 rfl) rfl
theorem q1317 : (Jvm.Cond.selects "PassagePapers" ({ cls := "PassagePapers", name := "ahead", desc := "(II)I" } : Jvm.MethodName) ({ cls := "PassagePapers", name := "ahead", desc := "(II)I" } : Jvm.MethodName)) ∈ lw_all := lw_g (lw_at lw_m6 28 rfl) rfl
theorem q1318 : (Jvm.Cond.code ({ cls := "PassagePapers", name := "ahead", desc := "(II)I" } : Jvm.MethodName) prog_1_method_25_code (5 : Nat) (Option.some Jvm.ClassFile.FieldType.int)) ∈ lw_all := lw_g (lw_at lw_m6 29 rfl) rfl
theorem q1319 : (Jvm.Cond.methodLink "PassagePapers" (315 : Nat) ({ cls := "PassagePapers$State", name := "goesOn", desc := "(I)LPassagePapers$State;" } : Jvm.MethodName)) ∈ lw_all := lw_g (lw_at lw_m6 30 rfl) rfl
theorem q1323 : (Jvm.Cond.methodLink "PassagePapers" (319 : Nat) ({ cls := "PassagePapers$State", name := "sum", desc := "([I)I" } : Jvm.MethodName)) ∈ lw_all := lw_g (lw_at lw_m6 34 rfl) rfl
theorem q1330 : (Jvm.Cond.instanceMethod ({ cls := "PassagePapers", name := "gives", desc := "(II)I" } : Jvm.MethodName)) ∈ lw_all := lw_g (lw_at lw_m6 41 rfl) rfl
theorem q1331 : (Jvm.Cond.selects "PassagePapers" ({ cls := "PassagePapers", name := "gives", desc := "(II)I" } : Jvm.MethodName) ({ cls := "PassagePapers", name := "gives", desc := "(II)I" } : Jvm.MethodName)) ∈ lw_all := lw_g (lw_at lw_m6 42 rfl) rfl
theorem q1332 : (Jvm.Cond.code ({ cls := "PassagePapers", name := "gives", desc := "(II)I" } : Jvm.MethodName) prog_1_method_26_code (3 : Nat) (Option.some Jvm.ClassFile.FieldType.int)) ∈ lw_all := lw_g (lw_at lw_m6 43 rfl) rfl
theorem q1333 : (Jvm.Cond.methodLink "PassagePapers" (323 : Nat) ({ cls := "PassagePapers$State", name := "gives", desc := "(II)I" } : Jvm.MethodName)) ∈ lw_all := lw_g (lw_at lw_m6 44 rfl) rfl
theorem q1341 : (Jvm.Cond.instanceMethod ({ cls := "PassagePapers", name := "best", desc := "(I)I" } : Jvm.MethodName)) ∈ lw_all := lw_g (lw_at lw_m6 52 rfl) rfl
theorem q1342 : (Jvm.Cond.selects "PassagePapers" ({ cls := "PassagePapers", name := "best", desc := "(I)I" } : Jvm.MethodName) ({ cls := "PassagePapers", name := "best", desc := "(I)I" } : Jvm.MethodName)) ∈ lw_all := lw_g (lw_at lw_m6 53 rfl) rfl
theorem q1343 : (Jvm.Cond.code ({ cls := "PassagePapers", name := "best", desc := "(I)I" } : Jvm.MethodName) prog_1_method_27_code (2 : Nat) (Option.some Jvm.ClassFile.FieldType.int)) ∈ lw_all := lw_g (lw_at lw_m6 54 rfl) rfl
theorem q1344 : (Jvm.Cond.methodLink "PassagePapers" (326 : Nat) ({ cls := "PassagePapers$Places", name := "finds", desc := "(LPassagePapers$State;)V" } : Jvm.MethodName)) ∈ lw_all := lw_g (lw_at lw_m6 55 rfl) rfl
theorem q1365 : (Jvm.Cond.methodLink "PassagePapers" (332 : Nat) ({ cls := "PassagePapers$Places", name := "placed", desc := "()I" } : Jvm.MethodName)) ∈ lw_all := lw_g (lw_at lw_m6 76 rfl) rfl
theorem q1373 : (Jvm.Cond.instanceMethod ({ cls := "PassagePapers", name := "bestFor", desc := "(I)I" } : Jvm.MethodName)) ∈ lw_all := lw_g (lw_at lw_m6 84 rfl) rfl
theorem q1374 : (Jvm.Cond.selects "PassagePapers" ({ cls := "PassagePapers", name := "bestFor", desc := "(I)I" } : Jvm.MethodName) ({ cls := "PassagePapers", name := "bestFor", desc := "(I)I" } : Jvm.MethodName)) ∈ lw_all := lw_g (lw_at lw_m6 85 rfl) rfl
theorem q1375 : (Jvm.Cond.code ({ cls := "PassagePapers", name := "bestFor", desc := "(I)I" } : Jvm.MethodName) prog_1_method_28_code (2 : Nat) (Option.some Jvm.ClassFile.FieldType.int)) ∈ lw_all := lw_g (lw_at lw_m6 86 rfl) rfl
theorem q1380 : (Jvm.Cond.instanceMethod ({ cls := "PassagePapers", name := "kin", desc := "(I)I" } : Jvm.MethodName)) ∈ lw_all := lw_g (lw_at lw_m6 91 rfl) rfl
theorem q1381 : (Jvm.Cond.selects "PassagePapers" ({ cls := "PassagePapers", name := "kin", desc := "(I)I" } : Jvm.MethodName) ({ cls := "PassagePapers", name := "kin", desc := "(I)I" } : Jvm.MethodName)) ∈ lw_all := lw_g (lw_at lw_m6 92 rfl) rfl
theorem q1382 : (Jvm.Cond.code ({ cls := "PassagePapers", name := "kin", desc := "(I)I" } : Jvm.MethodName) prog_1_method_30_code (2 : Nat) (Option.some Jvm.ClassFile.FieldType.int)) ∈ lw_all := lw_g (lw_at lw_m6 93 rfl) rfl
theorem q1387 : (Jvm.Cond.instanceMethod ({ cls := "PassagePapers", name := "fare", desc := "(I)I" } : Jvm.MethodName)) ∈ lw_all := lw_g (lw_at lw_m6 98 rfl) rfl
theorem q1388 : (Jvm.Cond.selects "PassagePapers" ({ cls := "PassagePapers", name := "fare", desc := "(I)I" } : Jvm.MethodName) ({ cls := "PassagePapers", name := "fare", desc := "(I)I" } : Jvm.MethodName)) ∈ lw_all := lw_g (lw_at lw_m6 99 rfl) rfl
theorem q1389 : (Jvm.Cond.code ({ cls := "PassagePapers", name := "fare", desc := "(I)I" } : Jvm.MethodName) prog_1_method_31_code (2 : Nat) (Option.some Jvm.ClassFile.FieldType.int)) ∈ lw_all := lw_g (lw_at lw_m6 100 rfl) rfl
theorem q1390 : (Jvm.Cond.methodLink "PassagePapers" (341 : Nat) ({ cls := "PassagePapers$State", name := "fare", desc := "(I)I" } : Jvm.MethodName)) ∈ lw_all := lw_g (lw_at lw_m6 101 rfl) rfl
theorem q1395 : (Jvm.Cond.instanceMethod ({ cls := "PassagePapers", name := "canPay", desc := "(I)Z" } : Jvm.MethodName)) ∈ lw_all := lw_g (lw_at lw_m6 106 rfl) rfl
theorem q1396 : (Jvm.Cond.selects "PassagePapers" ({ cls := "PassagePapers", name := "canPay", desc := "(I)Z" } : Jvm.MethodName) ({ cls := "PassagePapers", name := "canPay", desc := "(I)Z" } : Jvm.MethodName)) ∈ lw_all := lw_g (lw_at lw_m6 107 rfl) rfl
theorem q1397 : (Jvm.Cond.code ({ cls := "PassagePapers", name := "canPay", desc := "(I)Z" } : Jvm.MethodName) prog_1_method_32_code (2 : Nat) (Option.some Jvm.ClassFile.FieldType.boolean)) ∈ lw_all := lw_g (lw_at lw_m6 108 rfl) rfl
theorem q1398 : (Jvm.Cond.methodLink "PassagePapers" (344 : Nat) ({ cls := "PassagePapers$State", name := "mayPay", desc := "(I)Z" } : Jvm.MethodName)) ∈ lw_all := lw_g (lw_at lw_m6 109 rfl) rfl
theorem q1403 : (Jvm.Cond.instanceMethod ({ cls := "PassagePapers", name := "enough", desc := "(I)I" } : Jvm.MethodName)) ∈ lw_all := lw_g (lw_at lw_m6 114 rfl) rfl
theorem q1404 : (Jvm.Cond.selects "PassagePapers" ({ cls := "PassagePapers", name := "enough", desc := "(I)I" } : Jvm.MethodName) ({ cls := "PassagePapers", name := "enough", desc := "(I)I" } : Jvm.MethodName)) ∈ lw_all := lw_g (lw_at lw_m6 115 rfl) rfl
theorem q1405 : (Jvm.Cond.code ({ cls := "PassagePapers", name := "enough", desc := "(I)I" } : Jvm.MethodName) prog_1_method_33_code (2 : Nat) (Option.some Jvm.ClassFile.FieldType.int)) ∈ lw_all := lw_g (lw_at lw_m6 116 rfl) rfl
theorem q1410 : (Jvm.Cond.instanceMethod ({ cls := "PassagePapers", name := "level", desc := "(I)I" } : Jvm.MethodName)) ∈ lw_all := lw_g (lw_at lw_m6 121 rfl) rfl
theorem q1411 : (Jvm.Cond.selects "PassagePapers" ({ cls := "PassagePapers", name := "level", desc := "(I)I" } : Jvm.MethodName) ({ cls := "PassagePapers", name := "level", desc := "(I)I" } : Jvm.MethodName)) ∈ lw_all := lw_g (lw_at lw_m6 122 rfl) rfl
theorem q1412 : (Jvm.Cond.code ({ cls := "PassagePapers", name := "level", desc := "(I)I" } : Jvm.MethodName) prog_1_method_34_code (3 : Nat) (Option.some Jvm.ClassFile.FieldType.int)) ∈ lw_all := lw_g (lw_at lw_m6 123 rfl) rfl
theorem q1417 : (Jvm.Cond.instanceMethod ({ cls := "PassagePapers", name := "terms", desc := "(II)I" } : Jvm.MethodName)) ∈ lw_all := lw_g (lw_at lw_m6 128 rfl) rfl
theorem q1418 : (Jvm.Cond.selects "PassagePapers" ({ cls := "PassagePapers", name := "terms", desc := "(II)I" } : Jvm.MethodName) ({ cls := "PassagePapers", name := "terms", desc := "(II)I" } : Jvm.MethodName)) ∈ lw_all := lw_g (lw_at lw_m6 129 rfl) rfl
theorem q1419 : (Jvm.Cond.code ({ cls := "PassagePapers", name := "terms", desc := "(II)I" } : Jvm.MethodName) prog_1_method_37_code (10 : Nat) (Option.some Jvm.ClassFile.FieldType.int)) ∈ lw_all := lw_g (lw_at lw_m6 130 rfl) rfl
theorem q1420 : (Jvm.Cond.methodLink "PassagePapers" (350 : Nat) ({ cls := "PassagePapers$State", name := "asksBy", desc := "(IIII)I" } : Jvm.MethodName)) ∈ lw_all := lw_g (lw_at lw_m6 131 rfl) rfl
theorem q1421 : (Jvm.Cond.methodLink "PassagePapers" (354 : Nat) ({ cls := "PassagePapers", name := "isSaid", desc := "(I)Z" } : Jvm.MethodName)) ∈ lw_all := lw_g (lw_at lw_m6 132 rfl) rfl
theorem q1422 : (Jvm.Cond.privateMethod ({ cls := "PassagePapers", name := "isSaid", desc := "(I)Z" } : Jvm.MethodName)) ∈ lw_tbl := lw_at lw_m6 133 rfl
theorem q1423 : (Jvm.Cond.instanceMethod ({ cls := "PassagePapers", name := "isSaid", desc := "(I)Z" } : Jvm.MethodName)) ∈ lw_all := lw_g (lw_at lw_m6 134 rfl) rfl
theorem q1424 : (Jvm.Cond.code ({ cls := "PassagePapers", name := "isSaid", desc := "(I)Z" } : Jvm.MethodName) prog_1_method_36_code (3 : Nat) (Option.some Jvm.ClassFile.FieldType.boolean)) ∈ lw_all := lw_g (lw_at lw_m6 135 rfl) rfl
theorem q1425 : (Jvm.Cond.methodLink "PassagePapers" (347 : Nat) ({ cls := "java/lang/Math", name := "max", desc := "(II)I" } : Jvm.MethodName)) ∈ lw_all := lw_g (lw_at lw_m6 136 rfl) rfl
theorem q1430 : (Jvm.Cond.instanceMethod ({ cls := "PassagePapers", name := "ask", desc := "(II)I" } : Jvm.MethodName)) ∈ lw_all := lw_g (lw_at lw_m6 141 rfl) rfl
theorem q1431 : (Jvm.Cond.selects "PassagePapers" ({ cls := "PassagePapers", name := "ask", desc := "(II)I" } : Jvm.MethodName) ({ cls := "PassagePapers", name := "ask", desc := "(II)I" } : Jvm.MethodName)) ∈ lw_all := lw_g (lw_at lw_m6 142 rfl) rfl
theorem q1432 : (Jvm.Cond.code ({ cls := "PassagePapers", name := "ask", desc := "(II)I" } : Jvm.MethodName) prog_1_method_40_code (9 : Nat) (Option.some Jvm.ClassFile.FieldType.int)) ∈ lw_all := lw_g (lw_at lw_m6 143 rfl) rfl
theorem q1433 : (Jvm.Cond.methodLink "PassagePapers" (357 : Nat) ({ cls := "PassagePapers", name := "counts", desc := "(I)V" } : Jvm.MethodName)) ∈ lw_all := lw_g (lw_at lw_m6 144 rfl) rfl
theorem q1434 : (Jvm.Cond.privateMethod ({ cls := "PassagePapers", name := "counts", desc := "(I)V" } : Jvm.MethodName)) ∈ lw_tbl := lw_at lw_m6 145 rfl
theorem q1435 : (Jvm.Cond.instanceMethod ({ cls := "PassagePapers", name := "counts", desc := "(I)V" } : Jvm.MethodName)) ∈ lw_all := lw_g (lw_at lw_m6 146 rfl) rfl
theorem q1436 : (Jvm.Cond.code ({ cls := "PassagePapers", name := "counts", desc := "(I)V" } : Jvm.MethodName) prog_1_method_39_code (5 : Nat) (Option.none : Option Jvm.ClassFile.FieldType)) ∈ lw_all := lw_g (lw_at lw_m6 147 rfl) rfl
theorem q1437 : (Jvm.Cond.methodLink "PassagePapers" (360 : Nat) ({ cls := "PassagePapers", name := "isTold", desc := "(I)Z" } : Jvm.MethodName)) ∈ lw_all := lw_g (lw_at lw_m6 148 rfl) rfl
theorem q1438 : (Jvm.Cond.privateMethod ({ cls := "PassagePapers", name := "isTold", desc := "(I)Z" } : Jvm.MethodName)) ∈ lw_tbl := lw_at lw_m6 149 rfl
theorem q1439 : (Jvm.Cond.instanceMethod ({ cls := "PassagePapers", name := "isTold", desc := "(I)Z" } : Jvm.MethodName)) ∈ lw_all := lw_g (lw_at lw_m6 150 rfl) rfl
theorem q1440 : (Jvm.Cond.code ({ cls := "PassagePapers", name := "isTold", desc := "(I)Z" } : Jvm.MethodName) prog_1_method_38_code (3 : Nat) (Option.some Jvm.ClassFile.FieldType.boolean)) ∈ lw_all := lw_g (lw_at lw_m6 151 rfl) rfl
theorem q1445 : (Jvm.Cond.instanceMethod ({ cls := "PassagePapers", name := "court", desc := "(III)J" } : Jvm.MethodName)) ∈ lw_all := lw_g (lw_at lw_m6 156 rfl) rfl
theorem q1446 : (Jvm.Cond.selects "PassagePapers" ({ cls := "PassagePapers", name := "court", desc := "(III)J" } : Jvm.MethodName) ({ cls := "PassagePapers", name := "court", desc := "(III)J" } : Jvm.MethodName)) ∈ lw_all := lw_g (lw_at lw_m6 157 rfl) rfl
theorem q1447 : (Jvm.Cond.code ({ cls := "PassagePapers", name := "court", desc := "(III)J" } : Jvm.MethodName) prog_1_method_45_code (4 : Nat) (Option.some Jvm.ClassFile.FieldType.long)) ∈ lw_all := lw_g (lw_at lw_m6 158 rfl) rfl
theorem q1448 : (Jvm.Cond.methodLink "PassagePapers" (367 : Nat) ({ cls := "PassagePapers", name := "odd", desc := "(I)V" } : Jvm.MethodName)) ∈ lw_all := lw_g (lw_at lw_m6 159 rfl) rfl
theorem q1449 : (Jvm.Cond.privateMethod ({ cls := "PassagePapers", name := "odd", desc := "(I)V" } : Jvm.MethodName)) ∈ lw_tbl := lw_at lw_m6 160 rfl
theorem q1450 : (Jvm.Cond.instanceMethod ({ cls := "PassagePapers", name := "odd", desc := "(I)V" } : Jvm.MethodName)) ∈ lw_all := lw_g (lw_at lw_m6 161 rfl) rfl
theorem q1451 : (Jvm.Cond.code ({ cls := "PassagePapers", name := "odd", desc := "(I)V" } : Jvm.MethodName) prog_1_method_44_code (2 : Nat) (Option.none : Option Jvm.ClassFile.FieldType)) ∈ lw_all := lw_g (lw_at lw_m6 162 rfl) rfl
theorem q1452 : (Jvm.Cond.methodLink "PassagePapers" (363 : Nat) ({ cls := "PassagePapers", name := "rights", desc := "(III)J" } : Jvm.MethodName)) ∈ lw_all := lw_g (lw_at lw_m6 163 rfl) rfl
theorem q1453 : (Jvm.Cond.static ({ cls := "PassagePapers", name := "rights", desc := "(III)J" } : Jvm.MethodName)) ∈ lw_all := lw_g (lw_at lw_m6 164 rfl) rfl
theorem q1454 : (Jvm.Cond.code ({ cls := "PassagePapers", name := "rights", desc := "(III)J" } : Jvm.MethodName) prog_1_method_42_code (3 : Nat) (Option.some Jvm.ClassFile.FieldType.long)) ∈ lw_all := lw_g (lw_at lw_m6 165 rfl) rfl
theorem q1455 : (Jvm.Cond.methodLink "PassagePapers" (370 : Nat) ({ cls := "PassagePapers", name := "whole", desc := "(I)J" } : Jvm.MethodName)) ∈ lw_all := lw_g (lw_at lw_m6 166 rfl) rfl
theorem q1456 : (Jvm.Cond.static ({ cls := "PassagePapers", name := "whole", desc := "(I)J" } : Jvm.MethodName)) ∈ lw_all := lw_g (lw_at lw_m6 167 rfl) rfl
theorem q1457 : (Jvm.Cond.code ({ cls := "PassagePapers", name := "whole", desc := "(I)J" } : Jvm.MethodName) prog_1_method_43_code (1 : Nat) (Option.some Jvm.ClassFile.FieldType.long)) ∈ lw_all := lw_g (lw_at lw_m6 168 rfl) rfl
theorem q1458 : (Jvm.Cond.methodLink "PassagePapers" (374 : Nat) ({ cls := "PassagePapers", name := "part", desc := "(JJI)J" } : Jvm.MethodName)) ∈ lw_all := lw_g (lw_at lw_m6 169 rfl) rfl
theorem q1459 : (Jvm.Cond.static ({ cls := "PassagePapers", name := "part", desc := "(JJI)J" } : Jvm.MethodName)) ∈ lw_all := lw_g (lw_at lw_m6 170 rfl) rfl
theorem q1460 : (Jvm.Cond.code ({ cls := "PassagePapers", name := "part", desc := "(JJI)J" } : Jvm.MethodName) prog_1_method_41_code (11 : Nat) (Option.some Jvm.ClassFile.FieldType.long)) ∈ lw_all := lw_g (lw_at lw_m6 171 rfl) rfl
theorem q1465 : (Jvm.Cond.instanceMethod ({ cls := "PassagePapers", name := "witnesses", desc := "(II)I" } : Jvm.MethodName)) ∈ lw_all := lw_g (lw_at lw_m6 176 rfl) rfl
theorem q1466 : (Jvm.Cond.selects "PassagePapers" ({ cls := "PassagePapers", name := "witnesses", desc := "(II)I" } : Jvm.MethodName) ({ cls := "PassagePapers", name := "witnesses", desc := "(II)I" } : Jvm.MethodName)) ∈ lw_all := lw_g (lw_at lw_m6 177 rfl) rfl
theorem q1467 : (Jvm.Cond.code ({ cls := "PassagePapers", name := "witnesses", desc := "(II)I" } : Jvm.MethodName) prog_1_method_46_code (4 : Nat) (Option.some Jvm.ClassFile.FieldType.int)) ∈ lw_all := lw_g (lw_at lw_m6 178 rfl) rfl
theorem q1468 : (Jvm.Cond.constantLong "PassagePapers" (378 : Nat) (16 : Int64)) ∈ lw_all := lw_g (lw_at lw_m6 179 rfl) rfl
theorem q1473 : (Jvm.Cond.instanceMethod ({ cls := "PassagePapers", name := "loan", desc := "(III)I" } : Jvm.MethodName)) ∈ lw_all := lw_g (lw_at lw_m6 184 rfl) rfl
theorem q1474 : (Jvm.Cond.selects "PassagePapers" ({ cls := "PassagePapers", name := "loan", desc := "(III)I" } : Jvm.MethodName) ({ cls := "PassagePapers", name := "loan", desc := "(III)I" } : Jvm.MethodName)) ∈ lw_all := lw_g (lw_at lw_m6 185 rfl) rfl
theorem q1475 : (Jvm.Cond.code ({ cls := "PassagePapers", name := "loan", desc := "(III)I" } : Jvm.MethodName) prog_1_method_47_code (6 : Nat) (Option.some Jvm.ClassFile.FieldType.int)) ∈ lw_all := lw_g (lw_at lw_m6 186 rfl) rfl
theorem q1476 : (Jvm.Cond.constant "PassagePapers" (380 : Nat) (99999999 : Int32)) ∈ lw_all := lw_g (lw_at lw_m6 187 rfl) rfl
theorem q1477 : (Jvm.Cond.constantLong "PassagePapers" (381 : Nat) (1000 : Int64)) ∈ lw_all := lw_g (lw_at lw_m6 188 rfl) rfl
theorem q1482 : (Jvm.Cond.instanceMethod ({ cls := "PassagePapers", name := "land", desc := "(II)I" } : Jvm.MethodName)) ∈ lw_all := lw_g (lw_at lw_m6 193 rfl) rfl
theorem q1483 : (Jvm.Cond.selects "PassagePapers" ({ cls := "PassagePapers", name := "land", desc := "(II)I" } : Jvm.MethodName) ({ cls := "PassagePapers", name := "land", desc := "(II)I" } : Jvm.MethodName)) ∈ lw_all := lw_g (lw_at lw_m6 194 rfl) rfl
theorem q1484 : (Jvm.Cond.code ({ cls := "PassagePapers", name := "land", desc := "(II)I" } : Jvm.MethodName) prog_1_method_48_code (7 : Nat) (Option.some Jvm.ClassFile.FieldType.int)) ∈ lw_all := lw_g (lw_at lw_m6 195 rfl) rfl
theorem q1489 : (Jvm.Cond.instanceMethod ({ cls := "PassagePapers", name := "bids", desc := "(IIII)I" } : Jvm.MethodName)) ∈ lw_all := lw_g (lw_at lw_m6 200 rfl) rfl
theorem q1490 : (Jvm.Cond.selects "PassagePapers" ({ cls := "PassagePapers", name := "bids", desc := "(IIII)I" } : Jvm.MethodName) ({ cls := "PassagePapers", name := "bids", desc := "(IIII)I" } : Jvm.MethodName)) ∈ lw_all := lw_g (lw_at lw_m6 201 rfl) rfl
theorem q1491 : (Jvm.Cond.code ({ cls := "PassagePapers", name := "bids", desc := "(IIII)I" } : Jvm.MethodName) prog_1_method_51_code (10 : Nat) (Option.some Jvm.ClassFile.FieldType.int)) ∈ lw_all := lw_g (lw_at lw_m6 202 rfl) rfl
theorem q1492 : (Jvm.Cond.methodLink "PassagePapers" (387 : Nat) ({ cls := "PassagePapers", name := "isBest", desc := "(IIII)Z" } : Jvm.MethodName)) ∈ lw_all := lw_g (lw_at lw_m6 203 rfl) rfl
theorem q1493 : (Jvm.Cond.static ({ cls := "PassagePapers", name := "isBest", desc := "(IIII)Z" } : Jvm.MethodName)) ∈ lw_all := lw_g (lw_at lw_m6 204 rfl) rfl
theorem q1494 : (Jvm.Cond.code ({ cls := "PassagePapers", name := "isBest", desc := "(IIII)Z" } : Jvm.MethodName) prog_1_method_50_code (5 : Nat) (Option.some Jvm.ClassFile.FieldType.boolean)) ∈ lw_all := lw_g (lw_at lw_m6 205 rfl) rfl
theorem q1495 : (Jvm.Cond.methodLink "PassagePapers" (383 : Nat) ({ cls := "PassagePapers", name := "hasBy", desc := "(III)I" } : Jvm.MethodName)) ∈ lw_all := lw_g (lw_at lw_m6 206 rfl) rfl
theorem q1496 : (Jvm.Cond.static ({ cls := "PassagePapers", name := "hasBy", desc := "(III)I" } : Jvm.MethodName)) ∈ lw_all := lw_g (lw_at lw_m6 207 rfl) rfl
theorem q1497 : (Jvm.Cond.code ({ cls := "PassagePapers", name := "hasBy", desc := "(III)I" } : Jvm.MethodName) prog_1_method_49_code (3 : Nat) (Option.some Jvm.ClassFile.FieldType.int)) ∈ lw_all := lw_g (lw_at lw_m6 208 rfl) rfl
theorem q1502 : (Jvm.Cond.instanceMethod ({ cls := "PassagePapers", name := "has", desc := "(III)I" } : Jvm.MethodName)) ∈ lw_all := lw_g (lw_at lw_m6 213 rfl) rfl
theorem q1503 : (Jvm.Cond.selects "PassagePapers" ({ cls := "PassagePapers", name := "has", desc := "(III)I" } : Jvm.MethodName) ({ cls := "PassagePapers", name := "has", desc := "(III)I" } : Jvm.MethodName)) ∈ lw_all := lw_g (lw_at lw_m6 214 rfl) rfl
theorem q1504 : (Jvm.Cond.code ({ cls := "PassagePapers", name := "has", desc := "(III)I" } : Jvm.MethodName) prog_1_method_52_code (4 : Nat) (Option.some Jvm.ClassFile.FieldType.int)) ∈ lw_all := lw_g (lw_at lw_m6 215 rfl) rfl
theorem q1509 : (Jvm.Cond.instanceMethod ({ cls := "PassagePapers", name := "voyage", desc := "(IIIII)I" } : Jvm.MethodName)) ∈ lw_all := lw_g (lw_at lw_m6 220 rfl) rfl
theorem q1510 : (Jvm.Cond.selects "PassagePapers" ({ cls := "PassagePapers", name := "voyage", desc := "(IIIII)I" } : Jvm.MethodName) ({ cls := "PassagePapers", name := "voyage", desc := "(IIIII)I" } : Jvm.MethodName)) ∈ lw_all := lw_g (lw_at lw_m6 221 rfl) rfl
theorem q1511 : (Jvm.Cond.code ({ cls := "PassagePapers", name := "voyage", desc := "(IIIII)I" } : Jvm.MethodName) prog_1_method_56_code (7 : Nat) (Option.some Jvm.ClassFile.FieldType.int)) ∈ lw_all := lw_g (lw_at lw_m6 222 rfl) rfl
theorem q1512 : (Jvm.Cond.methodLink "PassagePapers" (395 : Nat) ({ cls := "PassagePapers", name := "voyageOf", desc := "(III)V" } : Jvm.MethodName)) ∈ lw_all := lw_g (lw_at lw_m6 223 rfl) rfl
theorem q1513 : (Jvm.Cond.privateMethod ({ cls := "PassagePapers", name := "voyageOf", desc := "(III)V" } : Jvm.MethodName)) ∈ lw_tbl := lw_at lw_m6 224 rfl
theorem q1514 : (Jvm.Cond.instanceMethod ({ cls := "PassagePapers", name := "voyageOf", desc := "(III)V" } : Jvm.MethodName)) ∈ lw_all := lw_g (lw_at lw_m6 225 rfl) rfl
theorem q1515 : (Jvm.Cond.code ({ cls := "PassagePapers", name := "voyageOf", desc := "(III)V" } : Jvm.MethodName) prog_1_method_54_code (4 : Nat) (Option.none : Option Jvm.ClassFile.FieldType)) ∈ lw_all := lw_g (lw_at lw_m6 226 rfl) rfl
theorem q1516 : (Jvm.Cond.methodLink "PassagePapers" (398 : Nat) ({ cls := "PassagePapers", name := "sails", desc := "(IIII)LPassagePapers$State;" } : Jvm.MethodName)) ∈ lw_all := lw_g (lw_at lw_m6 227 rfl) rfl
theorem q1517 : (Jvm.Cond.privateMethod ({ cls := "PassagePapers", name := "sails", desc := "(IIII)LPassagePapers$State;" } : Jvm.MethodName)) ∈ lw_tbl := lw_at lw_m6 228 rfl
theorem q1518 : (Jvm.Cond.instanceMethod ({ cls := "PassagePapers", name := "sails", desc := "(IIII)LPassagePapers$State;" } : Jvm.MethodName)) ∈ lw_all := lw_g (lw_at lw_m6 229 rfl) rfl
theorem q1519 : (Jvm.Cond.code ({ cls := "PassagePapers", name := "sails", desc := "(IIII)LPassagePapers$State;" } : Jvm.MethodName) prog_1_method_53_code (7 : Nat) (Option.some (Jvm.ClassFile.FieldType.object "PassagePapers$State"))) ∈ lw_all := lw_g (lw_at lw_m6 230 rfl) rfl
theorem q1520 : (Jvm.Cond.constant "PassagePapers" (394 : Nat) (1103515245 : Int32)) ∈ lw_all := lw_g (lw_at lw_m6 231 rfl) rfl
theorem q1521 : (Jvm.Cond.methodLink "PassagePapers" (402 : Nat) ({ cls := "PassagePapers", name := "hungrier", desc := "(LPassagePapers$State;)I" } : Jvm.MethodName)) ∈ lw_all := lw_g (lw_at lw_m6 232 rfl) rfl
theorem q1522 : (Jvm.Cond.privateMethod ({ cls := "PassagePapers", name := "hungrier", desc := "(LPassagePapers$State;)I" } : Jvm.MethodName)) ∈ lw_tbl := lw_at lw_m6 233 rfl
theorem q1523 : (Jvm.Cond.instanceMethod ({ cls := "PassagePapers", name := "hungrier", desc := "(LPassagePapers$State;)I" } : Jvm.MethodName)) ∈ lw_all := lw_g (lw_at lw_m6 234 rfl) rfl
theorem q1524 : (Jvm.Cond.code ({ cls := "PassagePapers", name := "hungrier", desc := "(LPassagePapers$State;)I" } : Jvm.MethodName) prog_1_method_55_code (2 : Nat) (Option.some Jvm.ClassFile.FieldType.int)) ∈ lw_all := lw_g (lw_at lw_m6 235 rfl) rfl
theorem q1529 : (Jvm.Cond.instanceMethod ({ cls := "PassagePapers", name := "span", desc := "(IIIIII)I" } : Jvm.MethodName)) ∈ lw_all := lw_g (lw_at lw_m7 0 rfl) rfl
theorem q1530 : (Jvm.Cond.selects "PassagePapers" ({ cls := "PassagePapers", name := "span", desc := "(IIIIII)I" } : Jvm.MethodName) ({ cls := "PassagePapers", name := "span", desc := "(IIIIII)I" } : Jvm.MethodName)) ∈ lw_all := lw_g (lw_at lw_m7 1 rfl) rfl
theorem q1531 : (Jvm.Cond.code ({ cls := "PassagePapers", name := "span", desc := "(IIIIII)I" } : Jvm.MethodName) prog_1_method_57_code (12 : Nat) (Option.some Jvm.ClassFile.FieldType.int)) ∈ lw_all := lw_g (lw_at lw_m7 2 rfl) rfl
theorem q2194 : (Jvm.Cond.castable "PassagePapers" "java/lang/Object") ∈ lw_tbl := lw_at lw_m9 185 rfl
theorem in_X1 : ∀ w ∈ wsX10, w ∈ lw_all := lw_in wsX10 [407, 409, 411, 413, 415, 417, 419, 421, 423, 425, 427, 429, 431, 433, 435, 437, 439, 441, 443] (by decide +kernel) (by decide +kernel)
