/-! PassagePapersModel -/
set_option maxRecDepth 100000
def RX8 : String := "PassagePapersModel"
def TX8 : u_T := fun k => match k with
  | 0 => ("PassagePapersModel", "thrown", "I", false)
  | 1 => ("PassagePapersModel", "refused", "[I", true)
  | 2 => ("PassagePapersModel", "taped", "I", false)
  | 3 => ("PassagePapersModel", "size", "I", false)
  | 4 => ("PassagePapersModel", "at", "I", false)
  | 5 => ("PassagePapersModel", "bad", "I", false)
  | 6 => ("PassagePapersModel", "badKind", "I", false)
  | 7 => ("PassagePapersModel", "opens", "I", false)
  | 8 => ("PassagePapersModel", "faultAt", "I", false)
  | 9 => ("PassagePapersModel", "tape", "[I", true)
  | 10 => ("PassagePapersModel", "newSigner", "[I", true)
  | 11 => ("PassagePapersModel", "newTaker", "[I", true)
  | 12 => ("PassagePapersModel", "signer", "[I", true)
  | 13 => ("PassagePapersModel", "taker", "[I", true)
  | 14 => ("PassagePapersModel", "newSigners", "I", false)
  | 15 => ("PassagePapersModel", "newTakers", "I", false)
  | 16 => ("PassagePapersModel", "newStores", "I", false)
  | 17 => ("PassagePapersModel", "newVoyage", "I", false)
  | 18 => ("PassagePapersModel", "signers", "I", false)
  | 19 => ("PassagePapersModel", "takers", "I", false)
  | 20 => ("PassagePapersModel", "voyage", "I", false)
  | 21 => ("PassagePapersModel", "newCode", "[I", true)
  | 22 => ("PassagePapersModel", "newOf", "[I", true)
  | 23 => ("PassagePapersModel", "code", "[I", true)
  | 24 => ("PassagePapersModel", "ofCode", "[I", true)
  | 25 => ("PassagePapersModel", "codes", "[I", true)
  | 26 => ("PassagePapersModel", "stack", "[I", true)
  | 27 => ("PassagePapersModel", "newCodes", "I", false)
  | 28 => ("PassagePapersModel", "facts", "[I", true)
  | 29 => ("PassagePapersModel", "newStep", "[I", true)
  | 30 => ("PassagePapersModel", "step", "[I", true)
  | 31 => ("PassagePapersModel", "newSteps", "I", false)
  | 32 => ("PassagePapersModel", "works", "I", false)
  | 33 => ("PassagePapersModel", "refusedSteps", "I", false)
  | 34 => ("PassagePapersModel", "begun", "I", false)
  | 35 => ("PassagePapersModel", "done", "I", false)
  | 36 => ("PassagePapersModel", "refusedNow", "I", false)
  | 37 => ("PassagePapersModel", "now", "[I", true)
  | 38 => ("PassagePapersModel", "s", "[I", true)
  | 39 => ("PassagePapersModel", "past", "[I", true)
  | 40 => ("PassagePapersModel", "ruling", "I", false)
  | 41 => ("PassagePapersModel", "hungers", "I", false)
  | 42 => ("PassagePapersModel", "servedNow", "I", false)
  | 43 => ("PassagePapersModel", "newBook", "[I", true)
  | 44 => ("PassagePapersModel", "book", "[I", true)
  | 45 => ("PassagePapersModel", "books", "I", false)
  | 46 => ("PassagePapersModel", "giving", "[I", true)
  | 47 => ("PassagePapersModel", "room", "[I", true)
  | 48 => ("PassagePapersModel", "way", "[I", true)
  | 49 => ("PassagePapersModel", "bestWay", "[I", true)
  | 50 => ("PassagePapersModel", "bestGives", "I", false)
  | 51 => ("PassagePapersModel", "isTerm", "[Z", true)
  | 52 => ("PassagePapersModel", "asksTerm", "[I", true)
  | 53 => ("PassagePapersModel", "saidBy", "[I", true)
  | 54 => ("PassagePapersModel", "fields", "[I", true)
  | 55 => ("PassagePapersModel", "seedNow", "I", false)
  | 56 => ("PassagePapersModel", "spoils", "I", false)
  | 57 => ("PassagePapersModel", "image", "[I", true)
  | _ => ("PassagePapersModel", "images", "I", false)
def tyX8 : Nat → FieldType := fun k => match k with
  | 0 => .int
  | 1 => .array .int
  | 2 => .int
  | 3 => .int
  | 4 => .int
  | 5 => .int
  | 6 => .int
  | 7 => .int
  | 8 => .int
  | 9 => .array .int
  | 10 => .array .int
  | 11 => .array .int
  | 12 => .array .int
  | 13 => .array .int
  | 14 => .int
  | 15 => .int
  | 16 => .int
  | 17 => .int
  | 18 => .int
  | 19 => .int
  | 20 => .int
  | 21 => .array .int
  | 22 => .array .int
  | 23 => .array .int
  | 24 => .array .int
  | 25 => .array .int
  | 26 => .array .int
  | 27 => .int
  | 28 => .array .int
  | 29 => .array .int
  | 30 => .array .int
  | 31 => .int
  | 32 => .int
  | 33 => .int
  | 34 => .int
  | 35 => .int
  | 36 => .int
  | 37 => .array .int
  | 38 => .array .int
  | 39 => .array .int
  | 40 => .int
  | 41 => .int
  | 42 => .int
  | 43 => .array .int
  | 44 => .array .int
  | 45 => .int
  | 46 => .array .int
  | 47 => .array .int
  | 48 => .array .int
  | 49 => .array .int
  | 50 => .int
  | 51 => .array .boolean
  | 52 => .array .int
  | 53 => .array .int
  | 54 => .array .int
  | 55 => .int
  | 56 => .int
  | 57 => .array .int
  | _ => .int
abbrev wsX80 : List Cond := u_ws RX8 TX8 59
set_option maxRecDepth 100000 in
theorem nmX8 : ∀ a, a < 59 → ∀ b, b < 59 → a ≠ b → (TX8 a).2.1 ≠ (TX8 b).2.1 := by decide +kernel
set_option maxRecDepth 100000 in
theorem tyX8_ok : ∀ k, k < 59 → parseFieldDescriptor (TX8 k).2.2.1 = some (tyX8 k) := by decide +kernel
abbrev cX8_thrown : ByteArray := prog_26_method_1_code
def yX8_thrown : MethodName := ⟨RX8, "thrown", "()I"⟩
theorem dX8_thrown_0 : decode cX8_thrown 0 = .ok (.aload_n 0, 1) := by decide +kernel
theorem dX8_thrown_1 : decode cX8_thrown 1 = .ok (.getfield 3, 3) := by decide +kernel
theorem dX8_thrown_4 : decode cX8_thrown 4 = .ok (.ireturn, 1) := by decide +kernel
abbrev cX8_init : ByteArray := prog_26_method_4_code
def yX8_init : MethodName := ⟨RX8, "<init>", "()V"⟩
def dkwX8_init_11 : List UInt8 := [182, 0, 108, 177]
abbrev dktX8_init_11 : List UInt8 := dkwX8_init_11 ++ []
def dkwX8_init_10 : List UInt8 := [181, 0, 96, 42, 8, 188, 10, 181, 0, 99, 42, 17, 13, 41, 188, 10, 181, 0, 102, 42, 182, 0, 105, 42]
abbrev dktX8_init_10 : List UInt8 := dkwX8_init_10 ++ dktX8_init_11
def dkwX8_init_9 : List UInt8 := [17, 0, 225, 188, 4, 181, 0, 89, 42, 17, 0, 225, 188, 10, 181, 0, 93, 42, 17, 3, 232, 188, 10]
abbrev dktX8_init_9 : List UInt8 := dkwX8_init_9 ++ dktX8_init_10
def dkwX8_init_8 : List UInt8 := [188, 10, 181, 0, 80, 42, 16, 8, 188, 10, 181, 0, 83, 42, 16, 8, 188, 10, 181, 0, 86, 42]
abbrev dktX8_init_8 : List UInt8 := dkwX8_init_8 ++ dktX8_init_9
def dkwX8_init_7 : List UInt8 := [188, 10, 181, 0, 71, 42, 16, 16, 188, 10, 181, 0, 74, 42, 16, 40, 188, 10, 181, 0, 77, 42, 8]
abbrev dktX8_init_7 : List UInt8 := dkwX8_init_7 ++ dktX8_init_8
def dkwX8_init_6 : List UInt8 := [181, 0, 62, 42, 16, 66, 188, 10, 181, 0, 65, 42, 17, 4, 32, 188, 10, 181, 0, 68, 42, 16, 16]
abbrev dktX8_init_6 : List UInt8 := dkwX8_init_6 ++ dktX8_init_7
def dkwX8_init_5 : List UInt8 := [17, 0, 150, 188, 10, 181, 0, 56, 42, 17, 0, 150, 188, 10, 181, 0, 59, 42, 16, 66, 188, 10]
abbrev dktX8_init_5 : List UInt8 := dkwX8_init_5 ++ dktX8_init_6
def dkwX8_init_4 : List UInt8 := [5, 188, 10, 181, 0, 47, 42, 17, 0, 150, 188, 10, 181, 0, 50, 42, 16, 8, 188, 10, 181, 0, 53, 42]
abbrev dktX8_init_4 : List UInt8 := dkwX8_init_4 ++ dktX8_init_5
def dkwX8_init_3 : List UInt8 := [188, 10, 181, 0, 38, 42, 17, 1, 44, 188, 10, 181, 0, 41, 42, 17, 1, 44, 188, 10, 181, 0, 44, 42]
abbrev dktX8_init_3 : List UInt8 := dkwX8_init_3 ++ dktX8_init_4
def dkwX8_init_2 : List UInt8 := [181, 0, 29, 42, 16, 15, 188, 10, 181, 0, 32, 42, 17, 0, 150, 188, 10, 181, 0, 35, 42, 17, 0, 150]
abbrev dktX8_init_2 : List UInt8 := dkwX8_init_2 ++ dktX8_init_3
def dkwX8_init_1 : List UInt8 := [181, 0, 20, 42, 16, 32, 188, 10, 181, 0, 23, 42, 16, 15, 188, 10, 181, 0, 26, 42, 16, 32, 188, 10]
abbrev dktX8_init_1 : List UInt8 := dkwX8_init_1 ++ dktX8_init_2
def dkwX8_init_0 : List UInt8 := [42, 183, 0, 11, 42, 5, 188, 10, 181, 0, 7, 42, 2, 181, 0, 17, 42, 17, 2, 88, 188, 10]
abbrev dktX8_init_0 : List UInt8 := dkwX8_init_0 ++ dktX8_init_1
theorem dksX8_init_0 : cX8_init.data.toList.drop 0 = dktX8_init_0 := by decide +kernel
theorem dksX8_init_1 : cX8_init.data.toList.drop 22 = dktX8_init_1 := dk_seg dksX8_init_0 22 rfl rfl
theorem dksX8_init_2 : cX8_init.data.toList.drop 46 = dktX8_init_2 := dk_seg dksX8_init_1 24 rfl rfl
theorem dksX8_init_3 : cX8_init.data.toList.drop 70 = dktX8_init_3 := dk_seg dksX8_init_2 24 rfl rfl
theorem dksX8_init_4 : cX8_init.data.toList.drop 94 = dktX8_init_4 := dk_seg dksX8_init_3 24 rfl rfl
theorem dksX8_init_5 : cX8_init.data.toList.drop 118 = dktX8_init_5 := dk_seg dksX8_init_4 24 rfl rfl
theorem dksX8_init_6 : cX8_init.data.toList.drop 140 = dktX8_init_6 := dk_seg dksX8_init_5 22 rfl rfl
theorem dksX8_init_7 : cX8_init.data.toList.drop 163 = dktX8_init_7 := dk_seg dksX8_init_6 23 rfl rfl
theorem dksX8_init_8 : cX8_init.data.toList.drop 186 = dktX8_init_8 := dk_seg dksX8_init_7 23 rfl rfl
theorem dksX8_init_9 : cX8_init.data.toList.drop 208 = dktX8_init_9 := dk_seg dksX8_init_8 22 rfl rfl
theorem dksX8_init_10 : cX8_init.data.toList.drop 231 = dktX8_init_10 := dk_seg dksX8_init_9 23 rfl rfl
theorem dksX8_init_11 : cX8_init.data.toList.drop 255 = dktX8_init_11 := dk_seg dksX8_init_10 24 rfl rfl
theorem dX8_init_0 : decode cX8_init 0 = .ok (.aload_n 0, 1) := dk_42 (dk_at dksX8_init_0 0 rfl rfl)
theorem dX8_init_1 : decode cX8_init 1 = .ok (.invokespecial 11, 3) := dk_183 0 11 (dk_at dksX8_init_0 1 rfl rfl)
theorem dX8_init_4 : decode cX8_init 4 = .ok (.aload_n 0, 1) := dk_42 (dk_at dksX8_init_0 4 rfl rfl)
theorem dX8_init_5 : decode cX8_init 5 = .ok (.iconst 2, 1) := dk_5 (dk_at dksX8_init_0 5 rfl rfl)
theorem dX8_init_6 : decode cX8_init 6 = .ok (.newarray .int, 2) := dk_188_10 (dk_at dksX8_init_0 6 rfl rfl)
theorem dX8_init_8 : decode cX8_init 8 = .ok (.putfield 7, 3) := dk_181 0 7 (dk_at dksX8_init_0 8 rfl rfl)
theorem dX8_init_11 : decode cX8_init 11 = .ok (.aload_n 0, 1) := dk_42 (dk_at dksX8_init_0 11 rfl rfl)
theorem dX8_init_12 : decode cX8_init 12 = .ok (.iconst (-1), 1) := dk_2 (dk_at dksX8_init_0 12 rfl rfl)
theorem dX8_init_13 : decode cX8_init 13 = .ok (.putfield 17, 3) := dk_181 0 17 (dk_at dksX8_init_0 13 rfl rfl)
theorem dX8_init_16 : decode cX8_init 16 = .ok (.aload_n 0, 1) := dk_42 (dk_at dksX8_init_0 16 rfl rfl)
theorem dX8_init_17 : decode cX8_init 17 = .ok (.sipush 600, 3) := dk_17 2 88 (dk_at dksX8_init_0 17 rfl rfl)
theorem dX8_init_20 : decode cX8_init 20 = .ok (.newarray .int, 2) := dk_188_10 (dk_at dksX8_init_0 20 rfl rfl)
theorem dX8_init_22 : decode cX8_init 22 = .ok (.putfield 20, 3) := dk_181 0 20 (dk_at dksX8_init_1 0 rfl rfl)
theorem dX8_init_25 : decode cX8_init 25 = .ok (.aload_n 0, 1) := dk_42 (dk_at dksX8_init_1 3 rfl rfl)
theorem dX8_init_26 : decode cX8_init 26 = .ok (.bipush 32, 2) := dk_16 32 (dk_at dksX8_init_1 4 rfl rfl)
theorem dX8_init_28 : decode cX8_init 28 = .ok (.newarray .int, 2) := dk_188_10 (dk_at dksX8_init_1 6 rfl rfl)
theorem dX8_init_30 : decode cX8_init 30 = .ok (.putfield 23, 3) := dk_181 0 23 (dk_at dksX8_init_1 8 rfl rfl)
theorem dX8_init_33 : decode cX8_init 33 = .ok (.aload_n 0, 1) := dk_42 (dk_at dksX8_init_1 11 rfl rfl)
theorem dX8_init_34 : decode cX8_init 34 = .ok (.bipush 15, 2) := dk_16 15 (dk_at dksX8_init_1 12 rfl rfl)
theorem dX8_init_36 : decode cX8_init 36 = .ok (.newarray .int, 2) := dk_188_10 (dk_at dksX8_init_1 14 rfl rfl)
theorem dX8_init_38 : decode cX8_init 38 = .ok (.putfield 26, 3) := dk_181 0 26 (dk_at dksX8_init_1 16 rfl rfl)
theorem dX8_init_41 : decode cX8_init 41 = .ok (.aload_n 0, 1) := dk_42 (dk_at dksX8_init_1 19 rfl rfl)
theorem dX8_init_42 : decode cX8_init 42 = .ok (.bipush 32, 2) := dk_16 32 (dk_at dksX8_init_1 20 rfl rfl)
theorem dX8_init_44 : decode cX8_init 44 = .ok (.newarray .int, 2) := dk_188_10 (dk_at dksX8_init_1 22 rfl rfl)
theorem dX8_init_46 : decode cX8_init 46 = .ok (.putfield 29, 3) := dk_181 0 29 (dk_at dksX8_init_2 0 rfl rfl)
theorem dX8_init_49 : decode cX8_init 49 = .ok (.aload_n 0, 1) := dk_42 (dk_at dksX8_init_2 3 rfl rfl)
theorem dX8_init_50 : decode cX8_init 50 = .ok (.bipush 15, 2) := dk_16 15 (dk_at dksX8_init_2 4 rfl rfl)
theorem dX8_init_52 : decode cX8_init 52 = .ok (.newarray .int, 2) := dk_188_10 (dk_at dksX8_init_2 6 rfl rfl)
theorem dX8_init_54 : decode cX8_init 54 = .ok (.putfield 32, 3) := dk_181 0 32 (dk_at dksX8_init_2 8 rfl rfl)
theorem dX8_init_57 : decode cX8_init 57 = .ok (.aload_n 0, 1) := dk_42 (dk_at dksX8_init_2 11 rfl rfl)
theorem dX8_init_58 : decode cX8_init 58 = .ok (.sipush 150, 3) := dk_17 0 150 (dk_at dksX8_init_2 12 rfl rfl)
theorem dX8_init_61 : decode cX8_init 61 = .ok (.newarray .int, 2) := dk_188_10 (dk_at dksX8_init_2 15 rfl rfl)
theorem dX8_init_63 : decode cX8_init 63 = .ok (.putfield 35, 3) := dk_181 0 35 (dk_at dksX8_init_2 17 rfl rfl)
theorem dX8_init_66 : decode cX8_init 66 = .ok (.aload_n 0, 1) := dk_42 (dk_at dksX8_init_2 20 rfl rfl)
theorem dX8_init_67 : decode cX8_init 67 = .ok (.sipush 150, 3) := dk_17 0 150 (dk_at dksX8_init_2 21 rfl rfl)
theorem dX8_init_70 : decode cX8_init 70 = .ok (.newarray .int, 2) := dk_188_10 (dk_at dksX8_init_3 0 rfl rfl)
theorem dX8_init_72 : decode cX8_init 72 = .ok (.putfield 38, 3) := dk_181 0 38 (dk_at dksX8_init_3 2 rfl rfl)
theorem dX8_init_75 : decode cX8_init 75 = .ok (.aload_n 0, 1) := dk_42 (dk_at dksX8_init_3 5 rfl rfl)
theorem dX8_init_76 : decode cX8_init 76 = .ok (.sipush 300, 3) := dk_17 1 44 (dk_at dksX8_init_3 6 rfl rfl)
theorem dX8_init_79 : decode cX8_init 79 = .ok (.newarray .int, 2) := dk_188_10 (dk_at dksX8_init_3 9 rfl rfl)
theorem dX8_init_81 : decode cX8_init 81 = .ok (.putfield 41, 3) := dk_181 0 41 (dk_at dksX8_init_3 11 rfl rfl)
theorem dX8_init_84 : decode cX8_init 84 = .ok (.aload_n 0, 1) := dk_42 (dk_at dksX8_init_3 14 rfl rfl)
theorem dX8_init_85 : decode cX8_init 85 = .ok (.sipush 300, 3) := dk_17 1 44 (dk_at dksX8_init_3 15 rfl rfl)
theorem dX8_init_88 : decode cX8_init 88 = .ok (.newarray .int, 2) := dk_188_10 (dk_at dksX8_init_3 18 rfl rfl)
theorem dX8_init_90 : decode cX8_init 90 = .ok (.putfield 44, 3) := dk_181 0 44 (dk_at dksX8_init_3 20 rfl rfl)
theorem dX8_init_93 : decode cX8_init 93 = .ok (.aload_n 0, 1) := dk_42 (dk_at dksX8_init_3 23 rfl rfl)
theorem dX8_init_94 : decode cX8_init 94 = .ok (.iconst 2, 1) := dk_5 (dk_at dksX8_init_4 0 rfl rfl)
theorem dX8_init_95 : decode cX8_init 95 = .ok (.newarray .int, 2) := dk_188_10 (dk_at dksX8_init_4 1 rfl rfl)
theorem dX8_init_97 : decode cX8_init 97 = .ok (.putfield 47, 3) := dk_181 0 47 (dk_at dksX8_init_4 3 rfl rfl)
theorem dX8_init_100 : decode cX8_init 100 = .ok (.aload_n 0, 1) := dk_42 (dk_at dksX8_init_4 6 rfl rfl)
theorem dX8_init_101 : decode cX8_init 101 = .ok (.sipush 150, 3) := dk_17 0 150 (dk_at dksX8_init_4 7 rfl rfl)
theorem dX8_init_104 : decode cX8_init 104 = .ok (.newarray .int, 2) := dk_188_10 (dk_at dksX8_init_4 10 rfl rfl)
theorem dX8_init_106 : decode cX8_init 106 = .ok (.putfield 50, 3) := dk_181 0 50 (dk_at dksX8_init_4 12 rfl rfl)
theorem dX8_init_109 : decode cX8_init 109 = .ok (.aload_n 0, 1) := dk_42 (dk_at dksX8_init_4 15 rfl rfl)
theorem dX8_init_110 : decode cX8_init 110 = .ok (.bipush 8, 2) := dk_16 8 (dk_at dksX8_init_4 16 rfl rfl)
theorem dX8_init_112 : decode cX8_init 112 = .ok (.newarray .int, 2) := dk_188_10 (dk_at dksX8_init_4 18 rfl rfl)
theorem dX8_init_114 : decode cX8_init 114 = .ok (.putfield 53, 3) := dk_181 0 53 (dk_at dksX8_init_4 20 rfl rfl)
theorem dX8_init_117 : decode cX8_init 117 = .ok (.aload_n 0, 1) := dk_42 (dk_at dksX8_init_4 23 rfl rfl)
theorem dX8_init_118 : decode cX8_init 118 = .ok (.sipush 150, 3) := dk_17 0 150 (dk_at dksX8_init_5 0 rfl rfl)
theorem dX8_init_121 : decode cX8_init 121 = .ok (.newarray .int, 2) := dk_188_10 (dk_at dksX8_init_5 3 rfl rfl)
theorem dX8_init_123 : decode cX8_init 123 = .ok (.putfield 56, 3) := dk_181 0 56 (dk_at dksX8_init_5 5 rfl rfl)
theorem dX8_init_126 : decode cX8_init 126 = .ok (.aload_n 0, 1) := dk_42 (dk_at dksX8_init_5 8 rfl rfl)
theorem dX8_init_127 : decode cX8_init 127 = .ok (.sipush 150, 3) := dk_17 0 150 (dk_at dksX8_init_5 9 rfl rfl)
theorem dX8_init_130 : decode cX8_init 130 = .ok (.newarray .int, 2) := dk_188_10 (dk_at dksX8_init_5 12 rfl rfl)
theorem dX8_init_132 : decode cX8_init 132 = .ok (.putfield 59, 3) := dk_181 0 59 (dk_at dksX8_init_5 14 rfl rfl)
theorem dX8_init_135 : decode cX8_init 135 = .ok (.aload_n 0, 1) := dk_42 (dk_at dksX8_init_5 17 rfl rfl)
theorem dX8_init_136 : decode cX8_init 136 = .ok (.bipush 66, 2) := dk_16 66 (dk_at dksX8_init_5 18 rfl rfl)
theorem dX8_init_138 : decode cX8_init 138 = .ok (.newarray .int, 2) := dk_188_10 (dk_at dksX8_init_5 20 rfl rfl)
theorem dX8_init_140 : decode cX8_init 140 = .ok (.putfield 62, 3) := dk_181 0 62 (dk_at dksX8_init_6 0 rfl rfl)
theorem dX8_init_143 : decode cX8_init 143 = .ok (.aload_n 0, 1) := dk_42 (dk_at dksX8_init_6 3 rfl rfl)
theorem dX8_init_144 : decode cX8_init 144 = .ok (.bipush 66, 2) := dk_16 66 (dk_at dksX8_init_6 4 rfl rfl)
theorem dX8_init_146 : decode cX8_init 146 = .ok (.newarray .int, 2) := dk_188_10 (dk_at dksX8_init_6 6 rfl rfl)
theorem dX8_init_148 : decode cX8_init 148 = .ok (.putfield 65, 3) := dk_181 0 65 (dk_at dksX8_init_6 8 rfl rfl)
theorem dX8_init_151 : decode cX8_init 151 = .ok (.aload_n 0, 1) := dk_42 (dk_at dksX8_init_6 11 rfl rfl)
theorem dX8_init_152 : decode cX8_init 152 = .ok (.sipush 1056, 3) := dk_17 4 32 (dk_at dksX8_init_6 12 rfl rfl)
theorem dX8_init_155 : decode cX8_init 155 = .ok (.newarray .int, 2) := dk_188_10 (dk_at dksX8_init_6 15 rfl rfl)
theorem dX8_init_157 : decode cX8_init 157 = .ok (.putfield 68, 3) := dk_181 0 68 (dk_at dksX8_init_6 17 rfl rfl)
theorem dX8_init_160 : decode cX8_init 160 = .ok (.aload_n 0, 1) := dk_42 (dk_at dksX8_init_6 20 rfl rfl)
theorem dX8_init_161 : decode cX8_init 161 = .ok (.bipush 16, 2) := dk_16 16 (dk_at dksX8_init_6 21 rfl rfl)
theorem dX8_init_163 : decode cX8_init 163 = .ok (.newarray .int, 2) := dk_188_10 (dk_at dksX8_init_7 0 rfl rfl)
theorem dX8_init_165 : decode cX8_init 165 = .ok (.putfield 71, 3) := dk_181 0 71 (dk_at dksX8_init_7 2 rfl rfl)
theorem dX8_init_168 : decode cX8_init 168 = .ok (.aload_n 0, 1) := dk_42 (dk_at dksX8_init_7 5 rfl rfl)
theorem dX8_init_169 : decode cX8_init 169 = .ok (.bipush 16, 2) := dk_16 16 (dk_at dksX8_init_7 6 rfl rfl)
theorem dX8_init_171 : decode cX8_init 171 = .ok (.newarray .int, 2) := dk_188_10 (dk_at dksX8_init_7 8 rfl rfl)
theorem dX8_init_173 : decode cX8_init 173 = .ok (.putfield 74, 3) := dk_181 0 74 (dk_at dksX8_init_7 10 rfl rfl)
theorem dX8_init_176 : decode cX8_init 176 = .ok (.aload_n 0, 1) := dk_42 (dk_at dksX8_init_7 13 rfl rfl)
theorem dX8_init_177 : decode cX8_init 177 = .ok (.bipush 40, 2) := dk_16 40 (dk_at dksX8_init_7 14 rfl rfl)
theorem dX8_init_179 : decode cX8_init 179 = .ok (.newarray .int, 2) := dk_188_10 (dk_at dksX8_init_7 16 rfl rfl)
theorem dX8_init_181 : decode cX8_init 181 = .ok (.putfield 77, 3) := dk_181 0 77 (dk_at dksX8_init_7 18 rfl rfl)
theorem dX8_init_184 : decode cX8_init 184 = .ok (.aload_n 0, 1) := dk_42 (dk_at dksX8_init_7 21 rfl rfl)
theorem dX8_init_185 : decode cX8_init 185 = .ok (.iconst 5, 1) := dk_8 (dk_at dksX8_init_7 22 rfl rfl)
theorem dX8_init_186 : decode cX8_init 186 = .ok (.newarray .int, 2) := dk_188_10 (dk_at dksX8_init_8 0 rfl rfl)
theorem dX8_init_188 : decode cX8_init 188 = .ok (.putfield 80, 3) := dk_181 0 80 (dk_at dksX8_init_8 2 rfl rfl)
theorem dX8_init_191 : decode cX8_init 191 = .ok (.aload_n 0, 1) := dk_42 (dk_at dksX8_init_8 5 rfl rfl)
theorem dX8_init_192 : decode cX8_init 192 = .ok (.bipush 8, 2) := dk_16 8 (dk_at dksX8_init_8 6 rfl rfl)
theorem dX8_init_194 : decode cX8_init 194 = .ok (.newarray .int, 2) := dk_188_10 (dk_at dksX8_init_8 8 rfl rfl)
theorem dX8_init_196 : decode cX8_init 196 = .ok (.putfield 83, 3) := dk_181 0 83 (dk_at dksX8_init_8 10 rfl rfl)
theorem dX8_init_199 : decode cX8_init 199 = .ok (.aload_n 0, 1) := dk_42 (dk_at dksX8_init_8 13 rfl rfl)
theorem dX8_init_200 : decode cX8_init 200 = .ok (.bipush 8, 2) := dk_16 8 (dk_at dksX8_init_8 14 rfl rfl)
theorem dX8_init_202 : decode cX8_init 202 = .ok (.newarray .int, 2) := dk_188_10 (dk_at dksX8_init_8 16 rfl rfl)
theorem dX8_init_204 : decode cX8_init 204 = .ok (.putfield 86, 3) := dk_181 0 86 (dk_at dksX8_init_8 18 rfl rfl)
theorem dX8_init_207 : decode cX8_init 207 = .ok (.aload_n 0, 1) := dk_42 (dk_at dksX8_init_8 21 rfl rfl)
theorem dX8_init_208 : decode cX8_init 208 = .ok (.sipush 225, 3) := dk_17 0 225 (dk_at dksX8_init_9 0 rfl rfl)
theorem dX8_init_211 : decode cX8_init 211 = .ok (.newarray .boolean, 2) := dk_188_4 (dk_at dksX8_init_9 3 rfl rfl)
theorem dX8_init_213 : decode cX8_init 213 = .ok (.putfield 89, 3) := dk_181 0 89 (dk_at dksX8_init_9 5 rfl rfl)
theorem dX8_init_216 : decode cX8_init 216 = .ok (.aload_n 0, 1) := dk_42 (dk_at dksX8_init_9 8 rfl rfl)
theorem dX8_init_217 : decode cX8_init 217 = .ok (.sipush 225, 3) := dk_17 0 225 (dk_at dksX8_init_9 9 rfl rfl)
theorem dX8_init_220 : decode cX8_init 220 = .ok (.newarray .int, 2) := dk_188_10 (dk_at dksX8_init_9 12 rfl rfl)
theorem dX8_init_222 : decode cX8_init 222 = .ok (.putfield 93, 3) := dk_181 0 93 (dk_at dksX8_init_9 14 rfl rfl)
theorem dX8_init_225 : decode cX8_init 225 = .ok (.aload_n 0, 1) := dk_42 (dk_at dksX8_init_9 17 rfl rfl)
theorem dX8_init_226 : decode cX8_init 226 = .ok (.sipush 1000, 3) := dk_17 3 232 (dk_at dksX8_init_9 18 rfl rfl)
theorem dX8_init_229 : decode cX8_init 229 = .ok (.newarray .int, 2) := dk_188_10 (dk_at dksX8_init_9 21 rfl rfl)
theorem dX8_init_231 : decode cX8_init 231 = .ok (.putfield 96, 3) := dk_181 0 96 (dk_at dksX8_init_10 0 rfl rfl)
theorem dX8_init_234 : decode cX8_init 234 = .ok (.aload_n 0, 1) := dk_42 (dk_at dksX8_init_10 3 rfl rfl)
theorem dX8_init_235 : decode cX8_init 235 = .ok (.iconst 5, 1) := dk_8 (dk_at dksX8_init_10 4 rfl rfl)
theorem dX8_init_236 : decode cX8_init 236 = .ok (.newarray .int, 2) := dk_188_10 (dk_at dksX8_init_10 5 rfl rfl)
theorem dX8_init_238 : decode cX8_init 238 = .ok (.putfield 99, 3) := dk_181 0 99 (dk_at dksX8_init_10 7 rfl rfl)
theorem dX8_init_241 : decode cX8_init 241 = .ok (.aload_n 0, 1) := dk_42 (dk_at dksX8_init_10 10 rfl rfl)
theorem dX8_init_242 : decode cX8_init 242 = .ok (.sipush 3369, 3) := dk_17 13 41 (dk_at dksX8_init_10 11 rfl rfl)
theorem dX8_init_245 : decode cX8_init 245 = .ok (.newarray .int, 2) := dk_188_10 (dk_at dksX8_init_10 14 rfl rfl)
theorem dX8_init_247 : decode cX8_init 247 = .ok (.putfield 102, 3) := dk_181 0 102 (dk_at dksX8_init_10 16 rfl rfl)
theorem dX8_init_250 : decode cX8_init 250 = .ok (.aload_n 0, 1) := dk_42 (dk_at dksX8_init_10 19 rfl rfl)
theorem dX8_init_251 : decode cX8_init 251 = .ok (.invokevirtual 105, 3) := dk_182 0 105 (dk_at dksX8_init_10 20 rfl rfl)
theorem dX8_init_254 : decode cX8_init 254 = .ok (.aload_n 0, 1) := dk_42 (dk_at dksX8_init_10 23 rfl rfl)
theorem dX8_init_255 : decode cX8_init 255 = .ok (.invokevirtual 108, 3) := dk_182 0 108 (dk_at dksX8_init_11 0 rfl rfl)
theorem dX8_init_258 : decode cX8_init 258 = .ok (.return_, 1) := dk_177 (dk_at dksX8_init_11 3 rfl rfl)
abbrev cX8_clears : ByteArray := prog_26_method_20_code
def yX8_clears : MethodName := ⟨RX8, "clears", "()V"⟩
def dkwX8_clears_0 : List UInt8 := [42, 3, 181, 0, 157, 42, 3, 181, 0, 160, 42, 16, 60, 181, 0, 163, 42, 16, 8, 181, 0, 166, 177]
abbrev dktX8_clears_0 : List UInt8 := dkwX8_clears_0 ++ []
theorem dksX8_clears_0 : cX8_clears.data.toList.drop 0 = dktX8_clears_0 := by decide +kernel
theorem dX8_clears_0 : decode cX8_clears 0 = .ok (.aload_n 0, 1) := dk_42 (dk_at dksX8_clears_0 0 rfl rfl)
theorem dX8_clears_1 : decode cX8_clears 1 = .ok (.iconst 0, 1) := dk_3 (dk_at dksX8_clears_0 1 rfl rfl)
theorem dX8_clears_2 : decode cX8_clears 2 = .ok (.putfield 157, 3) := dk_181 0 157 (dk_at dksX8_clears_0 2 rfl rfl)
theorem dX8_clears_5 : decode cX8_clears 5 = .ok (.aload_n 0, 1) := dk_42 (dk_at dksX8_clears_0 5 rfl rfl)
theorem dX8_clears_6 : decode cX8_clears 6 = .ok (.iconst 0, 1) := dk_3 (dk_at dksX8_clears_0 6 rfl rfl)
theorem dX8_clears_7 : decode cX8_clears 7 = .ok (.putfield 160, 3) := dk_181 0 160 (dk_at dksX8_clears_0 7 rfl rfl)
theorem dX8_clears_10 : decode cX8_clears 10 = .ok (.aload_n 0, 1) := dk_42 (dk_at dksX8_clears_0 10 rfl rfl)
theorem dX8_clears_11 : decode cX8_clears 11 = .ok (.bipush 60, 2) := dk_16 60 (dk_at dksX8_clears_0 11 rfl rfl)
theorem dX8_clears_13 : decode cX8_clears 13 = .ok (.putfield 163, 3) := dk_181 0 163 (dk_at dksX8_clears_0 13 rfl rfl)
theorem dX8_clears_16 : decode cX8_clears 16 = .ok (.aload_n 0, 1) := dk_42 (dk_at dksX8_clears_0 16 rfl rfl)
theorem dX8_clears_17 : decode cX8_clears 17 = .ok (.bipush 8, 2) := dk_16 8 (dk_at dksX8_clears_0 17 rfl rfl)
theorem dX8_clears_19 : decode cX8_clears 19 = .ok (.putfield 166, 3) := dk_181 0 166 (dk_at dksX8_clears_0 19 rfl rfl)
theorem dX8_clears_22 : decode cX8_clears 22 = .ok (.return_, 1) := dk_177 (dk_at dksX8_clears_0 22 rfl rfl)
abbrev cX8_sets : ByteArray := prog_26_method_22_code
def yX8_sets : MethodName := ⟨RX8, "sets", "()V"⟩
def dkwX8_sets_7 : List UInt8 := [132, 1, 1, 167, 255, 196, 42, 180, 0, 62, 16, 65, 42, 180, 0, 163, 79, 177]
abbrev dktX8_sets_7 : List UInt8 := dkwX8_sets_7 ++ []
def dkwX8_sets_6 : List UInt8 := [27, 42, 180, 0, 169, 162, 0, 16, 42, 180, 0, 29, 7, 27, 104, 6, 96, 46, 167, 0, 4, 3, 79]
abbrev dktX8_sets_6 : List UInt8 := dkwX8_sets_6 ++ dktX8_sets_7
def dkwX8_sets_5 : List UInt8 := [16, 8, 27, 96, 2, 79, 42, 180, 0, 62, 16, 48, 27, 96, 2, 79, 42, 180, 0, 62, 16, 56, 27, 96]
abbrev dktX8_sets_5 : List UInt8 := dkwX8_sets_5 ++ dktX8_sets_6
def dkwX8_sets_4 : List UInt8 := [180, 0, 62, 27, 3, 79, 132, 1, 1, 167, 255, 240, 3, 60, 27, 16, 8, 162, 0, 60, 42, 180, 0, 62]
abbrev dktX8_sets_4 : List UInt8 := dkwX8_sets_4 ++ dktX8_sets_5
def dkwX8_sets_3 : List UInt8 := [42, 3, 181, 0, 185, 42, 3, 181, 0, 188, 42, 3, 181, 0, 191, 3, 60, 27, 16, 66, 162, 0, 16, 42]
abbrev dktX8_sets_3 : List UInt8 := dkwX8_sets_3 ++ dktX8_sets_4
def dkwX8_sets_2 : List UInt8 := [16, 15, 182, 0, 178, 42, 180, 0, 47, 3, 3, 79, 42, 180, 0, 47, 4, 3, 79, 42, 3, 181, 0, 182]
abbrev dktX8_sets_2 : List UInt8 := dkwX8_sets_2 ++ dktX8_sets_3
def dkwX8_sets_1 : List UInt8 := [42, 42, 180, 0, 23, 42, 180, 0, 29, 16, 32, 182, 0, 178, 42, 42, 180, 0, 26, 42, 180, 0, 32]
abbrev dktX8_sets_1 : List UInt8 := dkwX8_sets_1 ++ dktX8_sets_2
def dkwX8_sets_0 : List UInt8 := [42, 42, 180, 0, 157, 181, 0, 169, 42, 42, 180, 0, 160, 181, 0, 172, 42, 42, 180, 0, 166, 181, 0, 175]
abbrev dktX8_sets_0 : List UInt8 := dkwX8_sets_0 ++ dktX8_sets_1
theorem dksX8_sets_0 : cX8_sets.data.toList.drop 0 = dktX8_sets_0 := by decide +kernel
theorem dksX8_sets_1 : cX8_sets.data.toList.drop 24 = dktX8_sets_1 := dk_seg dksX8_sets_0 24 rfl rfl
theorem dksX8_sets_2 : cX8_sets.data.toList.drop 47 = dktX8_sets_2 := dk_seg dksX8_sets_1 23 rfl rfl
theorem dksX8_sets_3 : cX8_sets.data.toList.drop 71 = dktX8_sets_3 := dk_seg dksX8_sets_2 24 rfl rfl
theorem dksX8_sets_4 : cX8_sets.data.toList.drop 95 = dktX8_sets_4 := dk_seg dksX8_sets_3 24 rfl rfl
theorem dksX8_sets_5 : cX8_sets.data.toList.drop 119 = dktX8_sets_5 := dk_seg dksX8_sets_4 24 rfl rfl
theorem dksX8_sets_6 : cX8_sets.data.toList.drop 143 = dktX8_sets_6 := dk_seg dksX8_sets_5 24 rfl rfl
theorem dksX8_sets_7 : cX8_sets.data.toList.drop 166 = dktX8_sets_7 := dk_seg dksX8_sets_6 23 rfl rfl
theorem dX8_sets_0 : decode cX8_sets 0 = .ok (.aload_n 0, 1) := dk_42 (dk_at dksX8_sets_0 0 rfl rfl)
theorem dX8_sets_1 : decode cX8_sets 1 = .ok (.aload_n 0, 1) := dk_42 (dk_at dksX8_sets_0 1 rfl rfl)
theorem dX8_sets_2 : decode cX8_sets 2 = .ok (.getfield 157, 3) := dk_180 0 157 (dk_at dksX8_sets_0 2 rfl rfl)
theorem dX8_sets_5 : decode cX8_sets 5 = .ok (.putfield 169, 3) := dk_181 0 169 (dk_at dksX8_sets_0 5 rfl rfl)
theorem dX8_sets_8 : decode cX8_sets 8 = .ok (.aload_n 0, 1) := dk_42 (dk_at dksX8_sets_0 8 rfl rfl)
theorem dX8_sets_9 : decode cX8_sets 9 = .ok (.aload_n 0, 1) := dk_42 (dk_at dksX8_sets_0 9 rfl rfl)
theorem dX8_sets_10 : decode cX8_sets 10 = .ok (.getfield 160, 3) := dk_180 0 160 (dk_at dksX8_sets_0 10 rfl rfl)
theorem dX8_sets_13 : decode cX8_sets 13 = .ok (.putfield 172, 3) := dk_181 0 172 (dk_at dksX8_sets_0 13 rfl rfl)
theorem dX8_sets_16 : decode cX8_sets 16 = .ok (.aload_n 0, 1) := dk_42 (dk_at dksX8_sets_0 16 rfl rfl)
theorem dX8_sets_17 : decode cX8_sets 17 = .ok (.aload_n 0, 1) := dk_42 (dk_at dksX8_sets_0 17 rfl rfl)
theorem dX8_sets_18 : decode cX8_sets 18 = .ok (.getfield 166, 3) := dk_180 0 166 (dk_at dksX8_sets_0 18 rfl rfl)
theorem dX8_sets_21 : decode cX8_sets 21 = .ok (.putfield 175, 3) := dk_181 0 175 (dk_at dksX8_sets_0 21 rfl rfl)
theorem dX8_sets_24 : decode cX8_sets 24 = .ok (.aload_n 0, 1) := dk_42 (dk_at dksX8_sets_1 0 rfl rfl)
theorem dX8_sets_25 : decode cX8_sets 25 = .ok (.aload_n 0, 1) := dk_42 (dk_at dksX8_sets_1 1 rfl rfl)
theorem dX8_sets_26 : decode cX8_sets 26 = .ok (.getfield 23, 3) := dk_180 0 23 (dk_at dksX8_sets_1 2 rfl rfl)
theorem dX8_sets_29 : decode cX8_sets 29 = .ok (.aload_n 0, 1) := dk_42 (dk_at dksX8_sets_1 5 rfl rfl)
theorem dX8_sets_30 : decode cX8_sets 30 = .ok (.getfield 29, 3) := dk_180 0 29 (dk_at dksX8_sets_1 6 rfl rfl)
theorem dX8_sets_33 : decode cX8_sets 33 = .ok (.bipush 32, 2) := dk_16 32 (dk_at dksX8_sets_1 9 rfl rfl)
theorem dX8_sets_35 : decode cX8_sets 35 = .ok (.invokevirtual 178, 3) := dk_182 0 178 (dk_at dksX8_sets_1 11 rfl rfl)
theorem dX8_sets_38 : decode cX8_sets 38 = .ok (.aload_n 0, 1) := dk_42 (dk_at dksX8_sets_1 14 rfl rfl)
theorem dX8_sets_39 : decode cX8_sets 39 = .ok (.aload_n 0, 1) := dk_42 (dk_at dksX8_sets_1 15 rfl rfl)
theorem dX8_sets_40 : decode cX8_sets 40 = .ok (.getfield 26, 3) := dk_180 0 26 (dk_at dksX8_sets_1 16 rfl rfl)
theorem dX8_sets_43 : decode cX8_sets 43 = .ok (.aload_n 0, 1) := dk_42 (dk_at dksX8_sets_1 19 rfl rfl)
theorem dX8_sets_44 : decode cX8_sets 44 = .ok (.getfield 32, 3) := dk_180 0 32 (dk_at dksX8_sets_1 20 rfl rfl)
theorem dX8_sets_47 : decode cX8_sets 47 = .ok (.bipush 15, 2) := dk_16 15 (dk_at dksX8_sets_2 0 rfl rfl)
theorem dX8_sets_49 : decode cX8_sets 49 = .ok (.invokevirtual 178, 3) := dk_182 0 178 (dk_at dksX8_sets_2 2 rfl rfl)
theorem dX8_sets_52 : decode cX8_sets 52 = .ok (.aload_n 0, 1) := dk_42 (dk_at dksX8_sets_2 5 rfl rfl)
theorem dX8_sets_53 : decode cX8_sets 53 = .ok (.getfield 47, 3) := dk_180 0 47 (dk_at dksX8_sets_2 6 rfl rfl)
theorem dX8_sets_56 : decode cX8_sets 56 = .ok (.iconst 0, 1) := dk_3 (dk_at dksX8_sets_2 9 rfl rfl)
theorem dX8_sets_57 : decode cX8_sets 57 = .ok (.iconst 0, 1) := dk_3 (dk_at dksX8_sets_2 10 rfl rfl)
theorem dX8_sets_58 : decode cX8_sets 58 = .ok (.iastore, 1) := dk_79 (dk_at dksX8_sets_2 11 rfl rfl)
theorem dX8_sets_59 : decode cX8_sets 59 = .ok (.aload_n 0, 1) := dk_42 (dk_at dksX8_sets_2 12 rfl rfl)
theorem dX8_sets_60 : decode cX8_sets 60 = .ok (.getfield 47, 3) := dk_180 0 47 (dk_at dksX8_sets_2 13 rfl rfl)
theorem dX8_sets_63 : decode cX8_sets 63 = .ok (.iconst 1, 1) := dk_4 (dk_at dksX8_sets_2 16 rfl rfl)
theorem dX8_sets_64 : decode cX8_sets 64 = .ok (.iconst 0, 1) := dk_3 (dk_at dksX8_sets_2 17 rfl rfl)
theorem dX8_sets_65 : decode cX8_sets 65 = .ok (.iastore, 1) := dk_79 (dk_at dksX8_sets_2 18 rfl rfl)
theorem dX8_sets_66 : decode cX8_sets 66 = .ok (.aload_n 0, 1) := dk_42 (dk_at dksX8_sets_2 19 rfl rfl)
theorem dX8_sets_67 : decode cX8_sets 67 = .ok (.iconst 0, 1) := dk_3 (dk_at dksX8_sets_2 20 rfl rfl)
theorem dX8_sets_68 : decode cX8_sets 68 = .ok (.putfield 182, 3) := dk_181 0 182 (dk_at dksX8_sets_2 21 rfl rfl)
theorem dX8_sets_71 : decode cX8_sets 71 = .ok (.aload_n 0, 1) := dk_42 (dk_at dksX8_sets_3 0 rfl rfl)
theorem dX8_sets_72 : decode cX8_sets 72 = .ok (.iconst 0, 1) := dk_3 (dk_at dksX8_sets_3 1 rfl rfl)
theorem dX8_sets_73 : decode cX8_sets 73 = .ok (.putfield 185, 3) := dk_181 0 185 (dk_at dksX8_sets_3 2 rfl rfl)
theorem dX8_sets_76 : decode cX8_sets 76 = .ok (.aload_n 0, 1) := dk_42 (dk_at dksX8_sets_3 5 rfl rfl)
theorem dX8_sets_77 : decode cX8_sets 77 = .ok (.iconst 0, 1) := dk_3 (dk_at dksX8_sets_3 6 rfl rfl)
theorem dX8_sets_78 : decode cX8_sets 78 = .ok (.putfield 188, 3) := dk_181 0 188 (dk_at dksX8_sets_3 7 rfl rfl)
theorem dX8_sets_81 : decode cX8_sets 81 = .ok (.aload_n 0, 1) := dk_42 (dk_at dksX8_sets_3 10 rfl rfl)
theorem dX8_sets_82 : decode cX8_sets 82 = .ok (.iconst 0, 1) := dk_3 (dk_at dksX8_sets_3 11 rfl rfl)
theorem dX8_sets_83 : decode cX8_sets 83 = .ok (.putfield 191, 3) := dk_181 0 191 (dk_at dksX8_sets_3 12 rfl rfl)
theorem dX8_sets_86 : decode cX8_sets 86 = .ok (.iconst 0, 1) := dk_3 (dk_at dksX8_sets_3 15 rfl rfl)
theorem dX8_sets_87 : decode cX8_sets 87 = .ok (.istore_n 1, 1) := dk_60 (dk_at dksX8_sets_3 16 rfl rfl)
theorem dX8_sets_88 : decode cX8_sets 88 = .ok (.iload_n 1, 1) := dk_27 (dk_at dksX8_sets_3 17 rfl rfl)
theorem dX8_sets_89 : decode cX8_sets 89 = .ok (.bipush 66, 2) := dk_16 66 (dk_at dksX8_sets_3 18 rfl rfl)
theorem dX8_sets_91 : decode cX8_sets 91 = .ok (.if_icmp .ge 16, 3) := dk_162 0 16 (dk_at dksX8_sets_3 20 rfl rfl)
theorem dX8_sets_94 : decode cX8_sets 94 = .ok (.aload_n 0, 1) := dk_42 (dk_at dksX8_sets_3 23 rfl rfl)
theorem dX8_sets_95 : decode cX8_sets 95 = .ok (.getfield 62, 3) := dk_180 0 62 (dk_at dksX8_sets_4 0 rfl rfl)
theorem dX8_sets_98 : decode cX8_sets 98 = .ok (.iload_n 1, 1) := dk_27 (dk_at dksX8_sets_4 3 rfl rfl)
theorem dX8_sets_99 : decode cX8_sets 99 = .ok (.iconst 0, 1) := dk_3 (dk_at dksX8_sets_4 4 rfl rfl)
theorem dX8_sets_100 : decode cX8_sets 100 = .ok (.iastore, 1) := dk_79 (dk_at dksX8_sets_4 5 rfl rfl)
theorem dX8_sets_101 : decode cX8_sets 101 = .ok (.iinc 1 1, 3) := dk_132 1 1 (dk_at dksX8_sets_4 6 rfl rfl)
theorem dX8_sets_104 : decode cX8_sets 104 = .ok (.goto (-16), 3) := dk_167 255 240 (dk_at dksX8_sets_4 9 rfl rfl)
theorem dX8_sets_107 : decode cX8_sets 107 = .ok (.iconst 0, 1) := dk_3 (dk_at dksX8_sets_4 12 rfl rfl)
theorem dX8_sets_108 : decode cX8_sets 108 = .ok (.istore_n 1, 1) := dk_60 (dk_at dksX8_sets_4 13 rfl rfl)
theorem dX8_sets_109 : decode cX8_sets 109 = .ok (.iload_n 1, 1) := dk_27 (dk_at dksX8_sets_4 14 rfl rfl)
theorem dX8_sets_110 : decode cX8_sets 110 = .ok (.bipush 8, 2) := dk_16 8 (dk_at dksX8_sets_4 15 rfl rfl)
theorem dX8_sets_112 : decode cX8_sets 112 = .ok (.if_icmp .ge 60, 3) := dk_162 0 60 (dk_at dksX8_sets_4 17 rfl rfl)
theorem dX8_sets_115 : decode cX8_sets 115 = .ok (.aload_n 0, 1) := dk_42 (dk_at dksX8_sets_4 20 rfl rfl)
theorem dX8_sets_116 : decode cX8_sets 116 = .ok (.getfield 62, 3) := dk_180 0 62 (dk_at dksX8_sets_4 21 rfl rfl)
theorem dX8_sets_119 : decode cX8_sets 119 = .ok (.bipush 8, 2) := dk_16 8 (dk_at dksX8_sets_5 0 rfl rfl)
theorem dX8_sets_121 : decode cX8_sets 121 = .ok (.iload_n 1, 1) := dk_27 (dk_at dksX8_sets_5 2 rfl rfl)
theorem dX8_sets_122 : decode cX8_sets 122 = .ok (.iadd, 1) := dk_96 (dk_at dksX8_sets_5 3 rfl rfl)
theorem dX8_sets_123 : decode cX8_sets 123 = .ok (.iconst (-1), 1) := dk_2 (dk_at dksX8_sets_5 4 rfl rfl)
theorem dX8_sets_124 : decode cX8_sets 124 = .ok (.iastore, 1) := dk_79 (dk_at dksX8_sets_5 5 rfl rfl)
theorem dX8_sets_125 : decode cX8_sets 125 = .ok (.aload_n 0, 1) := dk_42 (dk_at dksX8_sets_5 6 rfl rfl)
theorem dX8_sets_126 : decode cX8_sets 126 = .ok (.getfield 62, 3) := dk_180 0 62 (dk_at dksX8_sets_5 7 rfl rfl)
theorem dX8_sets_129 : decode cX8_sets 129 = .ok (.bipush 48, 2) := dk_16 48 (dk_at dksX8_sets_5 10 rfl rfl)
theorem dX8_sets_131 : decode cX8_sets 131 = .ok (.iload_n 1, 1) := dk_27 (dk_at dksX8_sets_5 12 rfl rfl)
theorem dX8_sets_132 : decode cX8_sets 132 = .ok (.iadd, 1) := dk_96 (dk_at dksX8_sets_5 13 rfl rfl)
theorem dX8_sets_133 : decode cX8_sets 133 = .ok (.iconst (-1), 1) := dk_2 (dk_at dksX8_sets_5 14 rfl rfl)
theorem dX8_sets_134 : decode cX8_sets 134 = .ok (.iastore, 1) := dk_79 (dk_at dksX8_sets_5 15 rfl rfl)
theorem dX8_sets_135 : decode cX8_sets 135 = .ok (.aload_n 0, 1) := dk_42 (dk_at dksX8_sets_5 16 rfl rfl)
theorem dX8_sets_136 : decode cX8_sets 136 = .ok (.getfield 62, 3) := dk_180 0 62 (dk_at dksX8_sets_5 17 rfl rfl)
theorem dX8_sets_139 : decode cX8_sets 139 = .ok (.bipush 56, 2) := dk_16 56 (dk_at dksX8_sets_5 20 rfl rfl)
theorem dX8_sets_141 : decode cX8_sets 141 = .ok (.iload_n 1, 1) := dk_27 (dk_at dksX8_sets_5 22 rfl rfl)
theorem dX8_sets_142 : decode cX8_sets 142 = .ok (.iadd, 1) := dk_96 (dk_at dksX8_sets_5 23 rfl rfl)
theorem dX8_sets_143 : decode cX8_sets 143 = .ok (.iload_n 1, 1) := dk_27 (dk_at dksX8_sets_6 0 rfl rfl)
theorem dX8_sets_144 : decode cX8_sets 144 = .ok (.aload_n 0, 1) := dk_42 (dk_at dksX8_sets_6 1 rfl rfl)
theorem dX8_sets_145 : decode cX8_sets 145 = .ok (.getfield 169, 3) := dk_180 0 169 (dk_at dksX8_sets_6 2 rfl rfl)
theorem dX8_sets_148 : decode cX8_sets 148 = .ok (.if_icmp .ge 16, 3) := dk_162 0 16 (dk_at dksX8_sets_6 5 rfl rfl)
theorem dX8_sets_151 : decode cX8_sets 151 = .ok (.aload_n 0, 1) := dk_42 (dk_at dksX8_sets_6 8 rfl rfl)
theorem dX8_sets_152 : decode cX8_sets 152 = .ok (.getfield 29, 3) := dk_180 0 29 (dk_at dksX8_sets_6 9 rfl rfl)
theorem dX8_sets_155 : decode cX8_sets 155 = .ok (.iconst 4, 1) := dk_7 (dk_at dksX8_sets_6 12 rfl rfl)
theorem dX8_sets_156 : decode cX8_sets 156 = .ok (.iload_n 1, 1) := dk_27 (dk_at dksX8_sets_6 13 rfl rfl)
theorem dX8_sets_157 : decode cX8_sets 157 = .ok (.imul, 1) := dk_104 (dk_at dksX8_sets_6 14 rfl rfl)
theorem dX8_sets_158 : decode cX8_sets 158 = .ok (.iconst 3, 1) := dk_6 (dk_at dksX8_sets_6 15 rfl rfl)
theorem dX8_sets_159 : decode cX8_sets 159 = .ok (.iadd, 1) := dk_96 (dk_at dksX8_sets_6 16 rfl rfl)
theorem dX8_sets_160 : decode cX8_sets 160 = .ok (.iaload, 1) := dk_46 (dk_at dksX8_sets_6 17 rfl rfl)
theorem dX8_sets_161 : decode cX8_sets 161 = .ok (.goto 4, 3) := dk_167 0 4 (dk_at dksX8_sets_6 18 rfl rfl)
theorem dX8_sets_164 : decode cX8_sets 164 = .ok (.iconst 0, 1) := dk_3 (dk_at dksX8_sets_6 21 rfl rfl)
theorem dX8_sets_165 : decode cX8_sets 165 = .ok (.iastore, 1) := dk_79 (dk_at dksX8_sets_6 22 rfl rfl)
theorem dX8_sets_166 : decode cX8_sets 166 = .ok (.iinc 1 1, 3) := dk_132 1 1 (dk_at dksX8_sets_7 0 rfl rfl)
theorem dX8_sets_169 : decode cX8_sets 169 = .ok (.goto (-60), 3) := dk_167 255 196 (dk_at dksX8_sets_7 3 rfl rfl)
theorem dX8_sets_172 : decode cX8_sets 172 = .ok (.aload_n 0, 1) := dk_42 (dk_at dksX8_sets_7 6 rfl rfl)
theorem dX8_sets_173 : decode cX8_sets 173 = .ok (.getfield 62, 3) := dk_180 0 62 (dk_at dksX8_sets_7 7 rfl rfl)
theorem dX8_sets_176 : decode cX8_sets 176 = .ok (.bipush 65, 2) := dk_16 65 (dk_at dksX8_sets_7 10 rfl rfl)
theorem dX8_sets_178 : decode cX8_sets 178 = .ok (.aload_n 0, 1) := dk_42 (dk_at dksX8_sets_7 12 rfl rfl)
theorem dX8_sets_179 : decode cX8_sets 179 = .ok (.getfield 163, 3) := dk_180 0 163 (dk_at dksX8_sets_7 13 rfl rfl)
theorem dX8_sets_182 : decode cX8_sets 182 = .ok (.iastore, 1) := dk_79 (dk_at dksX8_sets_7 16 rfl rfl)
theorem dX8_sets_183 : decode cX8_sets 183 = .ok (.return_, 1) := dk_177 (dk_at dksX8_sets_7 17 rfl rfl)
abbrev cX8_copies : ByteArray := prog_26_method_21_code
def yX8_copies : MethodName := ⟨RX8, "copies", "([I[II)V"⟩
def dkwX8_copies_0 : List UInt8 := [3, 54, 4, 21, 4, 29, 162, 0, 17, 44, 21, 4, 43, 21, 4, 46, 79, 132, 4, 1, 167, 255, 239, 177]
abbrev dktX8_copies_0 : List UInt8 := dkwX8_copies_0 ++ []
theorem dksX8_copies_0 : cX8_copies.data.toList.drop 0 = dktX8_copies_0 := by decide +kernel
theorem dX8_copies_0 : decode cX8_copies 0 = .ok (.iconst 0, 1) := dk_3 (dk_at dksX8_copies_0 0 rfl rfl)
theorem dX8_copies_1 : decode cX8_copies 1 = .ok (.istore 4, 2) := dk_54 4 (dk_at dksX8_copies_0 1 rfl rfl)
theorem dX8_copies_3 : decode cX8_copies 3 = .ok (.iload 4, 2) := dk_21 4 (dk_at dksX8_copies_0 3 rfl rfl)
theorem dX8_copies_5 : decode cX8_copies 5 = .ok (.iload_n 3, 1) := dk_29 (dk_at dksX8_copies_0 5 rfl rfl)
theorem dX8_copies_6 : decode cX8_copies 6 = .ok (.if_icmp .ge 17, 3) := dk_162 0 17 (dk_at dksX8_copies_0 6 rfl rfl)
theorem dX8_copies_9 : decode cX8_copies 9 = .ok (.aload_n 2, 1) := dk_44 (dk_at dksX8_copies_0 9 rfl rfl)
theorem dX8_copies_10 : decode cX8_copies 10 = .ok (.iload 4, 2) := dk_21 4 (dk_at dksX8_copies_0 10 rfl rfl)
theorem dX8_copies_12 : decode cX8_copies 12 = .ok (.aload_n 1, 1) := dk_43 (dk_at dksX8_copies_0 12 rfl rfl)
theorem dX8_copies_13 : decode cX8_copies 13 = .ok (.iload 4, 2) := dk_21 4 (dk_at dksX8_copies_0 13 rfl rfl)
theorem dX8_copies_15 : decode cX8_copies 15 = .ok (.iaload, 1) := dk_46 (dk_at dksX8_copies_0 15 rfl rfl)
theorem dX8_copies_16 : decode cX8_copies 16 = .ok (.iastore, 1) := dk_79 (dk_at dksX8_copies_0 16 rfl rfl)
theorem dX8_copies_17 : decode cX8_copies 17 = .ok (.iinc 4 1, 3) := dk_132 4 1 (dk_at dksX8_copies_0 17 rfl rfl)
theorem dX8_copies_20 : decode cX8_copies 20 = .ok (.goto (-17), 3) := dk_167 255 239 (dk_at dksX8_copies_0 20 rfl rfl)
theorem dX8_copies_23 : decode cX8_copies 23 = .ok (.return_, 1) := dk_177 (dk_at dksX8_copies_0 23 rfl rfl)
abbrev cX8_feed : ByteArray := prog_26_method_5_code
def yX8_feed : MethodName := ⟨RX8, "feed", "(IIIII)I"⟩
def dkwX8_feed_5 : List UInt8 := [167, 255, 162, 42, 180, 0, 111, 172]
abbrev dktX8_feed_5 : List UInt8 := dkwX8_feed_5 ++ []
def dkwX8_feed_4 : List UInt8 := [112, 104, 100, 122, 17, 0, 255, 126, 79, 42, 89, 180, 0, 111, 4, 96, 181, 0, 111, 132, 6, 1]
abbrev dktX8_feed_4 : List UInt8 := dkwX8_feed_4 ++ dktX8_feed_5
def dkwX8_feed_3 : List UInt8 := [167, 0, 5, 21, 5, 54, 7, 42, 180, 0, 20, 42, 180, 0, 111, 21, 7, 16, 24, 16, 8, 21, 6, 7]
abbrev dktX8_feed_3 : List UInt8 := dkwX8_feed_3 ++ dktX8_feed_4
def dkwX8_feed_2 : List UInt8 := [28, 167, 0, 28, 21, 6, 16, 12, 162, 0, 7, 29, 167, 0, 17, 21, 6, 16, 16, 162, 0, 8, 21, 4]
abbrev dktX8_feed_2 : List UInt8 := dkwX8_feed_2 ++ dktX8_feed_3
def dkwX8_feed_1 : List UInt8 := [21, 6, 16, 20, 162, 0, 93, 21, 6, 7, 162, 0, 7, 27, 167, 0, 39, 21, 6, 16, 8, 162, 0, 7]
abbrev dktX8_feed_1 : List UInt8 := dkwX8_feed_1 ++ dktX8_feed_2
def dkwX8_feed_0 : List UInt8 := [42, 3, 181, 0, 3, 42, 180, 0, 111, 16, 20, 96, 17, 2, 88, 164, 0, 5, 2, 172, 3, 54, 6]
abbrev dktX8_feed_0 : List UInt8 := dkwX8_feed_0 ++ dktX8_feed_1
theorem dksX8_feed_0 : cX8_feed.data.toList.drop 0 = dktX8_feed_0 := by decide +kernel
theorem dksX8_feed_1 : cX8_feed.data.toList.drop 23 = dktX8_feed_1 := dk_seg dksX8_feed_0 23 rfl rfl
theorem dksX8_feed_2 : cX8_feed.data.toList.drop 47 = dktX8_feed_2 := dk_seg dksX8_feed_1 24 rfl rfl
theorem dksX8_feed_3 : cX8_feed.data.toList.drop 71 = dktX8_feed_3 := dk_seg dksX8_feed_2 24 rfl rfl
theorem dksX8_feed_4 : cX8_feed.data.toList.drop 95 = dktX8_feed_4 := dk_seg dksX8_feed_3 24 rfl rfl
theorem dksX8_feed_5 : cX8_feed.data.toList.drop 117 = dktX8_feed_5 := dk_seg dksX8_feed_4 22 rfl rfl
theorem dX8_feed_0 : decode cX8_feed 0 = .ok (.aload_n 0, 1) := dk_42 (dk_at dksX8_feed_0 0 rfl rfl)
theorem dX8_feed_1 : decode cX8_feed 1 = .ok (.iconst 0, 1) := dk_3 (dk_at dksX8_feed_0 1 rfl rfl)
theorem dX8_feed_2 : decode cX8_feed 2 = .ok (.putfield 3, 3) := dk_181 0 3 (dk_at dksX8_feed_0 2 rfl rfl)
theorem dX8_feed_5 : decode cX8_feed 5 = .ok (.aload_n 0, 1) := dk_42 (dk_at dksX8_feed_0 5 rfl rfl)
theorem dX8_feed_6 : decode cX8_feed 6 = .ok (.getfield 111, 3) := dk_180 0 111 (dk_at dksX8_feed_0 6 rfl rfl)
theorem dX8_feed_9 : decode cX8_feed 9 = .ok (.bipush 20, 2) := dk_16 20 (dk_at dksX8_feed_0 9 rfl rfl)
theorem dX8_feed_11 : decode cX8_feed 11 = .ok (.iadd, 1) := dk_96 (dk_at dksX8_feed_0 11 rfl rfl)
theorem dX8_feed_12 : decode cX8_feed 12 = .ok (.sipush 600, 3) := dk_17 2 88 (dk_at dksX8_feed_0 12 rfl rfl)
theorem dX8_feed_15 : decode cX8_feed 15 = .ok (.if_icmp .le 5, 3) := dk_164 0 5 (dk_at dksX8_feed_0 15 rfl rfl)
theorem dX8_feed_18 : decode cX8_feed 18 = .ok (.iconst (-1), 1) := dk_2 (dk_at dksX8_feed_0 18 rfl rfl)
theorem dX8_feed_19 : decode cX8_feed 19 = .ok (.ireturn, 1) := dk_172 (dk_at dksX8_feed_0 19 rfl rfl)
theorem dX8_feed_20 : decode cX8_feed 20 = .ok (.iconst 0, 1) := dk_3 (dk_at dksX8_feed_0 20 rfl rfl)
theorem dX8_feed_21 : decode cX8_feed 21 = .ok (.istore 6, 2) := dk_54 6 (dk_at dksX8_feed_0 21 rfl rfl)
theorem dX8_feed_23 : decode cX8_feed 23 = .ok (.iload 6, 2) := dk_21 6 (dk_at dksX8_feed_1 0 rfl rfl)
theorem dX8_feed_25 : decode cX8_feed 25 = .ok (.bipush 20, 2) := dk_16 20 (dk_at dksX8_feed_1 2 rfl rfl)
theorem dX8_feed_27 : decode cX8_feed 27 = .ok (.if_icmp .ge 93, 3) := dk_162 0 93 (dk_at dksX8_feed_1 4 rfl rfl)
theorem dX8_feed_30 : decode cX8_feed 30 = .ok (.iload 6, 2) := dk_21 6 (dk_at dksX8_feed_1 7 rfl rfl)
theorem dX8_feed_32 : decode cX8_feed 32 = .ok (.iconst 4, 1) := dk_7 (dk_at dksX8_feed_1 9 rfl rfl)
theorem dX8_feed_33 : decode cX8_feed 33 = .ok (.if_icmp .ge 7, 3) := dk_162 0 7 (dk_at dksX8_feed_1 10 rfl rfl)
theorem dX8_feed_36 : decode cX8_feed 36 = .ok (.iload_n 1, 1) := dk_27 (dk_at dksX8_feed_1 13 rfl rfl)
theorem dX8_feed_37 : decode cX8_feed 37 = .ok (.goto 39, 3) := dk_167 0 39 (dk_at dksX8_feed_1 14 rfl rfl)
theorem dX8_feed_40 : decode cX8_feed 40 = .ok (.iload 6, 2) := dk_21 6 (dk_at dksX8_feed_1 17 rfl rfl)
theorem dX8_feed_42 : decode cX8_feed 42 = .ok (.bipush 8, 2) := dk_16 8 (dk_at dksX8_feed_1 19 rfl rfl)
theorem dX8_feed_44 : decode cX8_feed 44 = .ok (.if_icmp .ge 7, 3) := dk_162 0 7 (dk_at dksX8_feed_1 21 rfl rfl)
theorem dX8_feed_47 : decode cX8_feed 47 = .ok (.iload_n 2, 1) := dk_28 (dk_at dksX8_feed_2 0 rfl rfl)
theorem dX8_feed_48 : decode cX8_feed 48 = .ok (.goto 28, 3) := dk_167 0 28 (dk_at dksX8_feed_2 1 rfl rfl)
theorem dX8_feed_51 : decode cX8_feed 51 = .ok (.iload 6, 2) := dk_21 6 (dk_at dksX8_feed_2 4 rfl rfl)
theorem dX8_feed_53 : decode cX8_feed 53 = .ok (.bipush 12, 2) := dk_16 12 (dk_at dksX8_feed_2 6 rfl rfl)
theorem dX8_feed_55 : decode cX8_feed 55 = .ok (.if_icmp .ge 7, 3) := dk_162 0 7 (dk_at dksX8_feed_2 8 rfl rfl)
theorem dX8_feed_58 : decode cX8_feed 58 = .ok (.iload_n 3, 1) := dk_29 (dk_at dksX8_feed_2 11 rfl rfl)
theorem dX8_feed_59 : decode cX8_feed 59 = .ok (.goto 17, 3) := dk_167 0 17 (dk_at dksX8_feed_2 12 rfl rfl)
theorem dX8_feed_62 : decode cX8_feed 62 = .ok (.iload 6, 2) := dk_21 6 (dk_at dksX8_feed_2 15 rfl rfl)
theorem dX8_feed_64 : decode cX8_feed 64 = .ok (.bipush 16, 2) := dk_16 16 (dk_at dksX8_feed_2 17 rfl rfl)
theorem dX8_feed_66 : decode cX8_feed 66 = .ok (.if_icmp .ge 8, 3) := dk_162 0 8 (dk_at dksX8_feed_2 19 rfl rfl)
theorem dX8_feed_69 : decode cX8_feed 69 = .ok (.iload 4, 2) := dk_21 4 (dk_at dksX8_feed_2 22 rfl rfl)
theorem dX8_feed_71 : decode cX8_feed 71 = .ok (.goto 5, 3) := dk_167 0 5 (dk_at dksX8_feed_3 0 rfl rfl)
theorem dX8_feed_74 : decode cX8_feed 74 = .ok (.iload 5, 2) := dk_21 5 (dk_at dksX8_feed_3 3 rfl rfl)
theorem dX8_feed_76 : decode cX8_feed 76 = .ok (.istore 7, 2) := dk_54 7 (dk_at dksX8_feed_3 5 rfl rfl)
theorem dX8_feed_78 : decode cX8_feed 78 = .ok (.aload_n 0, 1) := dk_42 (dk_at dksX8_feed_3 7 rfl rfl)
theorem dX8_feed_79 : decode cX8_feed 79 = .ok (.getfield 20, 3) := dk_180 0 20 (dk_at dksX8_feed_3 8 rfl rfl)
theorem dX8_feed_82 : decode cX8_feed 82 = .ok (.aload_n 0, 1) := dk_42 (dk_at dksX8_feed_3 11 rfl rfl)
theorem dX8_feed_83 : decode cX8_feed 83 = .ok (.getfield 111, 3) := dk_180 0 111 (dk_at dksX8_feed_3 12 rfl rfl)
theorem dX8_feed_86 : decode cX8_feed 86 = .ok (.iload 7, 2) := dk_21 7 (dk_at dksX8_feed_3 15 rfl rfl)
theorem dX8_feed_88 : decode cX8_feed 88 = .ok (.bipush 24, 2) := dk_16 24 (dk_at dksX8_feed_3 17 rfl rfl)
theorem dX8_feed_90 : decode cX8_feed 90 = .ok (.bipush 8, 2) := dk_16 8 (dk_at dksX8_feed_3 19 rfl rfl)
theorem dX8_feed_92 : decode cX8_feed 92 = .ok (.iload 6, 2) := dk_21 6 (dk_at dksX8_feed_3 21 rfl rfl)
theorem dX8_feed_94 : decode cX8_feed 94 = .ok (.iconst 4, 1) := dk_7 (dk_at dksX8_feed_3 23 rfl rfl)
theorem dX8_feed_95 : decode cX8_feed 95 = .ok (.irem, 1) := dk_112 (dk_at dksX8_feed_4 0 rfl rfl)
theorem dX8_feed_96 : decode cX8_feed 96 = .ok (.imul, 1) := dk_104 (dk_at dksX8_feed_4 1 rfl rfl)
theorem dX8_feed_97 : decode cX8_feed 97 = .ok (.isub, 1) := dk_100 (dk_at dksX8_feed_4 2 rfl rfl)
theorem dX8_feed_98 : decode cX8_feed 98 = .ok (.ishr, 1) := dk_122 (dk_at dksX8_feed_4 3 rfl rfl)
theorem dX8_feed_99 : decode cX8_feed 99 = .ok (.sipush 255, 3) := dk_17 0 255 (dk_at dksX8_feed_4 4 rfl rfl)
theorem dX8_feed_102 : decode cX8_feed 102 = .ok (.iand, 1) := dk_126 (dk_at dksX8_feed_4 7 rfl rfl)
theorem dX8_feed_103 : decode cX8_feed 103 = .ok (.iastore, 1) := dk_79 (dk_at dksX8_feed_4 8 rfl rfl)
theorem dX8_feed_104 : decode cX8_feed 104 = .ok (.aload_n 0, 1) := dk_42 (dk_at dksX8_feed_4 9 rfl rfl)
theorem dX8_feed_105 : decode cX8_feed 105 = .ok (.dup, 1) := dk_89 (dk_at dksX8_feed_4 10 rfl rfl)
theorem dX8_feed_106 : decode cX8_feed 106 = .ok (.getfield 111, 3) := dk_180 0 111 (dk_at dksX8_feed_4 11 rfl rfl)
theorem dX8_feed_109 : decode cX8_feed 109 = .ok (.iconst 1, 1) := dk_4 (dk_at dksX8_feed_4 14 rfl rfl)
theorem dX8_feed_110 : decode cX8_feed 110 = .ok (.iadd, 1) := dk_96 (dk_at dksX8_feed_4 15 rfl rfl)
theorem dX8_feed_111 : decode cX8_feed 111 = .ok (.putfield 111, 3) := dk_181 0 111 (dk_at dksX8_feed_4 16 rfl rfl)
theorem dX8_feed_114 : decode cX8_feed 114 = .ok (.iinc 6 1, 3) := dk_132 6 1 (dk_at dksX8_feed_4 19 rfl rfl)
theorem dX8_feed_117 : decode cX8_feed 117 = .ok (.goto (-94), 3) := dk_167 255 162 (dk_at dksX8_feed_5 0 rfl rfl)
theorem dX8_feed_120 : decode cX8_feed 120 = .ok (.aload_n 0, 1) := dk_42 (dk_at dksX8_feed_5 3 rfl rfl)
theorem dX8_feed_121 : decode cX8_feed 121 = .ok (.getfield 111, 3) := dk_180 0 111 (dk_at dksX8_feed_5 4 rfl rfl)
theorem dX8_feed_124 : decode cX8_feed 124 = .ok (.ireturn, 1) := dk_172 (dk_at dksX8_feed_5 7 rfl rfl)
abbrev cX8_fault : ByteArray := prog_26_method_19_code
def yX8_fault : MethodName := ⟨RX8, "fault", "()I"⟩
def dkwX8_fault_0 : List UInt8 := [42, 3, 181, 0, 3, 42, 180, 0, 17, 172]
abbrev dktX8_fault_0 : List UInt8 := dkwX8_fault_0 ++ []
theorem dksX8_fault_0 : cX8_fault.data.toList.drop 0 = dktX8_fault_0 := by decide +kernel
theorem dX8_fault_0 : decode cX8_fault 0 = .ok (.aload_n 0, 1) := dk_42 (dk_at dksX8_fault_0 0 rfl rfl)
theorem dX8_fault_1 : decode cX8_fault 1 = .ok (.iconst 0, 1) := dk_3 (dk_at dksX8_fault_0 1 rfl rfl)
theorem dX8_fault_2 : decode cX8_fault 2 = .ok (.putfield 3, 3) := dk_181 0 3 (dk_at dksX8_fault_0 2 rfl rfl)
theorem dX8_fault_5 : decode cX8_fault 5 = .ok (.aload_n 0, 1) := dk_42 (dk_at dksX8_fault_0 5 rfl rfl)
theorem dX8_fault_6 : decode cX8_fault 6 = .ok (.getfield 17, 3) := dk_180 0 17 (dk_at dksX8_fault_0 6 rfl rfl)
theorem dX8_fault_9 : decode cX8_fault 9 = .ok (.ireturn, 1) := dk_172 (dk_at dksX8_fault_0 9 rfl rfl)
abbrev cX8_register : ByteArray := prog_26_method_27_code
def yX8_register : MethodName := ⟨RX8, "register", "(I)I"⟩
def dkwX8_register_9 : List UInt8 := [182, 0, 242, 62, 42, 180, 0, 114, 2, 160, 0, 7, 42, 182, 0, 108, 29, 172]
abbrev dktX8_register_9 : List UInt8 := dkwX8_register_9 ++ []
def dkwX8_register_8 : List UInt8 := [21, 4, 182, 0, 236, 42, 16, 59, 182, 0, 239, 132, 2, 1, 167, 255, 95, 42, 42, 180, 0, 157]
abbrev dktX8_register_8 : List UInt8 := dkwX8_register_8 ++ dktX8_register_9
def dkwX8_register_7 : List UInt8 := [96, 181, 0, 120, 167, 0, 7, 42, 182, 0, 230, 29, 153, 0, 10, 42, 182, 0, 233, 167, 0, 9, 42]
abbrev dktX8_register_7 : List UInt8 := dkwX8_register_7 ++ dktX8_register_8
def dkwX8_register_6 : List UInt8 := [182, 0, 150, 42, 182, 0, 143, 154, 0, 6, 167, 0, 54, 29, 153, 0, 17, 42, 89, 180, 0, 120, 16, 7]
abbrev dktX8_register_6 : List UInt8 := dkwX8_register_6 ++ dktX8_register_7
def dkwX8_register_5 : List UInt8 := [21, 4, 18, 203, 184, 0, 195, 160, 0, 20, 42, 180, 0, 160, 8, 160, 0, 12, 42, 6, 42, 180, 0, 120]
abbrev dktX8_register_5 : List UInt8 := dkwX8_register_5 ++ dktX8_register_6
def dkwX8_register_4 : List UInt8 := [16, 60, 159, 0, 40, 21, 4, 18, 194, 184, 0, 195, 160, 0, 12, 42, 180, 0, 157, 16, 8, 159, 0, 21]
abbrev dktX8_register_4 : List UInt8 := dkwX8_register_4 ++ dktX8_register_5
def dkwX8_register_3 : List UInt8 := [154, 0, 23, 21, 4, 184, 0, 227, 154, 0, 15, 42, 4, 42, 180, 0, 120, 182, 0, 150, 167, 0, 55, 28]
abbrev dktX8_register_3 : List UInt8 := dkwX8_register_3 ++ dktX8_register_4
def dkwX8_register_2 : List UInt8 := [153, 0, 160, 42, 182, 0, 215, 153, 0, 153, 42, 18, 218, 182, 0, 220, 62, 42, 182, 0, 224, 54, 4, 29]
abbrev dktX8_register_2 : List UInt8 := dkwX8_register_2 ++ dktX8_register_3
def dkwX8_register_1 : List UInt8 := [4, 182, 0, 207, 154, 0, 5, 3, 172, 42, 27, 182, 0, 211, 42, 182, 0, 105, 3, 61, 42, 182, 0, 143]
abbrev dktX8_register_1 : List UInt8 := dkwX8_register_1 ++ dktX8_register_2
def dkwX8_register_0 : List UInt8 := [42, 3, 181, 0, 3, 42, 27, 155, 0, 15, 27, 42, 180, 0, 111, 163, 0, 7, 4, 167, 0, 4, 3, 4]
abbrev dktX8_register_0 : List UInt8 := dkwX8_register_0 ++ dktX8_register_1
theorem dksX8_register_0 : cX8_register.data.toList.drop 0 = dktX8_register_0 := by decide +kernel
theorem dksX8_register_1 : cX8_register.data.toList.drop 24 = dktX8_register_1 := dk_seg dksX8_register_0 24 rfl rfl
theorem dksX8_register_2 : cX8_register.data.toList.drop 48 = dktX8_register_2 := dk_seg dksX8_register_1 24 rfl rfl
theorem dksX8_register_3 : cX8_register.data.toList.drop 72 = dktX8_register_3 := dk_seg dksX8_register_2 24 rfl rfl
theorem dksX8_register_4 : cX8_register.data.toList.drop 96 = dktX8_register_4 := dk_seg dksX8_register_3 24 rfl rfl
theorem dksX8_register_5 : cX8_register.data.toList.drop 120 = dktX8_register_5 := dk_seg dksX8_register_4 24 rfl rfl
theorem dksX8_register_6 : cX8_register.data.toList.drop 144 = dktX8_register_6 := dk_seg dksX8_register_5 24 rfl rfl
theorem dksX8_register_7 : cX8_register.data.toList.drop 168 = dktX8_register_7 := dk_seg dksX8_register_6 24 rfl rfl
theorem dksX8_register_8 : cX8_register.data.toList.drop 191 = dktX8_register_8 := dk_seg dksX8_register_7 23 rfl rfl
theorem dksX8_register_9 : cX8_register.data.toList.drop 213 = dktX8_register_9 := dk_seg dksX8_register_8 22 rfl rfl
theorem dX8_register_0 : decode cX8_register 0 = .ok (.aload_n 0, 1) := dk_42 (dk_at dksX8_register_0 0 rfl rfl)
theorem dX8_register_1 : decode cX8_register 1 = .ok (.iconst 0, 1) := dk_3 (dk_at dksX8_register_0 1 rfl rfl)
theorem dX8_register_2 : decode cX8_register 2 = .ok (.putfield 3, 3) := dk_181 0 3 (dk_at dksX8_register_0 2 rfl rfl)
theorem dX8_register_5 : decode cX8_register 5 = .ok (.aload_n 0, 1) := dk_42 (dk_at dksX8_register_0 5 rfl rfl)
theorem dX8_register_6 : decode cX8_register 6 = .ok (.iload_n 1, 1) := dk_27 (dk_at dksX8_register_0 6 rfl rfl)
theorem dX8_register_7 : decode cX8_register 7 = .ok (.ifCond .lt 15, 3) := dk_155 0 15 (dk_at dksX8_register_0 7 rfl rfl)
theorem dX8_register_10 : decode cX8_register 10 = .ok (.iload_n 1, 1) := dk_27 (dk_at dksX8_register_0 10 rfl rfl)
theorem dX8_register_11 : decode cX8_register 11 = .ok (.aload_n 0, 1) := dk_42 (dk_at dksX8_register_0 11 rfl rfl)
theorem dX8_register_12 : decode cX8_register 12 = .ok (.getfield 111, 3) := dk_180 0 111 (dk_at dksX8_register_0 12 rfl rfl)
theorem dX8_register_15 : decode cX8_register 15 = .ok (.if_icmp .gt 7, 3) := dk_163 0 7 (dk_at dksX8_register_0 15 rfl rfl)
theorem dX8_register_18 : decode cX8_register 18 = .ok (.iconst 1, 1) := dk_4 (dk_at dksX8_register_0 18 rfl rfl)
theorem dX8_register_19 : decode cX8_register 19 = .ok (.goto 4, 3) := dk_167 0 4 (dk_at dksX8_register_0 19 rfl rfl)
theorem dX8_register_22 : decode cX8_register 22 = .ok (.iconst 0, 1) := dk_3 (dk_at dksX8_register_0 22 rfl rfl)
theorem dX8_register_23 : decode cX8_register 23 = .ok (.iconst 1, 1) := dk_4 (dk_at dksX8_register_0 23 rfl rfl)
theorem dX8_register_24 : decode cX8_register 24 = .ok (.iconst 1, 1) := dk_4 (dk_at dksX8_register_1 0 rfl rfl)
theorem dX8_register_25 : decode cX8_register 25 = .ok (.invokevirtual 207, 3) := dk_182 0 207 (dk_at dksX8_register_1 1 rfl rfl)
theorem dX8_register_28 : decode cX8_register 28 = .ok (.ifCond .ne 5, 3) := dk_154 0 5 (dk_at dksX8_register_1 4 rfl rfl)
theorem dX8_register_31 : decode cX8_register 31 = .ok (.iconst 0, 1) := dk_3 (dk_at dksX8_register_1 7 rfl rfl)
theorem dX8_register_32 : decode cX8_register 32 = .ok (.ireturn, 1) := dk_172 (dk_at dksX8_register_1 8 rfl rfl)
theorem dX8_register_33 : decode cX8_register 33 = .ok (.aload_n 0, 1) := dk_42 (dk_at dksX8_register_1 9 rfl rfl)
theorem dX8_register_34 : decode cX8_register 34 = .ok (.iload_n 1, 1) := dk_27 (dk_at dksX8_register_1 10 rfl rfl)
theorem dX8_register_35 : decode cX8_register 35 = .ok (.invokevirtual 211, 3) := dk_182 0 211 (dk_at dksX8_register_1 11 rfl rfl)
theorem dX8_register_38 : decode cX8_register 38 = .ok (.aload_n 0, 1) := dk_42 (dk_at dksX8_register_1 14 rfl rfl)
theorem dX8_register_39 : decode cX8_register 39 = .ok (.invokevirtual 105, 3) := dk_182 0 105 (dk_at dksX8_register_1 15 rfl rfl)
theorem dX8_register_42 : decode cX8_register 42 = .ok (.iconst 0, 1) := dk_3 (dk_at dksX8_register_1 18 rfl rfl)
theorem dX8_register_43 : decode cX8_register 43 = .ok (.istore_n 2, 1) := dk_61 (dk_at dksX8_register_1 19 rfl rfl)
theorem dX8_register_44 : decode cX8_register 44 = .ok (.aload_n 0, 1) := dk_42 (dk_at dksX8_register_1 20 rfl rfl)
theorem dX8_register_45 : decode cX8_register 45 = .ok (.invokevirtual 143, 3) := dk_182 0 143 (dk_at dksX8_register_1 21 rfl rfl)
theorem dX8_register_48 : decode cX8_register 48 = .ok (.ifCond .eq 160, 3) := dk_153 0 160 (dk_at dksX8_register_2 0 rfl rfl)
theorem dX8_register_51 : decode cX8_register 51 = .ok (.aload_n 0, 1) := dk_42 (dk_at dksX8_register_2 3 rfl rfl)
theorem dX8_register_52 : decode cX8_register 52 = .ok (.invokevirtual 215, 3) := dk_182 0 215 (dk_at dksX8_register_2 4 rfl rfl)
theorem dX8_register_55 : decode cX8_register 55 = .ok (.ifCond .eq 153, 3) := dk_153 0 153 (dk_at dksX8_register_2 7 rfl rfl)
theorem dX8_register_58 : decode cX8_register 58 = .ok (.aload_n 0, 1) := dk_42 (dk_at dksX8_register_2 10 rfl rfl)
theorem dX8_register_59 : decode cX8_register 59 = .ok (.ldc 218, 2) := dk_18 218 (dk_at dksX8_register_2 11 rfl rfl)
theorem dX8_register_61 : decode cX8_register 61 = .ok (.invokevirtual 220, 3) := dk_182 0 220 (dk_at dksX8_register_2 13 rfl rfl)
theorem dX8_register_64 : decode cX8_register 64 = .ok (.istore_n 3, 1) := dk_62 (dk_at dksX8_register_2 16 rfl rfl)
theorem dX8_register_65 : decode cX8_register 65 = .ok (.aload_n 0, 1) := dk_42 (dk_at dksX8_register_2 17 rfl rfl)
theorem dX8_register_66 : decode cX8_register 66 = .ok (.invokevirtual 224, 3) := dk_182 0 224 (dk_at dksX8_register_2 18 rfl rfl)
theorem dX8_register_69 : decode cX8_register 69 = .ok (.istore 4, 2) := dk_54 4 (dk_at dksX8_register_2 21 rfl rfl)
theorem dX8_register_71 : decode cX8_register 71 = .ok (.iload_n 3, 1) := dk_29 (dk_at dksX8_register_2 23 rfl rfl)
theorem dX8_register_72 : decode cX8_register 72 = .ok (.ifCond .ne 23, 3) := dk_154 0 23 (dk_at dksX8_register_3 0 rfl rfl)
theorem dX8_register_75 : decode cX8_register 75 = .ok (.iload 4, 2) := dk_21 4 (dk_at dksX8_register_3 3 rfl rfl)
theorem dX8_register_77 : decode cX8_register 77 = .ok (.invokestatic 227, 3) := dk_184 0 227 (dk_at dksX8_register_3 5 rfl rfl)
theorem dX8_register_80 : decode cX8_register 80 = .ok (.ifCond .ne 15, 3) := dk_154 0 15 (dk_at dksX8_register_3 8 rfl rfl)
theorem dX8_register_83 : decode cX8_register 83 = .ok (.aload_n 0, 1) := dk_42 (dk_at dksX8_register_3 11 rfl rfl)
theorem dX8_register_84 : decode cX8_register 84 = .ok (.iconst 1, 1) := dk_4 (dk_at dksX8_register_3 12 rfl rfl)
theorem dX8_register_85 : decode cX8_register 85 = .ok (.aload_n 0, 1) := dk_42 (dk_at dksX8_register_3 13 rfl rfl)
theorem dX8_register_86 : decode cX8_register 86 = .ok (.getfield 120, 3) := dk_180 0 120 (dk_at dksX8_register_3 14 rfl rfl)
theorem dX8_register_89 : decode cX8_register 89 = .ok (.invokevirtual 150, 3) := dk_182 0 150 (dk_at dksX8_register_3 17 rfl rfl)
theorem dX8_register_92 : decode cX8_register 92 = .ok (.goto 55, 3) := dk_167 0 55 (dk_at dksX8_register_3 20 rfl rfl)
theorem dX8_register_95 : decode cX8_register 95 = .ok (.iload_n 2, 1) := dk_28 (dk_at dksX8_register_3 23 rfl rfl)
theorem dX8_register_96 : decode cX8_register 96 = .ok (.bipush 60, 2) := dk_16 60 (dk_at dksX8_register_4 0 rfl rfl)
theorem dX8_register_98 : decode cX8_register 98 = .ok (.if_icmp .eq 40, 3) := dk_159 0 40 (dk_at dksX8_register_4 2 rfl rfl)
theorem dX8_register_101 : decode cX8_register 101 = .ok (.iload 4, 2) := dk_21 4 (dk_at dksX8_register_4 5 rfl rfl)
theorem dX8_register_103 : decode cX8_register 103 = .ok (.ldc 194, 2) := dk_18 194 (dk_at dksX8_register_4 7 rfl rfl)
theorem dX8_register_105 : decode cX8_register 105 = .ok (.invokestatic 195, 3) := dk_184 0 195 (dk_at dksX8_register_4 9 rfl rfl)
theorem dX8_register_108 : decode cX8_register 108 = .ok (.if_icmp .ne 12, 3) := dk_160 0 12 (dk_at dksX8_register_4 12 rfl rfl)
theorem dX8_register_111 : decode cX8_register 111 = .ok (.aload_n 0, 1) := dk_42 (dk_at dksX8_register_4 15 rfl rfl)
theorem dX8_register_112 : decode cX8_register 112 = .ok (.getfield 157, 3) := dk_180 0 157 (dk_at dksX8_register_4 16 rfl rfl)
theorem dX8_register_115 : decode cX8_register 115 = .ok (.bipush 8, 2) := dk_16 8 (dk_at dksX8_register_4 19 rfl rfl)
theorem dX8_register_117 : decode cX8_register 117 = .ok (.if_icmp .eq 21, 3) := dk_159 0 21 (dk_at dksX8_register_4 21 rfl rfl)
theorem dX8_register_120 : decode cX8_register 120 = .ok (.iload 4, 2) := dk_21 4 (dk_at dksX8_register_5 0 rfl rfl)
theorem dX8_register_122 : decode cX8_register 122 = .ok (.ldc 203, 2) := dk_18 203 (dk_at dksX8_register_5 2 rfl rfl)
theorem dX8_register_124 : decode cX8_register 124 = .ok (.invokestatic 195, 3) := dk_184 0 195 (dk_at dksX8_register_5 4 rfl rfl)
theorem dX8_register_127 : decode cX8_register 127 = .ok (.if_icmp .ne 20, 3) := dk_160 0 20 (dk_at dksX8_register_5 7 rfl rfl)
theorem dX8_register_130 : decode cX8_register 130 = .ok (.aload_n 0, 1) := dk_42 (dk_at dksX8_register_5 10 rfl rfl)
theorem dX8_register_131 : decode cX8_register 131 = .ok (.getfield 160, 3) := dk_180 0 160 (dk_at dksX8_register_5 11 rfl rfl)
theorem dX8_register_134 : decode cX8_register 134 = .ok (.iconst 5, 1) := dk_8 (dk_at dksX8_register_5 14 rfl rfl)
theorem dX8_register_135 : decode cX8_register 135 = .ok (.if_icmp .ne 12, 3) := dk_160 0 12 (dk_at dksX8_register_5 15 rfl rfl)
theorem dX8_register_138 : decode cX8_register 138 = .ok (.aload_n 0, 1) := dk_42 (dk_at dksX8_register_5 18 rfl rfl)
theorem dX8_register_139 : decode cX8_register 139 = .ok (.iconst 3, 1) := dk_6 (dk_at dksX8_register_5 19 rfl rfl)
theorem dX8_register_140 : decode cX8_register 140 = .ok (.aload_n 0, 1) := dk_42 (dk_at dksX8_register_5 20 rfl rfl)
theorem dX8_register_141 : decode cX8_register 141 = .ok (.getfield 120, 3) := dk_180 0 120 (dk_at dksX8_register_5 21 rfl rfl)
theorem dX8_register_144 : decode cX8_register 144 = .ok (.invokevirtual 150, 3) := dk_182 0 150 (dk_at dksX8_register_6 0 rfl rfl)
theorem dX8_register_147 : decode cX8_register 147 = .ok (.aload_n 0, 1) := dk_42 (dk_at dksX8_register_6 3 rfl rfl)
theorem dX8_register_148 : decode cX8_register 148 = .ok (.invokevirtual 143, 3) := dk_182 0 143 (dk_at dksX8_register_6 4 rfl rfl)
theorem dX8_register_151 : decode cX8_register 151 = .ok (.ifCond .ne 6, 3) := dk_154 0 6 (dk_at dksX8_register_6 7 rfl rfl)
theorem dX8_register_154 : decode cX8_register 154 = .ok (.goto 54, 3) := dk_167 0 54 (dk_at dksX8_register_6 10 rfl rfl)
theorem dX8_register_157 : decode cX8_register 157 = .ok (.iload_n 3, 1) := dk_29 (dk_at dksX8_register_6 13 rfl rfl)
theorem dX8_register_158 : decode cX8_register 158 = .ok (.ifCond .eq 17, 3) := dk_153 0 17 (dk_at dksX8_register_6 14 rfl rfl)
theorem dX8_register_161 : decode cX8_register 161 = .ok (.aload_n 0, 1) := dk_42 (dk_at dksX8_register_6 17 rfl rfl)
theorem dX8_register_162 : decode cX8_register 162 = .ok (.dup, 1) := dk_89 (dk_at dksX8_register_6 18 rfl rfl)
theorem dX8_register_163 : decode cX8_register 163 = .ok (.getfield 120, 3) := dk_180 0 120 (dk_at dksX8_register_6 19 rfl rfl)
theorem dX8_register_166 : decode cX8_register 166 = .ok (.bipush 7, 2) := dk_16 7 (dk_at dksX8_register_6 22 rfl rfl)
theorem dX8_register_168 : decode cX8_register 168 = .ok (.iadd, 1) := dk_96 (dk_at dksX8_register_7 0 rfl rfl)
theorem dX8_register_169 : decode cX8_register 169 = .ok (.putfield 120, 3) := dk_181 0 120 (dk_at dksX8_register_7 1 rfl rfl)
theorem dX8_register_172 : decode cX8_register 172 = .ok (.goto 7, 3) := dk_167 0 7 (dk_at dksX8_register_7 4 rfl rfl)
theorem dX8_register_175 : decode cX8_register 175 = .ok (.aload_n 0, 1) := dk_42 (dk_at dksX8_register_7 7 rfl rfl)
theorem dX8_register_176 : decode cX8_register 176 = .ok (.invokevirtual 230, 3) := dk_182 0 230 (dk_at dksX8_register_7 8 rfl rfl)
theorem dX8_register_179 : decode cX8_register 179 = .ok (.iload_n 3, 1) := dk_29 (dk_at dksX8_register_7 11 rfl rfl)
theorem dX8_register_180 : decode cX8_register 180 = .ok (.ifCond .eq 10, 3) := dk_153 0 10 (dk_at dksX8_register_7 12 rfl rfl)
theorem dX8_register_183 : decode cX8_register 183 = .ok (.aload_n 0, 1) := dk_42 (dk_at dksX8_register_7 15 rfl rfl)
theorem dX8_register_184 : decode cX8_register 184 = .ok (.invokevirtual 233, 3) := dk_182 0 233 (dk_at dksX8_register_7 16 rfl rfl)
theorem dX8_register_187 : decode cX8_register 187 = .ok (.goto 9, 3) := dk_167 0 9 (dk_at dksX8_register_7 19 rfl rfl)
theorem dX8_register_190 : decode cX8_register 190 = .ok (.aload_n 0, 1) := dk_42 (dk_at dksX8_register_7 22 rfl rfl)
theorem dX8_register_191 : decode cX8_register 191 = .ok (.iload 4, 2) := dk_21 4 (dk_at dksX8_register_8 0 rfl rfl)
theorem dX8_register_193 : decode cX8_register 193 = .ok (.invokevirtual 236, 3) := dk_182 0 236 (dk_at dksX8_register_8 2 rfl rfl)
theorem dX8_register_196 : decode cX8_register 196 = .ok (.aload_n 0, 1) := dk_42 (dk_at dksX8_register_8 5 rfl rfl)
theorem dX8_register_197 : decode cX8_register 197 = .ok (.bipush 59, 2) := dk_16 59 (dk_at dksX8_register_8 6 rfl rfl)
theorem dX8_register_199 : decode cX8_register 199 = .ok (.invokevirtual 239, 3) := dk_182 0 239 (dk_at dksX8_register_8 8 rfl rfl)
theorem dX8_register_202 : decode cX8_register 202 = .ok (.iinc 2 1, 3) := dk_132 2 1 (dk_at dksX8_register_8 11 rfl rfl)
theorem dX8_register_205 : decode cX8_register 205 = .ok (.goto (-161), 3) := dk_167 255 95 (dk_at dksX8_register_8 14 rfl rfl)
theorem dX8_register_208 : decode cX8_register 208 = .ok (.aload_n 0, 1) := dk_42 (dk_at dksX8_register_8 17 rfl rfl)
theorem dX8_register_209 : decode cX8_register 209 = .ok (.aload_n 0, 1) := dk_42 (dk_at dksX8_register_8 18 rfl rfl)
theorem dX8_register_210 : decode cX8_register 210 = .ok (.getfield 157, 3) := dk_180 0 157 (dk_at dksX8_register_8 19 rfl rfl)
theorem dX8_register_213 : decode cX8_register 213 = .ok (.invokevirtual 242, 3) := dk_182 0 242 (dk_at dksX8_register_9 0 rfl rfl)
theorem dX8_register_216 : decode cX8_register 216 = .ok (.istore_n 3, 1) := dk_62 (dk_at dksX8_register_9 3 rfl rfl)
theorem dX8_register_217 : decode cX8_register 217 = .ok (.aload_n 0, 1) := dk_42 (dk_at dksX8_register_9 4 rfl rfl)
theorem dX8_register_218 : decode cX8_register 218 = .ok (.getfield 114, 3) := dk_180 0 114 (dk_at dksX8_register_9 5 rfl rfl)
theorem dX8_register_221 : decode cX8_register 221 = .ok (.iconst (-1), 1) := dk_2 (dk_at dksX8_register_9 8 rfl rfl)
theorem dX8_register_222 : decode cX8_register 222 = .ok (.if_icmp .ne 7, 3) := dk_160 0 7 (dk_at dksX8_register_9 9 rfl rfl)
theorem dX8_register_225 : decode cX8_register 225 = .ok (.aload_n 0, 1) := dk_42 (dk_at dksX8_register_9 12 rfl rfl)
theorem dX8_register_226 : decode cX8_register 226 = .ok (.invokevirtual 108, 3) := dk_182 0 108 (dk_at dksX8_register_9 13 rfl rfl)
theorem dX8_register_229 : decode cX8_register 229 = .ok (.iload_n 3, 1) := dk_29 (dk_at dksX8_register_9 16 rfl rfl)
theorem dX8_register_230 : decode cX8_register 230 = .ok (.ireturn, 1) := dk_172 (dk_at dksX8_register_9 17 rfl rfl)
abbrev cX8_may : ByteArray := prog_26_method_2_code
def yX8_may : MethodName := ⟨RX8, "may", "(ZII)Z"⟩
def dkwX8_may_1 : List UInt8 := [96, 79, 42, 180, 0, 3, 154, 0, 7, 4, 167, 0, 4, 3, 172]
abbrev dktX8_may_1 : List UInt8 := dkwX8_may_1 ++ []
def dkwX8_may_0 : List UInt8 := [27, 154, 0, 25, 42, 180, 0, 3, 154, 0, 18, 42, 28, 181, 0, 3, 42, 180, 0, 7, 29, 92, 46, 4]
abbrev dktX8_may_0 : List UInt8 := dkwX8_may_0 ++ dktX8_may_1
theorem dksX8_may_0 : cX8_may.data.toList.drop 0 = dktX8_may_0 := by decide +kernel
theorem dksX8_may_1 : cX8_may.data.toList.drop 24 = dktX8_may_1 := dk_seg dksX8_may_0 24 rfl rfl
theorem dX8_may_0 : decode cX8_may 0 = .ok (.iload_n 1, 1) := dk_27 (dk_at dksX8_may_0 0 rfl rfl)
theorem dX8_may_1 : decode cX8_may 1 = .ok (.ifCond .ne 25, 3) := dk_154 0 25 (dk_at dksX8_may_0 1 rfl rfl)
theorem dX8_may_4 : decode cX8_may 4 = .ok (.aload_n 0, 1) := dk_42 (dk_at dksX8_may_0 4 rfl rfl)
theorem dX8_may_5 : decode cX8_may 5 = .ok (.getfield 3, 3) := dk_180 0 3 (dk_at dksX8_may_0 5 rfl rfl)
theorem dX8_may_8 : decode cX8_may 8 = .ok (.ifCond .ne 18, 3) := dk_154 0 18 (dk_at dksX8_may_0 8 rfl rfl)
theorem dX8_may_11 : decode cX8_may 11 = .ok (.aload_n 0, 1) := dk_42 (dk_at dksX8_may_0 11 rfl rfl)
theorem dX8_may_12 : decode cX8_may 12 = .ok (.iload_n 2, 1) := dk_28 (dk_at dksX8_may_0 12 rfl rfl)
theorem dX8_may_13 : decode cX8_may 13 = .ok (.putfield 3, 3) := dk_181 0 3 (dk_at dksX8_may_0 13 rfl rfl)
theorem dX8_may_16 : decode cX8_may 16 = .ok (.aload_n 0, 1) := dk_42 (dk_at dksX8_may_0 16 rfl rfl)
theorem dX8_may_17 : decode cX8_may 17 = .ok (.getfield 7, 3) := dk_180 0 7 (dk_at dksX8_may_0 17 rfl rfl)
theorem dX8_may_20 : decode cX8_may 20 = .ok (.iload_n 3, 1) := dk_29 (dk_at dksX8_may_0 20 rfl rfl)
theorem dX8_may_21 : decode cX8_may 21 = .ok (.dup2, 1) := dk_92 (dk_at dksX8_may_0 21 rfl rfl)
theorem dX8_may_22 : decode cX8_may 22 = .ok (.iaload, 1) := dk_46 (dk_at dksX8_may_0 22 rfl rfl)
theorem dX8_may_23 : decode cX8_may 23 = .ok (.iconst 1, 1) := dk_4 (dk_at dksX8_may_0 23 rfl rfl)
theorem dX8_may_24 : decode cX8_may 24 = .ok (.iadd, 1) := dk_96 (dk_at dksX8_may_1 0 rfl rfl)
theorem dX8_may_25 : decode cX8_may 25 = .ok (.iastore, 1) := dk_79 (dk_at dksX8_may_1 1 rfl rfl)
theorem dX8_may_26 : decode cX8_may 26 = .ok (.aload_n 0, 1) := dk_42 (dk_at dksX8_may_1 2 rfl rfl)
theorem dX8_may_27 : decode cX8_may 27 = .ok (.getfield 3, 3) := dk_180 0 3 (dk_at dksX8_may_1 3 rfl rfl)
theorem dX8_may_30 : decode cX8_may 30 = .ok (.ifCond .ne 7, 3) := dk_154 0 7 (dk_at dksX8_may_1 6 rfl rfl)
theorem dX8_may_33 : decode cX8_may 33 = .ok (.iconst 1, 1) := dk_4 (dk_at dksX8_may_1 9 rfl rfl)
theorem dX8_may_34 : decode cX8_may 34 = .ok (.goto 4, 3) := dk_167 0 4 (dk_at dksX8_may_1 10 rfl rfl)
theorem dX8_may_37 : decode cX8_may 37 = .ok (.iconst 0, 1) := dk_3 (dk_at dksX8_may_1 13 rfl rfl)
theorem dX8_may_38 : decode cX8_may 38 = .ok (.ireturn, 1) := dk_172 (dk_at dksX8_may_1 14 rfl rfl)
abbrev cX8_begins : ByteArray := prog_26_method_17_code
def yX8_begins : MethodName := ⟨RX8, "begins", "(I)V"⟩
def dkwX8_begins_1 : List UInt8 := [181, 0, 114, 42, 3, 181, 0, 154, 177]
abbrev dktX8_begins_1 : List UInt8 := dkwX8_begins_1 ++ []
def dkwX8_begins_0 : List UInt8 := [42, 3, 181, 0, 111, 42, 2, 181, 0, 17, 42, 27, 181, 0, 123, 42, 3, 181, 0, 120, 42, 2]
abbrev dktX8_begins_0 : List UInt8 := dkwX8_begins_0 ++ dktX8_begins_1
theorem dksX8_begins_0 : cX8_begins.data.toList.drop 0 = dktX8_begins_0 := by decide +kernel
theorem dksX8_begins_1 : cX8_begins.data.toList.drop 22 = dktX8_begins_1 := dk_seg dksX8_begins_0 22 rfl rfl
theorem dX8_begins_0 : decode cX8_begins 0 = .ok (.aload_n 0, 1) := dk_42 (dk_at dksX8_begins_0 0 rfl rfl)
theorem dX8_begins_1 : decode cX8_begins 1 = .ok (.iconst 0, 1) := dk_3 (dk_at dksX8_begins_0 1 rfl rfl)
theorem dX8_begins_2 : decode cX8_begins 2 = .ok (.putfield 111, 3) := dk_181 0 111 (dk_at dksX8_begins_0 2 rfl rfl)
theorem dX8_begins_5 : decode cX8_begins 5 = .ok (.aload_n 0, 1) := dk_42 (dk_at dksX8_begins_0 5 rfl rfl)
theorem dX8_begins_6 : decode cX8_begins 6 = .ok (.iconst (-1), 1) := dk_2 (dk_at dksX8_begins_0 6 rfl rfl)
theorem dX8_begins_7 : decode cX8_begins 7 = .ok (.putfield 17, 3) := dk_181 0 17 (dk_at dksX8_begins_0 7 rfl rfl)
theorem dX8_begins_10 : decode cX8_begins 10 = .ok (.aload_n 0, 1) := dk_42 (dk_at dksX8_begins_0 10 rfl rfl)
theorem dX8_begins_11 : decode cX8_begins 11 = .ok (.iload_n 1, 1) := dk_27 (dk_at dksX8_begins_0 11 rfl rfl)
theorem dX8_begins_12 : decode cX8_begins 12 = .ok (.putfield 123, 3) := dk_181 0 123 (dk_at dksX8_begins_0 12 rfl rfl)
theorem dX8_begins_15 : decode cX8_begins 15 = .ok (.aload_n 0, 1) := dk_42 (dk_at dksX8_begins_0 15 rfl rfl)
theorem dX8_begins_16 : decode cX8_begins 16 = .ok (.iconst 0, 1) := dk_3 (dk_at dksX8_begins_0 16 rfl rfl)
theorem dX8_begins_17 : decode cX8_begins 17 = .ok (.putfield 120, 3) := dk_181 0 120 (dk_at dksX8_begins_0 17 rfl rfl)
theorem dX8_begins_20 : decode cX8_begins 20 = .ok (.aload_n 0, 1) := dk_42 (dk_at dksX8_begins_0 20 rfl rfl)
theorem dX8_begins_21 : decode cX8_begins 21 = .ok (.iconst (-1), 1) := dk_2 (dk_at dksX8_begins_0 21 rfl rfl)
theorem dX8_begins_22 : decode cX8_begins 22 = .ok (.putfield 114, 3) := dk_181 0 114 (dk_at dksX8_begins_1 0 rfl rfl)
theorem dX8_begins_25 : decode cX8_begins 25 = .ok (.aload_n 0, 1) := dk_42 (dk_at dksX8_begins_1 3 rfl rfl)
theorem dX8_begins_26 : decode cX8_begins 26 = .ok (.iconst 0, 1) := dk_3 (dk_at dksX8_begins_1 4 rfl rfl)
theorem dX8_begins_27 : decode cX8_begins 27 = .ok (.putfield 154, 3) := dk_181 0 154 (dk_at dksX8_begins_1 5 rfl rfl)
theorem dX8_begins_30 : decode cX8_begins 30 = .ok (.return_, 1) := dk_177 (dk_at dksX8_begins_1 8 rfl rfl)
abbrev cX8_fine : ByteArray := prog_26_method_6_code
def yX8_fine : MethodName := ⟨RX8, "fine", "()Z"⟩
def dkwX8_fine_0 : List UInt8 := [42, 180, 0, 114, 2, 160, 0, 7, 4, 167, 0, 4, 3, 172]
abbrev dktX8_fine_0 : List UInt8 := dkwX8_fine_0 ++ []
theorem dksX8_fine_0 : cX8_fine.data.toList.drop 0 = dktX8_fine_0 := by decide +kernel
theorem dX8_fine_0 : decode cX8_fine 0 = .ok (.aload_n 0, 1) := dk_42 (dk_at dksX8_fine_0 0 rfl rfl)
theorem dX8_fine_1 : decode cX8_fine 1 = .ok (.getfield 114, 3) := dk_180 0 114 (dk_at dksX8_fine_0 1 rfl rfl)
theorem dX8_fine_4 : decode cX8_fine 4 = .ok (.iconst (-1), 1) := dk_2 (dk_at dksX8_fine_0 4 rfl rfl)
theorem dX8_fine_5 : decode cX8_fine 5 = .ok (.if_icmp .ne 7, 3) := dk_160 0 7 (dk_at dksX8_fine_0 5 rfl rfl)
theorem dX8_fine_8 : decode cX8_fine 8 = .ok (.iconst 1, 1) := dk_4 (dk_at dksX8_fine_0 8 rfl rfl)
theorem dX8_fine_9 : decode cX8_fine 9 = .ok (.goto 4, 3) := dk_167 0 4 (dk_at dksX8_fine_0 9 rfl rfl)
theorem dX8_fine_12 : decode cX8_fine 12 = .ok (.iconst 0, 1) := dk_3 (dk_at dksX8_fine_0 12 rfl rfl)
theorem dX8_fine_13 : decode cX8_fine 13 = .ok (.ireturn, 1) := dk_172 (dk_at dksX8_fine_0 13 rfl rfl)
abbrev cX8_isMore : ByteArray := prog_26_method_16_code
def yX8_isMore : MethodName := ⟨RX8, "isMore", "()Z"⟩
def dkwX8_isMore_0 : List UInt8 := [42, 182, 0, 126, 87, 42, 180, 0, 120, 42, 180, 0, 123, 162, 0, 7, 4, 167, 0, 4, 3, 172]
abbrev dktX8_isMore_0 : List UInt8 := dkwX8_isMore_0 ++ []
theorem dksX8_isMore_0 : cX8_isMore.data.toList.drop 0 = dktX8_isMore_0 := by decide +kernel
theorem dX8_isMore_0 : decode cX8_isMore 0 = .ok (.aload_n 0, 1) := dk_42 (dk_at dksX8_isMore_0 0 rfl rfl)
theorem dX8_isMore_1 : decode cX8_isMore 1 = .ok (.invokevirtual 126, 3) := dk_182 0 126 (dk_at dksX8_isMore_0 1 rfl rfl)
theorem dX8_isMore_4 : decode cX8_isMore 4 = .ok (.pop, 1) := dk_87 (dk_at dksX8_isMore_0 4 rfl rfl)
theorem dX8_isMore_5 : decode cX8_isMore 5 = .ok (.aload_n 0, 1) := dk_42 (dk_at dksX8_isMore_0 5 rfl rfl)
theorem dX8_isMore_6 : decode cX8_isMore 6 = .ok (.getfield 120, 3) := dk_180 0 120 (dk_at dksX8_isMore_0 6 rfl rfl)
theorem dX8_isMore_9 : decode cX8_isMore 9 = .ok (.aload_n 0, 1) := dk_42 (dk_at dksX8_isMore_0 9 rfl rfl)
theorem dX8_isMore_10 : decode cX8_isMore 10 = .ok (.getfield 123, 3) := dk_180 0 123 (dk_at dksX8_isMore_0 10 rfl rfl)
theorem dX8_isMore_13 : decode cX8_isMore 13 = .ok (.if_icmp .ge 7, 3) := dk_162 0 7 (dk_at dksX8_isMore_0 13 rfl rfl)
theorem dX8_isMore_16 : decode cX8_isMore 16 = .ok (.iconst 1, 1) := dk_4 (dk_at dksX8_isMore_0 16 rfl rfl)
theorem dX8_isMore_17 : decode cX8_isMore 17 = .ok (.goto 4, 3) := dk_167 0 4 (dk_at dksX8_isMore_0 17 rfl rfl)
theorem dX8_isMore_20 : decode cX8_isMore 20 = .ok (.iconst 0, 1) := dk_3 (dk_at dksX8_isMore_0 20 rfl rfl)
theorem dX8_isMore_21 : decode cX8_isMore 21 = .ok (.ireturn, 1) := dk_172 (dk_at dksX8_isMore_0 21 rfl rfl)
abbrev cX8_here : ByteArray := prog_26_method_8_code
def yX8_here : MethodName := ⟨RX8, "here", "()I"⟩
def dkwX8_here_2 : List UInt8 := [162, 0, 15, 42, 180, 0, 20, 42, 180, 0, 120, 46, 167, 0, 4, 3, 172]
abbrev dktX8_here_2 : List UInt8 := dkwX8_here_2 ++ []
def dkwX8_here_1 : List UInt8 := [160, 0, 16, 42, 89, 180, 0, 120, 4, 96, 181, 0, 120, 167, 255, 221, 42, 180, 0, 120, 42, 180, 0, 123]
abbrev dktX8_here_1 : List UInt8 := dkwX8_here_1 ++ dktX8_here_2
def dkwX8_here_0 : List UInt8 := [42, 180, 0, 120, 42, 180, 0, 123, 162, 0, 30, 42, 180, 0, 20, 42, 180, 0, 120, 46, 16, 32]
abbrev dktX8_here_0 : List UInt8 := dkwX8_here_0 ++ dktX8_here_1
theorem dksX8_here_0 : cX8_here.data.toList.drop 0 = dktX8_here_0 := by decide +kernel
theorem dksX8_here_1 : cX8_here.data.toList.drop 22 = dktX8_here_1 := dk_seg dksX8_here_0 22 rfl rfl
theorem dksX8_here_2 : cX8_here.data.toList.drop 46 = dktX8_here_2 := dk_seg dksX8_here_1 24 rfl rfl
theorem dX8_here_0 : decode cX8_here 0 = .ok (.aload_n 0, 1) := dk_42 (dk_at dksX8_here_0 0 rfl rfl)
theorem dX8_here_1 : decode cX8_here 1 = .ok (.getfield 120, 3) := dk_180 0 120 (dk_at dksX8_here_0 1 rfl rfl)
theorem dX8_here_4 : decode cX8_here 4 = .ok (.aload_n 0, 1) := dk_42 (dk_at dksX8_here_0 4 rfl rfl)
theorem dX8_here_5 : decode cX8_here 5 = .ok (.getfield 123, 3) := dk_180 0 123 (dk_at dksX8_here_0 5 rfl rfl)
theorem dX8_here_8 : decode cX8_here 8 = .ok (.if_icmp .ge 30, 3) := dk_162 0 30 (dk_at dksX8_here_0 8 rfl rfl)
theorem dX8_here_11 : decode cX8_here 11 = .ok (.aload_n 0, 1) := dk_42 (dk_at dksX8_here_0 11 rfl rfl)
theorem dX8_here_12 : decode cX8_here 12 = .ok (.getfield 20, 3) := dk_180 0 20 (dk_at dksX8_here_0 12 rfl rfl)
theorem dX8_here_15 : decode cX8_here 15 = .ok (.aload_n 0, 1) := dk_42 (dk_at dksX8_here_0 15 rfl rfl)
theorem dX8_here_16 : decode cX8_here 16 = .ok (.getfield 120, 3) := dk_180 0 120 (dk_at dksX8_here_0 16 rfl rfl)
theorem dX8_here_19 : decode cX8_here 19 = .ok (.iaload, 1) := dk_46 (dk_at dksX8_here_0 19 rfl rfl)
theorem dX8_here_20 : decode cX8_here 20 = .ok (.bipush 32, 2) := dk_16 32 (dk_at dksX8_here_0 20 rfl rfl)
theorem dX8_here_22 : decode cX8_here 22 = .ok (.if_icmp .ne 16, 3) := dk_160 0 16 (dk_at dksX8_here_1 0 rfl rfl)
theorem dX8_here_25 : decode cX8_here 25 = .ok (.aload_n 0, 1) := dk_42 (dk_at dksX8_here_1 3 rfl rfl)
theorem dX8_here_26 : decode cX8_here 26 = .ok (.dup, 1) := dk_89 (dk_at dksX8_here_1 4 rfl rfl)
theorem dX8_here_27 : decode cX8_here 27 = .ok (.getfield 120, 3) := dk_180 0 120 (dk_at dksX8_here_1 5 rfl rfl)
theorem dX8_here_30 : decode cX8_here 30 = .ok (.iconst 1, 1) := dk_4 (dk_at dksX8_here_1 8 rfl rfl)
theorem dX8_here_31 : decode cX8_here 31 = .ok (.iadd, 1) := dk_96 (dk_at dksX8_here_1 9 rfl rfl)
theorem dX8_here_32 : decode cX8_here 32 = .ok (.putfield 120, 3) := dk_181 0 120 (dk_at dksX8_here_1 10 rfl rfl)
theorem dX8_here_35 : decode cX8_here 35 = .ok (.goto (-35), 3) := dk_167 255 221 (dk_at dksX8_here_1 13 rfl rfl)
theorem dX8_here_38 : decode cX8_here 38 = .ok (.aload_n 0, 1) := dk_42 (dk_at dksX8_here_1 16 rfl rfl)
theorem dX8_here_39 : decode cX8_here 39 = .ok (.getfield 120, 3) := dk_180 0 120 (dk_at dksX8_here_1 17 rfl rfl)
theorem dX8_here_42 : decode cX8_here 42 = .ok (.aload_n 0, 1) := dk_42 (dk_at dksX8_here_1 20 rfl rfl)
theorem dX8_here_43 : decode cX8_here 43 = .ok (.getfield 123, 3) := dk_180 0 123 (dk_at dksX8_here_1 21 rfl rfl)
theorem dX8_here_46 : decode cX8_here 46 = .ok (.if_icmp .ge 15, 3) := dk_162 0 15 (dk_at dksX8_here_2 0 rfl rfl)
theorem dX8_here_49 : decode cX8_here 49 = .ok (.aload_n 0, 1) := dk_42 (dk_at dksX8_here_2 3 rfl rfl)
theorem dX8_here_50 : decode cX8_here 50 = .ok (.getfield 20, 3) := dk_180 0 20 (dk_at dksX8_here_2 4 rfl rfl)
theorem dX8_here_53 : decode cX8_here 53 = .ok (.aload_n 0, 1) := dk_42 (dk_at dksX8_here_2 7 rfl rfl)
theorem dX8_here_54 : decode cX8_here 54 = .ok (.getfield 120, 3) := dk_180 0 120 (dk_at dksX8_here_2 8 rfl rfl)
theorem dX8_here_57 : decode cX8_here 57 = .ok (.iaload, 1) := dk_46 (dk_at dksX8_here_2 11 rfl rfl)
theorem dX8_here_58 : decode cX8_here 58 = .ok (.goto 4, 3) := dk_167 0 4 (dk_at dksX8_here_2 12 rfl rfl)
theorem dX8_here_61 : decode cX8_here 61 = .ok (.iconst 0, 1) := dk_3 (dk_at dksX8_here_2 15 rfl rfl)
theorem dX8_here_62 : decode cX8_here 62 = .ok (.ireturn, 1) := dk_172 (dk_at dksX8_here_2 16 rfl rfl)
abbrev cX8_standsHere : ByteArray := prog_26_method_25_code
def yX8_standsHere : MethodName := ⟨RX8, "standsHere", "(Ljava/lang/String;)Z"⟩
def dkwX8_standsHere_4 : List UInt8 := [167, 0, 4, 3, 172]
abbrev dktX8_standsHere_4 : List UInt8 := dkwX8_standsHere_4 ++ []
def dkwX8_standsHere_3 : List UInt8 := [162, 0, 23, 42, 180, 0, 20, 42, 180, 0, 120, 43, 182, 0, 134, 96, 46, 184, 0, 130, 154, 0, 7, 4]
abbrev dktX8_standsHere_3 : List UInt8 := dkwX8_standsHere_3 ++ dktX8_standsHere_4
def dkwX8_standsHere_2 : List UInt8 := [159, 0, 5, 3, 172, 132, 2, 1, 167, 255, 211, 42, 180, 0, 120, 43, 182, 0, 134, 96, 42, 180, 0, 123]
abbrev dktX8_standsHere_2 : List UInt8 := dkwX8_standsHere_2 ++ dktX8_standsHere_3
def dkwX8_standsHere_1 : List UInt8 := [180, 0, 123, 162, 0, 22, 42, 180, 0, 20, 42, 180, 0, 120, 28, 96, 46, 43, 28, 182, 0, 139]
abbrev dktX8_standsHere_1 : List UInt8 := dkwX8_standsHere_1 ++ dktX8_standsHere_2
def dkwX8_standsHere_0 : List UInt8 := [42, 182, 0, 126, 87, 3, 61, 28, 43, 182, 0, 134, 162, 0, 43, 42, 180, 0, 120, 28, 96, 42]
abbrev dktX8_standsHere_0 : List UInt8 := dkwX8_standsHere_0 ++ dktX8_standsHere_1
theorem dksX8_standsHere_0 : cX8_standsHere.data.toList.drop 0 = dktX8_standsHere_0 := by decide +kernel
theorem dksX8_standsHere_1 : cX8_standsHere.data.toList.drop 22 = dktX8_standsHere_1 := dk_seg dksX8_standsHere_0 22 rfl rfl
theorem dksX8_standsHere_2 : cX8_standsHere.data.toList.drop 44 = dktX8_standsHere_2 := dk_seg dksX8_standsHere_1 22 rfl rfl
theorem dksX8_standsHere_3 : cX8_standsHere.data.toList.drop 68 = dktX8_standsHere_3 := dk_seg dksX8_standsHere_2 24 rfl rfl
theorem dksX8_standsHere_4 : cX8_standsHere.data.toList.drop 92 = dktX8_standsHere_4 := dk_seg dksX8_standsHere_3 24 rfl rfl
theorem dX8_standsHere_0 : decode cX8_standsHere 0 = .ok (.aload_n 0, 1) := dk_42 (dk_at dksX8_standsHere_0 0 rfl rfl)
theorem dX8_standsHere_1 : decode cX8_standsHere 1 = .ok (.invokevirtual 126, 3) := dk_182 0 126 (dk_at dksX8_standsHere_0 1 rfl rfl)
theorem dX8_standsHere_4 : decode cX8_standsHere 4 = .ok (.pop, 1) := dk_87 (dk_at dksX8_standsHere_0 4 rfl rfl)
theorem dX8_standsHere_5 : decode cX8_standsHere 5 = .ok (.iconst 0, 1) := dk_3 (dk_at dksX8_standsHere_0 5 rfl rfl)
theorem dX8_standsHere_6 : decode cX8_standsHere 6 = .ok (.istore_n 2, 1) := dk_61 (dk_at dksX8_standsHere_0 6 rfl rfl)
theorem dX8_standsHere_7 : decode cX8_standsHere 7 = .ok (.iload_n 2, 1) := dk_28 (dk_at dksX8_standsHere_0 7 rfl rfl)
theorem dX8_standsHere_8 : decode cX8_standsHere 8 = .ok (.aload_n 1, 1) := dk_43 (dk_at dksX8_standsHere_0 8 rfl rfl)
theorem dX8_standsHere_9 : decode cX8_standsHere 9 = .ok (.invokevirtual 134, 3) := dk_182 0 134 (dk_at dksX8_standsHere_0 9 rfl rfl)
theorem dX8_standsHere_12 : decode cX8_standsHere 12 = .ok (.if_icmp .ge 43, 3) := dk_162 0 43 (dk_at dksX8_standsHere_0 12 rfl rfl)
theorem dX8_standsHere_15 : decode cX8_standsHere 15 = .ok (.aload_n 0, 1) := dk_42 (dk_at dksX8_standsHere_0 15 rfl rfl)
theorem dX8_standsHere_16 : decode cX8_standsHere 16 = .ok (.getfield 120, 3) := dk_180 0 120 (dk_at dksX8_standsHere_0 16 rfl rfl)
theorem dX8_standsHere_19 : decode cX8_standsHere 19 = .ok (.iload_n 2, 1) := dk_28 (dk_at dksX8_standsHere_0 19 rfl rfl)
theorem dX8_standsHere_20 : decode cX8_standsHere 20 = .ok (.iadd, 1) := dk_96 (dk_at dksX8_standsHere_0 20 rfl rfl)
theorem dX8_standsHere_21 : decode cX8_standsHere 21 = .ok (.aload_n 0, 1) := dk_42 (dk_at dksX8_standsHere_0 21 rfl rfl)
theorem dX8_standsHere_22 : decode cX8_standsHere 22 = .ok (.getfield 123, 3) := dk_180 0 123 (dk_at dksX8_standsHere_1 0 rfl rfl)
theorem dX8_standsHere_25 : decode cX8_standsHere 25 = .ok (.if_icmp .ge 22, 3) := dk_162 0 22 (dk_at dksX8_standsHere_1 3 rfl rfl)
theorem dX8_standsHere_28 : decode cX8_standsHere 28 = .ok (.aload_n 0, 1) := dk_42 (dk_at dksX8_standsHere_1 6 rfl rfl)
theorem dX8_standsHere_29 : decode cX8_standsHere 29 = .ok (.getfield 20, 3) := dk_180 0 20 (dk_at dksX8_standsHere_1 7 rfl rfl)
theorem dX8_standsHere_32 : decode cX8_standsHere 32 = .ok (.aload_n 0, 1) := dk_42 (dk_at dksX8_standsHere_1 10 rfl rfl)
theorem dX8_standsHere_33 : decode cX8_standsHere 33 = .ok (.getfield 120, 3) := dk_180 0 120 (dk_at dksX8_standsHere_1 11 rfl rfl)
theorem dX8_standsHere_36 : decode cX8_standsHere 36 = .ok (.iload_n 2, 1) := dk_28 (dk_at dksX8_standsHere_1 14 rfl rfl)
theorem dX8_standsHere_37 : decode cX8_standsHere 37 = .ok (.iadd, 1) := dk_96 (dk_at dksX8_standsHere_1 15 rfl rfl)
theorem dX8_standsHere_38 : decode cX8_standsHere 38 = .ok (.iaload, 1) := dk_46 (dk_at dksX8_standsHere_1 16 rfl rfl)
theorem dX8_standsHere_39 : decode cX8_standsHere 39 = .ok (.aload_n 1, 1) := dk_43 (dk_at dksX8_standsHere_1 17 rfl rfl)
theorem dX8_standsHere_40 : decode cX8_standsHere 40 = .ok (.iload_n 2, 1) := dk_28 (dk_at dksX8_standsHere_1 18 rfl rfl)
theorem dX8_standsHere_41 : decode cX8_standsHere 41 = .ok (.invokevirtual 139, 3) := dk_182 0 139 (dk_at dksX8_standsHere_1 19 rfl rfl)
theorem dX8_standsHere_44 : decode cX8_standsHere 44 = .ok (.if_icmp .eq 5, 3) := dk_159 0 5 (dk_at dksX8_standsHere_2 0 rfl rfl)
theorem dX8_standsHere_47 : decode cX8_standsHere 47 = .ok (.iconst 0, 1) := dk_3 (dk_at dksX8_standsHere_2 3 rfl rfl)
theorem dX8_standsHere_48 : decode cX8_standsHere 48 = .ok (.ireturn, 1) := dk_172 (dk_at dksX8_standsHere_2 4 rfl rfl)
theorem dX8_standsHere_49 : decode cX8_standsHere 49 = .ok (.iinc 2 1, 3) := dk_132 2 1 (dk_at dksX8_standsHere_2 5 rfl rfl)
theorem dX8_standsHere_52 : decode cX8_standsHere 52 = .ok (.goto (-45), 3) := dk_167 255 211 (dk_at dksX8_standsHere_2 8 rfl rfl)
theorem dX8_standsHere_55 : decode cX8_standsHere 55 = .ok (.aload_n 0, 1) := dk_42 (dk_at dksX8_standsHere_2 11 rfl rfl)
theorem dX8_standsHere_56 : decode cX8_standsHere 56 = .ok (.getfield 120, 3) := dk_180 0 120 (dk_at dksX8_standsHere_2 12 rfl rfl)
theorem dX8_standsHere_59 : decode cX8_standsHere 59 = .ok (.aload_n 1, 1) := dk_43 (dk_at dksX8_standsHere_2 15 rfl rfl)
theorem dX8_standsHere_60 : decode cX8_standsHere 60 = .ok (.invokevirtual 134, 3) := dk_182 0 134 (dk_at dksX8_standsHere_2 16 rfl rfl)
theorem dX8_standsHere_63 : decode cX8_standsHere 63 = .ok (.iadd, 1) := dk_96 (dk_at dksX8_standsHere_2 19 rfl rfl)
theorem dX8_standsHere_64 : decode cX8_standsHere 64 = .ok (.aload_n 0, 1) := dk_42 (dk_at dksX8_standsHere_2 20 rfl rfl)
theorem dX8_standsHere_65 : decode cX8_standsHere 65 = .ok (.getfield 123, 3) := dk_180 0 123 (dk_at dksX8_standsHere_2 21 rfl rfl)
theorem dX8_standsHere_68 : decode cX8_standsHere 68 = .ok (.if_icmp .ge 23, 3) := dk_162 0 23 (dk_at dksX8_standsHere_3 0 rfl rfl)
theorem dX8_standsHere_71 : decode cX8_standsHere 71 = .ok (.aload_n 0, 1) := dk_42 (dk_at dksX8_standsHere_3 3 rfl rfl)
theorem dX8_standsHere_72 : decode cX8_standsHere 72 = .ok (.getfield 20, 3) := dk_180 0 20 (dk_at dksX8_standsHere_3 4 rfl rfl)
theorem dX8_standsHere_75 : decode cX8_standsHere 75 = .ok (.aload_n 0, 1) := dk_42 (dk_at dksX8_standsHere_3 7 rfl rfl)
theorem dX8_standsHere_76 : decode cX8_standsHere 76 = .ok (.getfield 120, 3) := dk_180 0 120 (dk_at dksX8_standsHere_3 8 rfl rfl)
theorem dX8_standsHere_79 : decode cX8_standsHere 79 = .ok (.aload_n 1, 1) := dk_43 (dk_at dksX8_standsHere_3 11 rfl rfl)
theorem dX8_standsHere_80 : decode cX8_standsHere 80 = .ok (.invokevirtual 134, 3) := dk_182 0 134 (dk_at dksX8_standsHere_3 12 rfl rfl)
theorem dX8_standsHere_83 : decode cX8_standsHere 83 = .ok (.iadd, 1) := dk_96 (dk_at dksX8_standsHere_3 15 rfl rfl)
theorem dX8_standsHere_84 : decode cX8_standsHere 84 = .ok (.iaload, 1) := dk_46 (dk_at dksX8_standsHere_3 16 rfl rfl)
theorem dX8_standsHere_85 : decode cX8_standsHere 85 = .ok (.invokestatic 130, 3) := dk_184 0 130 (dk_at dksX8_standsHere_3 17 rfl rfl)
theorem dX8_standsHere_88 : decode cX8_standsHere 88 = .ok (.ifCond .ne 7, 3) := dk_154 0 7 (dk_at dksX8_standsHere_3 20 rfl rfl)
theorem dX8_standsHere_91 : decode cX8_standsHere 91 = .ok (.iconst 1, 1) := dk_4 (dk_at dksX8_standsHere_3 23 rfl rfl)
theorem dX8_standsHere_92 : decode cX8_standsHere 92 = .ok (.goto 4, 3) := dk_167 0 4 (dk_at dksX8_standsHere_4 0 rfl rfl)
theorem dX8_standsHere_95 : decode cX8_standsHere 95 = .ok (.iconst 0, 1) := dk_3 (dk_at dksX8_standsHere_4 3 rfl rfl)
theorem dX8_standsHere_96 : decode cX8_standsHere 96 = .ok (.ireturn, 1) := dk_172 (dk_at dksX8_standsHere_4 4 rfl rfl)
abbrev cX8_isSmall : ByteArray := prog_26_method_9_code
def yX8_isSmall : MethodName := ⟨RX8, "isSmall", "(I)Z"⟩
def dkwX8_isSmall_0 : List UInt8 := [26, 16, 97, 161, 0, 13, 26, 16, 122, 163, 0, 7, 4, 167, 0, 4, 3, 172]
abbrev dktX8_isSmall_0 : List UInt8 := dkwX8_isSmall_0 ++ []
theorem dksX8_isSmall_0 : cX8_isSmall.data.toList.drop 0 = dktX8_isSmall_0 := by decide +kernel
theorem dX8_isSmall_0 : decode cX8_isSmall 0 = .ok (.iload_n 0, 1) := dk_26 (dk_at dksX8_isSmall_0 0 rfl rfl)
theorem dX8_isSmall_1 : decode cX8_isSmall 1 = .ok (.bipush 97, 2) := dk_16 97 (dk_at dksX8_isSmall_0 1 rfl rfl)
theorem dX8_isSmall_3 : decode cX8_isSmall 3 = .ok (.if_icmp .lt 13, 3) := dk_161 0 13 (dk_at dksX8_isSmall_0 3 rfl rfl)
theorem dX8_isSmall_6 : decode cX8_isSmall 6 = .ok (.iload_n 0, 1) := dk_26 (dk_at dksX8_isSmall_0 6 rfl rfl)
theorem dX8_isSmall_7 : decode cX8_isSmall 7 = .ok (.bipush 122, 2) := dk_16 122 (dk_at dksX8_isSmall_0 7 rfl rfl)
theorem dX8_isSmall_9 : decode cX8_isSmall 9 = .ok (.if_icmp .gt 7, 3) := dk_163 0 7 (dk_at dksX8_isSmall_0 9 rfl rfl)
theorem dX8_isSmall_12 : decode cX8_isSmall 12 = .ok (.iconst 1, 1) := dk_4 (dk_at dksX8_isSmall_0 12 rfl rfl)
theorem dX8_isSmall_13 : decode cX8_isSmall 13 = .ok (.goto 4, 3) := dk_167 0 4 (dk_at dksX8_isSmall_0 13 rfl rfl)
theorem dX8_isSmall_16 : decode cX8_isSmall 16 = .ok (.iconst 0, 1) := dk_3 (dk_at dksX8_isSmall_0 16 rfl rfl)
theorem dX8_isSmall_17 : decode cX8_isSmall 17 = .ok (.ireturn, 1) := dk_172 (dk_at dksX8_isSmall_0 17 rfl rfl)
abbrev cX8_word : ByteArray := prog_26_method_11_code
def yX8_word : MethodName := ⟨RX8, "word", "()I"⟩
def dkwX8_word_3 : List UInt8 := [164, 0, 7, 3, 167, 0, 4, 27, 172]
abbrev dktX8_word_3 : List UInt8 := dkwX8_word_3 ++ []
def dkwX8_word_2 : List UInt8 := [29, 46, 16, 96, 100, 128, 167, 0, 4, 3, 60, 132, 2, 1, 132, 3, 1, 167, 255, 206, 28, 16, 6]
abbrev dktX8_word_2 : List UInt8 := dkwX8_word_2 ++ dktX8_word_3
def dkwX8_word_1 : List UInt8 := [180, 0, 20, 29, 46, 184, 0, 130, 153, 0, 36, 28, 16, 6, 162, 0, 19, 27, 8, 120, 42, 180, 0, 20]
abbrev dktX8_word_1 : List UInt8 := dkwX8_word_1 ++ dktX8_word_2
def dkwX8_word_0 : List UInt8 := [42, 182, 0, 126, 87, 3, 60, 3, 61, 42, 180, 0, 120, 62, 29, 42, 180, 0, 123, 162, 0, 48, 42]
abbrev dktX8_word_0 : List UInt8 := dkwX8_word_0 ++ dktX8_word_1
theorem dksX8_word_0 : cX8_word.data.toList.drop 0 = dktX8_word_0 := by decide +kernel
theorem dksX8_word_1 : cX8_word.data.toList.drop 23 = dktX8_word_1 := dk_seg dksX8_word_0 23 rfl rfl
theorem dksX8_word_2 : cX8_word.data.toList.drop 47 = dktX8_word_2 := dk_seg dksX8_word_1 24 rfl rfl
theorem dksX8_word_3 : cX8_word.data.toList.drop 70 = dktX8_word_3 := dk_seg dksX8_word_2 23 rfl rfl
theorem dX8_word_0 : decode cX8_word 0 = .ok (.aload_n 0, 1) := dk_42 (dk_at dksX8_word_0 0 rfl rfl)
theorem dX8_word_1 : decode cX8_word 1 = .ok (.invokevirtual 126, 3) := dk_182 0 126 (dk_at dksX8_word_0 1 rfl rfl)
theorem dX8_word_4 : decode cX8_word 4 = .ok (.pop, 1) := dk_87 (dk_at dksX8_word_0 4 rfl rfl)
theorem dX8_word_5 : decode cX8_word 5 = .ok (.iconst 0, 1) := dk_3 (dk_at dksX8_word_0 5 rfl rfl)
theorem dX8_word_6 : decode cX8_word 6 = .ok (.istore_n 1, 1) := dk_60 (dk_at dksX8_word_0 6 rfl rfl)
theorem dX8_word_7 : decode cX8_word 7 = .ok (.iconst 0, 1) := dk_3 (dk_at dksX8_word_0 7 rfl rfl)
theorem dX8_word_8 : decode cX8_word 8 = .ok (.istore_n 2, 1) := dk_61 (dk_at dksX8_word_0 8 rfl rfl)
theorem dX8_word_9 : decode cX8_word 9 = .ok (.aload_n 0, 1) := dk_42 (dk_at dksX8_word_0 9 rfl rfl)
theorem dX8_word_10 : decode cX8_word 10 = .ok (.getfield 120, 3) := dk_180 0 120 (dk_at dksX8_word_0 10 rfl rfl)
theorem dX8_word_13 : decode cX8_word 13 = .ok (.istore_n 3, 1) := dk_62 (dk_at dksX8_word_0 13 rfl rfl)
theorem dX8_word_14 : decode cX8_word 14 = .ok (.iload_n 3, 1) := dk_29 (dk_at dksX8_word_0 14 rfl rfl)
theorem dX8_word_15 : decode cX8_word 15 = .ok (.aload_n 0, 1) := dk_42 (dk_at dksX8_word_0 15 rfl rfl)
theorem dX8_word_16 : decode cX8_word 16 = .ok (.getfield 123, 3) := dk_180 0 123 (dk_at dksX8_word_0 16 rfl rfl)
theorem dX8_word_19 : decode cX8_word 19 = .ok (.if_icmp .ge 48, 3) := dk_162 0 48 (dk_at dksX8_word_0 19 rfl rfl)
theorem dX8_word_22 : decode cX8_word 22 = .ok (.aload_n 0, 1) := dk_42 (dk_at dksX8_word_0 22 rfl rfl)
theorem dX8_word_23 : decode cX8_word 23 = .ok (.getfield 20, 3) := dk_180 0 20 (dk_at dksX8_word_1 0 rfl rfl)
theorem dX8_word_26 : decode cX8_word 26 = .ok (.iload_n 3, 1) := dk_29 (dk_at dksX8_word_1 3 rfl rfl)
theorem dX8_word_27 : decode cX8_word 27 = .ok (.iaload, 1) := dk_46 (dk_at dksX8_word_1 4 rfl rfl)
theorem dX8_word_28 : decode cX8_word 28 = .ok (.invokestatic 130, 3) := dk_184 0 130 (dk_at dksX8_word_1 5 rfl rfl)
theorem dX8_word_31 : decode cX8_word 31 = .ok (.ifCond .eq 36, 3) := dk_153 0 36 (dk_at dksX8_word_1 8 rfl rfl)
theorem dX8_word_34 : decode cX8_word 34 = .ok (.iload_n 2, 1) := dk_28 (dk_at dksX8_word_1 11 rfl rfl)
theorem dX8_word_35 : decode cX8_word 35 = .ok (.bipush 6, 2) := dk_16 6 (dk_at dksX8_word_1 12 rfl rfl)
theorem dX8_word_37 : decode cX8_word 37 = .ok (.if_icmp .ge 19, 3) := dk_162 0 19 (dk_at dksX8_word_1 14 rfl rfl)
theorem dX8_word_40 : decode cX8_word 40 = .ok (.iload_n 1, 1) := dk_27 (dk_at dksX8_word_1 17 rfl rfl)
theorem dX8_word_41 : decode cX8_word 41 = .ok (.iconst 5, 1) := dk_8 (dk_at dksX8_word_1 18 rfl rfl)
theorem dX8_word_42 : decode cX8_word 42 = .ok (.ishl, 1) := dk_120 (dk_at dksX8_word_1 19 rfl rfl)
theorem dX8_word_43 : decode cX8_word 43 = .ok (.aload_n 0, 1) := dk_42 (dk_at dksX8_word_1 20 rfl rfl)
theorem dX8_word_44 : decode cX8_word 44 = .ok (.getfield 20, 3) := dk_180 0 20 (dk_at dksX8_word_1 21 rfl rfl)
theorem dX8_word_47 : decode cX8_word 47 = .ok (.iload_n 3, 1) := dk_29 (dk_at dksX8_word_2 0 rfl rfl)
theorem dX8_word_48 : decode cX8_word 48 = .ok (.iaload, 1) := dk_46 (dk_at dksX8_word_2 1 rfl rfl)
theorem dX8_word_49 : decode cX8_word 49 = .ok (.bipush 96, 2) := dk_16 96 (dk_at dksX8_word_2 2 rfl rfl)
theorem dX8_word_51 : decode cX8_word 51 = .ok (.isub, 1) := dk_100 (dk_at dksX8_word_2 4 rfl rfl)
theorem dX8_word_52 : decode cX8_word 52 = .ok (.ior, 1) := dk_128 (dk_at dksX8_word_2 5 rfl rfl)
theorem dX8_word_53 : decode cX8_word 53 = .ok (.goto 4, 3) := dk_167 0 4 (dk_at dksX8_word_2 6 rfl rfl)
theorem dX8_word_56 : decode cX8_word 56 = .ok (.iconst 0, 1) := dk_3 (dk_at dksX8_word_2 9 rfl rfl)
theorem dX8_word_57 : decode cX8_word 57 = .ok (.istore_n 1, 1) := dk_60 (dk_at dksX8_word_2 10 rfl rfl)
theorem dX8_word_58 : decode cX8_word 58 = .ok (.iinc 2 1, 3) := dk_132 2 1 (dk_at dksX8_word_2 11 rfl rfl)
theorem dX8_word_61 : decode cX8_word 61 = .ok (.iinc 3 1, 3) := dk_132 3 1 (dk_at dksX8_word_2 14 rfl rfl)
theorem dX8_word_64 : decode cX8_word 64 = .ok (.goto (-50), 3) := dk_167 255 206 (dk_at dksX8_word_2 17 rfl rfl)
theorem dX8_word_67 : decode cX8_word 67 = .ok (.iload_n 2, 1) := dk_28 (dk_at dksX8_word_2 20 rfl rfl)
theorem dX8_word_68 : decode cX8_word 68 = .ok (.bipush 6, 2) := dk_16 6 (dk_at dksX8_word_2 21 rfl rfl)
theorem dX8_word_70 : decode cX8_word 70 = .ok (.if_icmp .le 7, 3) := dk_164 0 7 (dk_at dksX8_word_3 0 rfl rfl)
theorem dX8_word_73 : decode cX8_word 73 = .ok (.iconst 0, 1) := dk_3 (dk_at dksX8_word_3 3 rfl rfl)
theorem dX8_word_74 : decode cX8_word 74 = .ok (.goto 4, 3) := dk_167 0 4 (dk_at dksX8_word_3 4 rfl rfl)
theorem dX8_word_77 : decode cX8_word 77 = .ok (.iload_n 1, 1) := dk_27 (dk_at dksX8_word_3 7 rfl rfl)
theorem dX8_word_78 : decode cX8_word 78 = .ok (.ireturn, 1) := dk_172 (dk_at dksX8_word_3 8 rfl rfl)
abbrev cX8_isRow : ByteArray := prog_26_method_26_code
def yX8_isRow : MethodName := ⟨RX8, "isRow", "(I)Z"⟩
def dkwX8_isRow_1 : List UInt8 := [159, 0, 12, 26, 18, 206, 184, 0, 195, 160, 0, 7, 4, 167, 0, 4, 3, 172]
abbrev dktX8_isRow_1 : List UInt8 := dkwX8_isRow_1 ++ []
def dkwX8_isRow_0 : List UInt8 := [26, 18, 194, 184, 0, 195, 159, 0, 30, 26, 18, 203, 184, 0, 195, 159, 0, 21, 26, 18, 204, 184, 0, 195]
abbrev dktX8_isRow_0 : List UInt8 := dkwX8_isRow_0 ++ dktX8_isRow_1
theorem dksX8_isRow_0 : cX8_isRow.data.toList.drop 0 = dktX8_isRow_0 := by decide +kernel
theorem dksX8_isRow_1 : cX8_isRow.data.toList.drop 24 = dktX8_isRow_1 := dk_seg dksX8_isRow_0 24 rfl rfl
theorem dX8_isRow_0 : decode cX8_isRow 0 = .ok (.iload_n 0, 1) := dk_26 (dk_at dksX8_isRow_0 0 rfl rfl)
theorem dX8_isRow_1 : decode cX8_isRow 1 = .ok (.ldc 194, 2) := dk_18 194 (dk_at dksX8_isRow_0 1 rfl rfl)
theorem dX8_isRow_3 : decode cX8_isRow 3 = .ok (.invokestatic 195, 3) := dk_184 0 195 (dk_at dksX8_isRow_0 3 rfl rfl)
theorem dX8_isRow_6 : decode cX8_isRow 6 = .ok (.if_icmp .eq 30, 3) := dk_159 0 30 (dk_at dksX8_isRow_0 6 rfl rfl)
theorem dX8_isRow_9 : decode cX8_isRow 9 = .ok (.iload_n 0, 1) := dk_26 (dk_at dksX8_isRow_0 9 rfl rfl)
theorem dX8_isRow_10 : decode cX8_isRow 10 = .ok (.ldc 203, 2) := dk_18 203 (dk_at dksX8_isRow_0 10 rfl rfl)
theorem dX8_isRow_12 : decode cX8_isRow 12 = .ok (.invokestatic 195, 3) := dk_184 0 195 (dk_at dksX8_isRow_0 12 rfl rfl)
theorem dX8_isRow_15 : decode cX8_isRow 15 = .ok (.if_icmp .eq 21, 3) := dk_159 0 21 (dk_at dksX8_isRow_0 15 rfl rfl)
theorem dX8_isRow_18 : decode cX8_isRow 18 = .ok (.iload_n 0, 1) := dk_26 (dk_at dksX8_isRow_0 18 rfl rfl)
theorem dX8_isRow_19 : decode cX8_isRow 19 = .ok (.ldc 204, 2) := dk_18 204 (dk_at dksX8_isRow_0 19 rfl rfl)
theorem dX8_isRow_21 : decode cX8_isRow 21 = .ok (.invokestatic 195, 3) := dk_184 0 195 (dk_at dksX8_isRow_0 21 rfl rfl)
theorem dX8_isRow_24 : decode cX8_isRow 24 = .ok (.if_icmp .eq 12, 3) := dk_159 0 12 (dk_at dksX8_isRow_1 0 rfl rfl)
theorem dX8_isRow_27 : decode cX8_isRow 27 = .ok (.iload_n 0, 1) := dk_26 (dk_at dksX8_isRow_1 3 rfl rfl)
theorem dX8_isRow_28 : decode cX8_isRow 28 = .ok (.ldc 206, 2) := dk_18 206 (dk_at dksX8_isRow_1 4 rfl rfl)
theorem dX8_isRow_30 : decode cX8_isRow 30 = .ok (.invokestatic 195, 3) := dk_184 0 195 (dk_at dksX8_isRow_1 6 rfl rfl)
theorem dX8_isRow_33 : decode cX8_isRow 33 = .ok (.if_icmp .ne 7, 3) := dk_160 0 7 (dk_at dksX8_isRow_1 9 rfl rfl)
theorem dX8_isRow_36 : decode cX8_isRow 36 = .ok (.iconst 1, 1) := dk_4 (dk_at dksX8_isRow_1 12 rfl rfl)
theorem dX8_isRow_37 : decode cX8_isRow 37 = .ok (.goto 4, 3) := dk_167 0 4 (dk_at dksX8_isRow_1 13 rfl rfl)
theorem dX8_isRow_40 : decode cX8_isRow 40 = .ok (.iconst 0, 1) := dk_3 (dk_at dksX8_isRow_1 16 rfl rfl)
theorem dX8_isRow_41 : decode cX8_isRow 41 = .ok (.ireturn, 1) := dk_172 (dk_at dksX8_isRow_1 17 rfl rfl)
abbrev cX8_of : ByteArray := prog_26_method_12_code
def yX8_of : MethodName := ⟨RX8, "of", "(Ljava/lang/String;)I"⟩
def dkwX8_of_1 : List UInt8 := [60, 132, 2, 1, 167, 255, 232, 27, 172]
abbrev dktX8_of_1 : List UInt8 := dkwX8_of_1 ++ []
def dkwX8_of_0 : List UInt8 := [3, 60, 3, 61, 28, 42, 182, 0, 134, 162, 0, 22, 27, 8, 120, 42, 28, 182, 0, 139, 16, 96, 100, 128]
abbrev dktX8_of_0 : List UInt8 := dkwX8_of_0 ++ dktX8_of_1
theorem dksX8_of_0 : cX8_of.data.toList.drop 0 = dktX8_of_0 := by decide +kernel
theorem dksX8_of_1 : cX8_of.data.toList.drop 24 = dktX8_of_1 := dk_seg dksX8_of_0 24 rfl rfl
theorem dX8_of_0 : decode cX8_of 0 = .ok (.iconst 0, 1) := dk_3 (dk_at dksX8_of_0 0 rfl rfl)
theorem dX8_of_1 : decode cX8_of 1 = .ok (.istore_n 1, 1) := dk_60 (dk_at dksX8_of_0 1 rfl rfl)
theorem dX8_of_2 : decode cX8_of 2 = .ok (.iconst 0, 1) := dk_3 (dk_at dksX8_of_0 2 rfl rfl)
theorem dX8_of_3 : decode cX8_of 3 = .ok (.istore_n 2, 1) := dk_61 (dk_at dksX8_of_0 3 rfl rfl)
theorem dX8_of_4 : decode cX8_of 4 = .ok (.iload_n 2, 1) := dk_28 (dk_at dksX8_of_0 4 rfl rfl)
theorem dX8_of_5 : decode cX8_of 5 = .ok (.aload_n 0, 1) := dk_42 (dk_at dksX8_of_0 5 rfl rfl)
theorem dX8_of_6 : decode cX8_of 6 = .ok (.invokevirtual 134, 3) := dk_182 0 134 (dk_at dksX8_of_0 6 rfl rfl)
theorem dX8_of_9 : decode cX8_of 9 = .ok (.if_icmp .ge 22, 3) := dk_162 0 22 (dk_at dksX8_of_0 9 rfl rfl)
theorem dX8_of_12 : decode cX8_of 12 = .ok (.iload_n 1, 1) := dk_27 (dk_at dksX8_of_0 12 rfl rfl)
theorem dX8_of_13 : decode cX8_of 13 = .ok (.iconst 5, 1) := dk_8 (dk_at dksX8_of_0 13 rfl rfl)
theorem dX8_of_14 : decode cX8_of 14 = .ok (.ishl, 1) := dk_120 (dk_at dksX8_of_0 14 rfl rfl)
theorem dX8_of_15 : decode cX8_of 15 = .ok (.aload_n 0, 1) := dk_42 (dk_at dksX8_of_0 15 rfl rfl)
theorem dX8_of_16 : decode cX8_of 16 = .ok (.iload_n 2, 1) := dk_28 (dk_at dksX8_of_0 16 rfl rfl)
theorem dX8_of_17 : decode cX8_of 17 = .ok (.invokevirtual 139, 3) := dk_182 0 139 (dk_at dksX8_of_0 17 rfl rfl)
theorem dX8_of_20 : decode cX8_of 20 = .ok (.bipush 96, 2) := dk_16 96 (dk_at dksX8_of_0 20 rfl rfl)
theorem dX8_of_22 : decode cX8_of 22 = .ok (.isub, 1) := dk_100 (dk_at dksX8_of_0 22 rfl rfl)
theorem dX8_of_23 : decode cX8_of 23 = .ok (.ior, 1) := dk_128 (dk_at dksX8_of_0 23 rfl rfl)
theorem dX8_of_24 : decode cX8_of 24 = .ok (.istore_n 1, 1) := dk_60 (dk_at dksX8_of_1 0 rfl rfl)
theorem dX8_of_25 : decode cX8_of 25 = .ok (.iinc 2 1, 3) := dk_132 2 1 (dk_at dksX8_of_1 1 rfl rfl)
theorem dX8_of_28 : decode cX8_of 28 = .ok (.goto (-24), 3) := dk_167 255 232 (dk_at dksX8_of_1 4 rfl rfl)
theorem dX8_of_31 : decode cX8_of 31 = .ok (.iload_n 1, 1) := dk_27 (dk_at dksX8_of_1 7 rfl rfl)
theorem dX8_of_32 : decode cX8_of 32 = .ok (.ireturn, 1) := dk_172 (dk_at dksX8_of_1 8 rfl rfl)
abbrev cX8_wrong : ByteArray := prog_26_method_7_code
def yX8_wrong : MethodName := ⟨RX8, "wrong", "(II)V"⟩
def dkwX8_wrong_0 : List UInt8 := [42, 180, 0, 114, 2, 159, 0, 4, 177, 42, 28, 181, 0, 114, 42, 27, 181, 0, 117, 177]
abbrev dktX8_wrong_0 : List UInt8 := dkwX8_wrong_0 ++ []
theorem dksX8_wrong_0 : cX8_wrong.data.toList.drop 0 = dktX8_wrong_0 := by decide +kernel
theorem dX8_wrong_0 : decode cX8_wrong 0 = .ok (.aload_n 0, 1) := dk_42 (dk_at dksX8_wrong_0 0 rfl rfl)
theorem dX8_wrong_1 : decode cX8_wrong 1 = .ok (.getfield 114, 3) := dk_180 0 114 (dk_at dksX8_wrong_0 1 rfl rfl)
theorem dX8_wrong_4 : decode cX8_wrong 4 = .ok (.iconst (-1), 1) := dk_2 (dk_at dksX8_wrong_0 4 rfl rfl)
theorem dX8_wrong_5 : decode cX8_wrong 5 = .ok (.if_icmp .eq 4, 3) := dk_159 0 4 (dk_at dksX8_wrong_0 5 rfl rfl)
theorem dX8_wrong_8 : decode cX8_wrong 8 = .ok (.return_, 1) := dk_177 (dk_at dksX8_wrong_0 8 rfl rfl)
theorem dX8_wrong_9 : decode cX8_wrong 9 = .ok (.aload_n 0, 1) := dk_42 (dk_at dksX8_wrong_0 9 rfl rfl)
theorem dX8_wrong_10 : decode cX8_wrong 10 = .ok (.iload_n 2, 1) := dk_28 (dk_at dksX8_wrong_0 10 rfl rfl)
theorem dX8_wrong_11 : decode cX8_wrong 11 = .ok (.putfield 114, 3) := dk_181 0 114 (dk_at dksX8_wrong_0 11 rfl rfl)
theorem dX8_wrong_14 : decode cX8_wrong 14 = .ok (.aload_n 0, 1) := dk_42 (dk_at dksX8_wrong_0 14 rfl rfl)
theorem dX8_wrong_15 : decode cX8_wrong 15 = .ok (.iload_n 1, 1) := dk_27 (dk_at dksX8_wrong_0 15 rfl rfl)
theorem dX8_wrong_16 : decode cX8_wrong 16 = .ok (.putfield 117, 3) := dk_181 0 117 (dk_at dksX8_wrong_0 16 rfl rfl)
theorem dX8_wrong_19 : decode cX8_wrong 19 = .ok (.return_, 1) := dk_177 (dk_at dksX8_wrong_0 19 rfl rfl)
abbrev cX8_pass : ByteArray := prog_26_method_13_code
def yX8_pass : MethodName := ⟨RX8, "pass", "()V"⟩
def dkwX8_pass_1 : List UInt8 := [153, 0, 16, 42, 89, 180, 0, 120, 4, 96, 181, 0, 120, 167, 255, 220, 177]
abbrev dktX8_pass_1 : List UInt8 := dkwX8_pass_1 ++ []
def dkwX8_pass_0 : List UInt8 := [42, 180, 0, 120, 42, 180, 0, 123, 162, 0, 31, 42, 180, 0, 20, 42, 180, 0, 120, 46, 184, 0, 130]
abbrev dktX8_pass_0 : List UInt8 := dkwX8_pass_0 ++ dktX8_pass_1
theorem dksX8_pass_0 : cX8_pass.data.toList.drop 0 = dktX8_pass_0 := by decide +kernel
theorem dksX8_pass_1 : cX8_pass.data.toList.drop 23 = dktX8_pass_1 := dk_seg dksX8_pass_0 23 rfl rfl
theorem dX8_pass_0 : decode cX8_pass 0 = .ok (.aload_n 0, 1) := dk_42 (dk_at dksX8_pass_0 0 rfl rfl)
theorem dX8_pass_1 : decode cX8_pass 1 = .ok (.getfield 120, 3) := dk_180 0 120 (dk_at dksX8_pass_0 1 rfl rfl)
theorem dX8_pass_4 : decode cX8_pass 4 = .ok (.aload_n 0, 1) := dk_42 (dk_at dksX8_pass_0 4 rfl rfl)
theorem dX8_pass_5 : decode cX8_pass 5 = .ok (.getfield 123, 3) := dk_180 0 123 (dk_at dksX8_pass_0 5 rfl rfl)
theorem dX8_pass_8 : decode cX8_pass 8 = .ok (.if_icmp .ge 31, 3) := dk_162 0 31 (dk_at dksX8_pass_0 8 rfl rfl)
theorem dX8_pass_11 : decode cX8_pass 11 = .ok (.aload_n 0, 1) := dk_42 (dk_at dksX8_pass_0 11 rfl rfl)
theorem dX8_pass_12 : decode cX8_pass 12 = .ok (.getfield 20, 3) := dk_180 0 20 (dk_at dksX8_pass_0 12 rfl rfl)
theorem dX8_pass_15 : decode cX8_pass 15 = .ok (.aload_n 0, 1) := dk_42 (dk_at dksX8_pass_0 15 rfl rfl)
theorem dX8_pass_16 : decode cX8_pass 16 = .ok (.getfield 120, 3) := dk_180 0 120 (dk_at dksX8_pass_0 16 rfl rfl)
theorem dX8_pass_19 : decode cX8_pass 19 = .ok (.iaload, 1) := dk_46 (dk_at dksX8_pass_0 19 rfl rfl)
theorem dX8_pass_20 : decode cX8_pass 20 = .ok (.invokestatic 130, 3) := dk_184 0 130 (dk_at dksX8_pass_0 20 rfl rfl)
theorem dX8_pass_23 : decode cX8_pass 23 = .ok (.ifCond .eq 16, 3) := dk_153 0 16 (dk_at dksX8_pass_1 0 rfl rfl)
theorem dX8_pass_26 : decode cX8_pass 26 = .ok (.aload_n 0, 1) := dk_42 (dk_at dksX8_pass_1 3 rfl rfl)
theorem dX8_pass_27 : decode cX8_pass 27 = .ok (.dup, 1) := dk_89 (dk_at dksX8_pass_1 4 rfl rfl)
theorem dX8_pass_28 : decode cX8_pass 28 = .ok (.getfield 120, 3) := dk_180 0 120 (dk_at dksX8_pass_1 5 rfl rfl)
theorem dX8_pass_31 : decode cX8_pass 31 = .ok (.iconst 1, 1) := dk_4 (dk_at dksX8_pass_1 8 rfl rfl)
theorem dX8_pass_32 : decode cX8_pass 32 = .ok (.iadd, 1) := dk_96 (dk_at dksX8_pass_1 9 rfl rfl)
theorem dX8_pass_33 : decode cX8_pass 33 = .ok (.putfield 120, 3) := dk_181 0 120 (dk_at dksX8_pass_1 10 rfl rfl)
theorem dX8_pass_36 : decode cX8_pass 36 = .ok (.goto (-36), 3) := dk_167 255 220 (dk_at dksX8_pass_1 13 rfl rfl)
theorem dX8_pass_39 : decode cX8_pass 39 = .ok (.return_, 1) := dk_177 (dk_at dksX8_pass_1 16 rfl rfl)
abbrev cX8_readKinsman : ByteArray := prog_26_method_24_code
def yX8_readKinsman : MethodName := ⟨RX8, "readKinsman", "()V"⟩
def dkwX8_readKinsman_1 : List UInt8 := [182, 0, 143, 153, 0, 14, 42, 180, 0, 23, 7, 27, 104, 6, 96, 28, 79, 177]
abbrev dktX8_readKinsman_1 : List UInt8 := dkwX8_readKinsman_1 ++ []
def dkwX8_readKinsman_0 : List UInt8 := [42, 3, 42, 180, 0, 157, 4, 100, 182, 0, 199, 60, 42, 3, 17, 3, 231, 182, 0, 199, 61, 42]
abbrev dktX8_readKinsman_0 : List UInt8 := dkwX8_readKinsman_0 ++ dktX8_readKinsman_1
theorem dksX8_readKinsman_0 : cX8_readKinsman.data.toList.drop 0 = dktX8_readKinsman_0 := by decide +kernel
theorem dksX8_readKinsman_1 : cX8_readKinsman.data.toList.drop 22 = dktX8_readKinsman_1 := dk_seg dksX8_readKinsman_0 22 rfl rfl
theorem dX8_readKinsman_0 : decode cX8_readKinsman 0 = .ok (.aload_n 0, 1) := dk_42 (dk_at dksX8_readKinsman_0 0 rfl rfl)
theorem dX8_readKinsman_1 : decode cX8_readKinsman 1 = .ok (.iconst 0, 1) := dk_3 (dk_at dksX8_readKinsman_0 1 rfl rfl)
theorem dX8_readKinsman_2 : decode cX8_readKinsman 2 = .ok (.aload_n 0, 1) := dk_42 (dk_at dksX8_readKinsman_0 2 rfl rfl)
theorem dX8_readKinsman_3 : decode cX8_readKinsman 3 = .ok (.getfield 157, 3) := dk_180 0 157 (dk_at dksX8_readKinsman_0 3 rfl rfl)
theorem dX8_readKinsman_6 : decode cX8_readKinsman 6 = .ok (.iconst 1, 1) := dk_4 (dk_at dksX8_readKinsman_0 6 rfl rfl)
theorem dX8_readKinsman_7 : decode cX8_readKinsman 7 = .ok (.isub, 1) := dk_100 (dk_at dksX8_readKinsman_0 7 rfl rfl)
theorem dX8_readKinsman_8 : decode cX8_readKinsman 8 = .ok (.invokevirtual 199, 3) := dk_182 0 199 (dk_at dksX8_readKinsman_0 8 rfl rfl)
theorem dX8_readKinsman_11 : decode cX8_readKinsman 11 = .ok (.istore_n 1, 1) := dk_60 (dk_at dksX8_readKinsman_0 11 rfl rfl)
theorem dX8_readKinsman_12 : decode cX8_readKinsman 12 = .ok (.aload_n 0, 1) := dk_42 (dk_at dksX8_readKinsman_0 12 rfl rfl)
theorem dX8_readKinsman_13 : decode cX8_readKinsman 13 = .ok (.iconst 0, 1) := dk_3 (dk_at dksX8_readKinsman_0 13 rfl rfl)
theorem dX8_readKinsman_14 : decode cX8_readKinsman 14 = .ok (.sipush 999, 3) := dk_17 3 231 (dk_at dksX8_readKinsman_0 14 rfl rfl)
theorem dX8_readKinsman_17 : decode cX8_readKinsman 17 = .ok (.invokevirtual 199, 3) := dk_182 0 199 (dk_at dksX8_readKinsman_0 17 rfl rfl)
theorem dX8_readKinsman_20 : decode cX8_readKinsman 20 = .ok (.istore_n 2, 1) := dk_61 (dk_at dksX8_readKinsman_0 20 rfl rfl)
theorem dX8_readKinsman_21 : decode cX8_readKinsman 21 = .ok (.aload_n 0, 1) := dk_42 (dk_at dksX8_readKinsman_0 21 rfl rfl)
theorem dX8_readKinsman_22 : decode cX8_readKinsman 22 = .ok (.invokevirtual 143, 3) := dk_182 0 143 (dk_at dksX8_readKinsman_1 0 rfl rfl)
theorem dX8_readKinsman_25 : decode cX8_readKinsman 25 = .ok (.ifCond .eq 14, 3) := dk_153 0 14 (dk_at dksX8_readKinsman_1 3 rfl rfl)
theorem dX8_readKinsman_28 : decode cX8_readKinsman 28 = .ok (.aload_n 0, 1) := dk_42 (dk_at dksX8_readKinsman_1 6 rfl rfl)
theorem dX8_readKinsman_29 : decode cX8_readKinsman 29 = .ok (.getfield 23, 3) := dk_180 0 23 (dk_at dksX8_readKinsman_1 7 rfl rfl)
theorem dX8_readKinsman_32 : decode cX8_readKinsman 32 = .ok (.iconst 4, 1) := dk_7 (dk_at dksX8_readKinsman_1 10 rfl rfl)
theorem dX8_readKinsman_33 : decode cX8_readKinsman 33 = .ok (.iload_n 1, 1) := dk_27 (dk_at dksX8_readKinsman_1 11 rfl rfl)
theorem dX8_readKinsman_34 : decode cX8_readKinsman 34 = .ok (.imul, 1) := dk_104 (dk_at dksX8_readKinsman_1 12 rfl rfl)
theorem dX8_readKinsman_35 : decode cX8_readKinsman 35 = .ok (.iconst 3, 1) := dk_6 (dk_at dksX8_readKinsman_1 13 rfl rfl)
theorem dX8_readKinsman_36 : decode cX8_readKinsman 36 = .ok (.iadd, 1) := dk_96 (dk_at dksX8_readKinsman_1 14 rfl rfl)
theorem dX8_readKinsman_37 : decode cX8_readKinsman 37 = .ok (.iload_n 2, 1) := dk_28 (dk_at dksX8_readKinsman_1 15 rfl rfl)
theorem dX8_readKinsman_38 : decode cX8_readKinsman 38 = .ok (.iastore, 1) := dk_79 (dk_at dksX8_readKinsman_1 16 rfl rfl)
theorem dX8_readKinsman_39 : decode cX8_readKinsman 39 = .ok (.return_, 1) := dk_177 (dk_at dksX8_readKinsman_1 17 rfl rfl)
abbrev cX8_readNumber : ByteArray := prog_26_method_14_code
def yX8_readNumber : MethodName := ⟨RX8, "readNumber", "(II)I"⟩
def dkwX8_readNumber_5 : List UInt8 := [21, 5, 27, 161, 0, 9, 21, 5, 28, 164, 0, 12, 42, 5, 21, 4, 182, 0, 150, 3, 172, 21, 5, 172]
abbrev dktX8_readNumber_5 : List UInt8 := dkwX8_readNumber_5 ++ []
def dkwX8_readNumber_4 : List UInt8 := [180, 0, 120, 46, 96, 16, 48, 100, 54, 5, 42, 89, 180, 0, 120, 4, 96, 181, 0, 120, 167, 255, 186]
abbrev dktX8_readNumber_4 : List UInt8 := dkwX8_readNumber_4 ++ dktX8_readNumber_5
def dkwX8_readNumber_3 : List UInt8 := [17, 39, 15, 164, 0, 9, 17, 39, 16, 167, 0, 21, 16, 10, 21, 5, 104, 42, 180, 0, 20, 42]
abbrev dktX8_readNumber_3 : List UInt8 := dkwX8_readNumber_3 ++ dktX8_readNumber_4
def dkwX8_readNumber_2 : List UInt8 := [180, 0, 123, 162, 0, 65, 42, 180, 0, 20, 42, 180, 0, 120, 46, 184, 0, 147, 153, 0, 50, 21, 5]
abbrev dktX8_readNumber_2 : List UInt8 := dkwX8_readNumber_2 ++ dktX8_readNumber_3
def dkwX8_readNumber_1 : List UInt8 := [184, 0, 147, 154, 0, 14, 42, 4, 42, 180, 0, 120, 182, 0, 150, 3, 172, 42, 180, 0, 120, 42]
abbrev dktX8_readNumber_1 : List UInt8 := dkwX8_readNumber_1 ++ dktX8_readNumber_2
def dkwX8_readNumber_0 : List UInt8 := [42, 182, 0, 143, 154, 0, 5, 3, 172, 42, 182, 0, 126, 62, 42, 180, 0, 120, 54, 4, 3, 54, 5, 29]
abbrev dktX8_readNumber_0 : List UInt8 := dkwX8_readNumber_0 ++ dktX8_readNumber_1
theorem dksX8_readNumber_0 : cX8_readNumber.data.toList.drop 0 = dktX8_readNumber_0 := by decide +kernel
theorem dksX8_readNumber_1 : cX8_readNumber.data.toList.drop 24 = dktX8_readNumber_1 := dk_seg dksX8_readNumber_0 24 rfl rfl
theorem dksX8_readNumber_2 : cX8_readNumber.data.toList.drop 46 = dktX8_readNumber_2 := dk_seg dksX8_readNumber_1 22 rfl rfl
theorem dksX8_readNumber_3 : cX8_readNumber.data.toList.drop 69 = dktX8_readNumber_3 := dk_seg dksX8_readNumber_2 23 rfl rfl
theorem dksX8_readNumber_4 : cX8_readNumber.data.toList.drop 91 = dktX8_readNumber_4 := dk_seg dksX8_readNumber_3 22 rfl rfl
theorem dksX8_readNumber_5 : cX8_readNumber.data.toList.drop 114 = dktX8_readNumber_5 := dk_seg dksX8_readNumber_4 23 rfl rfl
theorem dX8_readNumber_0 : decode cX8_readNumber 0 = .ok (.aload_n 0, 1) := dk_42 (dk_at dksX8_readNumber_0 0 rfl rfl)
theorem dX8_readNumber_1 : decode cX8_readNumber 1 = .ok (.invokevirtual 143, 3) := dk_182 0 143 (dk_at dksX8_readNumber_0 1 rfl rfl)
theorem dX8_readNumber_4 : decode cX8_readNumber 4 = .ok (.ifCond .ne 5, 3) := dk_154 0 5 (dk_at dksX8_readNumber_0 4 rfl rfl)
theorem dX8_readNumber_7 : decode cX8_readNumber 7 = .ok (.iconst 0, 1) := dk_3 (dk_at dksX8_readNumber_0 7 rfl rfl)
theorem dX8_readNumber_8 : decode cX8_readNumber 8 = .ok (.ireturn, 1) := dk_172 (dk_at dksX8_readNumber_0 8 rfl rfl)
theorem dX8_readNumber_9 : decode cX8_readNumber 9 = .ok (.aload_n 0, 1) := dk_42 (dk_at dksX8_readNumber_0 9 rfl rfl)
theorem dX8_readNumber_10 : decode cX8_readNumber 10 = .ok (.invokevirtual 126, 3) := dk_182 0 126 (dk_at dksX8_readNumber_0 10 rfl rfl)
theorem dX8_readNumber_13 : decode cX8_readNumber 13 = .ok (.istore_n 3, 1) := dk_62 (dk_at dksX8_readNumber_0 13 rfl rfl)
theorem dX8_readNumber_14 : decode cX8_readNumber 14 = .ok (.aload_n 0, 1) := dk_42 (dk_at dksX8_readNumber_0 14 rfl rfl)
theorem dX8_readNumber_15 : decode cX8_readNumber 15 = .ok (.getfield 120, 3) := dk_180 0 120 (dk_at dksX8_readNumber_0 15 rfl rfl)
theorem dX8_readNumber_18 : decode cX8_readNumber 18 = .ok (.istore 4, 2) := dk_54 4 (dk_at dksX8_readNumber_0 18 rfl rfl)
theorem dX8_readNumber_20 : decode cX8_readNumber 20 = .ok (.iconst 0, 1) := dk_3 (dk_at dksX8_readNumber_0 20 rfl rfl)
theorem dX8_readNumber_21 : decode cX8_readNumber 21 = .ok (.istore 5, 2) := dk_54 5 (dk_at dksX8_readNumber_0 21 rfl rfl)
theorem dX8_readNumber_23 : decode cX8_readNumber 23 = .ok (.iload_n 3, 1) := dk_29 (dk_at dksX8_readNumber_0 23 rfl rfl)
theorem dX8_readNumber_24 : decode cX8_readNumber 24 = .ok (.invokestatic 147, 3) := dk_184 0 147 (dk_at dksX8_readNumber_1 0 rfl rfl)
theorem dX8_readNumber_27 : decode cX8_readNumber 27 = .ok (.ifCond .ne 14, 3) := dk_154 0 14 (dk_at dksX8_readNumber_1 3 rfl rfl)
theorem dX8_readNumber_30 : decode cX8_readNumber 30 = .ok (.aload_n 0, 1) := dk_42 (dk_at dksX8_readNumber_1 6 rfl rfl)
theorem dX8_readNumber_31 : decode cX8_readNumber 31 = .ok (.iconst 1, 1) := dk_4 (dk_at dksX8_readNumber_1 7 rfl rfl)
theorem dX8_readNumber_32 : decode cX8_readNumber 32 = .ok (.aload_n 0, 1) := dk_42 (dk_at dksX8_readNumber_1 8 rfl rfl)
theorem dX8_readNumber_33 : decode cX8_readNumber 33 = .ok (.getfield 120, 3) := dk_180 0 120 (dk_at dksX8_readNumber_1 9 rfl rfl)
theorem dX8_readNumber_36 : decode cX8_readNumber 36 = .ok (.invokevirtual 150, 3) := dk_182 0 150 (dk_at dksX8_readNumber_1 12 rfl rfl)
theorem dX8_readNumber_39 : decode cX8_readNumber 39 = .ok (.iconst 0, 1) := dk_3 (dk_at dksX8_readNumber_1 15 rfl rfl)
theorem dX8_readNumber_40 : decode cX8_readNumber 40 = .ok (.ireturn, 1) := dk_172 (dk_at dksX8_readNumber_1 16 rfl rfl)
theorem dX8_readNumber_41 : decode cX8_readNumber 41 = .ok (.aload_n 0, 1) := dk_42 (dk_at dksX8_readNumber_1 17 rfl rfl)
theorem dX8_readNumber_42 : decode cX8_readNumber 42 = .ok (.getfield 120, 3) := dk_180 0 120 (dk_at dksX8_readNumber_1 18 rfl rfl)
theorem dX8_readNumber_45 : decode cX8_readNumber 45 = .ok (.aload_n 0, 1) := dk_42 (dk_at dksX8_readNumber_1 21 rfl rfl)
theorem dX8_readNumber_46 : decode cX8_readNumber 46 = .ok (.getfield 123, 3) := dk_180 0 123 (dk_at dksX8_readNumber_2 0 rfl rfl)
theorem dX8_readNumber_49 : decode cX8_readNumber 49 = .ok (.if_icmp .ge 65, 3) := dk_162 0 65 (dk_at dksX8_readNumber_2 3 rfl rfl)
theorem dX8_readNumber_52 : decode cX8_readNumber 52 = .ok (.aload_n 0, 1) := dk_42 (dk_at dksX8_readNumber_2 6 rfl rfl)
theorem dX8_readNumber_53 : decode cX8_readNumber 53 = .ok (.getfield 20, 3) := dk_180 0 20 (dk_at dksX8_readNumber_2 7 rfl rfl)
theorem dX8_readNumber_56 : decode cX8_readNumber 56 = .ok (.aload_n 0, 1) := dk_42 (dk_at dksX8_readNumber_2 10 rfl rfl)
theorem dX8_readNumber_57 : decode cX8_readNumber 57 = .ok (.getfield 120, 3) := dk_180 0 120 (dk_at dksX8_readNumber_2 11 rfl rfl)
theorem dX8_readNumber_60 : decode cX8_readNumber 60 = .ok (.iaload, 1) := dk_46 (dk_at dksX8_readNumber_2 14 rfl rfl)
theorem dX8_readNumber_61 : decode cX8_readNumber 61 = .ok (.invokestatic 147, 3) := dk_184 0 147 (dk_at dksX8_readNumber_2 15 rfl rfl)
theorem dX8_readNumber_64 : decode cX8_readNumber 64 = .ok (.ifCond .eq 50, 3) := dk_153 0 50 (dk_at dksX8_readNumber_2 18 rfl rfl)
theorem dX8_readNumber_67 : decode cX8_readNumber 67 = .ok (.iload 5, 2) := dk_21 5 (dk_at dksX8_readNumber_2 21 rfl rfl)
theorem dX8_readNumber_69 : decode cX8_readNumber 69 = .ok (.sipush 9999, 3) := dk_17 39 15 (dk_at dksX8_readNumber_3 0 rfl rfl)
theorem dX8_readNumber_72 : decode cX8_readNumber 72 = .ok (.if_icmp .le 9, 3) := dk_164 0 9 (dk_at dksX8_readNumber_3 3 rfl rfl)
theorem dX8_readNumber_75 : decode cX8_readNumber 75 = .ok (.sipush 10000, 3) := dk_17 39 16 (dk_at dksX8_readNumber_3 6 rfl rfl)
theorem dX8_readNumber_78 : decode cX8_readNumber 78 = .ok (.goto 21, 3) := dk_167 0 21 (dk_at dksX8_readNumber_3 9 rfl rfl)
theorem dX8_readNumber_81 : decode cX8_readNumber 81 = .ok (.bipush 10, 2) := dk_16 10 (dk_at dksX8_readNumber_3 12 rfl rfl)
theorem dX8_readNumber_83 : decode cX8_readNumber 83 = .ok (.iload 5, 2) := dk_21 5 (dk_at dksX8_readNumber_3 14 rfl rfl)
theorem dX8_readNumber_85 : decode cX8_readNumber 85 = .ok (.imul, 1) := dk_104 (dk_at dksX8_readNumber_3 16 rfl rfl)
theorem dX8_readNumber_86 : decode cX8_readNumber 86 = .ok (.aload_n 0, 1) := dk_42 (dk_at dksX8_readNumber_3 17 rfl rfl)
theorem dX8_readNumber_87 : decode cX8_readNumber 87 = .ok (.getfield 20, 3) := dk_180 0 20 (dk_at dksX8_readNumber_3 18 rfl rfl)
theorem dX8_readNumber_90 : decode cX8_readNumber 90 = .ok (.aload_n 0, 1) := dk_42 (dk_at dksX8_readNumber_3 21 rfl rfl)
theorem dX8_readNumber_91 : decode cX8_readNumber 91 = .ok (.getfield 120, 3) := dk_180 0 120 (dk_at dksX8_readNumber_4 0 rfl rfl)
theorem dX8_readNumber_94 : decode cX8_readNumber 94 = .ok (.iaload, 1) := dk_46 (dk_at dksX8_readNumber_4 3 rfl rfl)
theorem dX8_readNumber_95 : decode cX8_readNumber 95 = .ok (.iadd, 1) := dk_96 (dk_at dksX8_readNumber_4 4 rfl rfl)
theorem dX8_readNumber_96 : decode cX8_readNumber 96 = .ok (.bipush 48, 2) := dk_16 48 (dk_at dksX8_readNumber_4 5 rfl rfl)
theorem dX8_readNumber_98 : decode cX8_readNumber 98 = .ok (.isub, 1) := dk_100 (dk_at dksX8_readNumber_4 7 rfl rfl)
theorem dX8_readNumber_99 : decode cX8_readNumber 99 = .ok (.istore 5, 2) := dk_54 5 (dk_at dksX8_readNumber_4 8 rfl rfl)
theorem dX8_readNumber_101 : decode cX8_readNumber 101 = .ok (.aload_n 0, 1) := dk_42 (dk_at dksX8_readNumber_4 10 rfl rfl)
theorem dX8_readNumber_102 : decode cX8_readNumber 102 = .ok (.dup, 1) := dk_89 (dk_at dksX8_readNumber_4 11 rfl rfl)
theorem dX8_readNumber_103 : decode cX8_readNumber 103 = .ok (.getfield 120, 3) := dk_180 0 120 (dk_at dksX8_readNumber_4 12 rfl rfl)
theorem dX8_readNumber_106 : decode cX8_readNumber 106 = .ok (.iconst 1, 1) := dk_4 (dk_at dksX8_readNumber_4 15 rfl rfl)
theorem dX8_readNumber_107 : decode cX8_readNumber 107 = .ok (.iadd, 1) := dk_96 (dk_at dksX8_readNumber_4 16 rfl rfl)
theorem dX8_readNumber_108 : decode cX8_readNumber 108 = .ok (.putfield 120, 3) := dk_181 0 120 (dk_at dksX8_readNumber_4 17 rfl rfl)
theorem dX8_readNumber_111 : decode cX8_readNumber 111 = .ok (.goto (-70), 3) := dk_167 255 186 (dk_at dksX8_readNumber_4 20 rfl rfl)
theorem dX8_readNumber_114 : decode cX8_readNumber 114 = .ok (.iload 5, 2) := dk_21 5 (dk_at dksX8_readNumber_5 0 rfl rfl)
theorem dX8_readNumber_116 : decode cX8_readNumber 116 = .ok (.iload_n 1, 1) := dk_27 (dk_at dksX8_readNumber_5 2 rfl rfl)
theorem dX8_readNumber_117 : decode cX8_readNumber 117 = .ok (.if_icmp .lt 9, 3) := dk_161 0 9 (dk_at dksX8_readNumber_5 3 rfl rfl)
theorem dX8_readNumber_120 : decode cX8_readNumber 120 = .ok (.iload 5, 2) := dk_21 5 (dk_at dksX8_readNumber_5 6 rfl rfl)
theorem dX8_readNumber_122 : decode cX8_readNumber 122 = .ok (.iload_n 2, 1) := dk_28 (dk_at dksX8_readNumber_5 8 rfl rfl)
theorem dX8_readNumber_123 : decode cX8_readNumber 123 = .ok (.if_icmp .le 12, 3) := dk_164 0 12 (dk_at dksX8_readNumber_5 9 rfl rfl)
theorem dX8_readNumber_126 : decode cX8_readNumber 126 = .ok (.aload_n 0, 1) := dk_42 (dk_at dksX8_readNumber_5 12 rfl rfl)
theorem dX8_readNumber_127 : decode cX8_readNumber 127 = .ok (.iconst 2, 1) := dk_5 (dk_at dksX8_readNumber_5 13 rfl rfl)
theorem dX8_readNumber_128 : decode cX8_readNumber 128 = .ok (.iload 4, 2) := dk_21 4 (dk_at dksX8_readNumber_5 14 rfl rfl)
theorem dX8_readNumber_130 : decode cX8_readNumber 130 = .ok (.invokevirtual 150, 3) := dk_182 0 150 (dk_at dksX8_readNumber_5 16 rfl rfl)
theorem dX8_readNumber_133 : decode cX8_readNumber 133 = .ok (.iconst 0, 1) := dk_3 (dk_at dksX8_readNumber_5 19 rfl rfl)
theorem dX8_readNumber_134 : decode cX8_readNumber 134 = .ok (.ireturn, 1) := dk_172 (dk_at dksX8_readNumber_5 20 rfl rfl)
theorem dX8_readNumber_135 : decode cX8_readNumber 135 = .ok (.iload 5, 2) := dk_21 5 (dk_at dksX8_readNumber_5 21 rfl rfl)
theorem dX8_readNumber_137 : decode cX8_readNumber 137 = .ok (.ireturn, 1) := dk_172 (dk_at dksX8_readNumber_5 23 rfl rfl)
abbrev cX8_isDigit : ByteArray := prog_26_method_10_code
def yX8_isDigit : MethodName := ⟨RX8, "isDigit", "(I)Z"⟩
def dkwX8_isDigit_0 : List UInt8 := [26, 16, 48, 161, 0, 13, 26, 16, 57, 163, 0, 7, 4, 167, 0, 4, 3, 172]
abbrev dktX8_isDigit_0 : List UInt8 := dkwX8_isDigit_0 ++ []
theorem dksX8_isDigit_0 : cX8_isDigit.data.toList.drop 0 = dktX8_isDigit_0 := by decide +kernel
theorem dX8_isDigit_0 : decode cX8_isDigit 0 = .ok (.iload_n 0, 1) := dk_26 (dk_at dksX8_isDigit_0 0 rfl rfl)
theorem dX8_isDigit_1 : decode cX8_isDigit 1 = .ok (.bipush 48, 2) := dk_16 48 (dk_at dksX8_isDigit_0 1 rfl rfl)
theorem dX8_isDigit_3 : decode cX8_isDigit 3 = .ok (.if_icmp .lt 13, 3) := dk_161 0 13 (dk_at dksX8_isDigit_0 3 rfl rfl)
theorem dX8_isDigit_6 : decode cX8_isDigit 6 = .ok (.iload_n 0, 1) := dk_26 (dk_at dksX8_isDigit_0 6 rfl rfl)
theorem dX8_isDigit_7 : decode cX8_isDigit 7 = .ok (.bipush 57, 2) := dk_16 57 (dk_at dksX8_isDigit_0 7 rfl rfl)
theorem dX8_isDigit_9 : decode cX8_isDigit 9 = .ok (.if_icmp .gt 7, 3) := dk_163 0 7 (dk_at dksX8_isDigit_0 9 rfl rfl)
theorem dX8_isDigit_12 : decode cX8_isDigit 12 = .ok (.iconst 1, 1) := dk_4 (dk_at dksX8_isDigit_0 12 rfl rfl)
theorem dX8_isDigit_13 : decode cX8_isDigit 13 = .ok (.goto 4, 3) := dk_167 0 4 (dk_at dksX8_isDigit_0 13 rfl rfl)
theorem dX8_isDigit_16 : decode cX8_isDigit 16 = .ok (.iconst 0, 1) := dk_3 (dk_at dksX8_isDigit_0 16 rfl rfl)
theorem dX8_isDigit_17 : decode cX8_isDigit 17 = .ok (.ireturn, 1) := dk_172 (dk_at dksX8_isDigit_0 17 rfl rfl)
abbrev cX8_readRow : ByteArray := prog_26_method_23_code
def yX8_readRow : MethodName := ⟨RX8, "readRow", "(I)V"⟩
def dkwX8_readRow_7 : List UInt8 := [17, 1, 144, 182, 0, 199, 181, 0, 163, 167, 0, 14, 42, 42, 3, 16, 20, 182, 0, 199, 181, 0, 166, 177]
abbrev dktX8_readRow_7 : List UInt8 := dkwX8_readRow_7 ++ []
def dkwX8_readRow_6 : List UInt8 := [180, 0, 160, 4, 96, 181, 0, 160, 167, 0, 38, 27, 18, 204, 184, 0, 195, 160, 0, 18, 42, 42, 3]
abbrev dktX8_readRow_6 : List UInt8 := dkwX8_readRow_6 ++ dktX8_readRow_7
def dkwX8_readRow_5 : List UInt8 := [42, 4, 16, 40, 182, 0, 199, 79, 42, 180, 0, 26, 28, 5, 96, 42, 4, 7, 182, 0, 199, 79, 42, 89]
abbrev dktX8_readRow_5 : List UInt8 := dkwX8_readRow_5 ++ dktX8_readRow_6
def dkwX8_readRow_4 : List UInt8 := [180, 0, 160, 104, 61, 42, 180, 0, 26, 28, 42, 3, 8, 182, 0, 199, 79, 42, 180, 0, 26, 28, 4, 96]
abbrev dktX8_readRow_4 : List UInt8 := dkwX8_readRow_4 ++ dktX8_readRow_5
def dkwX8_readRow_3 : List UInt8 := [180, 0, 157, 4, 96, 181, 0, 157, 167, 0, 108, 27, 18, 203, 184, 0, 195, 160, 0, 64, 6, 42]
abbrev dktX8_readRow_3 : List UInt8 := dkwX8_readRow_3 ++ dktX8_readRow_4
def dkwX8_readRow_2 : List UInt8 := [180, 0, 23, 28, 5, 96, 42, 3, 7, 182, 0, 199, 79, 42, 180, 0, 23, 28, 6, 96, 3, 79, 42, 89]
abbrev dktX8_readRow_2 : List UInt8 := dkwX8_readRow_2 ++ dktX8_readRow_3
def dkwX8_readRow_1 : List UInt8 := [4, 16, 9, 182, 0, 199, 79, 42, 180, 0, 23, 28, 4, 96, 42, 3, 8, 182, 0, 199, 79, 42]
abbrev dktX8_readRow_1 : List UInt8 := dkwX8_readRow_1 ++ dktX8_readRow_2
def dkwX8_readRow_0 : List UInt8 := [27, 18, 194, 184, 0, 195, 160, 0, 75, 7, 42, 180, 0, 157, 104, 61, 42, 180, 0, 23, 28, 3, 96, 42]
abbrev dktX8_readRow_0 : List UInt8 := dkwX8_readRow_0 ++ dktX8_readRow_1
theorem dksX8_readRow_0 : cX8_readRow.data.toList.drop 0 = dktX8_readRow_0 := by decide +kernel
theorem dksX8_readRow_1 : cX8_readRow.data.toList.drop 24 = dktX8_readRow_1 := dk_seg dksX8_readRow_0 24 rfl rfl
theorem dksX8_readRow_2 : cX8_readRow.data.toList.drop 46 = dktX8_readRow_2 := dk_seg dksX8_readRow_1 22 rfl rfl
theorem dksX8_readRow_3 : cX8_readRow.data.toList.drop 70 = dktX8_readRow_3 := dk_seg dksX8_readRow_2 24 rfl rfl
theorem dksX8_readRow_4 : cX8_readRow.data.toList.drop 92 = dktX8_readRow_4 := dk_seg dksX8_readRow_3 22 rfl rfl
theorem dksX8_readRow_5 : cX8_readRow.data.toList.drop 116 = dktX8_readRow_5 := dk_seg dksX8_readRow_4 24 rfl rfl
theorem dksX8_readRow_6 : cX8_readRow.data.toList.drop 140 = dktX8_readRow_6 := dk_seg dksX8_readRow_5 24 rfl rfl
theorem dksX8_readRow_7 : cX8_readRow.data.toList.drop 163 = dktX8_readRow_7 := dk_seg dksX8_readRow_6 23 rfl rfl
theorem dX8_readRow_0 : decode cX8_readRow 0 = .ok (.iload_n 1, 1) := dk_27 (dk_at dksX8_readRow_0 0 rfl rfl)
theorem dX8_readRow_1 : decode cX8_readRow 1 = .ok (.ldc 194, 2) := dk_18 194 (dk_at dksX8_readRow_0 1 rfl rfl)
theorem dX8_readRow_3 : decode cX8_readRow 3 = .ok (.invokestatic 195, 3) := dk_184 0 195 (dk_at dksX8_readRow_0 3 rfl rfl)
theorem dX8_readRow_6 : decode cX8_readRow 6 = .ok (.if_icmp .ne 75, 3) := dk_160 0 75 (dk_at dksX8_readRow_0 6 rfl rfl)
theorem dX8_readRow_9 : decode cX8_readRow 9 = .ok (.iconst 4, 1) := dk_7 (dk_at dksX8_readRow_0 9 rfl rfl)
theorem dX8_readRow_10 : decode cX8_readRow 10 = .ok (.aload_n 0, 1) := dk_42 (dk_at dksX8_readRow_0 10 rfl rfl)
theorem dX8_readRow_11 : decode cX8_readRow 11 = .ok (.getfield 157, 3) := dk_180 0 157 (dk_at dksX8_readRow_0 11 rfl rfl)
theorem dX8_readRow_14 : decode cX8_readRow 14 = .ok (.imul, 1) := dk_104 (dk_at dksX8_readRow_0 14 rfl rfl)
theorem dX8_readRow_15 : decode cX8_readRow 15 = .ok (.istore_n 2, 1) := dk_61 (dk_at dksX8_readRow_0 15 rfl rfl)
theorem dX8_readRow_16 : decode cX8_readRow 16 = .ok (.aload_n 0, 1) := dk_42 (dk_at dksX8_readRow_0 16 rfl rfl)
theorem dX8_readRow_17 : decode cX8_readRow 17 = .ok (.getfield 23, 3) := dk_180 0 23 (dk_at dksX8_readRow_0 17 rfl rfl)
theorem dX8_readRow_20 : decode cX8_readRow 20 = .ok (.iload_n 2, 1) := dk_28 (dk_at dksX8_readRow_0 20 rfl rfl)
theorem dX8_readRow_21 : decode cX8_readRow 21 = .ok (.iconst 0, 1) := dk_3 (dk_at dksX8_readRow_0 21 rfl rfl)
theorem dX8_readRow_22 : decode cX8_readRow 22 = .ok (.iadd, 1) := dk_96 (dk_at dksX8_readRow_0 22 rfl rfl)
theorem dX8_readRow_23 : decode cX8_readRow 23 = .ok (.aload_n 0, 1) := dk_42 (dk_at dksX8_readRow_0 23 rfl rfl)
theorem dX8_readRow_24 : decode cX8_readRow 24 = .ok (.iconst 1, 1) := dk_4 (dk_at dksX8_readRow_1 0 rfl rfl)
theorem dX8_readRow_25 : decode cX8_readRow 25 = .ok (.bipush 9, 2) := dk_16 9 (dk_at dksX8_readRow_1 1 rfl rfl)
theorem dX8_readRow_27 : decode cX8_readRow 27 = .ok (.invokevirtual 199, 3) := dk_182 0 199 (dk_at dksX8_readRow_1 3 rfl rfl)
theorem dX8_readRow_30 : decode cX8_readRow 30 = .ok (.iastore, 1) := dk_79 (dk_at dksX8_readRow_1 6 rfl rfl)
theorem dX8_readRow_31 : decode cX8_readRow 31 = .ok (.aload_n 0, 1) := dk_42 (dk_at dksX8_readRow_1 7 rfl rfl)
theorem dX8_readRow_32 : decode cX8_readRow 32 = .ok (.getfield 23, 3) := dk_180 0 23 (dk_at dksX8_readRow_1 8 rfl rfl)
theorem dX8_readRow_35 : decode cX8_readRow 35 = .ok (.iload_n 2, 1) := dk_28 (dk_at dksX8_readRow_1 11 rfl rfl)
theorem dX8_readRow_36 : decode cX8_readRow 36 = .ok (.iconst 1, 1) := dk_4 (dk_at dksX8_readRow_1 12 rfl rfl)
theorem dX8_readRow_37 : decode cX8_readRow 37 = .ok (.iadd, 1) := dk_96 (dk_at dksX8_readRow_1 13 rfl rfl)
theorem dX8_readRow_38 : decode cX8_readRow 38 = .ok (.aload_n 0, 1) := dk_42 (dk_at dksX8_readRow_1 14 rfl rfl)
theorem dX8_readRow_39 : decode cX8_readRow 39 = .ok (.iconst 0, 1) := dk_3 (dk_at dksX8_readRow_1 15 rfl rfl)
theorem dX8_readRow_40 : decode cX8_readRow 40 = .ok (.iconst 5, 1) := dk_8 (dk_at dksX8_readRow_1 16 rfl rfl)
theorem dX8_readRow_41 : decode cX8_readRow 41 = .ok (.invokevirtual 199, 3) := dk_182 0 199 (dk_at dksX8_readRow_1 17 rfl rfl)
theorem dX8_readRow_44 : decode cX8_readRow 44 = .ok (.iastore, 1) := dk_79 (dk_at dksX8_readRow_1 20 rfl rfl)
theorem dX8_readRow_45 : decode cX8_readRow 45 = .ok (.aload_n 0, 1) := dk_42 (dk_at dksX8_readRow_1 21 rfl rfl)
theorem dX8_readRow_46 : decode cX8_readRow 46 = .ok (.getfield 23, 3) := dk_180 0 23 (dk_at dksX8_readRow_2 0 rfl rfl)
theorem dX8_readRow_49 : decode cX8_readRow 49 = .ok (.iload_n 2, 1) := dk_28 (dk_at dksX8_readRow_2 3 rfl rfl)
theorem dX8_readRow_50 : decode cX8_readRow 50 = .ok (.iconst 2, 1) := dk_5 (dk_at dksX8_readRow_2 4 rfl rfl)
theorem dX8_readRow_51 : decode cX8_readRow 51 = .ok (.iadd, 1) := dk_96 (dk_at dksX8_readRow_2 5 rfl rfl)
theorem dX8_readRow_52 : decode cX8_readRow 52 = .ok (.aload_n 0, 1) := dk_42 (dk_at dksX8_readRow_2 6 rfl rfl)
theorem dX8_readRow_53 : decode cX8_readRow 53 = .ok (.iconst 0, 1) := dk_3 (dk_at dksX8_readRow_2 7 rfl rfl)
theorem dX8_readRow_54 : decode cX8_readRow 54 = .ok (.iconst 4, 1) := dk_7 (dk_at dksX8_readRow_2 8 rfl rfl)
theorem dX8_readRow_55 : decode cX8_readRow 55 = .ok (.invokevirtual 199, 3) := dk_182 0 199 (dk_at dksX8_readRow_2 9 rfl rfl)
theorem dX8_readRow_58 : decode cX8_readRow 58 = .ok (.iastore, 1) := dk_79 (dk_at dksX8_readRow_2 12 rfl rfl)
theorem dX8_readRow_59 : decode cX8_readRow 59 = .ok (.aload_n 0, 1) := dk_42 (dk_at dksX8_readRow_2 13 rfl rfl)
theorem dX8_readRow_60 : decode cX8_readRow 60 = .ok (.getfield 23, 3) := dk_180 0 23 (dk_at dksX8_readRow_2 14 rfl rfl)
theorem dX8_readRow_63 : decode cX8_readRow 63 = .ok (.iload_n 2, 1) := dk_28 (dk_at dksX8_readRow_2 17 rfl rfl)
theorem dX8_readRow_64 : decode cX8_readRow 64 = .ok (.iconst 3, 1) := dk_6 (dk_at dksX8_readRow_2 18 rfl rfl)
theorem dX8_readRow_65 : decode cX8_readRow 65 = .ok (.iadd, 1) := dk_96 (dk_at dksX8_readRow_2 19 rfl rfl)
theorem dX8_readRow_66 : decode cX8_readRow 66 = .ok (.iconst 0, 1) := dk_3 (dk_at dksX8_readRow_2 20 rfl rfl)
theorem dX8_readRow_67 : decode cX8_readRow 67 = .ok (.iastore, 1) := dk_79 (dk_at dksX8_readRow_2 21 rfl rfl)
theorem dX8_readRow_68 : decode cX8_readRow 68 = .ok (.aload_n 0, 1) := dk_42 (dk_at dksX8_readRow_2 22 rfl rfl)
theorem dX8_readRow_69 : decode cX8_readRow 69 = .ok (.dup, 1) := dk_89 (dk_at dksX8_readRow_2 23 rfl rfl)
theorem dX8_readRow_70 : decode cX8_readRow 70 = .ok (.getfield 157, 3) := dk_180 0 157 (dk_at dksX8_readRow_3 0 rfl rfl)
theorem dX8_readRow_73 : decode cX8_readRow 73 = .ok (.iconst 1, 1) := dk_4 (dk_at dksX8_readRow_3 3 rfl rfl)
theorem dX8_readRow_74 : decode cX8_readRow 74 = .ok (.iadd, 1) := dk_96 (dk_at dksX8_readRow_3 4 rfl rfl)
theorem dX8_readRow_75 : decode cX8_readRow 75 = .ok (.putfield 157, 3) := dk_181 0 157 (dk_at dksX8_readRow_3 5 rfl rfl)
theorem dX8_readRow_78 : decode cX8_readRow 78 = .ok (.goto 108, 3) := dk_167 0 108 (dk_at dksX8_readRow_3 8 rfl rfl)
theorem dX8_readRow_81 : decode cX8_readRow 81 = .ok (.iload_n 1, 1) := dk_27 (dk_at dksX8_readRow_3 11 rfl rfl)
theorem dX8_readRow_82 : decode cX8_readRow 82 = .ok (.ldc 203, 2) := dk_18 203 (dk_at dksX8_readRow_3 12 rfl rfl)
theorem dX8_readRow_84 : decode cX8_readRow 84 = .ok (.invokestatic 195, 3) := dk_184 0 195 (dk_at dksX8_readRow_3 14 rfl rfl)
theorem dX8_readRow_87 : decode cX8_readRow 87 = .ok (.if_icmp .ne 64, 3) := dk_160 0 64 (dk_at dksX8_readRow_3 17 rfl rfl)
theorem dX8_readRow_90 : decode cX8_readRow 90 = .ok (.iconst 3, 1) := dk_6 (dk_at dksX8_readRow_3 20 rfl rfl)
theorem dX8_readRow_91 : decode cX8_readRow 91 = .ok (.aload_n 0, 1) := dk_42 (dk_at dksX8_readRow_3 21 rfl rfl)
theorem dX8_readRow_92 : decode cX8_readRow 92 = .ok (.getfield 160, 3) := dk_180 0 160 (dk_at dksX8_readRow_4 0 rfl rfl)
theorem dX8_readRow_95 : decode cX8_readRow 95 = .ok (.imul, 1) := dk_104 (dk_at dksX8_readRow_4 3 rfl rfl)
theorem dX8_readRow_96 : decode cX8_readRow 96 = .ok (.istore_n 2, 1) := dk_61 (dk_at dksX8_readRow_4 4 rfl rfl)
theorem dX8_readRow_97 : decode cX8_readRow 97 = .ok (.aload_n 0, 1) := dk_42 (dk_at dksX8_readRow_4 5 rfl rfl)
theorem dX8_readRow_98 : decode cX8_readRow 98 = .ok (.getfield 26, 3) := dk_180 0 26 (dk_at dksX8_readRow_4 6 rfl rfl)
theorem dX8_readRow_101 : decode cX8_readRow 101 = .ok (.iload_n 2, 1) := dk_28 (dk_at dksX8_readRow_4 9 rfl rfl)
theorem dX8_readRow_102 : decode cX8_readRow 102 = .ok (.aload_n 0, 1) := dk_42 (dk_at dksX8_readRow_4 10 rfl rfl)
theorem dX8_readRow_103 : decode cX8_readRow 103 = .ok (.iconst 0, 1) := dk_3 (dk_at dksX8_readRow_4 11 rfl rfl)
theorem dX8_readRow_104 : decode cX8_readRow 104 = .ok (.iconst 5, 1) := dk_8 (dk_at dksX8_readRow_4 12 rfl rfl)
theorem dX8_readRow_105 : decode cX8_readRow 105 = .ok (.invokevirtual 199, 3) := dk_182 0 199 (dk_at dksX8_readRow_4 13 rfl rfl)
theorem dX8_readRow_108 : decode cX8_readRow 108 = .ok (.iastore, 1) := dk_79 (dk_at dksX8_readRow_4 16 rfl rfl)
theorem dX8_readRow_109 : decode cX8_readRow 109 = .ok (.aload_n 0, 1) := dk_42 (dk_at dksX8_readRow_4 17 rfl rfl)
theorem dX8_readRow_110 : decode cX8_readRow 110 = .ok (.getfield 26, 3) := dk_180 0 26 (dk_at dksX8_readRow_4 18 rfl rfl)
theorem dX8_readRow_113 : decode cX8_readRow 113 = .ok (.iload_n 2, 1) := dk_28 (dk_at dksX8_readRow_4 21 rfl rfl)
theorem dX8_readRow_114 : decode cX8_readRow 114 = .ok (.iconst 1, 1) := dk_4 (dk_at dksX8_readRow_4 22 rfl rfl)
theorem dX8_readRow_115 : decode cX8_readRow 115 = .ok (.iadd, 1) := dk_96 (dk_at dksX8_readRow_4 23 rfl rfl)
theorem dX8_readRow_116 : decode cX8_readRow 116 = .ok (.aload_n 0, 1) := dk_42 (dk_at dksX8_readRow_5 0 rfl rfl)
theorem dX8_readRow_117 : decode cX8_readRow 117 = .ok (.iconst 1, 1) := dk_4 (dk_at dksX8_readRow_5 1 rfl rfl)
theorem dX8_readRow_118 : decode cX8_readRow 118 = .ok (.bipush 40, 2) := dk_16 40 (dk_at dksX8_readRow_5 2 rfl rfl)
theorem dX8_readRow_120 : decode cX8_readRow 120 = .ok (.invokevirtual 199, 3) := dk_182 0 199 (dk_at dksX8_readRow_5 4 rfl rfl)
theorem dX8_readRow_123 : decode cX8_readRow 123 = .ok (.iastore, 1) := dk_79 (dk_at dksX8_readRow_5 7 rfl rfl)
theorem dX8_readRow_124 : decode cX8_readRow 124 = .ok (.aload_n 0, 1) := dk_42 (dk_at dksX8_readRow_5 8 rfl rfl)
theorem dX8_readRow_125 : decode cX8_readRow 125 = .ok (.getfield 26, 3) := dk_180 0 26 (dk_at dksX8_readRow_5 9 rfl rfl)
theorem dX8_readRow_128 : decode cX8_readRow 128 = .ok (.iload_n 2, 1) := dk_28 (dk_at dksX8_readRow_5 12 rfl rfl)
theorem dX8_readRow_129 : decode cX8_readRow 129 = .ok (.iconst 2, 1) := dk_5 (dk_at dksX8_readRow_5 13 rfl rfl)
theorem dX8_readRow_130 : decode cX8_readRow 130 = .ok (.iadd, 1) := dk_96 (dk_at dksX8_readRow_5 14 rfl rfl)
theorem dX8_readRow_131 : decode cX8_readRow 131 = .ok (.aload_n 0, 1) := dk_42 (dk_at dksX8_readRow_5 15 rfl rfl)
theorem dX8_readRow_132 : decode cX8_readRow 132 = .ok (.iconst 1, 1) := dk_4 (dk_at dksX8_readRow_5 16 rfl rfl)
theorem dX8_readRow_133 : decode cX8_readRow 133 = .ok (.iconst 4, 1) := dk_7 (dk_at dksX8_readRow_5 17 rfl rfl)
theorem dX8_readRow_134 : decode cX8_readRow 134 = .ok (.invokevirtual 199, 3) := dk_182 0 199 (dk_at dksX8_readRow_5 18 rfl rfl)
theorem dX8_readRow_137 : decode cX8_readRow 137 = .ok (.iastore, 1) := dk_79 (dk_at dksX8_readRow_5 21 rfl rfl)
theorem dX8_readRow_138 : decode cX8_readRow 138 = .ok (.aload_n 0, 1) := dk_42 (dk_at dksX8_readRow_5 22 rfl rfl)
theorem dX8_readRow_139 : decode cX8_readRow 139 = .ok (.dup, 1) := dk_89 (dk_at dksX8_readRow_5 23 rfl rfl)
theorem dX8_readRow_140 : decode cX8_readRow 140 = .ok (.getfield 160, 3) := dk_180 0 160 (dk_at dksX8_readRow_6 0 rfl rfl)
theorem dX8_readRow_143 : decode cX8_readRow 143 = .ok (.iconst 1, 1) := dk_4 (dk_at dksX8_readRow_6 3 rfl rfl)
theorem dX8_readRow_144 : decode cX8_readRow 144 = .ok (.iadd, 1) := dk_96 (dk_at dksX8_readRow_6 4 rfl rfl)
theorem dX8_readRow_145 : decode cX8_readRow 145 = .ok (.putfield 160, 3) := dk_181 0 160 (dk_at dksX8_readRow_6 5 rfl rfl)
theorem dX8_readRow_148 : decode cX8_readRow 148 = .ok (.goto 38, 3) := dk_167 0 38 (dk_at dksX8_readRow_6 8 rfl rfl)
theorem dX8_readRow_151 : decode cX8_readRow 151 = .ok (.iload_n 1, 1) := dk_27 (dk_at dksX8_readRow_6 11 rfl rfl)
theorem dX8_readRow_152 : decode cX8_readRow 152 = .ok (.ldc 204, 2) := dk_18 204 (dk_at dksX8_readRow_6 12 rfl rfl)
theorem dX8_readRow_154 : decode cX8_readRow 154 = .ok (.invokestatic 195, 3) := dk_184 0 195 (dk_at dksX8_readRow_6 14 rfl rfl)
theorem dX8_readRow_157 : decode cX8_readRow 157 = .ok (.if_icmp .ne 18, 3) := dk_160 0 18 (dk_at dksX8_readRow_6 17 rfl rfl)
theorem dX8_readRow_160 : decode cX8_readRow 160 = .ok (.aload_n 0, 1) := dk_42 (dk_at dksX8_readRow_6 20 rfl rfl)
theorem dX8_readRow_161 : decode cX8_readRow 161 = .ok (.aload_n 0, 1) := dk_42 (dk_at dksX8_readRow_6 21 rfl rfl)
theorem dX8_readRow_162 : decode cX8_readRow 162 = .ok (.iconst 0, 1) := dk_3 (dk_at dksX8_readRow_6 22 rfl rfl)
theorem dX8_readRow_163 : decode cX8_readRow 163 = .ok (.sipush 400, 3) := dk_17 1 144 (dk_at dksX8_readRow_7 0 rfl rfl)
theorem dX8_readRow_166 : decode cX8_readRow 166 = .ok (.invokevirtual 199, 3) := dk_182 0 199 (dk_at dksX8_readRow_7 3 rfl rfl)
theorem dX8_readRow_169 : decode cX8_readRow 169 = .ok (.putfield 163, 3) := dk_181 0 163 (dk_at dksX8_readRow_7 6 rfl rfl)
theorem dX8_readRow_172 : decode cX8_readRow 172 = .ok (.goto 14, 3) := dk_167 0 14 (dk_at dksX8_readRow_7 9 rfl rfl)
theorem dX8_readRow_175 : decode cX8_readRow 175 = .ok (.aload_n 0, 1) := dk_42 (dk_at dksX8_readRow_7 12 rfl rfl)
theorem dX8_readRow_176 : decode cX8_readRow 176 = .ok (.aload_n 0, 1) := dk_42 (dk_at dksX8_readRow_7 13 rfl rfl)
theorem dX8_readRow_177 : decode cX8_readRow 177 = .ok (.iconst 0, 1) := dk_3 (dk_at dksX8_readRow_7 14 rfl rfl)
theorem dX8_readRow_178 : decode cX8_readRow 178 = .ok (.bipush 20, 2) := dk_16 20 (dk_at dksX8_readRow_7 15 rfl rfl)
theorem dX8_readRow_180 : decode cX8_readRow 180 = .ok (.invokevirtual 199, 3) := dk_182 0 199 (dk_at dksX8_readRow_7 17 rfl rfl)
theorem dX8_readRow_183 : decode cX8_readRow 183 = .ok (.putfield 166, 3) := dk_181 0 166 (dk_at dksX8_readRow_7 20 rfl rfl)
theorem dX8_readRow_186 : decode cX8_readRow 186 = .ok (.return_, 1) := dk_177 (dk_at dksX8_readRow_7 23 rfl rfl)
abbrev cX8_sign : ByteArray := prog_26_method_15_code
def yX8_sign : MethodName := ⟨RX8, "sign", "(I)V"⟩
def dkwX8_sign_1 : List UInt8 := [42, 182, 0, 143, 153, 0, 13, 42, 89, 180, 0, 120, 4, 96, 181, 0, 120, 177]
abbrev dktX8_sign_1 : List UInt8 := dkwX8_sign_1 ++ []
def dkwX8_sign_0 : List UInt8 := [42, 182, 0, 143, 153, 0, 20, 42, 182, 0, 126, 27, 159, 0, 12, 42, 4, 42, 180, 0, 120, 182, 0, 150]
abbrev dktX8_sign_0 : List UInt8 := dkwX8_sign_0 ++ dktX8_sign_1
theorem dksX8_sign_0 : cX8_sign.data.toList.drop 0 = dktX8_sign_0 := by decide +kernel
theorem dksX8_sign_1 : cX8_sign.data.toList.drop 24 = dktX8_sign_1 := dk_seg dksX8_sign_0 24 rfl rfl
theorem dX8_sign_0 : decode cX8_sign 0 = .ok (.aload_n 0, 1) := dk_42 (dk_at dksX8_sign_0 0 rfl rfl)
theorem dX8_sign_1 : decode cX8_sign 1 = .ok (.invokevirtual 143, 3) := dk_182 0 143 (dk_at dksX8_sign_0 1 rfl rfl)
theorem dX8_sign_4 : decode cX8_sign 4 = .ok (.ifCond .eq 20, 3) := dk_153 0 20 (dk_at dksX8_sign_0 4 rfl rfl)
theorem dX8_sign_7 : decode cX8_sign 7 = .ok (.aload_n 0, 1) := dk_42 (dk_at dksX8_sign_0 7 rfl rfl)
theorem dX8_sign_8 : decode cX8_sign 8 = .ok (.invokevirtual 126, 3) := dk_182 0 126 (dk_at dksX8_sign_0 8 rfl rfl)
theorem dX8_sign_11 : decode cX8_sign 11 = .ok (.iload_n 1, 1) := dk_27 (dk_at dksX8_sign_0 11 rfl rfl)
theorem dX8_sign_12 : decode cX8_sign 12 = .ok (.if_icmp .eq 12, 3) := dk_159 0 12 (dk_at dksX8_sign_0 12 rfl rfl)
theorem dX8_sign_15 : decode cX8_sign 15 = .ok (.aload_n 0, 1) := dk_42 (dk_at dksX8_sign_0 15 rfl rfl)
theorem dX8_sign_16 : decode cX8_sign 16 = .ok (.iconst 1, 1) := dk_4 (dk_at dksX8_sign_0 16 rfl rfl)
theorem dX8_sign_17 : decode cX8_sign 17 = .ok (.aload_n 0, 1) := dk_42 (dk_at dksX8_sign_0 17 rfl rfl)
theorem dX8_sign_18 : decode cX8_sign 18 = .ok (.getfield 120, 3) := dk_180 0 120 (dk_at dksX8_sign_0 18 rfl rfl)
theorem dX8_sign_21 : decode cX8_sign 21 = .ok (.invokevirtual 150, 3) := dk_182 0 150 (dk_at dksX8_sign_0 21 rfl rfl)
theorem dX8_sign_24 : decode cX8_sign 24 = .ok (.aload_n 0, 1) := dk_42 (dk_at dksX8_sign_1 0 rfl rfl)
theorem dX8_sign_25 : decode cX8_sign 25 = .ok (.invokevirtual 143, 3) := dk_182 0 143 (dk_at dksX8_sign_1 1 rfl rfl)
theorem dX8_sign_28 : decode cX8_sign 28 = .ok (.ifCond .eq 13, 3) := dk_153 0 13 (dk_at dksX8_sign_1 4 rfl rfl)
theorem dX8_sign_31 : decode cX8_sign 31 = .ok (.aload_n 0, 1) := dk_42 (dk_at dksX8_sign_1 7 rfl rfl)
theorem dX8_sign_32 : decode cX8_sign 32 = .ok (.dup, 1) := dk_89 (dk_at dksX8_sign_1 8 rfl rfl)
theorem dX8_sign_33 : decode cX8_sign 33 = .ok (.getfield 120, 3) := dk_180 0 120 (dk_at dksX8_sign_1 9 rfl rfl)
theorem dX8_sign_36 : decode cX8_sign 36 = .ok (.iconst 1, 1) := dk_4 (dk_at dksX8_sign_1 12 rfl rfl)
theorem dX8_sign_37 : decode cX8_sign 37 = .ok (.iadd, 1) := dk_96 (dk_at dksX8_sign_1 13 rfl rfl)
theorem dX8_sign_38 : decode cX8_sign 38 = .ok (.putfield 120, 3) := dk_181 0 120 (dk_at dksX8_sign_1 14 rfl rfl)
theorem dX8_sign_41 : decode cX8_sign 41 = .ok (.return_, 1) := dk_177 (dk_at dksX8_sign_1 17 rfl rfl)
abbrev cX8_result : ByteArray := prog_26_method_18_code
def yX8_result : MethodName := ⟨RX8, "result", "(I)I"⟩
def dkwX8_result_1 : List UInt8 := [16, 10, 100, 172]
abbrev dktX8_result_1 : List UInt8 := dkwX8_result_1 ++ []
def dkwX8_result_0 : List UInt8 := [42, 42, 180, 0, 114, 181, 0, 17, 42, 182, 0, 143, 153, 0, 7, 27, 167, 0, 10, 42, 180, 0, 117]
abbrev dktX8_result_0 : List UInt8 := dkwX8_result_0 ++ dktX8_result_1
theorem dksX8_result_0 : cX8_result.data.toList.drop 0 = dktX8_result_0 := by decide +kernel
theorem dksX8_result_1 : cX8_result.data.toList.drop 23 = dktX8_result_1 := dk_seg dksX8_result_0 23 rfl rfl
theorem dX8_result_0 : decode cX8_result 0 = .ok (.aload_n 0, 1) := dk_42 (dk_at dksX8_result_0 0 rfl rfl)
theorem dX8_result_1 : decode cX8_result 1 = .ok (.aload_n 0, 1) := dk_42 (dk_at dksX8_result_0 1 rfl rfl)
theorem dX8_result_2 : decode cX8_result 2 = .ok (.getfield 114, 3) := dk_180 0 114 (dk_at dksX8_result_0 2 rfl rfl)
theorem dX8_result_5 : decode cX8_result 5 = .ok (.putfield 17, 3) := dk_181 0 17 (dk_at dksX8_result_0 5 rfl rfl)
theorem dX8_result_8 : decode cX8_result 8 = .ok (.aload_n 0, 1) := dk_42 (dk_at dksX8_result_0 8 rfl rfl)
theorem dX8_result_9 : decode cX8_result 9 = .ok (.invokevirtual 143, 3) := dk_182 0 143 (dk_at dksX8_result_0 9 rfl rfl)
theorem dX8_result_12 : decode cX8_result 12 = .ok (.ifCond .eq 7, 3) := dk_153 0 7 (dk_at dksX8_result_0 12 rfl rfl)
theorem dX8_result_15 : decode cX8_result 15 = .ok (.iload_n 1, 1) := dk_27 (dk_at dksX8_result_0 15 rfl rfl)
theorem dX8_result_16 : decode cX8_result 16 = .ok (.goto 10, 3) := dk_167 0 10 (dk_at dksX8_result_0 16 rfl rfl)
theorem dX8_result_19 : decode cX8_result 19 = .ok (.aload_n 0, 1) := dk_42 (dk_at dksX8_result_0 19 rfl rfl)
theorem dX8_result_20 : decode cX8_result 20 = .ok (.getfield 117, 3) := dk_180 0 117 (dk_at dksX8_result_0 20 rfl rfl)
theorem dX8_result_23 : decode cX8_result 23 = .ok (.bipush 10, 2) := dk_16 10 (dk_at dksX8_result_1 0 rfl rfl)
theorem dX8_result_25 : decode cX8_result 25 = .ok (.isub, 1) := dk_100 (dk_at dksX8_result_1 2 rfl rfl)
theorem dX8_result_26 : decode cX8_result 26 = .ok (.ireturn, 1) := dk_172 (dk_at dksX8_result_1 3 rfl rfl)
abbrev cX8_law : ByteArray := prog_26_method_35_code
def yX8_law : MethodName := ⟨RX8, "law", "(II)I"⟩
def dkwX8_law_7 : List UInt8 := [132, 4, 1, 167, 255, 204, 29, 172]
abbrev dktX8_law_7 : List UInt8 := dkwX8_law_7 ++ []
def dkwX8_law_6 : List UInt8 := [21, 4, 46, 79, 42, 180, 0, 44, 17, 0, 150, 27, 104, 21, 4, 96, 42, 180, 0, 38, 21, 4, 46, 79]
abbrev dktX8_law_6 : List UInt8 := dkwX8_law_6 ++ dktX8_law_7
def dkwX8_law_5 : List UInt8 := [42, 180, 0, 246, 162, 0, 49, 42, 180, 0, 41, 17, 0, 150, 27, 104, 21, 4, 96, 42, 180, 0, 35]
abbrev dktX8_law_5 : List UInt8 := dkwX8_law_5 ++ dktX8_law_6
def dkwX8_law_4 : List UInt8 := [180, 0, 114, 2, 159, 0, 5, 29, 172, 42, 180, 0, 47, 27, 42, 180, 0, 246, 79, 3, 54, 4, 21, 4]
abbrev dktX8_law_4 : List UInt8 := dkwX8_law_4 ++ dktX8_law_5
def dkwX8_law_3 : List UInt8 := [182, 0, 215, 153, 0, 12, 42, 4, 42, 180, 0, 120, 182, 0, 150, 42, 4, 182, 0, 242, 62, 42]
abbrev dktX8_law_3 : List UInt8 := dkwX8_law_3 ++ dktX8_law_4
def dkwX8_law_2 : List UInt8 := [172, 42, 28, 182, 0, 211, 42, 3, 181, 0, 246, 42, 182, 1, 5, 42, 182, 0, 143, 153, 0, 19, 42]
abbrev dktX8_law_2 : List UInt8 := dkwX8_law_2 ++ dktX8_law_3
def dkwX8_law_1 : List UInt8 := [163, 0, 14, 28, 17, 0, 150, 163, 0, 7, 4, 167, 0, 4, 3, 4, 4, 182, 0, 207, 154, 0, 5, 3]
abbrev dktX8_law_1 : List UInt8 := dkwX8_law_1 ++ dktX8_law_2
def dkwX8_law_0 : List UInt8 := [42, 3, 181, 0, 3, 42, 27, 3, 4, 184, 1, 34, 153, 0, 26, 28, 155, 0, 22, 28, 42, 180, 0, 111]
abbrev dktX8_law_0 : List UInt8 := dkwX8_law_0 ++ dktX8_law_1
theorem dksX8_law_0 : cX8_law.data.toList.drop 0 = dktX8_law_0 := by decide +kernel
theorem dksX8_law_1 : cX8_law.data.toList.drop 24 = dktX8_law_1 := dk_seg dksX8_law_0 24 rfl rfl
theorem dksX8_law_2 : cX8_law.data.toList.drop 48 = dktX8_law_2 := dk_seg dksX8_law_1 24 rfl rfl
theorem dksX8_law_3 : cX8_law.data.toList.drop 71 = dktX8_law_3 := dk_seg dksX8_law_2 23 rfl rfl
theorem dksX8_law_4 : cX8_law.data.toList.drop 93 = dktX8_law_4 := dk_seg dksX8_law_3 22 rfl rfl
theorem dksX8_law_5 : cX8_law.data.toList.drop 117 = dktX8_law_5 := dk_seg dksX8_law_4 24 rfl rfl
theorem dksX8_law_6 : cX8_law.data.toList.drop 140 = dktX8_law_6 := dk_seg dksX8_law_5 23 rfl rfl
theorem dksX8_law_7 : cX8_law.data.toList.drop 164 = dktX8_law_7 := dk_seg dksX8_law_6 24 rfl rfl
theorem dX8_law_0 : decode cX8_law 0 = .ok (.aload_n 0, 1) := dk_42 (dk_at dksX8_law_0 0 rfl rfl)
theorem dX8_law_1 : decode cX8_law 1 = .ok (.iconst 0, 1) := dk_3 (dk_at dksX8_law_0 1 rfl rfl)
theorem dX8_law_2 : decode cX8_law 2 = .ok (.putfield 3, 3) := dk_181 0 3 (dk_at dksX8_law_0 2 rfl rfl)
theorem dX8_law_5 : decode cX8_law 5 = .ok (.aload_n 0, 1) := dk_42 (dk_at dksX8_law_0 5 rfl rfl)
theorem dX8_law_6 : decode cX8_law 6 = .ok (.iload_n 1, 1) := dk_27 (dk_at dksX8_law_0 6 rfl rfl)
theorem dX8_law_7 : decode cX8_law 7 = .ok (.iconst 0, 1) := dk_3 (dk_at dksX8_law_0 7 rfl rfl)
theorem dX8_law_8 : decode cX8_law 8 = .ok (.iconst 1, 1) := dk_4 (dk_at dksX8_law_0 8 rfl rfl)
theorem dX8_law_9 : decode cX8_law 9 = .ok (.invokestatic 290, 3) := dk_184 1 34 (dk_at dksX8_law_0 9 rfl rfl)
theorem dX8_law_12 : decode cX8_law 12 = .ok (.ifCond .eq 26, 3) := dk_153 0 26 (dk_at dksX8_law_0 12 rfl rfl)
theorem dX8_law_15 : decode cX8_law 15 = .ok (.iload_n 2, 1) := dk_28 (dk_at dksX8_law_0 15 rfl rfl)
theorem dX8_law_16 : decode cX8_law 16 = .ok (.ifCond .lt 22, 3) := dk_155 0 22 (dk_at dksX8_law_0 16 rfl rfl)
theorem dX8_law_19 : decode cX8_law 19 = .ok (.iload_n 2, 1) := dk_28 (dk_at dksX8_law_0 19 rfl rfl)
theorem dX8_law_20 : decode cX8_law 20 = .ok (.aload_n 0, 1) := dk_42 (dk_at dksX8_law_0 20 rfl rfl)
theorem dX8_law_21 : decode cX8_law 21 = .ok (.getfield 111, 3) := dk_180 0 111 (dk_at dksX8_law_0 21 rfl rfl)
theorem dX8_law_24 : decode cX8_law 24 = .ok (.if_icmp .gt 14, 3) := dk_163 0 14 (dk_at dksX8_law_1 0 rfl rfl)
theorem dX8_law_27 : decode cX8_law 27 = .ok (.iload_n 2, 1) := dk_28 (dk_at dksX8_law_1 3 rfl rfl)
theorem dX8_law_28 : decode cX8_law 28 = .ok (.sipush 150, 3) := dk_17 0 150 (dk_at dksX8_law_1 4 rfl rfl)
theorem dX8_law_31 : decode cX8_law 31 = .ok (.if_icmp .gt 7, 3) := dk_163 0 7 (dk_at dksX8_law_1 7 rfl rfl)
theorem dX8_law_34 : decode cX8_law 34 = .ok (.iconst 1, 1) := dk_4 (dk_at dksX8_law_1 10 rfl rfl)
theorem dX8_law_35 : decode cX8_law 35 = .ok (.goto 4, 3) := dk_167 0 4 (dk_at dksX8_law_1 11 rfl rfl)
theorem dX8_law_38 : decode cX8_law 38 = .ok (.iconst 0, 1) := dk_3 (dk_at dksX8_law_1 14 rfl rfl)
theorem dX8_law_39 : decode cX8_law 39 = .ok (.iconst 1, 1) := dk_4 (dk_at dksX8_law_1 15 rfl rfl)
theorem dX8_law_40 : decode cX8_law 40 = .ok (.iconst 1, 1) := dk_4 (dk_at dksX8_law_1 16 rfl rfl)
theorem dX8_law_41 : decode cX8_law 41 = .ok (.invokevirtual 207, 3) := dk_182 0 207 (dk_at dksX8_law_1 17 rfl rfl)
theorem dX8_law_44 : decode cX8_law 44 = .ok (.ifCond .ne 5, 3) := dk_154 0 5 (dk_at dksX8_law_1 20 rfl rfl)
theorem dX8_law_47 : decode cX8_law 47 = .ok (.iconst 0, 1) := dk_3 (dk_at dksX8_law_1 23 rfl rfl)
theorem dX8_law_48 : decode cX8_law 48 = .ok (.ireturn, 1) := dk_172 (dk_at dksX8_law_2 0 rfl rfl)
theorem dX8_law_49 : decode cX8_law 49 = .ok (.aload_n 0, 1) := dk_42 (dk_at dksX8_law_2 1 rfl rfl)
theorem dX8_law_50 : decode cX8_law 50 = .ok (.iload_n 2, 1) := dk_28 (dk_at dksX8_law_2 2 rfl rfl)
theorem dX8_law_51 : decode cX8_law 51 = .ok (.invokevirtual 211, 3) := dk_182 0 211 (dk_at dksX8_law_2 3 rfl rfl)
theorem dX8_law_54 : decode cX8_law 54 = .ok (.aload_n 0, 1) := dk_42 (dk_at dksX8_law_2 6 rfl rfl)
theorem dX8_law_55 : decode cX8_law 55 = .ok (.iconst 0, 1) := dk_3 (dk_at dksX8_law_2 7 rfl rfl)
theorem dX8_law_56 : decode cX8_law 56 = .ok (.putfield 246, 3) := dk_181 0 246 (dk_at dksX8_law_2 8 rfl rfl)
theorem dX8_law_59 : decode cX8_law 59 = .ok (.aload_n 0, 1) := dk_42 (dk_at dksX8_law_2 11 rfl rfl)
theorem dX8_law_60 : decode cX8_law 60 = .ok (.invokevirtual 261, 3) := dk_182 1 5 (dk_at dksX8_law_2 12 rfl rfl)
theorem dX8_law_63 : decode cX8_law 63 = .ok (.aload_n 0, 1) := dk_42 (dk_at dksX8_law_2 15 rfl rfl)
theorem dX8_law_64 : decode cX8_law 64 = .ok (.invokevirtual 143, 3) := dk_182 0 143 (dk_at dksX8_law_2 16 rfl rfl)
theorem dX8_law_67 : decode cX8_law 67 = .ok (.ifCond .eq 19, 3) := dk_153 0 19 (dk_at dksX8_law_2 19 rfl rfl)
theorem dX8_law_70 : decode cX8_law 70 = .ok (.aload_n 0, 1) := dk_42 (dk_at dksX8_law_2 22 rfl rfl)
theorem dX8_law_71 : decode cX8_law 71 = .ok (.invokevirtual 215, 3) := dk_182 0 215 (dk_at dksX8_law_3 0 rfl rfl)
theorem dX8_law_74 : decode cX8_law 74 = .ok (.ifCond .eq 12, 3) := dk_153 0 12 (dk_at dksX8_law_3 3 rfl rfl)
theorem dX8_law_77 : decode cX8_law 77 = .ok (.aload_n 0, 1) := dk_42 (dk_at dksX8_law_3 6 rfl rfl)
theorem dX8_law_78 : decode cX8_law 78 = .ok (.iconst 1, 1) := dk_4 (dk_at dksX8_law_3 7 rfl rfl)
theorem dX8_law_79 : decode cX8_law 79 = .ok (.aload_n 0, 1) := dk_42 (dk_at dksX8_law_3 8 rfl rfl)
theorem dX8_law_80 : decode cX8_law 80 = .ok (.getfield 120, 3) := dk_180 0 120 (dk_at dksX8_law_3 9 rfl rfl)
theorem dX8_law_83 : decode cX8_law 83 = .ok (.invokevirtual 150, 3) := dk_182 0 150 (dk_at dksX8_law_3 12 rfl rfl)
theorem dX8_law_86 : decode cX8_law 86 = .ok (.aload_n 0, 1) := dk_42 (dk_at dksX8_law_3 15 rfl rfl)
theorem dX8_law_87 : decode cX8_law 87 = .ok (.iconst 1, 1) := dk_4 (dk_at dksX8_law_3 16 rfl rfl)
theorem dX8_law_88 : decode cX8_law 88 = .ok (.invokevirtual 242, 3) := dk_182 0 242 (dk_at dksX8_law_3 17 rfl rfl)
theorem dX8_law_91 : decode cX8_law 91 = .ok (.istore_n 3, 1) := dk_62 (dk_at dksX8_law_3 20 rfl rfl)
theorem dX8_law_92 : decode cX8_law 92 = .ok (.aload_n 0, 1) := dk_42 (dk_at dksX8_law_3 21 rfl rfl)
theorem dX8_law_93 : decode cX8_law 93 = .ok (.getfield 114, 3) := dk_180 0 114 (dk_at dksX8_law_4 0 rfl rfl)
theorem dX8_law_96 : decode cX8_law 96 = .ok (.iconst (-1), 1) := dk_2 (dk_at dksX8_law_4 3 rfl rfl)
theorem dX8_law_97 : decode cX8_law 97 = .ok (.if_icmp .eq 5, 3) := dk_159 0 5 (dk_at dksX8_law_4 4 rfl rfl)
theorem dX8_law_100 : decode cX8_law 100 = .ok (.iload_n 3, 1) := dk_29 (dk_at dksX8_law_4 7 rfl rfl)
theorem dX8_law_101 : decode cX8_law 101 = .ok (.ireturn, 1) := dk_172 (dk_at dksX8_law_4 8 rfl rfl)
theorem dX8_law_102 : decode cX8_law 102 = .ok (.aload_n 0, 1) := dk_42 (dk_at dksX8_law_4 9 rfl rfl)
theorem dX8_law_103 : decode cX8_law 103 = .ok (.getfield 47, 3) := dk_180 0 47 (dk_at dksX8_law_4 10 rfl rfl)
theorem dX8_law_106 : decode cX8_law 106 = .ok (.iload_n 1, 1) := dk_27 (dk_at dksX8_law_4 13 rfl rfl)
theorem dX8_law_107 : decode cX8_law 107 = .ok (.aload_n 0, 1) := dk_42 (dk_at dksX8_law_4 14 rfl rfl)
theorem dX8_law_108 : decode cX8_law 108 = .ok (.getfield 246, 3) := dk_180 0 246 (dk_at dksX8_law_4 15 rfl rfl)
theorem dX8_law_111 : decode cX8_law 111 = .ok (.iastore, 1) := dk_79 (dk_at dksX8_law_4 18 rfl rfl)
theorem dX8_law_112 : decode cX8_law 112 = .ok (.iconst 0, 1) := dk_3 (dk_at dksX8_law_4 19 rfl rfl)
theorem dX8_law_113 : decode cX8_law 113 = .ok (.istore 4, 2) := dk_54 4 (dk_at dksX8_law_4 20 rfl rfl)
theorem dX8_law_115 : decode cX8_law 115 = .ok (.iload 4, 2) := dk_21 4 (dk_at dksX8_law_4 22 rfl rfl)
theorem dX8_law_117 : decode cX8_law 117 = .ok (.aload_n 0, 1) := dk_42 (dk_at dksX8_law_5 0 rfl rfl)
theorem dX8_law_118 : decode cX8_law 118 = .ok (.getfield 246, 3) := dk_180 0 246 (dk_at dksX8_law_5 1 rfl rfl)
theorem dX8_law_121 : decode cX8_law 121 = .ok (.if_icmp .ge 49, 3) := dk_162 0 49 (dk_at dksX8_law_5 4 rfl rfl)
theorem dX8_law_124 : decode cX8_law 124 = .ok (.aload_n 0, 1) := dk_42 (dk_at dksX8_law_5 7 rfl rfl)
theorem dX8_law_125 : decode cX8_law 125 = .ok (.getfield 41, 3) := dk_180 0 41 (dk_at dksX8_law_5 8 rfl rfl)
theorem dX8_law_128 : decode cX8_law 128 = .ok (.sipush 150, 3) := dk_17 0 150 (dk_at dksX8_law_5 11 rfl rfl)
theorem dX8_law_131 : decode cX8_law 131 = .ok (.iload_n 1, 1) := dk_27 (dk_at dksX8_law_5 14 rfl rfl)
theorem dX8_law_132 : decode cX8_law 132 = .ok (.imul, 1) := dk_104 (dk_at dksX8_law_5 15 rfl rfl)
theorem dX8_law_133 : decode cX8_law 133 = .ok (.iload 4, 2) := dk_21 4 (dk_at dksX8_law_5 16 rfl rfl)
theorem dX8_law_135 : decode cX8_law 135 = .ok (.iadd, 1) := dk_96 (dk_at dksX8_law_5 18 rfl rfl)
theorem dX8_law_136 : decode cX8_law 136 = .ok (.aload_n 0, 1) := dk_42 (dk_at dksX8_law_5 19 rfl rfl)
theorem dX8_law_137 : decode cX8_law 137 = .ok (.getfield 35, 3) := dk_180 0 35 (dk_at dksX8_law_5 20 rfl rfl)
theorem dX8_law_140 : decode cX8_law 140 = .ok (.iload 4, 2) := dk_21 4 (dk_at dksX8_law_6 0 rfl rfl)
theorem dX8_law_142 : decode cX8_law 142 = .ok (.iaload, 1) := dk_46 (dk_at dksX8_law_6 2 rfl rfl)
theorem dX8_law_143 : decode cX8_law 143 = .ok (.iastore, 1) := dk_79 (dk_at dksX8_law_6 3 rfl rfl)
theorem dX8_law_144 : decode cX8_law 144 = .ok (.aload_n 0, 1) := dk_42 (dk_at dksX8_law_6 4 rfl rfl)
theorem dX8_law_145 : decode cX8_law 145 = .ok (.getfield 44, 3) := dk_180 0 44 (dk_at dksX8_law_6 5 rfl rfl)
theorem dX8_law_148 : decode cX8_law 148 = .ok (.sipush 150, 3) := dk_17 0 150 (dk_at dksX8_law_6 8 rfl rfl)
theorem dX8_law_151 : decode cX8_law 151 = .ok (.iload_n 1, 1) := dk_27 (dk_at dksX8_law_6 11 rfl rfl)
theorem dX8_law_152 : decode cX8_law 152 = .ok (.imul, 1) := dk_104 (dk_at dksX8_law_6 12 rfl rfl)
theorem dX8_law_153 : decode cX8_law 153 = .ok (.iload 4, 2) := dk_21 4 (dk_at dksX8_law_6 13 rfl rfl)
theorem dX8_law_155 : decode cX8_law 155 = .ok (.iadd, 1) := dk_96 (dk_at dksX8_law_6 15 rfl rfl)
theorem dX8_law_156 : decode cX8_law 156 = .ok (.aload_n 0, 1) := dk_42 (dk_at dksX8_law_6 16 rfl rfl)
theorem dX8_law_157 : decode cX8_law 157 = .ok (.getfield 38, 3) := dk_180 0 38 (dk_at dksX8_law_6 17 rfl rfl)
theorem dX8_law_160 : decode cX8_law 160 = .ok (.iload 4, 2) := dk_21 4 (dk_at dksX8_law_6 20 rfl rfl)
theorem dX8_law_162 : decode cX8_law 162 = .ok (.iaload, 1) := dk_46 (dk_at dksX8_law_6 22 rfl rfl)
theorem dX8_law_163 : decode cX8_law 163 = .ok (.iastore, 1) := dk_79 (dk_at dksX8_law_6 23 rfl rfl)
theorem dX8_law_164 : decode cX8_law 164 = .ok (.iinc 4 1, 3) := dk_132 4 1 (dk_at dksX8_law_7 0 rfl rfl)
theorem dX8_law_167 : decode cX8_law 167 = .ok (.goto (-52), 3) := dk_167 255 204 (dk_at dksX8_law_7 3 rfl rfl)
theorem dX8_law_170 : decode cX8_law 170 = .ok (.iload_n 3, 1) := dk_29 (dk_at dksX8_law_7 6 rfl rfl)
theorem dX8_law_171 : decode cX8_law 171 = .ok (.ireturn, 1) := dk_172 (dk_at dksX8_law_7 7 rfl rfl)
abbrev cX8_within : ByteArray := prog_26_method_3_code
def yX8_within : MethodName := ⟨RX8, "within", "(III)Z"⟩
def dkwX8_within_0 : List UInt8 := [26, 27, 161, 0, 12, 26, 28, 163, 0, 7, 4, 167, 0, 4, 3, 172]
abbrev dktX8_within_0 : List UInt8 := dkwX8_within_0 ++ []
theorem dksX8_within_0 : cX8_within.data.toList.drop 0 = dktX8_within_0 := by decide +kernel
theorem dX8_within_0 : decode cX8_within 0 = .ok (.iload_n 0, 1) := dk_26 (dk_at dksX8_within_0 0 rfl rfl)
theorem dX8_within_1 : decode cX8_within 1 = .ok (.iload_n 1, 1) := dk_27 (dk_at dksX8_within_0 1 rfl rfl)
theorem dX8_within_2 : decode cX8_within 2 = .ok (.if_icmp .lt 12, 3) := dk_161 0 12 (dk_at dksX8_within_0 2 rfl rfl)
theorem dX8_within_5 : decode cX8_within 5 = .ok (.iload_n 0, 1) := dk_26 (dk_at dksX8_within_0 5 rfl rfl)
theorem dX8_within_6 : decode cX8_within 6 = .ok (.iload_n 2, 1) := dk_28 (dk_at dksX8_within_0 6 rfl rfl)
theorem dX8_within_7 : decode cX8_within 7 = .ok (.if_icmp .gt 7, 3) := dk_163 0 7 (dk_at dksX8_within_0 7 rfl rfl)
theorem dX8_within_10 : decode cX8_within 10 = .ok (.iconst 1, 1) := dk_4 (dk_at dksX8_within_0 10 rfl rfl)
theorem dX8_within_11 : decode cX8_within 11 = .ok (.goto 4, 3) := dk_167 0 4 (dk_at dksX8_within_0 11 rfl rfl)
theorem dX8_within_14 : decode cX8_within 14 = .ok (.iconst 0, 1) := dk_3 (dk_at dksX8_within_0 14 rfl rfl)
theorem dX8_within_15 : decode cX8_within 15 = .ok (.ireturn, 1) := dk_172 (dk_at dksX8_within_0 15 rfl rfl)
abbrev cX8_readSum : ByteArray := prog_26_method_30_code
def yX8_readSum : MethodName := ⟨RX8, "readSum", "()V"⟩
def dkwX8_readSum_2 : List UInt8 := [180, 0, 120, 4, 96, 181, 0, 120, 42, 182, 0, 249, 42, 27, 3, 182, 0, 252, 167, 255, 196, 177]
abbrev dktX8_readSum_2 : List UInt8 := dkwX8_readSum_2 ++ []
def dkwX8_readSum_1 : List UInt8 := [16, 45, 160, 0, 41, 42, 182, 0, 126, 16, 43, 160, 0, 7, 5, 167, 0, 4, 6, 60, 42, 89]
abbrev dktX8_readSum_1 : List UInt8 := dkwX8_readSum_1 ++ dktX8_readSum_2
def dkwX8_readSum_0 : List UInt8 := [42, 182, 0, 249, 42, 182, 0, 143, 153, 0, 59, 42, 182, 0, 126, 16, 43, 159, 0, 12, 42, 182, 0, 126]
abbrev dktX8_readSum_0 : List UInt8 := dkwX8_readSum_0 ++ dktX8_readSum_1
theorem dksX8_readSum_0 : cX8_readSum.data.toList.drop 0 = dktX8_readSum_0 := by decide +kernel
theorem dksX8_readSum_1 : cX8_readSum.data.toList.drop 24 = dktX8_readSum_1 := dk_seg dksX8_readSum_0 24 rfl rfl
theorem dksX8_readSum_2 : cX8_readSum.data.toList.drop 46 = dktX8_readSum_2 := dk_seg dksX8_readSum_1 22 rfl rfl
theorem dX8_readSum_0 : decode cX8_readSum 0 = .ok (.aload_n 0, 1) := dk_42 (dk_at dksX8_readSum_0 0 rfl rfl)
theorem dX8_readSum_1 : decode cX8_readSum 1 = .ok (.invokevirtual 249, 3) := dk_182 0 249 (dk_at dksX8_readSum_0 1 rfl rfl)
theorem dX8_readSum_4 : decode cX8_readSum 4 = .ok (.aload_n 0, 1) := dk_42 (dk_at dksX8_readSum_0 4 rfl rfl)
theorem dX8_readSum_5 : decode cX8_readSum 5 = .ok (.invokevirtual 143, 3) := dk_182 0 143 (dk_at dksX8_readSum_0 5 rfl rfl)
theorem dX8_readSum_8 : decode cX8_readSum 8 = .ok (.ifCond .eq 59, 3) := dk_153 0 59 (dk_at dksX8_readSum_0 8 rfl rfl)
theorem dX8_readSum_11 : decode cX8_readSum 11 = .ok (.aload_n 0, 1) := dk_42 (dk_at dksX8_readSum_0 11 rfl rfl)
theorem dX8_readSum_12 : decode cX8_readSum 12 = .ok (.invokevirtual 126, 3) := dk_182 0 126 (dk_at dksX8_readSum_0 12 rfl rfl)
theorem dX8_readSum_15 : decode cX8_readSum 15 = .ok (.bipush 43, 2) := dk_16 43 (dk_at dksX8_readSum_0 15 rfl rfl)
theorem dX8_readSum_17 : decode cX8_readSum 17 = .ok (.if_icmp .eq 12, 3) := dk_159 0 12 (dk_at dksX8_readSum_0 17 rfl rfl)
theorem dX8_readSum_20 : decode cX8_readSum 20 = .ok (.aload_n 0, 1) := dk_42 (dk_at dksX8_readSum_0 20 rfl rfl)
theorem dX8_readSum_21 : decode cX8_readSum 21 = .ok (.invokevirtual 126, 3) := dk_182 0 126 (dk_at dksX8_readSum_0 21 rfl rfl)
theorem dX8_readSum_24 : decode cX8_readSum 24 = .ok (.bipush 45, 2) := dk_16 45 (dk_at dksX8_readSum_1 0 rfl rfl)
theorem dX8_readSum_26 : decode cX8_readSum 26 = .ok (.if_icmp .ne 41, 3) := dk_160 0 41 (dk_at dksX8_readSum_1 2 rfl rfl)
theorem dX8_readSum_29 : decode cX8_readSum 29 = .ok (.aload_n 0, 1) := dk_42 (dk_at dksX8_readSum_1 5 rfl rfl)
theorem dX8_readSum_30 : decode cX8_readSum 30 = .ok (.invokevirtual 126, 3) := dk_182 0 126 (dk_at dksX8_readSum_1 6 rfl rfl)
theorem dX8_readSum_33 : decode cX8_readSum 33 = .ok (.bipush 43, 2) := dk_16 43 (dk_at dksX8_readSum_1 9 rfl rfl)
theorem dX8_readSum_35 : decode cX8_readSum 35 = .ok (.if_icmp .ne 7, 3) := dk_160 0 7 (dk_at dksX8_readSum_1 11 rfl rfl)
theorem dX8_readSum_38 : decode cX8_readSum 38 = .ok (.iconst 2, 1) := dk_5 (dk_at dksX8_readSum_1 14 rfl rfl)
theorem dX8_readSum_39 : decode cX8_readSum 39 = .ok (.goto 4, 3) := dk_167 0 4 (dk_at dksX8_readSum_1 15 rfl rfl)
theorem dX8_readSum_42 : decode cX8_readSum 42 = .ok (.iconst 3, 1) := dk_6 (dk_at dksX8_readSum_1 18 rfl rfl)
theorem dX8_readSum_43 : decode cX8_readSum 43 = .ok (.istore_n 1, 1) := dk_60 (dk_at dksX8_readSum_1 19 rfl rfl)
theorem dX8_readSum_44 : decode cX8_readSum 44 = .ok (.aload_n 0, 1) := dk_42 (dk_at dksX8_readSum_1 20 rfl rfl)
theorem dX8_readSum_45 : decode cX8_readSum 45 = .ok (.dup, 1) := dk_89 (dk_at dksX8_readSum_1 21 rfl rfl)
theorem dX8_readSum_46 : decode cX8_readSum 46 = .ok (.getfield 120, 3) := dk_180 0 120 (dk_at dksX8_readSum_2 0 rfl rfl)
theorem dX8_readSum_49 : decode cX8_readSum 49 = .ok (.iconst 1, 1) := dk_4 (dk_at dksX8_readSum_2 3 rfl rfl)
theorem dX8_readSum_50 : decode cX8_readSum 50 = .ok (.iadd, 1) := dk_96 (dk_at dksX8_readSum_2 4 rfl rfl)
theorem dX8_readSum_51 : decode cX8_readSum 51 = .ok (.putfield 120, 3) := dk_181 0 120 (dk_at dksX8_readSum_2 5 rfl rfl)
theorem dX8_readSum_54 : decode cX8_readSum 54 = .ok (.aload_n 0, 1) := dk_42 (dk_at dksX8_readSum_2 8 rfl rfl)
theorem dX8_readSum_55 : decode cX8_readSum 55 = .ok (.invokevirtual 249, 3) := dk_182 0 249 (dk_at dksX8_readSum_2 9 rfl rfl)
theorem dX8_readSum_58 : decode cX8_readSum 58 = .ok (.aload_n 0, 1) := dk_42 (dk_at dksX8_readSum_2 12 rfl rfl)
theorem dX8_readSum_59 : decode cX8_readSum 59 = .ok (.iload_n 1, 1) := dk_27 (dk_at dksX8_readSum_2 13 rfl rfl)
theorem dX8_readSum_60 : decode cX8_readSum 60 = .ok (.iconst 0, 1) := dk_3 (dk_at dksX8_readSum_2 14 rfl rfl)
theorem dX8_readSum_61 : decode cX8_readSum 61 = .ok (.invokevirtual 252, 3) := dk_182 0 252 (dk_at dksX8_readSum_2 15 rfl rfl)
theorem dX8_readSum_64 : decode cX8_readSum 64 = .ok (.goto (-60), 3) := dk_167 255 196 (dk_at dksX8_readSum_2 18 rfl rfl)
theorem dX8_readSum_67 : decode cX8_readSum 67 = .ok (.return_, 1) := dk_177 (dk_at dksX8_readSum_2 21 rfl rfl)
abbrev cX8_readProduct : ByteArray := prog_26_method_31_code
def yX8_readProduct : MethodName := ⟨RX8, "readProduct", "()V"⟩
def dkwX8_readProduct_2 : List UInt8 := [180, 0, 120, 4, 96, 181, 0, 120, 42, 182, 0, 255, 42, 27, 3, 182, 0, 252, 167, 255, 196, 177]
abbrev dktX8_readProduct_2 : List UInt8 := dkwX8_readProduct_2 ++ []
def dkwX8_readProduct_1 : List UInt8 := [16, 47, 160, 0, 41, 42, 182, 0, 126, 16, 42, 160, 0, 7, 7, 167, 0, 4, 8, 60, 42, 89]
abbrev dktX8_readProduct_1 : List UInt8 := dkwX8_readProduct_1 ++ dktX8_readProduct_2
def dkwX8_readProduct_0 : List UInt8 := [42, 182, 0, 255, 42, 182, 0, 143, 153, 0, 59, 42, 182, 0, 126, 16, 42, 159, 0, 12, 42, 182, 0, 126]
abbrev dktX8_readProduct_0 : List UInt8 := dkwX8_readProduct_0 ++ dktX8_readProduct_1
theorem dksX8_readProduct_0 : cX8_readProduct.data.toList.drop 0 = dktX8_readProduct_0 := by decide +kernel
theorem dksX8_readProduct_1 : cX8_readProduct.data.toList.drop 24 = dktX8_readProduct_1 := dk_seg dksX8_readProduct_0 24 rfl rfl
theorem dksX8_readProduct_2 : cX8_readProduct.data.toList.drop 46 = dktX8_readProduct_2 := dk_seg dksX8_readProduct_1 22 rfl rfl
theorem dX8_readProduct_0 : decode cX8_readProduct 0 = .ok (.aload_n 0, 1) := dk_42 (dk_at dksX8_readProduct_0 0 rfl rfl)
theorem dX8_readProduct_1 : decode cX8_readProduct 1 = .ok (.invokevirtual 255, 3) := dk_182 0 255 (dk_at dksX8_readProduct_0 1 rfl rfl)
theorem dX8_readProduct_4 : decode cX8_readProduct 4 = .ok (.aload_n 0, 1) := dk_42 (dk_at dksX8_readProduct_0 4 rfl rfl)
theorem dX8_readProduct_5 : decode cX8_readProduct 5 = .ok (.invokevirtual 143, 3) := dk_182 0 143 (dk_at dksX8_readProduct_0 5 rfl rfl)
theorem dX8_readProduct_8 : decode cX8_readProduct 8 = .ok (.ifCond .eq 59, 3) := dk_153 0 59 (dk_at dksX8_readProduct_0 8 rfl rfl)
theorem dX8_readProduct_11 : decode cX8_readProduct 11 = .ok (.aload_n 0, 1) := dk_42 (dk_at dksX8_readProduct_0 11 rfl rfl)
theorem dX8_readProduct_12 : decode cX8_readProduct 12 = .ok (.invokevirtual 126, 3) := dk_182 0 126 (dk_at dksX8_readProduct_0 12 rfl rfl)
theorem dX8_readProduct_15 : decode cX8_readProduct 15 = .ok (.bipush 42, 2) := dk_16 42 (dk_at dksX8_readProduct_0 15 rfl rfl)
theorem dX8_readProduct_17 : decode cX8_readProduct 17 = .ok (.if_icmp .eq 12, 3) := dk_159 0 12 (dk_at dksX8_readProduct_0 17 rfl rfl)
theorem dX8_readProduct_20 : decode cX8_readProduct 20 = .ok (.aload_n 0, 1) := dk_42 (dk_at dksX8_readProduct_0 20 rfl rfl)
theorem dX8_readProduct_21 : decode cX8_readProduct 21 = .ok (.invokevirtual 126, 3) := dk_182 0 126 (dk_at dksX8_readProduct_0 21 rfl rfl)
theorem dX8_readProduct_24 : decode cX8_readProduct 24 = .ok (.bipush 47, 2) := dk_16 47 (dk_at dksX8_readProduct_1 0 rfl rfl)
theorem dX8_readProduct_26 : decode cX8_readProduct 26 = .ok (.if_icmp .ne 41, 3) := dk_160 0 41 (dk_at dksX8_readProduct_1 2 rfl rfl)
theorem dX8_readProduct_29 : decode cX8_readProduct 29 = .ok (.aload_n 0, 1) := dk_42 (dk_at dksX8_readProduct_1 5 rfl rfl)
theorem dX8_readProduct_30 : decode cX8_readProduct 30 = .ok (.invokevirtual 126, 3) := dk_182 0 126 (dk_at dksX8_readProduct_1 6 rfl rfl)
theorem dX8_readProduct_33 : decode cX8_readProduct 33 = .ok (.bipush 42, 2) := dk_16 42 (dk_at dksX8_readProduct_1 9 rfl rfl)
theorem dX8_readProduct_35 : decode cX8_readProduct 35 = .ok (.if_icmp .ne 7, 3) := dk_160 0 7 (dk_at dksX8_readProduct_1 11 rfl rfl)
theorem dX8_readProduct_38 : decode cX8_readProduct 38 = .ok (.iconst 4, 1) := dk_7 (dk_at dksX8_readProduct_1 14 rfl rfl)
theorem dX8_readProduct_39 : decode cX8_readProduct 39 = .ok (.goto 4, 3) := dk_167 0 4 (dk_at dksX8_readProduct_1 15 rfl rfl)
theorem dX8_readProduct_42 : decode cX8_readProduct 42 = .ok (.iconst 5, 1) := dk_8 (dk_at dksX8_readProduct_1 18 rfl rfl)
theorem dX8_readProduct_43 : decode cX8_readProduct 43 = .ok (.istore_n 1, 1) := dk_60 (dk_at dksX8_readProduct_1 19 rfl rfl)
theorem dX8_readProduct_44 : decode cX8_readProduct 44 = .ok (.aload_n 0, 1) := dk_42 (dk_at dksX8_readProduct_1 20 rfl rfl)
theorem dX8_readProduct_45 : decode cX8_readProduct 45 = .ok (.dup, 1) := dk_89 (dk_at dksX8_readProduct_1 21 rfl rfl)
theorem dX8_readProduct_46 : decode cX8_readProduct 46 = .ok (.getfield 120, 3) := dk_180 0 120 (dk_at dksX8_readProduct_2 0 rfl rfl)
theorem dX8_readProduct_49 : decode cX8_readProduct 49 = .ok (.iconst 1, 1) := dk_4 (dk_at dksX8_readProduct_2 3 rfl rfl)
theorem dX8_readProduct_50 : decode cX8_readProduct 50 = .ok (.iadd, 1) := dk_96 (dk_at dksX8_readProduct_2 4 rfl rfl)
theorem dX8_readProduct_51 : decode cX8_readProduct 51 = .ok (.putfield 120, 3) := dk_181 0 120 (dk_at dksX8_readProduct_2 5 rfl rfl)
theorem dX8_readProduct_54 : decode cX8_readProduct 54 = .ok (.aload_n 0, 1) := dk_42 (dk_at dksX8_readProduct_2 8 rfl rfl)
theorem dX8_readProduct_55 : decode cX8_readProduct 55 = .ok (.invokevirtual 255, 3) := dk_182 0 255 (dk_at dksX8_readProduct_2 9 rfl rfl)
theorem dX8_readProduct_58 : decode cX8_readProduct 58 = .ok (.aload_n 0, 1) := dk_42 (dk_at dksX8_readProduct_2 12 rfl rfl)
theorem dX8_readProduct_59 : decode cX8_readProduct 59 = .ok (.iload_n 1, 1) := dk_27 (dk_at dksX8_readProduct_2 13 rfl rfl)
theorem dX8_readProduct_60 : decode cX8_readProduct 60 = .ok (.iconst 0, 1) := dk_3 (dk_at dksX8_readProduct_2 14 rfl rfl)
theorem dX8_readProduct_61 : decode cX8_readProduct 61 = .ok (.invokevirtual 252, 3) := dk_182 0 252 (dk_at dksX8_readProduct_2 15 rfl rfl)
theorem dX8_readProduct_64 : decode cX8_readProduct 64 = .ok (.goto (-60), 3) := dk_167 255 196 (dk_at dksX8_readProduct_2 18 rfl rfl)
theorem dX8_readProduct_67 : decode cX8_readProduct 67 = .ok (.return_, 1) := dk_177 (dk_at dksX8_readProduct_2 21 rfl rfl)
abbrev cX8_readUnit : ByteArray := prog_26_method_34_code
def yX8_readUnit : MethodName := ⟨RX8, "readUnit", "()V"⟩
def dkwX8_readUnit_6 : List UInt8 := [182, 0, 143, 154, 0, 4, 177, 42, 182, 0, 230, 42, 4, 27, 182, 0, 252, 177]
abbrev dktX8_readUnit_6 : List UInt8 := dkwX8_readUnit_6 ++ []
def dkwX8_readUnit_5 : List UInt8 := [167, 0, 40, 42, 182, 1, 31, 60, 27, 2, 160, 0, 12, 42, 4, 42, 180, 0, 120, 182, 0, 150, 42]
abbrev dktX8_readUnit_5 : List UInt8 := dkwX8_readUnit_5 ++ dktX8_readUnit_6
def dkwX8_readUnit_4 : List UInt8 := [167, 0, 63, 42, 182, 0, 224, 19, 1, 29, 184, 0, 195, 160, 0, 13, 42, 7, 16, 7, 182, 1, 26]
abbrev dktX8_readUnit_4 : List UInt8 := dkwX8_readUnit_4 ++ dktX8_readUnit_5
def dkwX8_readUnit_3 : List UInt8 := [167, 0, 86, 42, 182, 0, 224, 19, 1, 24, 184, 0, 195, 160, 0, 13, 42, 8, 16, 6, 182, 1, 26]
abbrev dktX8_readUnit_3 : List UInt8 := dkwX8_readUnit_3 ++ dktX8_readUnit_4
def dkwX8_readUnit_2 : List UInt8 := [182, 0, 126, 184, 0, 147, 153, 0, 19, 42, 3, 42, 3, 17, 3, 231, 182, 0, 199, 182, 0, 252]
abbrev dktX8_readUnit_2 : List UInt8 := dkwX8_readUnit_2 ++ dktX8_readUnit_3
def dkwX8_readUnit_1 : List UInt8 := [182, 1, 5, 42, 16, 41, 182, 0, 239, 42, 89, 180, 0, 154, 4, 100, 181, 0, 154, 167, 0, 112, 42]
abbrev dktX8_readUnit_1 : List UInt8 := dkwX8_readUnit_1 ++ dktX8_readUnit_2
def dkwX8_readUnit_0 : List UInt8 := [42, 182, 0, 143, 154, 0, 4, 177, 42, 182, 0, 126, 16, 40, 160, 0, 31, 42, 4, 182, 1, 2, 42]
abbrev dktX8_readUnit_0 : List UInt8 := dkwX8_readUnit_0 ++ dktX8_readUnit_1
theorem dksX8_readUnit_0 : cX8_readUnit.data.toList.drop 0 = dktX8_readUnit_0 := by decide +kernel
theorem dksX8_readUnit_1 : cX8_readUnit.data.toList.drop 23 = dktX8_readUnit_1 := dk_seg dksX8_readUnit_0 23 rfl rfl
theorem dksX8_readUnit_2 : cX8_readUnit.data.toList.drop 46 = dktX8_readUnit_2 := dk_seg dksX8_readUnit_1 23 rfl rfl
theorem dksX8_readUnit_3 : cX8_readUnit.data.toList.drop 68 = dktX8_readUnit_3 := dk_seg dksX8_readUnit_2 22 rfl rfl
theorem dksX8_readUnit_4 : cX8_readUnit.data.toList.drop 91 = dktX8_readUnit_4 := dk_seg dksX8_readUnit_3 23 rfl rfl
theorem dksX8_readUnit_5 : cX8_readUnit.data.toList.drop 114 = dktX8_readUnit_5 := dk_seg dksX8_readUnit_4 23 rfl rfl
theorem dksX8_readUnit_6 : cX8_readUnit.data.toList.drop 137 = dktX8_readUnit_6 := dk_seg dksX8_readUnit_5 23 rfl rfl
theorem dX8_readUnit_0 : decode cX8_readUnit 0 = .ok (.aload_n 0, 1) := dk_42 (dk_at dksX8_readUnit_0 0 rfl rfl)
theorem dX8_readUnit_1 : decode cX8_readUnit 1 = .ok (.invokevirtual 143, 3) := dk_182 0 143 (dk_at dksX8_readUnit_0 1 rfl rfl)
theorem dX8_readUnit_4 : decode cX8_readUnit 4 = .ok (.ifCond .ne 4, 3) := dk_154 0 4 (dk_at dksX8_readUnit_0 4 rfl rfl)
theorem dX8_readUnit_7 : decode cX8_readUnit 7 = .ok (.return_, 1) := dk_177 (dk_at dksX8_readUnit_0 7 rfl rfl)
theorem dX8_readUnit_8 : decode cX8_readUnit 8 = .ok (.aload_n 0, 1) := dk_42 (dk_at dksX8_readUnit_0 8 rfl rfl)
theorem dX8_readUnit_9 : decode cX8_readUnit 9 = .ok (.invokevirtual 126, 3) := dk_182 0 126 (dk_at dksX8_readUnit_0 9 rfl rfl)
theorem dX8_readUnit_12 : decode cX8_readUnit 12 = .ok (.bipush 40, 2) := dk_16 40 (dk_at dksX8_readUnit_0 12 rfl rfl)
theorem dX8_readUnit_14 : decode cX8_readUnit 14 = .ok (.if_icmp .ne 31, 3) := dk_160 0 31 (dk_at dksX8_readUnit_0 14 rfl rfl)
theorem dX8_readUnit_17 : decode cX8_readUnit 17 = .ok (.aload_n 0, 1) := dk_42 (dk_at dksX8_readUnit_0 17 rfl rfl)
theorem dX8_readUnit_18 : decode cX8_readUnit 18 = .ok (.iconst 1, 1) := dk_4 (dk_at dksX8_readUnit_0 18 rfl rfl)
theorem dX8_readUnit_19 : decode cX8_readUnit 19 = .ok (.invokevirtual 258, 3) := dk_182 1 2 (dk_at dksX8_readUnit_0 19 rfl rfl)
theorem dX8_readUnit_22 : decode cX8_readUnit 22 = .ok (.aload_n 0, 1) := dk_42 (dk_at dksX8_readUnit_0 22 rfl rfl)
theorem dX8_readUnit_23 : decode cX8_readUnit 23 = .ok (.invokevirtual 261, 3) := dk_182 1 5 (dk_at dksX8_readUnit_1 0 rfl rfl)
theorem dX8_readUnit_26 : decode cX8_readUnit 26 = .ok (.aload_n 0, 1) := dk_42 (dk_at dksX8_readUnit_1 3 rfl rfl)
theorem dX8_readUnit_27 : decode cX8_readUnit 27 = .ok (.bipush 41, 2) := dk_16 41 (dk_at dksX8_readUnit_1 4 rfl rfl)
theorem dX8_readUnit_29 : decode cX8_readUnit 29 = .ok (.invokevirtual 239, 3) := dk_182 0 239 (dk_at dksX8_readUnit_1 6 rfl rfl)
theorem dX8_readUnit_32 : decode cX8_readUnit 32 = .ok (.aload_n 0, 1) := dk_42 (dk_at dksX8_readUnit_1 9 rfl rfl)
theorem dX8_readUnit_33 : decode cX8_readUnit 33 = .ok (.dup, 1) := dk_89 (dk_at dksX8_readUnit_1 10 rfl rfl)
theorem dX8_readUnit_34 : decode cX8_readUnit 34 = .ok (.getfield 154, 3) := dk_180 0 154 (dk_at dksX8_readUnit_1 11 rfl rfl)
theorem dX8_readUnit_37 : decode cX8_readUnit 37 = .ok (.iconst 1, 1) := dk_4 (dk_at dksX8_readUnit_1 14 rfl rfl)
theorem dX8_readUnit_38 : decode cX8_readUnit 38 = .ok (.isub, 1) := dk_100 (dk_at dksX8_readUnit_1 15 rfl rfl)
theorem dX8_readUnit_39 : decode cX8_readUnit 39 = .ok (.putfield 154, 3) := dk_181 0 154 (dk_at dksX8_readUnit_1 16 rfl rfl)
theorem dX8_readUnit_42 : decode cX8_readUnit 42 = .ok (.goto 112, 3) := dk_167 0 112 (dk_at dksX8_readUnit_1 19 rfl rfl)
theorem dX8_readUnit_45 : decode cX8_readUnit 45 = .ok (.aload_n 0, 1) := dk_42 (dk_at dksX8_readUnit_1 22 rfl rfl)
theorem dX8_readUnit_46 : decode cX8_readUnit 46 = .ok (.invokevirtual 126, 3) := dk_182 0 126 (dk_at dksX8_readUnit_2 0 rfl rfl)
theorem dX8_readUnit_49 : decode cX8_readUnit 49 = .ok (.invokestatic 147, 3) := dk_184 0 147 (dk_at dksX8_readUnit_2 3 rfl rfl)
theorem dX8_readUnit_52 : decode cX8_readUnit 52 = .ok (.ifCond .eq 19, 3) := dk_153 0 19 (dk_at dksX8_readUnit_2 6 rfl rfl)
theorem dX8_readUnit_55 : decode cX8_readUnit 55 = .ok (.aload_n 0, 1) := dk_42 (dk_at dksX8_readUnit_2 9 rfl rfl)
theorem dX8_readUnit_56 : decode cX8_readUnit 56 = .ok (.iconst 0, 1) := dk_3 (dk_at dksX8_readUnit_2 10 rfl rfl)
theorem dX8_readUnit_57 : decode cX8_readUnit 57 = .ok (.aload_n 0, 1) := dk_42 (dk_at dksX8_readUnit_2 11 rfl rfl)
theorem dX8_readUnit_58 : decode cX8_readUnit 58 = .ok (.iconst 0, 1) := dk_3 (dk_at dksX8_readUnit_2 12 rfl rfl)
theorem dX8_readUnit_59 : decode cX8_readUnit 59 = .ok (.sipush 999, 3) := dk_17 3 231 (dk_at dksX8_readUnit_2 13 rfl rfl)
theorem dX8_readUnit_62 : decode cX8_readUnit 62 = .ok (.invokevirtual 199, 3) := dk_182 0 199 (dk_at dksX8_readUnit_2 16 rfl rfl)
theorem dX8_readUnit_65 : decode cX8_readUnit 65 = .ok (.invokevirtual 252, 3) := dk_182 0 252 (dk_at dksX8_readUnit_2 19 rfl rfl)
theorem dX8_readUnit_68 : decode cX8_readUnit 68 = .ok (.goto 86, 3) := dk_167 0 86 (dk_at dksX8_readUnit_3 0 rfl rfl)
theorem dX8_readUnit_71 : decode cX8_readUnit 71 = .ok (.aload_n 0, 1) := dk_42 (dk_at dksX8_readUnit_3 3 rfl rfl)
theorem dX8_readUnit_72 : decode cX8_readUnit 72 = .ok (.invokevirtual 224, 3) := dk_182 0 224 (dk_at dksX8_readUnit_3 4 rfl rfl)
theorem dX8_readUnit_75 : decode cX8_readUnit 75 = .ok (.ldc_w 280, 3) := dk_19 1 24 (dk_at dksX8_readUnit_3 7 rfl rfl)
theorem dX8_readUnit_78 : decode cX8_readUnit 78 = .ok (.invokestatic 195, 3) := dk_184 0 195 (dk_at dksX8_readUnit_3 10 rfl rfl)
theorem dX8_readUnit_81 : decode cX8_readUnit 81 = .ok (.if_icmp .ne 13, 3) := dk_160 0 13 (dk_at dksX8_readUnit_3 13 rfl rfl)
theorem dX8_readUnit_84 : decode cX8_readUnit 84 = .ok (.aload_n 0, 1) := dk_42 (dk_at dksX8_readUnit_3 16 rfl rfl)
theorem dX8_readUnit_85 : decode cX8_readUnit 85 = .ok (.iconst 5, 1) := dk_8 (dk_at dksX8_readUnit_3 17 rfl rfl)
theorem dX8_readUnit_86 : decode cX8_readUnit 86 = .ok (.bipush 6, 2) := dk_16 6 (dk_at dksX8_readUnit_3 18 rfl rfl)
theorem dX8_readUnit_88 : decode cX8_readUnit 88 = .ok (.invokevirtual 282, 3) := dk_182 1 26 (dk_at dksX8_readUnit_3 20 rfl rfl)
theorem dX8_readUnit_91 : decode cX8_readUnit 91 = .ok (.goto 63, 3) := dk_167 0 63 (dk_at dksX8_readUnit_4 0 rfl rfl)
theorem dX8_readUnit_94 : decode cX8_readUnit 94 = .ok (.aload_n 0, 1) := dk_42 (dk_at dksX8_readUnit_4 3 rfl rfl)
theorem dX8_readUnit_95 : decode cX8_readUnit 95 = .ok (.invokevirtual 224, 3) := dk_182 0 224 (dk_at dksX8_readUnit_4 4 rfl rfl)
theorem dX8_readUnit_98 : decode cX8_readUnit 98 = .ok (.ldc_w 285, 3) := dk_19 1 29 (dk_at dksX8_readUnit_4 7 rfl rfl)
theorem dX8_readUnit_101 : decode cX8_readUnit 101 = .ok (.invokestatic 195, 3) := dk_184 0 195 (dk_at dksX8_readUnit_4 10 rfl rfl)
theorem dX8_readUnit_104 : decode cX8_readUnit 104 = .ok (.if_icmp .ne 13, 3) := dk_160 0 13 (dk_at dksX8_readUnit_4 13 rfl rfl)
theorem dX8_readUnit_107 : decode cX8_readUnit 107 = .ok (.aload_n 0, 1) := dk_42 (dk_at dksX8_readUnit_4 16 rfl rfl)
theorem dX8_readUnit_108 : decode cX8_readUnit 108 = .ok (.iconst 4, 1) := dk_7 (dk_at dksX8_readUnit_4 17 rfl rfl)
theorem dX8_readUnit_109 : decode cX8_readUnit 109 = .ok (.bipush 7, 2) := dk_16 7 (dk_at dksX8_readUnit_4 18 rfl rfl)
theorem dX8_readUnit_111 : decode cX8_readUnit 111 = .ok (.invokevirtual 282, 3) := dk_182 1 26 (dk_at dksX8_readUnit_4 20 rfl rfl)
theorem dX8_readUnit_114 : decode cX8_readUnit 114 = .ok (.goto 40, 3) := dk_167 0 40 (dk_at dksX8_readUnit_5 0 rfl rfl)
theorem dX8_readUnit_117 : decode cX8_readUnit 117 = .ok (.aload_n 0, 1) := dk_42 (dk_at dksX8_readUnit_5 3 rfl rfl)
theorem dX8_readUnit_118 : decode cX8_readUnit 118 = .ok (.invokevirtual 287, 3) := dk_182 1 31 (dk_at dksX8_readUnit_5 4 rfl rfl)
theorem dX8_readUnit_121 : decode cX8_readUnit 121 = .ok (.istore_n 1, 1) := dk_60 (dk_at dksX8_readUnit_5 7 rfl rfl)
theorem dX8_readUnit_122 : decode cX8_readUnit 122 = .ok (.iload_n 1, 1) := dk_27 (dk_at dksX8_readUnit_5 8 rfl rfl)
theorem dX8_readUnit_123 : decode cX8_readUnit 123 = .ok (.iconst (-1), 1) := dk_2 (dk_at dksX8_readUnit_5 9 rfl rfl)
theorem dX8_readUnit_124 : decode cX8_readUnit 124 = .ok (.if_icmp .ne 12, 3) := dk_160 0 12 (dk_at dksX8_readUnit_5 10 rfl rfl)
theorem dX8_readUnit_127 : decode cX8_readUnit 127 = .ok (.aload_n 0, 1) := dk_42 (dk_at dksX8_readUnit_5 13 rfl rfl)
theorem dX8_readUnit_128 : decode cX8_readUnit 128 = .ok (.iconst 1, 1) := dk_4 (dk_at dksX8_readUnit_5 14 rfl rfl)
theorem dX8_readUnit_129 : decode cX8_readUnit 129 = .ok (.aload_n 0, 1) := dk_42 (dk_at dksX8_readUnit_5 15 rfl rfl)
theorem dX8_readUnit_130 : decode cX8_readUnit 130 = .ok (.getfield 120, 3) := dk_180 0 120 (dk_at dksX8_readUnit_5 16 rfl rfl)
theorem dX8_readUnit_133 : decode cX8_readUnit 133 = .ok (.invokevirtual 150, 3) := dk_182 0 150 (dk_at dksX8_readUnit_5 19 rfl rfl)
theorem dX8_readUnit_136 : decode cX8_readUnit 136 = .ok (.aload_n 0, 1) := dk_42 (dk_at dksX8_readUnit_5 22 rfl rfl)
theorem dX8_readUnit_137 : decode cX8_readUnit 137 = .ok (.invokevirtual 143, 3) := dk_182 0 143 (dk_at dksX8_readUnit_6 0 rfl rfl)
theorem dX8_readUnit_140 : decode cX8_readUnit 140 = .ok (.ifCond .ne 4, 3) := dk_154 0 4 (dk_at dksX8_readUnit_6 3 rfl rfl)
theorem dX8_readUnit_143 : decode cX8_readUnit 143 = .ok (.return_, 1) := dk_177 (dk_at dksX8_readUnit_6 6 rfl rfl)
theorem dX8_readUnit_144 : decode cX8_readUnit 144 = .ok (.aload_n 0, 1) := dk_42 (dk_at dksX8_readUnit_6 7 rfl rfl)
theorem dX8_readUnit_145 : decode cX8_readUnit 145 = .ok (.invokevirtual 230, 3) := dk_182 0 230 (dk_at dksX8_readUnit_6 8 rfl rfl)
theorem dX8_readUnit_148 : decode cX8_readUnit 148 = .ok (.aload_n 0, 1) := dk_42 (dk_at dksX8_readUnit_6 11 rfl rfl)
theorem dX8_readUnit_149 : decode cX8_readUnit 149 = .ok (.iconst 1, 1) := dk_4 (dk_at dksX8_readUnit_6 12 rfl rfl)
theorem dX8_readUnit_150 : decode cX8_readUnit 150 = .ok (.iload_n 1, 1) := dk_27 (dk_at dksX8_readUnit_6 13 rfl rfl)
theorem dX8_readUnit_151 : decode cX8_readUnit 151 = .ok (.invokevirtual 252, 3) := dk_182 0 252 (dk_at dksX8_readUnit_6 14 rfl rfl)
theorem dX8_readUnit_154 : decode cX8_readUnit 154 = .ok (.return_, 1) := dk_177 (dk_at dksX8_readUnit_6 17 rfl rfl)
abbrev cX8_opensOne : ByteArray := prog_26_method_29_code
def yX8_opensOne : MethodName := ⟨RX8, "opensOne", "(I)V"⟩
def dkwX8_opensOne_2 : List UInt8 := [180, 0, 154, 4, 96, 181, 0, 154, 177]
abbrev dktX8_opensOne_2 : List UInt8 := dkwX8_opensOne_2 ++ []
def dkwX8_opensOne_1 : List UInt8 := [182, 0, 150, 42, 182, 0, 143, 153, 0, 13, 42, 89, 180, 0, 120, 27, 96, 181, 0, 120, 42, 89]
abbrev dktX8_opensOne_1 : List UInt8 := dkwX8_opensOne_1 ++ dktX8_opensOne_2
def dkwX8_opensOne_0 : List UInt8 := [42, 182, 0, 143, 153, 0, 21, 42, 180, 0, 154, 16, 6, 160, 0, 12, 42, 6, 42, 180, 0, 120]
abbrev dktX8_opensOne_0 : List UInt8 := dkwX8_opensOne_0 ++ dktX8_opensOne_1
theorem dksX8_opensOne_0 : cX8_opensOne.data.toList.drop 0 = dktX8_opensOne_0 := by decide +kernel
theorem dksX8_opensOne_1 : cX8_opensOne.data.toList.drop 22 = dktX8_opensOne_1 := dk_seg dksX8_opensOne_0 22 rfl rfl
theorem dksX8_opensOne_2 : cX8_opensOne.data.toList.drop 44 = dktX8_opensOne_2 := dk_seg dksX8_opensOne_1 22 rfl rfl
theorem dX8_opensOne_0 : decode cX8_opensOne 0 = .ok (.aload_n 0, 1) := dk_42 (dk_at dksX8_opensOne_0 0 rfl rfl)
theorem dX8_opensOne_1 : decode cX8_opensOne 1 = .ok (.invokevirtual 143, 3) := dk_182 0 143 (dk_at dksX8_opensOne_0 1 rfl rfl)
theorem dX8_opensOne_4 : decode cX8_opensOne 4 = .ok (.ifCond .eq 21, 3) := dk_153 0 21 (dk_at dksX8_opensOne_0 4 rfl rfl)
theorem dX8_opensOne_7 : decode cX8_opensOne 7 = .ok (.aload_n 0, 1) := dk_42 (dk_at dksX8_opensOne_0 7 rfl rfl)
theorem dX8_opensOne_8 : decode cX8_opensOne 8 = .ok (.getfield 154, 3) := dk_180 0 154 (dk_at dksX8_opensOne_0 8 rfl rfl)
theorem dX8_opensOne_11 : decode cX8_opensOne 11 = .ok (.bipush 6, 2) := dk_16 6 (dk_at dksX8_opensOne_0 11 rfl rfl)
theorem dX8_opensOne_13 : decode cX8_opensOne 13 = .ok (.if_icmp .ne 12, 3) := dk_160 0 12 (dk_at dksX8_opensOne_0 13 rfl rfl)
theorem dX8_opensOne_16 : decode cX8_opensOne 16 = .ok (.aload_n 0, 1) := dk_42 (dk_at dksX8_opensOne_0 16 rfl rfl)
theorem dX8_opensOne_17 : decode cX8_opensOne 17 = .ok (.iconst 3, 1) := dk_6 (dk_at dksX8_opensOne_0 17 rfl rfl)
theorem dX8_opensOne_18 : decode cX8_opensOne 18 = .ok (.aload_n 0, 1) := dk_42 (dk_at dksX8_opensOne_0 18 rfl rfl)
theorem dX8_opensOne_19 : decode cX8_opensOne 19 = .ok (.getfield 120, 3) := dk_180 0 120 (dk_at dksX8_opensOne_0 19 rfl rfl)
theorem dX8_opensOne_22 : decode cX8_opensOne 22 = .ok (.invokevirtual 150, 3) := dk_182 0 150 (dk_at dksX8_opensOne_1 0 rfl rfl)
theorem dX8_opensOne_25 : decode cX8_opensOne 25 = .ok (.aload_n 0, 1) := dk_42 (dk_at dksX8_opensOne_1 3 rfl rfl)
theorem dX8_opensOne_26 : decode cX8_opensOne 26 = .ok (.invokevirtual 143, 3) := dk_182 0 143 (dk_at dksX8_opensOne_1 4 rfl rfl)
theorem dX8_opensOne_29 : decode cX8_opensOne 29 = .ok (.ifCond .eq 13, 3) := dk_153 0 13 (dk_at dksX8_opensOne_1 7 rfl rfl)
theorem dX8_opensOne_32 : decode cX8_opensOne 32 = .ok (.aload_n 0, 1) := dk_42 (dk_at dksX8_opensOne_1 10 rfl rfl)
theorem dX8_opensOne_33 : decode cX8_opensOne 33 = .ok (.dup, 1) := dk_89 (dk_at dksX8_opensOne_1 11 rfl rfl)
theorem dX8_opensOne_34 : decode cX8_opensOne 34 = .ok (.getfield 120, 3) := dk_180 0 120 (dk_at dksX8_opensOne_1 12 rfl rfl)
theorem dX8_opensOne_37 : decode cX8_opensOne 37 = .ok (.iload_n 1, 1) := dk_27 (dk_at dksX8_opensOne_1 15 rfl rfl)
theorem dX8_opensOne_38 : decode cX8_opensOne 38 = .ok (.iadd, 1) := dk_96 (dk_at dksX8_opensOne_1 16 rfl rfl)
theorem dX8_opensOne_39 : decode cX8_opensOne 39 = .ok (.putfield 120, 3) := dk_181 0 120 (dk_at dksX8_opensOne_1 17 rfl rfl)
theorem dX8_opensOne_42 : decode cX8_opensOne 42 = .ok (.aload_n 0, 1) := dk_42 (dk_at dksX8_opensOne_1 20 rfl rfl)
theorem dX8_opensOne_43 : decode cX8_opensOne 43 = .ok (.dup, 1) := dk_89 (dk_at dksX8_opensOne_1 21 rfl rfl)
theorem dX8_opensOne_44 : decode cX8_opensOne 44 = .ok (.getfield 154, 3) := dk_180 0 154 (dk_at dksX8_opensOne_2 0 rfl rfl)
theorem dX8_opensOne_47 : decode cX8_opensOne 47 = .ok (.iconst 1, 1) := dk_4 (dk_at dksX8_opensOne_2 3 rfl rfl)
theorem dX8_opensOne_48 : decode cX8_opensOne 48 = .ok (.iadd, 1) := dk_96 (dk_at dksX8_opensOne_2 4 rfl rfl)
theorem dX8_opensOne_49 : decode cX8_opensOne 49 = .ok (.putfield 154, 3) := dk_181 0 154 (dk_at dksX8_opensOne_2 5 rfl rfl)
theorem dX8_opensOne_52 : decode cX8_opensOne 52 = .ok (.return_, 1) := dk_177 (dk_at dksX8_opensOne_2 8 rfl rfl)
abbrev cX8_emit : ByteArray := prog_26_method_28_code
def yX8_emit : MethodName := ⟨RX8, "emit", "(II)V"⟩
def dkwX8_emit_1 : List UInt8 := [180, 0, 246, 28, 79, 42, 89, 180, 0, 246, 4, 96, 181, 0, 246, 177]
abbrev dktX8_emit_1 : List UInt8 := dkwX8_emit_1 ++ []
def dkwX8_emit_0 : List UInt8 := [42, 182, 0, 143, 154, 0, 4, 177, 42, 180, 0, 35, 42, 180, 0, 246, 27, 79, 42, 180, 0, 38, 42]
abbrev dktX8_emit_0 : List UInt8 := dkwX8_emit_0 ++ dktX8_emit_1
theorem dksX8_emit_0 : cX8_emit.data.toList.drop 0 = dktX8_emit_0 := by decide +kernel
theorem dksX8_emit_1 : cX8_emit.data.toList.drop 23 = dktX8_emit_1 := dk_seg dksX8_emit_0 23 rfl rfl
theorem dX8_emit_0 : decode cX8_emit 0 = .ok (.aload_n 0, 1) := dk_42 (dk_at dksX8_emit_0 0 rfl rfl)
theorem dX8_emit_1 : decode cX8_emit 1 = .ok (.invokevirtual 143, 3) := dk_182 0 143 (dk_at dksX8_emit_0 1 rfl rfl)
theorem dX8_emit_4 : decode cX8_emit 4 = .ok (.ifCond .ne 4, 3) := dk_154 0 4 (dk_at dksX8_emit_0 4 rfl rfl)
theorem dX8_emit_7 : decode cX8_emit 7 = .ok (.return_, 1) := dk_177 (dk_at dksX8_emit_0 7 rfl rfl)
theorem dX8_emit_8 : decode cX8_emit 8 = .ok (.aload_n 0, 1) := dk_42 (dk_at dksX8_emit_0 8 rfl rfl)
theorem dX8_emit_9 : decode cX8_emit 9 = .ok (.getfield 35, 3) := dk_180 0 35 (dk_at dksX8_emit_0 9 rfl rfl)
theorem dX8_emit_12 : decode cX8_emit 12 = .ok (.aload_n 0, 1) := dk_42 (dk_at dksX8_emit_0 12 rfl rfl)
theorem dX8_emit_13 : decode cX8_emit 13 = .ok (.getfield 246, 3) := dk_180 0 246 (dk_at dksX8_emit_0 13 rfl rfl)
theorem dX8_emit_16 : decode cX8_emit 16 = .ok (.iload_n 1, 1) := dk_27 (dk_at dksX8_emit_0 16 rfl rfl)
theorem dX8_emit_17 : decode cX8_emit 17 = .ok (.iastore, 1) := dk_79 (dk_at dksX8_emit_0 17 rfl rfl)
theorem dX8_emit_18 : decode cX8_emit 18 = .ok (.aload_n 0, 1) := dk_42 (dk_at dksX8_emit_0 18 rfl rfl)
theorem dX8_emit_19 : decode cX8_emit 19 = .ok (.getfield 38, 3) := dk_180 0 38 (dk_at dksX8_emit_0 19 rfl rfl)
theorem dX8_emit_22 : decode cX8_emit 22 = .ok (.aload_n 0, 1) := dk_42 (dk_at dksX8_emit_0 22 rfl rfl)
theorem dX8_emit_23 : decode cX8_emit 23 = .ok (.getfield 246, 3) := dk_180 0 246 (dk_at dksX8_emit_1 0 rfl rfl)
theorem dX8_emit_26 : decode cX8_emit 26 = .ok (.iload_n 2, 1) := dk_28 (dk_at dksX8_emit_1 3 rfl rfl)
theorem dX8_emit_27 : decode cX8_emit 27 = .ok (.iastore, 1) := dk_79 (dk_at dksX8_emit_1 4 rfl rfl)
theorem dX8_emit_28 : decode cX8_emit 28 = .ok (.aload_n 0, 1) := dk_42 (dk_at dksX8_emit_1 5 rfl rfl)
theorem dX8_emit_29 : decode cX8_emit 29 = .ok (.dup, 1) := dk_89 (dk_at dksX8_emit_1 6 rfl rfl)
theorem dX8_emit_30 : decode cX8_emit 30 = .ok (.getfield 246, 3) := dk_180 0 246 (dk_at dksX8_emit_1 7 rfl rfl)
theorem dX8_emit_33 : decode cX8_emit 33 = .ok (.iconst 1, 1) := dk_4 (dk_at dksX8_emit_1 10 rfl rfl)
theorem dX8_emit_34 : decode cX8_emit 34 = .ok (.iadd, 1) := dk_96 (dk_at dksX8_emit_1 11 rfl rfl)
theorem dX8_emit_35 : decode cX8_emit 35 = .ok (.putfield 246, 3) := dk_181 0 246 (dk_at dksX8_emit_1 12 rfl rfl)
theorem dX8_emit_38 : decode cX8_emit 38 = .ok (.return_, 1) := dk_177 (dk_at dksX8_emit_1 15 rfl rfl)
abbrev cX8_readTwo : ByteArray := prog_26_method_32_code
def yX8_readTwo : MethodName := ⟨RX8, "readTwo", "(II)V"⟩
def dkwX8_readTwo_2 : List UInt8 := [182, 0, 252, 177]
abbrev dktX8_readTwo_2 : List UInt8 := dkwX8_readTwo_2 ++ []
def dkwX8_readTwo_1 : List UInt8 := [182, 1, 5, 42, 16, 93, 182, 0, 239, 42, 89, 180, 0, 154, 4, 100, 181, 0, 154, 42, 28, 3]
abbrev dktX8_readTwo_1 : List UInt8 := dkwX8_readTwo_1 ++ dktX8_readTwo_2
def dkwX8_readTwo_0 : List UInt8 := [42, 27, 182, 1, 2, 42, 16, 91, 182, 0, 239, 42, 182, 1, 5, 42, 16, 44, 182, 0, 239, 42]
abbrev dktX8_readTwo_0 : List UInt8 := dkwX8_readTwo_0 ++ dktX8_readTwo_1
theorem dksX8_readTwo_0 : cX8_readTwo.data.toList.drop 0 = dktX8_readTwo_0 := by decide +kernel
theorem dksX8_readTwo_1 : cX8_readTwo.data.toList.drop 22 = dktX8_readTwo_1 := dk_seg dksX8_readTwo_0 22 rfl rfl
theorem dksX8_readTwo_2 : cX8_readTwo.data.toList.drop 44 = dktX8_readTwo_2 := dk_seg dksX8_readTwo_1 22 rfl rfl
theorem dX8_readTwo_0 : decode cX8_readTwo 0 = .ok (.aload_n 0, 1) := dk_42 (dk_at dksX8_readTwo_0 0 rfl rfl)
theorem dX8_readTwo_1 : decode cX8_readTwo 1 = .ok (.iload_n 1, 1) := dk_27 (dk_at dksX8_readTwo_0 1 rfl rfl)
theorem dX8_readTwo_2 : decode cX8_readTwo 2 = .ok (.invokevirtual 258, 3) := dk_182 1 2 (dk_at dksX8_readTwo_0 2 rfl rfl)
theorem dX8_readTwo_5 : decode cX8_readTwo 5 = .ok (.aload_n 0, 1) := dk_42 (dk_at dksX8_readTwo_0 5 rfl rfl)
theorem dX8_readTwo_6 : decode cX8_readTwo 6 = .ok (.bipush 91, 2) := dk_16 91 (dk_at dksX8_readTwo_0 6 rfl rfl)
theorem dX8_readTwo_8 : decode cX8_readTwo 8 = .ok (.invokevirtual 239, 3) := dk_182 0 239 (dk_at dksX8_readTwo_0 8 rfl rfl)
theorem dX8_readTwo_11 : decode cX8_readTwo 11 = .ok (.aload_n 0, 1) := dk_42 (dk_at dksX8_readTwo_0 11 rfl rfl)
theorem dX8_readTwo_12 : decode cX8_readTwo 12 = .ok (.invokevirtual 261, 3) := dk_182 1 5 (dk_at dksX8_readTwo_0 12 rfl rfl)
theorem dX8_readTwo_15 : decode cX8_readTwo 15 = .ok (.aload_n 0, 1) := dk_42 (dk_at dksX8_readTwo_0 15 rfl rfl)
theorem dX8_readTwo_16 : decode cX8_readTwo 16 = .ok (.bipush 44, 2) := dk_16 44 (dk_at dksX8_readTwo_0 16 rfl rfl)
theorem dX8_readTwo_18 : decode cX8_readTwo 18 = .ok (.invokevirtual 239, 3) := dk_182 0 239 (dk_at dksX8_readTwo_0 18 rfl rfl)
theorem dX8_readTwo_21 : decode cX8_readTwo 21 = .ok (.aload_n 0, 1) := dk_42 (dk_at dksX8_readTwo_0 21 rfl rfl)
theorem dX8_readTwo_22 : decode cX8_readTwo 22 = .ok (.invokevirtual 261, 3) := dk_182 1 5 (dk_at dksX8_readTwo_1 0 rfl rfl)
theorem dX8_readTwo_25 : decode cX8_readTwo 25 = .ok (.aload_n 0, 1) := dk_42 (dk_at dksX8_readTwo_1 3 rfl rfl)
theorem dX8_readTwo_26 : decode cX8_readTwo 26 = .ok (.bipush 93, 2) := dk_16 93 (dk_at dksX8_readTwo_1 4 rfl rfl)
theorem dX8_readTwo_28 : decode cX8_readTwo 28 = .ok (.invokevirtual 239, 3) := dk_182 0 239 (dk_at dksX8_readTwo_1 6 rfl rfl)
theorem dX8_readTwo_31 : decode cX8_readTwo 31 = .ok (.aload_n 0, 1) := dk_42 (dk_at dksX8_readTwo_1 9 rfl rfl)
theorem dX8_readTwo_32 : decode cX8_readTwo 32 = .ok (.dup, 1) := dk_89 (dk_at dksX8_readTwo_1 10 rfl rfl)
theorem dX8_readTwo_33 : decode cX8_readTwo 33 = .ok (.getfield 154, 3) := dk_180 0 154 (dk_at dksX8_readTwo_1 11 rfl rfl)
theorem dX8_readTwo_36 : decode cX8_readTwo 36 = .ok (.iconst 1, 1) := dk_4 (dk_at dksX8_readTwo_1 14 rfl rfl)
theorem dX8_readTwo_37 : decode cX8_readTwo 37 = .ok (.isub, 1) := dk_100 (dk_at dksX8_readTwo_1 15 rfl rfl)
theorem dX8_readTwo_38 : decode cX8_readTwo 38 = .ok (.putfield 154, 3) := dk_181 0 154 (dk_at dksX8_readTwo_1 16 rfl rfl)
theorem dX8_readTwo_41 : decode cX8_readTwo 41 = .ok (.aload_n 0, 1) := dk_42 (dk_at dksX8_readTwo_1 19 rfl rfl)
theorem dX8_readTwo_42 : decode cX8_readTwo 42 = .ok (.iload_n 2, 1) := dk_28 (dk_at dksX8_readTwo_1 20 rfl rfl)
theorem dX8_readTwo_43 : decode cX8_readTwo 43 = .ok (.iconst 0, 1) := dk_3 (dk_at dksX8_readTwo_1 21 rfl rfl)
theorem dX8_readTwo_44 : decode cX8_readTwo 44 = .ok (.invokevirtual 252, 3) := dk_182 0 252 (dk_at dksX8_readTwo_2 0 rfl rfl)
theorem dX8_readTwo_47 : decode cX8_readTwo 47 = .ok (.return_, 1) := dk_177 (dk_at dksX8_readTwo_2 3 rfl rfl)
abbrev cX8_factHere : ByteArray := prog_26_method_33_code
def yX8_factHere : MethodName := ⟨RX8, "factHere", "()I"⟩
def dkwX8_factHere_5 : List UInt8 := [167, 0, 4, 2, 172]
abbrev dktX8_factHere_5 : List UInt8 := dkwX8_factHere_5 ++ []
def dkwX8_factHere_4 : List UInt8 := [184, 0, 195, 160, 0, 8, 16, 6, 167, 0, 19, 27, 19, 1, 22, 184, 0, 195, 160, 0, 8, 16, 7]
abbrev dktX8_factHere_4 : List UInt8 := dkwX8_factHere_4 ++ dktX8_factHere_5
def dkwX8_factHere_3 : List UInt8 := [7, 167, 0, 48, 27, 19, 1, 18, 184, 0, 195, 160, 0, 7, 8, 167, 0, 34, 27, 19, 1, 20]
abbrev dktX8_factHere_3 : List UInt8 := dkwX8_factHere_3 ++ dktX8_factHere_4
def dkwX8_factHere_2 : List UInt8 := [27, 19, 1, 14, 184, 0, 195, 160, 0, 7, 6, 167, 0, 62, 27, 19, 1, 16, 184, 0, 195, 160, 0, 7]
abbrev dktX8_factHere_2 : List UInt8 := dkwX8_factHere_2 ++ dktX8_factHere_3
def dkwX8_factHere_1 : List UInt8 := [184, 0, 195, 160, 0, 7, 4, 167, 0, 90, 27, 19, 1, 12, 184, 0, 195, 160, 0, 7, 5, 167, 0, 76]
abbrev dktX8_factHere_1 : List UInt8 := dkwX8_factHere_1 ++ dktX8_factHere_2
def dkwX8_factHere_0 : List UInt8 := [42, 182, 0, 224, 60, 27, 19, 1, 8, 184, 0, 195, 160, 0, 7, 3, 167, 0, 104, 27, 19, 1, 10]
abbrev dktX8_factHere_0 : List UInt8 := dkwX8_factHere_0 ++ dktX8_factHere_1
theorem dksX8_factHere_0 : cX8_factHere.data.toList.drop 0 = dktX8_factHere_0 := by decide +kernel
theorem dksX8_factHere_1 : cX8_factHere.data.toList.drop 23 = dktX8_factHere_1 := dk_seg dksX8_factHere_0 23 rfl rfl
theorem dksX8_factHere_2 : cX8_factHere.data.toList.drop 47 = dktX8_factHere_2 := dk_seg dksX8_factHere_1 24 rfl rfl
theorem dksX8_factHere_3 : cX8_factHere.data.toList.drop 71 = dktX8_factHere_3 := dk_seg dksX8_factHere_2 24 rfl rfl
theorem dksX8_factHere_4 : cX8_factHere.data.toList.drop 93 = dktX8_factHere_4 := dk_seg dksX8_factHere_3 22 rfl rfl
theorem dksX8_factHere_5 : cX8_factHere.data.toList.drop 116 = dktX8_factHere_5 := dk_seg dksX8_factHere_4 23 rfl rfl
theorem dX8_factHere_0 : decode cX8_factHere 0 = .ok (.aload_n 0, 1) := dk_42 (dk_at dksX8_factHere_0 0 rfl rfl)
theorem dX8_factHere_1 : decode cX8_factHere 1 = .ok (.invokevirtual 224, 3) := dk_182 0 224 (dk_at dksX8_factHere_0 1 rfl rfl)
theorem dX8_factHere_4 : decode cX8_factHere 4 = .ok (.istore_n 1, 1) := dk_60 (dk_at dksX8_factHere_0 4 rfl rfl)
theorem dX8_factHere_5 : decode cX8_factHere 5 = .ok (.iload_n 1, 1) := dk_27 (dk_at dksX8_factHere_0 5 rfl rfl)
theorem dX8_factHere_6 : decode cX8_factHere 6 = .ok (.ldc_w 264, 3) := dk_19 1 8 (dk_at dksX8_factHere_0 6 rfl rfl)
theorem dX8_factHere_9 : decode cX8_factHere 9 = .ok (.invokestatic 195, 3) := dk_184 0 195 (dk_at dksX8_factHere_0 9 rfl rfl)
theorem dX8_factHere_12 : decode cX8_factHere 12 = .ok (.if_icmp .ne 7, 3) := dk_160 0 7 (dk_at dksX8_factHere_0 12 rfl rfl)
theorem dX8_factHere_15 : decode cX8_factHere 15 = .ok (.iconst 0, 1) := dk_3 (dk_at dksX8_factHere_0 15 rfl rfl)
theorem dX8_factHere_16 : decode cX8_factHere 16 = .ok (.goto 104, 3) := dk_167 0 104 (dk_at dksX8_factHere_0 16 rfl rfl)
theorem dX8_factHere_19 : decode cX8_factHere 19 = .ok (.iload_n 1, 1) := dk_27 (dk_at dksX8_factHere_0 19 rfl rfl)
theorem dX8_factHere_20 : decode cX8_factHere 20 = .ok (.ldc_w 266, 3) := dk_19 1 10 (dk_at dksX8_factHere_0 20 rfl rfl)
theorem dX8_factHere_23 : decode cX8_factHere 23 = .ok (.invokestatic 195, 3) := dk_184 0 195 (dk_at dksX8_factHere_1 0 rfl rfl)
theorem dX8_factHere_26 : decode cX8_factHere 26 = .ok (.if_icmp .ne 7, 3) := dk_160 0 7 (dk_at dksX8_factHere_1 3 rfl rfl)
theorem dX8_factHere_29 : decode cX8_factHere 29 = .ok (.iconst 1, 1) := dk_4 (dk_at dksX8_factHere_1 6 rfl rfl)
theorem dX8_factHere_30 : decode cX8_factHere 30 = .ok (.goto 90, 3) := dk_167 0 90 (dk_at dksX8_factHere_1 7 rfl rfl)
theorem dX8_factHere_33 : decode cX8_factHere 33 = .ok (.iload_n 1, 1) := dk_27 (dk_at dksX8_factHere_1 10 rfl rfl)
theorem dX8_factHere_34 : decode cX8_factHere 34 = .ok (.ldc_w 268, 3) := dk_19 1 12 (dk_at dksX8_factHere_1 11 rfl rfl)
theorem dX8_factHere_37 : decode cX8_factHere 37 = .ok (.invokestatic 195, 3) := dk_184 0 195 (dk_at dksX8_factHere_1 14 rfl rfl)
theorem dX8_factHere_40 : decode cX8_factHere 40 = .ok (.if_icmp .ne 7, 3) := dk_160 0 7 (dk_at dksX8_factHere_1 17 rfl rfl)
theorem dX8_factHere_43 : decode cX8_factHere 43 = .ok (.iconst 2, 1) := dk_5 (dk_at dksX8_factHere_1 20 rfl rfl)
theorem dX8_factHere_44 : decode cX8_factHere 44 = .ok (.goto 76, 3) := dk_167 0 76 (dk_at dksX8_factHere_1 21 rfl rfl)
theorem dX8_factHere_47 : decode cX8_factHere 47 = .ok (.iload_n 1, 1) := dk_27 (dk_at dksX8_factHere_2 0 rfl rfl)
theorem dX8_factHere_48 : decode cX8_factHere 48 = .ok (.ldc_w 270, 3) := dk_19 1 14 (dk_at dksX8_factHere_2 1 rfl rfl)
theorem dX8_factHere_51 : decode cX8_factHere 51 = .ok (.invokestatic 195, 3) := dk_184 0 195 (dk_at dksX8_factHere_2 4 rfl rfl)
theorem dX8_factHere_54 : decode cX8_factHere 54 = .ok (.if_icmp .ne 7, 3) := dk_160 0 7 (dk_at dksX8_factHere_2 7 rfl rfl)
theorem dX8_factHere_57 : decode cX8_factHere 57 = .ok (.iconst 3, 1) := dk_6 (dk_at dksX8_factHere_2 10 rfl rfl)
theorem dX8_factHere_58 : decode cX8_factHere 58 = .ok (.goto 62, 3) := dk_167 0 62 (dk_at dksX8_factHere_2 11 rfl rfl)
theorem dX8_factHere_61 : decode cX8_factHere 61 = .ok (.iload_n 1, 1) := dk_27 (dk_at dksX8_factHere_2 14 rfl rfl)
theorem dX8_factHere_62 : decode cX8_factHere 62 = .ok (.ldc_w 272, 3) := dk_19 1 16 (dk_at dksX8_factHere_2 15 rfl rfl)
theorem dX8_factHere_65 : decode cX8_factHere 65 = .ok (.invokestatic 195, 3) := dk_184 0 195 (dk_at dksX8_factHere_2 18 rfl rfl)
theorem dX8_factHere_68 : decode cX8_factHere 68 = .ok (.if_icmp .ne 7, 3) := dk_160 0 7 (dk_at dksX8_factHere_2 21 rfl rfl)
theorem dX8_factHere_71 : decode cX8_factHere 71 = .ok (.iconst 4, 1) := dk_7 (dk_at dksX8_factHere_3 0 rfl rfl)
theorem dX8_factHere_72 : decode cX8_factHere 72 = .ok (.goto 48, 3) := dk_167 0 48 (dk_at dksX8_factHere_3 1 rfl rfl)
theorem dX8_factHere_75 : decode cX8_factHere 75 = .ok (.iload_n 1, 1) := dk_27 (dk_at dksX8_factHere_3 4 rfl rfl)
theorem dX8_factHere_76 : decode cX8_factHere 76 = .ok (.ldc_w 274, 3) := dk_19 1 18 (dk_at dksX8_factHere_3 5 rfl rfl)
theorem dX8_factHere_79 : decode cX8_factHere 79 = .ok (.invokestatic 195, 3) := dk_184 0 195 (dk_at dksX8_factHere_3 8 rfl rfl)
theorem dX8_factHere_82 : decode cX8_factHere 82 = .ok (.if_icmp .ne 7, 3) := dk_160 0 7 (dk_at dksX8_factHere_3 11 rfl rfl)
theorem dX8_factHere_85 : decode cX8_factHere 85 = .ok (.iconst 5, 1) := dk_8 (dk_at dksX8_factHere_3 14 rfl rfl)
theorem dX8_factHere_86 : decode cX8_factHere 86 = .ok (.goto 34, 3) := dk_167 0 34 (dk_at dksX8_factHere_3 15 rfl rfl)
theorem dX8_factHere_89 : decode cX8_factHere 89 = .ok (.iload_n 1, 1) := dk_27 (dk_at dksX8_factHere_3 18 rfl rfl)
theorem dX8_factHere_90 : decode cX8_factHere 90 = .ok (.ldc_w 276, 3) := dk_19 1 20 (dk_at dksX8_factHere_3 19 rfl rfl)
theorem dX8_factHere_93 : decode cX8_factHere 93 = .ok (.invokestatic 195, 3) := dk_184 0 195 (dk_at dksX8_factHere_4 0 rfl rfl)
theorem dX8_factHere_96 : decode cX8_factHere 96 = .ok (.if_icmp .ne 8, 3) := dk_160 0 8 (dk_at dksX8_factHere_4 3 rfl rfl)
theorem dX8_factHere_99 : decode cX8_factHere 99 = .ok (.bipush 6, 2) := dk_16 6 (dk_at dksX8_factHere_4 6 rfl rfl)
theorem dX8_factHere_101 : decode cX8_factHere 101 = .ok (.goto 19, 3) := dk_167 0 19 (dk_at dksX8_factHere_4 8 rfl rfl)
theorem dX8_factHere_104 : decode cX8_factHere 104 = .ok (.iload_n 1, 1) := dk_27 (dk_at dksX8_factHere_4 11 rfl rfl)
theorem dX8_factHere_105 : decode cX8_factHere 105 = .ok (.ldc_w 278, 3) := dk_19 1 22 (dk_at dksX8_factHere_4 12 rfl rfl)
theorem dX8_factHere_108 : decode cX8_factHere 108 = .ok (.invokestatic 195, 3) := dk_184 0 195 (dk_at dksX8_factHere_4 15 rfl rfl)
theorem dX8_factHere_111 : decode cX8_factHere 111 = .ok (.if_icmp .ne 8, 3) := dk_160 0 8 (dk_at dksX8_factHere_4 18 rfl rfl)
theorem dX8_factHere_114 : decode cX8_factHere 114 = .ok (.bipush 7, 2) := dk_16 7 (dk_at dksX8_factHere_4 21 rfl rfl)
theorem dX8_factHere_116 : decode cX8_factHere 116 = .ok (.goto 4, 3) := dk_167 0 4 (dk_at dksX8_factHere_5 0 rfl rfl)
theorem dX8_factHere_119 : decode cX8_factHere 119 = .ok (.iconst (-1), 1) := dk_2 (dk_at dksX8_factHere_5 3 rfl rfl)
theorem dX8_factHere_120 : decode cX8_factHere 120 = .ok (.ireturn, 1) := dk_172 (dk_at dksX8_factHere_5 4 rfl rfl)
abbrev cX8_work : ByteArray := prog_26_method_42_code
def yX8_work : MethodName := ⟨RX8, "work", "(I)I"⟩
def dkwX8_work_9 : List UInt8 := [180, 1, 83, 181, 0, 191, 42, 180, 1, 80, 172]
abbrev dktX8_work_9 : List UInt8 := dkwX8_work_9 ++ []
def dkwX8_work_8 : List UInt8 := [42, 180, 1, 45, 182, 1, 86, 42, 42, 180, 0, 65, 42, 180, 0, 62, 16, 66, 182, 0, 178, 42, 42]
abbrev dktX8_work_8 : List UInt8 := dkwX8_work_8 ++ dktX8_work_9
def dkwX8_work_7 : List UInt8 := [181, 0, 185, 42, 182, 1, 74, 42, 3, 181, 1, 77, 42, 3, 181, 1, 80, 42, 3, 181, 1, 83, 42, 3]
abbrev dktX8_work_7 : List UInt8 := dkwX8_work_7 ++ dktX8_work_8
def dkwX8_work_6 : List UInt8 := [104, 29, 96, 42, 180, 0, 62, 29, 46, 79, 132, 3, 1, 167, 255, 227, 42, 89, 180, 0, 185, 4, 96]
abbrev dktX8_work_6 : List UInt8 := dkwX8_work_6 ++ dktX8_work_7
def dkwX8_work_5 : List UInt8 := [180, 1, 45, 182, 0, 178, 3, 62, 29, 16, 66, 162, 0, 29, 42, 180, 0, 68, 16, 66, 42, 180, 0, 185]
abbrev dktX8_work_5 : List UInt8 := dkwX8_work_5 ++ dktX8_work_6
def dkwX8_work_4 : List UInt8 := [182, 0, 242, 61, 42, 180, 0, 114, 2, 159, 0, 5, 28, 172, 42, 42, 180, 0, 56, 42, 180, 0, 59, 42]
abbrev dktX8_work_4 : List UInt8 := dkwX8_work_4 ++ dktX8_work_5
def dkwX8_work_3 : List UInt8 := [182, 0, 143, 153, 0, 17, 42, 182, 0, 215, 153, 0, 10, 42, 182, 1, 71, 167, 255, 238, 42, 3]
abbrev dktX8_work_3 : List UInt8 := dkwX8_work_3 ++ dktX8_work_4
def dkwX8_work_2 : List UInt8 := [180, 0, 185, 16, 16, 160, 0, 12, 42, 3, 182, 0, 242, 87, 16, 236, 172, 42, 3, 181, 1, 45, 42]
abbrev dktX8_work_2 : List UInt8 := dkwX8_work_2 ++ dktX8_work_3
def dkwX8_work_1 : List UInt8 := [163, 0, 7, 4, 167, 0, 4, 3, 4, 4, 182, 0, 207, 154, 0, 5, 3, 172, 42, 27, 182, 0, 211, 42]
abbrev dktX8_work_1 : List UInt8 := dkwX8_work_1 ++ dktX8_work_2
def dkwX8_work_0 : List UInt8 := [42, 3, 181, 0, 3, 42, 27, 155, 0, 22, 27, 42, 180, 0, 111, 163, 0, 14, 27, 17, 0, 150]
abbrev dktX8_work_0 : List UInt8 := dkwX8_work_0 ++ dktX8_work_1
theorem dksX8_work_0 : cX8_work.data.toList.drop 0 = dktX8_work_0 := by decide +kernel
theorem dksX8_work_1 : cX8_work.data.toList.drop 22 = dktX8_work_1 := dk_seg dksX8_work_0 22 rfl rfl
theorem dksX8_work_2 : cX8_work.data.toList.drop 46 = dktX8_work_2 := dk_seg dksX8_work_1 24 rfl rfl
theorem dksX8_work_3 : cX8_work.data.toList.drop 69 = dktX8_work_3 := dk_seg dksX8_work_2 23 rfl rfl
theorem dksX8_work_4 : cX8_work.data.toList.drop 91 = dktX8_work_4 := dk_seg dksX8_work_3 22 rfl rfl
theorem dksX8_work_5 : cX8_work.data.toList.drop 115 = dktX8_work_5 := dk_seg dksX8_work_4 24 rfl rfl
theorem dksX8_work_6 : cX8_work.data.toList.drop 139 = dktX8_work_6 := dk_seg dksX8_work_5 24 rfl rfl
theorem dksX8_work_7 : cX8_work.data.toList.drop 162 = dktX8_work_7 := dk_seg dksX8_work_6 23 rfl rfl
theorem dksX8_work_8 : cX8_work.data.toList.drop 186 = dktX8_work_8 := dk_seg dksX8_work_7 24 rfl rfl
theorem dksX8_work_9 : cX8_work.data.toList.drop 209 = dktX8_work_9 := dk_seg dksX8_work_8 23 rfl rfl
theorem dX8_work_0 : decode cX8_work 0 = .ok (.aload_n 0, 1) := dk_42 (dk_at dksX8_work_0 0 rfl rfl)
theorem dX8_work_1 : decode cX8_work 1 = .ok (.iconst 0, 1) := dk_3 (dk_at dksX8_work_0 1 rfl rfl)
theorem dX8_work_2 : decode cX8_work 2 = .ok (.putfield 3, 3) := dk_181 0 3 (dk_at dksX8_work_0 2 rfl rfl)
theorem dX8_work_5 : decode cX8_work 5 = .ok (.aload_n 0, 1) := dk_42 (dk_at dksX8_work_0 5 rfl rfl)
theorem dX8_work_6 : decode cX8_work 6 = .ok (.iload_n 1, 1) := dk_27 (dk_at dksX8_work_0 6 rfl rfl)
theorem dX8_work_7 : decode cX8_work 7 = .ok (.ifCond .lt 22, 3) := dk_155 0 22 (dk_at dksX8_work_0 7 rfl rfl)
theorem dX8_work_10 : decode cX8_work 10 = .ok (.iload_n 1, 1) := dk_27 (dk_at dksX8_work_0 10 rfl rfl)
theorem dX8_work_11 : decode cX8_work 11 = .ok (.aload_n 0, 1) := dk_42 (dk_at dksX8_work_0 11 rfl rfl)
theorem dX8_work_12 : decode cX8_work 12 = .ok (.getfield 111, 3) := dk_180 0 111 (dk_at dksX8_work_0 12 rfl rfl)
theorem dX8_work_15 : decode cX8_work 15 = .ok (.if_icmp .gt 14, 3) := dk_163 0 14 (dk_at dksX8_work_0 15 rfl rfl)
theorem dX8_work_18 : decode cX8_work 18 = .ok (.iload_n 1, 1) := dk_27 (dk_at dksX8_work_0 18 rfl rfl)
theorem dX8_work_19 : decode cX8_work 19 = .ok (.sipush 150, 3) := dk_17 0 150 (dk_at dksX8_work_0 19 rfl rfl)
theorem dX8_work_22 : decode cX8_work 22 = .ok (.if_icmp .gt 7, 3) := dk_163 0 7 (dk_at dksX8_work_1 0 rfl rfl)
theorem dX8_work_25 : decode cX8_work 25 = .ok (.iconst 1, 1) := dk_4 (dk_at dksX8_work_1 3 rfl rfl)
theorem dX8_work_26 : decode cX8_work 26 = .ok (.goto 4, 3) := dk_167 0 4 (dk_at dksX8_work_1 4 rfl rfl)
theorem dX8_work_29 : decode cX8_work 29 = .ok (.iconst 0, 1) := dk_3 (dk_at dksX8_work_1 7 rfl rfl)
theorem dX8_work_30 : decode cX8_work 30 = .ok (.iconst 1, 1) := dk_4 (dk_at dksX8_work_1 8 rfl rfl)
theorem dX8_work_31 : decode cX8_work 31 = .ok (.iconst 1, 1) := dk_4 (dk_at dksX8_work_1 9 rfl rfl)
theorem dX8_work_32 : decode cX8_work 32 = .ok (.invokevirtual 207, 3) := dk_182 0 207 (dk_at dksX8_work_1 10 rfl rfl)
theorem dX8_work_35 : decode cX8_work 35 = .ok (.ifCond .ne 5, 3) := dk_154 0 5 (dk_at dksX8_work_1 13 rfl rfl)
theorem dX8_work_38 : decode cX8_work 38 = .ok (.iconst 0, 1) := dk_3 (dk_at dksX8_work_1 16 rfl rfl)
theorem dX8_work_39 : decode cX8_work 39 = .ok (.ireturn, 1) := dk_172 (dk_at dksX8_work_1 17 rfl rfl)
theorem dX8_work_40 : decode cX8_work 40 = .ok (.aload_n 0, 1) := dk_42 (dk_at dksX8_work_1 18 rfl rfl)
theorem dX8_work_41 : decode cX8_work 41 = .ok (.iload_n 1, 1) := dk_27 (dk_at dksX8_work_1 19 rfl rfl)
theorem dX8_work_42 : decode cX8_work 42 = .ok (.invokevirtual 211, 3) := dk_182 0 211 (dk_at dksX8_work_1 20 rfl rfl)
theorem dX8_work_45 : decode cX8_work 45 = .ok (.aload_n 0, 1) := dk_42 (dk_at dksX8_work_1 23 rfl rfl)
theorem dX8_work_46 : decode cX8_work 46 = .ok (.getfield 185, 3) := dk_180 0 185 (dk_at dksX8_work_2 0 rfl rfl)
theorem dX8_work_49 : decode cX8_work 49 = .ok (.bipush 16, 2) := dk_16 16 (dk_at dksX8_work_2 3 rfl rfl)
theorem dX8_work_51 : decode cX8_work 51 = .ok (.if_icmp .ne 12, 3) := dk_160 0 12 (dk_at dksX8_work_2 5 rfl rfl)
theorem dX8_work_54 : decode cX8_work 54 = .ok (.aload_n 0, 1) := dk_42 (dk_at dksX8_work_2 8 rfl rfl)
theorem dX8_work_55 : decode cX8_work 55 = .ok (.iconst 0, 1) := dk_3 (dk_at dksX8_work_2 9 rfl rfl)
theorem dX8_work_56 : decode cX8_work 56 = .ok (.invokevirtual 242, 3) := dk_182 0 242 (dk_at dksX8_work_2 10 rfl rfl)
theorem dX8_work_59 : decode cX8_work 59 = .ok (.pop, 1) := dk_87 (dk_at dksX8_work_2 13 rfl rfl)
theorem dX8_work_60 : decode cX8_work 60 = .ok (.bipush (-20), 2) := dk_16 236 (dk_at dksX8_work_2 14 rfl rfl)
theorem dX8_work_62 : decode cX8_work 62 = .ok (.ireturn, 1) := dk_172 (dk_at dksX8_work_2 16 rfl rfl)
theorem dX8_work_63 : decode cX8_work 63 = .ok (.aload_n 0, 1) := dk_42 (dk_at dksX8_work_2 17 rfl rfl)
theorem dX8_work_64 : decode cX8_work 64 = .ok (.iconst 0, 1) := dk_3 (dk_at dksX8_work_2 18 rfl rfl)
theorem dX8_work_65 : decode cX8_work 65 = .ok (.putfield 301, 3) := dk_181 1 45 (dk_at dksX8_work_2 19 rfl rfl)
theorem dX8_work_68 : decode cX8_work 68 = .ok (.aload_n 0, 1) := dk_42 (dk_at dksX8_work_2 22 rfl rfl)
theorem dX8_work_69 : decode cX8_work 69 = .ok (.invokevirtual 143, 3) := dk_182 0 143 (dk_at dksX8_work_3 0 rfl rfl)
theorem dX8_work_72 : decode cX8_work 72 = .ok (.ifCond .eq 17, 3) := dk_153 0 17 (dk_at dksX8_work_3 3 rfl rfl)
theorem dX8_work_75 : decode cX8_work 75 = .ok (.aload_n 0, 1) := dk_42 (dk_at dksX8_work_3 6 rfl rfl)
theorem dX8_work_76 : decode cX8_work 76 = .ok (.invokevirtual 215, 3) := dk_182 0 215 (dk_at dksX8_work_3 7 rfl rfl)
theorem dX8_work_79 : decode cX8_work 79 = .ok (.ifCond .eq 10, 3) := dk_153 0 10 (dk_at dksX8_work_3 10 rfl rfl)
theorem dX8_work_82 : decode cX8_work 82 = .ok (.aload_n 0, 1) := dk_42 (dk_at dksX8_work_3 13 rfl rfl)
theorem dX8_work_83 : decode cX8_work 83 = .ok (.invokevirtual 327, 3) := dk_182 1 71 (dk_at dksX8_work_3 14 rfl rfl)
theorem dX8_work_86 : decode cX8_work 86 = .ok (.goto (-18), 3) := dk_167 255 238 (dk_at dksX8_work_3 17 rfl rfl)
theorem dX8_work_89 : decode cX8_work 89 = .ok (.aload_n 0, 1) := dk_42 (dk_at dksX8_work_3 20 rfl rfl)
theorem dX8_work_90 : decode cX8_work 90 = .ok (.iconst 0, 1) := dk_3 (dk_at dksX8_work_3 21 rfl rfl)
theorem dX8_work_91 : decode cX8_work 91 = .ok (.invokevirtual 242, 3) := dk_182 0 242 (dk_at dksX8_work_4 0 rfl rfl)
theorem dX8_work_94 : decode cX8_work 94 = .ok (.istore_n 2, 1) := dk_61 (dk_at dksX8_work_4 3 rfl rfl)
theorem dX8_work_95 : decode cX8_work 95 = .ok (.aload_n 0, 1) := dk_42 (dk_at dksX8_work_4 4 rfl rfl)
theorem dX8_work_96 : decode cX8_work 96 = .ok (.getfield 114, 3) := dk_180 0 114 (dk_at dksX8_work_4 5 rfl rfl)
theorem dX8_work_99 : decode cX8_work 99 = .ok (.iconst (-1), 1) := dk_2 (dk_at dksX8_work_4 8 rfl rfl)
theorem dX8_work_100 : decode cX8_work 100 = .ok (.if_icmp .eq 5, 3) := dk_159 0 5 (dk_at dksX8_work_4 9 rfl rfl)
theorem dX8_work_103 : decode cX8_work 103 = .ok (.iload_n 2, 1) := dk_28 (dk_at dksX8_work_4 12 rfl rfl)
theorem dX8_work_104 : decode cX8_work 104 = .ok (.ireturn, 1) := dk_172 (dk_at dksX8_work_4 13 rfl rfl)
theorem dX8_work_105 : decode cX8_work 105 = .ok (.aload_n 0, 1) := dk_42 (dk_at dksX8_work_4 14 rfl rfl)
theorem dX8_work_106 : decode cX8_work 106 = .ok (.aload_n 0, 1) := dk_42 (dk_at dksX8_work_4 15 rfl rfl)
theorem dX8_work_107 : decode cX8_work 107 = .ok (.getfield 56, 3) := dk_180 0 56 (dk_at dksX8_work_4 16 rfl rfl)
theorem dX8_work_110 : decode cX8_work 110 = .ok (.aload_n 0, 1) := dk_42 (dk_at dksX8_work_4 19 rfl rfl)
theorem dX8_work_111 : decode cX8_work 111 = .ok (.getfield 59, 3) := dk_180 0 59 (dk_at dksX8_work_4 20 rfl rfl)
theorem dX8_work_114 : decode cX8_work 114 = .ok (.aload_n 0, 1) := dk_42 (dk_at dksX8_work_4 23 rfl rfl)
theorem dX8_work_115 : decode cX8_work 115 = .ok (.getfield 301, 3) := dk_180 1 45 (dk_at dksX8_work_5 0 rfl rfl)
theorem dX8_work_118 : decode cX8_work 118 = .ok (.invokevirtual 178, 3) := dk_182 0 178 (dk_at dksX8_work_5 3 rfl rfl)
theorem dX8_work_121 : decode cX8_work 121 = .ok (.iconst 0, 1) := dk_3 (dk_at dksX8_work_5 6 rfl rfl)
theorem dX8_work_122 : decode cX8_work 122 = .ok (.istore_n 3, 1) := dk_62 (dk_at dksX8_work_5 7 rfl rfl)
theorem dX8_work_123 : decode cX8_work 123 = .ok (.iload_n 3, 1) := dk_29 (dk_at dksX8_work_5 8 rfl rfl)
theorem dX8_work_124 : decode cX8_work 124 = .ok (.bipush 66, 2) := dk_16 66 (dk_at dksX8_work_5 9 rfl rfl)
theorem dX8_work_126 : decode cX8_work 126 = .ok (.if_icmp .ge 29, 3) := dk_162 0 29 (dk_at dksX8_work_5 11 rfl rfl)
theorem dX8_work_129 : decode cX8_work 129 = .ok (.aload_n 0, 1) := dk_42 (dk_at dksX8_work_5 14 rfl rfl)
theorem dX8_work_130 : decode cX8_work 130 = .ok (.getfield 68, 3) := dk_180 0 68 (dk_at dksX8_work_5 15 rfl rfl)
theorem dX8_work_133 : decode cX8_work 133 = .ok (.bipush 66, 2) := dk_16 66 (dk_at dksX8_work_5 18 rfl rfl)
theorem dX8_work_135 : decode cX8_work 135 = .ok (.aload_n 0, 1) := dk_42 (dk_at dksX8_work_5 20 rfl rfl)
theorem dX8_work_136 : decode cX8_work 136 = .ok (.getfield 185, 3) := dk_180 0 185 (dk_at dksX8_work_5 21 rfl rfl)
theorem dX8_work_139 : decode cX8_work 139 = .ok (.imul, 1) := dk_104 (dk_at dksX8_work_6 0 rfl rfl)
theorem dX8_work_140 : decode cX8_work 140 = .ok (.iload_n 3, 1) := dk_29 (dk_at dksX8_work_6 1 rfl rfl)
theorem dX8_work_141 : decode cX8_work 141 = .ok (.iadd, 1) := dk_96 (dk_at dksX8_work_6 2 rfl rfl)
theorem dX8_work_142 : decode cX8_work 142 = .ok (.aload_n 0, 1) := dk_42 (dk_at dksX8_work_6 3 rfl rfl)
theorem dX8_work_143 : decode cX8_work 143 = .ok (.getfield 62, 3) := dk_180 0 62 (dk_at dksX8_work_6 4 rfl rfl)
theorem dX8_work_146 : decode cX8_work 146 = .ok (.iload_n 3, 1) := dk_29 (dk_at dksX8_work_6 7 rfl rfl)
theorem dX8_work_147 : decode cX8_work 147 = .ok (.iaload, 1) := dk_46 (dk_at dksX8_work_6 8 rfl rfl)
theorem dX8_work_148 : decode cX8_work 148 = .ok (.iastore, 1) := dk_79 (dk_at dksX8_work_6 9 rfl rfl)
theorem dX8_work_149 : decode cX8_work 149 = .ok (.iinc 3 1, 3) := dk_132 3 1 (dk_at dksX8_work_6 10 rfl rfl)
theorem dX8_work_152 : decode cX8_work 152 = .ok (.goto (-29), 3) := dk_167 255 227 (dk_at dksX8_work_6 13 rfl rfl)
theorem dX8_work_155 : decode cX8_work 155 = .ok (.aload_n 0, 1) := dk_42 (dk_at dksX8_work_6 16 rfl rfl)
theorem dX8_work_156 : decode cX8_work 156 = .ok (.dup, 1) := dk_89 (dk_at dksX8_work_6 17 rfl rfl)
theorem dX8_work_157 : decode cX8_work 157 = .ok (.getfield 185, 3) := dk_180 0 185 (dk_at dksX8_work_6 18 rfl rfl)
theorem dX8_work_160 : decode cX8_work 160 = .ok (.iconst 1, 1) := dk_4 (dk_at dksX8_work_6 21 rfl rfl)
theorem dX8_work_161 : decode cX8_work 161 = .ok (.iadd, 1) := dk_96 (dk_at dksX8_work_6 22 rfl rfl)
theorem dX8_work_162 : decode cX8_work 162 = .ok (.putfield 185, 3) := dk_181 0 185 (dk_at dksX8_work_7 0 rfl rfl)
theorem dX8_work_165 : decode cX8_work 165 = .ok (.aload_n 0, 1) := dk_42 (dk_at dksX8_work_7 3 rfl rfl)
theorem dX8_work_166 : decode cX8_work 166 = .ok (.invokevirtual 330, 3) := dk_182 1 74 (dk_at dksX8_work_7 4 rfl rfl)
theorem dX8_work_169 : decode cX8_work 169 = .ok (.aload_n 0, 1) := dk_42 (dk_at dksX8_work_7 7 rfl rfl)
theorem dX8_work_170 : decode cX8_work 170 = .ok (.iconst 0, 1) := dk_3 (dk_at dksX8_work_7 8 rfl rfl)
theorem dX8_work_171 : decode cX8_work 171 = .ok (.putfield 333, 3) := dk_181 1 77 (dk_at dksX8_work_7 9 rfl rfl)
theorem dX8_work_174 : decode cX8_work 174 = .ok (.aload_n 0, 1) := dk_42 (dk_at dksX8_work_7 12 rfl rfl)
theorem dX8_work_175 : decode cX8_work 175 = .ok (.iconst 0, 1) := dk_3 (dk_at dksX8_work_7 13 rfl rfl)
theorem dX8_work_176 : decode cX8_work 176 = .ok (.putfield 336, 3) := dk_181 1 80 (dk_at dksX8_work_7 14 rfl rfl)
theorem dX8_work_179 : decode cX8_work 179 = .ok (.aload_n 0, 1) := dk_42 (dk_at dksX8_work_7 17 rfl rfl)
theorem dX8_work_180 : decode cX8_work 180 = .ok (.iconst 0, 1) := dk_3 (dk_at dksX8_work_7 18 rfl rfl)
theorem dX8_work_181 : decode cX8_work 181 = .ok (.putfield 339, 3) := dk_181 1 83 (dk_at dksX8_work_7 19 rfl rfl)
theorem dX8_work_184 : decode cX8_work 184 = .ok (.aload_n 0, 1) := dk_42 (dk_at dksX8_work_7 22 rfl rfl)
theorem dX8_work_185 : decode cX8_work 185 = .ok (.iconst 0, 1) := dk_3 (dk_at dksX8_work_7 23 rfl rfl)
theorem dX8_work_186 : decode cX8_work 186 = .ok (.aload_n 0, 1) := dk_42 (dk_at dksX8_work_8 0 rfl rfl)
theorem dX8_work_187 : decode cX8_work 187 = .ok (.getfield 301, 3) := dk_180 1 45 (dk_at dksX8_work_8 1 rfl rfl)
theorem dX8_work_190 : decode cX8_work 190 = .ok (.invokevirtual 342, 3) := dk_182 1 86 (dk_at dksX8_work_8 4 rfl rfl)
theorem dX8_work_193 : decode cX8_work 193 = .ok (.aload_n 0, 1) := dk_42 (dk_at dksX8_work_8 7 rfl rfl)
theorem dX8_work_194 : decode cX8_work 194 = .ok (.aload_n 0, 1) := dk_42 (dk_at dksX8_work_8 8 rfl rfl)
theorem dX8_work_195 : decode cX8_work 195 = .ok (.getfield 65, 3) := dk_180 0 65 (dk_at dksX8_work_8 9 rfl rfl)
theorem dX8_work_198 : decode cX8_work 198 = .ok (.aload_n 0, 1) := dk_42 (dk_at dksX8_work_8 12 rfl rfl)
theorem dX8_work_199 : decode cX8_work 199 = .ok (.getfield 62, 3) := dk_180 0 62 (dk_at dksX8_work_8 13 rfl rfl)
theorem dX8_work_202 : decode cX8_work 202 = .ok (.bipush 66, 2) := dk_16 66 (dk_at dksX8_work_8 16 rfl rfl)
theorem dX8_work_204 : decode cX8_work 204 = .ok (.invokevirtual 178, 3) := dk_182 0 178 (dk_at dksX8_work_8 18 rfl rfl)
theorem dX8_work_207 : decode cX8_work 207 = .ok (.aload_n 0, 1) := dk_42 (dk_at dksX8_work_8 21 rfl rfl)
theorem dX8_work_208 : decode cX8_work 208 = .ok (.aload_n 0, 1) := dk_42 (dk_at dksX8_work_8 22 rfl rfl)
theorem dX8_work_209 : decode cX8_work 209 = .ok (.getfield 339, 3) := dk_180 1 83 (dk_at dksX8_work_9 0 rfl rfl)
theorem dX8_work_212 : decode cX8_work 212 = .ok (.putfield 191, 3) := dk_181 0 191 (dk_at dksX8_work_9 3 rfl rfl)
theorem dX8_work_215 : decode cX8_work 215 = .ok (.aload_n 0, 1) := dk_42 (dk_at dksX8_work_9 6 rfl rfl)
theorem dX8_work_216 : decode cX8_work 216 = .ok (.getfield 336, 3) := dk_180 1 80 (dk_at dksX8_work_9 7 rfl rfl)
theorem dX8_work_219 : decode cX8_work 219 = .ok (.ireturn, 1) := dk_172 (dk_at dksX8_work_9 10 rfl rfl)
abbrev cX8_readStep : ByteArray := prog_26_method_41_code
def yX8_readStep : MethodName := ⟨RX8, "readStep", "()V"⟩
def dkwX8_readStep_14 : List UInt8 := [180, 1, 45, 79, 167, 0, 12, 42, 4, 42, 180, 0, 120, 182, 0, 150, 42, 16, 59, 182, 0, 239, 177]
abbrev dktX8_readStep_14 : List UInt8 := dkwX8_readStep_14 ++ []
def dkwX8_readStep_13 : List UInt8 := [180, 0, 154, 4, 100, 181, 0, 154, 42, 182, 0, 143, 153, 0, 15, 42, 180, 0, 56, 29, 5, 96, 42]
abbrev dktX8_readStep_13 : List UInt8 := dkwX8_readStep_13 ++ dktX8_readStep_14
def dkwX8_readStep_12 : List UInt8 := [182, 0, 126, 16, 93, 159, 0, 10, 42, 182, 1, 71, 167, 255, 236, 42, 16, 93, 182, 0, 239, 42, 89]
abbrev dktX8_readStep_12 : List UInt8 := dkwX8_readStep_12 ++ dktX8_readStep_13
def dkwX8_readStep_11 : List UInt8 := [182, 0, 239, 42, 180, 1, 45, 62, 42, 16, 8, 28, 3, 182, 1, 50, 42, 182, 0, 143, 153, 0, 19, 42]
abbrev dktX8_readStep_11 : List UInt8 := dkwX8_readStep_11 ++ dktX8_readStep_12
def dkwX8_readStep_10 : List UInt8 := [184, 0, 195, 160, 0, 96, 42, 8, 182, 1, 2, 42, 3, 16, 60, 182, 0, 199, 61, 42, 16, 91]
abbrev dktX8_readStep_10 : List UInt8 := dkwX8_readStep_10 ++ dktX8_readStep_11
def dkwX8_readStep_9 : List UInt8 := [160, 0, 7, 8, 167, 0, 5, 16, 6, 42, 182, 1, 56, 3, 182, 1, 50, 167, 0, 115, 27, 19, 1, 69]
abbrev dktX8_readStep_9 : List UInt8 := dkwX8_readStep_9 ++ dktX8_readStep_10
def dkwX8_readStep_8 : List UInt8 := [167, 0, 33, 27, 19, 1, 63, 184, 0, 195, 160, 0, 7, 7, 167, 0, 19, 27, 19, 1, 65, 184, 0, 195]
abbrev dktX8_readStep_8 : List UInt8 := dkwX8_readStep_8 ++ dktX8_readStep_9
def dkwX8_readStep_7 : List UInt8 := [184, 0, 195, 160, 0, 63, 42, 182, 0, 230, 42, 27, 19, 1, 61, 184, 0, 195, 160, 0, 7, 6]
abbrev dktX8_readStep_7 : List UInt8 := dkwX8_readStep_7 ++ dktX8_readStep_8
def dkwX8_readStep_6 : List UInt8 := [19, 1, 63, 184, 0, 195, 159, 0, 23, 27, 19, 1, 65, 184, 0, 195, 159, 0, 13, 27, 19, 1, 67]
abbrev dktX8_readStep_6 : List UInt8 := dkwX8_readStep_6 ++ dktX8_readStep_7
def dkwX8_readStep_5 : List UInt8 := [16, 24, 182, 0, 199, 182, 1, 50, 167, 0, 215, 27, 19, 1, 61, 184, 0, 195, 159, 0, 33, 27]
abbrev dktX8_readStep_5 : List UInt8 := dkwX8_readStep_5 ++ dktX8_readStep_6
def dkwX8_readStep_4 : List UInt8 := [27, 19, 1, 59, 184, 0, 195, 160, 0, 28, 42, 182, 0, 230, 42, 182, 1, 56, 61, 42, 5, 28, 42, 4]
abbrev dktX8_readStep_4 : List UInt8 := dkwX8_readStep_4 ++ dktX8_readStep_5
def dkwX8_readStep_3 : List UInt8 := [182, 1, 56, 61, 42, 4, 28, 42, 3, 42, 180, 0, 172, 4, 100, 182, 0, 199, 182, 1, 50, 167, 0, 250]
abbrev dktX8_readStep_3 : List UInt8 := dkwX8_readStep_3 ++ dktX8_readStep_4
def dkwX8_readStep_2 : List UInt8 := [3, 3, 182, 1, 50, 167, 1, 33, 27, 19, 1, 54, 184, 0, 195, 160, 0, 32, 42, 182, 0, 230, 42]
abbrev dktX8_readStep_2 : List UInt8 := dkwX8_readStep_2 ++ dktX8_readStep_3
def dkwX8_readStep_1 : List UInt8 := [160, 0, 32, 42, 182, 0, 230, 42, 27, 19, 1, 48, 184, 0, 195, 160, 0, 7, 3, 167, 0, 5, 16, 7]
abbrev dktX8_readStep_1 : List UInt8 := dkwX8_readStep_1 ++ dktX8_readStep_2
def dkwX8_readStep_0 : List UInt8 := [42, 182, 0, 224, 60, 27, 19, 1, 48, 184, 0, 195, 159, 0, 13, 27, 19, 1, 22, 184, 0, 195]
abbrev dktX8_readStep_0 : List UInt8 := dkwX8_readStep_0 ++ dktX8_readStep_1
theorem dksX8_readStep_0 : cX8_readStep.data.toList.drop 0 = dktX8_readStep_0 := by decide +kernel
theorem dksX8_readStep_1 : cX8_readStep.data.toList.drop 22 = dktX8_readStep_1 := dk_seg dksX8_readStep_0 22 rfl rfl
theorem dksX8_readStep_2 : cX8_readStep.data.toList.drop 46 = dktX8_readStep_2 := dk_seg dksX8_readStep_1 24 rfl rfl
theorem dksX8_readStep_3 : cX8_readStep.data.toList.drop 69 = dktX8_readStep_3 := dk_seg dksX8_readStep_2 23 rfl rfl
theorem dksX8_readStep_4 : cX8_readStep.data.toList.drop 93 = dktX8_readStep_4 := dk_seg dksX8_readStep_3 24 rfl rfl
theorem dksX8_readStep_5 : cX8_readStep.data.toList.drop 117 = dktX8_readStep_5 := dk_seg dksX8_readStep_4 24 rfl rfl
theorem dksX8_readStep_6 : cX8_readStep.data.toList.drop 139 = dktX8_readStep_6 := dk_seg dksX8_readStep_5 22 rfl rfl
theorem dksX8_readStep_7 : cX8_readStep.data.toList.drop 162 = dktX8_readStep_7 := dk_seg dksX8_readStep_6 23 rfl rfl
theorem dksX8_readStep_8 : cX8_readStep.data.toList.drop 184 = dktX8_readStep_8 := dk_seg dksX8_readStep_7 22 rfl rfl
theorem dksX8_readStep_9 : cX8_readStep.data.toList.drop 208 = dktX8_readStep_9 := dk_seg dksX8_readStep_8 24 rfl rfl
theorem dksX8_readStep_10 : cX8_readStep.data.toList.drop 232 = dktX8_readStep_10 := dk_seg dksX8_readStep_9 24 rfl rfl
theorem dksX8_readStep_11 : cX8_readStep.data.toList.drop 254 = dktX8_readStep_11 := dk_seg dksX8_readStep_10 22 rfl rfl
theorem dksX8_readStep_12 : cX8_readStep.data.toList.drop 278 = dktX8_readStep_12 := dk_seg dksX8_readStep_11 24 rfl rfl
theorem dksX8_readStep_13 : cX8_readStep.data.toList.drop 301 = dktX8_readStep_13 := dk_seg dksX8_readStep_12 23 rfl rfl
theorem dksX8_readStep_14 : cX8_readStep.data.toList.drop 324 = dktX8_readStep_14 := dk_seg dksX8_readStep_13 23 rfl rfl
theorem dX8_readStep_0 : decode cX8_readStep 0 = .ok (.aload_n 0, 1) := dk_42 (dk_at dksX8_readStep_0 0 rfl rfl)
theorem dX8_readStep_1 : decode cX8_readStep 1 = .ok (.invokevirtual 224, 3) := dk_182 0 224 (dk_at dksX8_readStep_0 1 rfl rfl)
theorem dX8_readStep_4 : decode cX8_readStep 4 = .ok (.istore_n 1, 1) := dk_60 (dk_at dksX8_readStep_0 4 rfl rfl)
theorem dX8_readStep_5 : decode cX8_readStep 5 = .ok (.iload_n 1, 1) := dk_27 (dk_at dksX8_readStep_0 5 rfl rfl)
theorem dX8_readStep_6 : decode cX8_readStep 6 = .ok (.ldc_w 304, 3) := dk_19 1 48 (dk_at dksX8_readStep_0 6 rfl rfl)
theorem dX8_readStep_9 : decode cX8_readStep 9 = .ok (.invokestatic 195, 3) := dk_184 0 195 (dk_at dksX8_readStep_0 9 rfl rfl)
theorem dX8_readStep_12 : decode cX8_readStep 12 = .ok (.if_icmp .eq 13, 3) := dk_159 0 13 (dk_at dksX8_readStep_0 12 rfl rfl)
theorem dX8_readStep_15 : decode cX8_readStep 15 = .ok (.iload_n 1, 1) := dk_27 (dk_at dksX8_readStep_0 15 rfl rfl)
theorem dX8_readStep_16 : decode cX8_readStep 16 = .ok (.ldc_w 278, 3) := dk_19 1 22 (dk_at dksX8_readStep_0 16 rfl rfl)
theorem dX8_readStep_19 : decode cX8_readStep 19 = .ok (.invokestatic 195, 3) := dk_184 0 195 (dk_at dksX8_readStep_0 19 rfl rfl)
theorem dX8_readStep_22 : decode cX8_readStep 22 = .ok (.if_icmp .ne 32, 3) := dk_160 0 32 (dk_at dksX8_readStep_1 0 rfl rfl)
theorem dX8_readStep_25 : decode cX8_readStep 25 = .ok (.aload_n 0, 1) := dk_42 (dk_at dksX8_readStep_1 3 rfl rfl)
theorem dX8_readStep_26 : decode cX8_readStep 26 = .ok (.invokevirtual 230, 3) := dk_182 0 230 (dk_at dksX8_readStep_1 4 rfl rfl)
theorem dX8_readStep_29 : decode cX8_readStep 29 = .ok (.aload_n 0, 1) := dk_42 (dk_at dksX8_readStep_1 7 rfl rfl)
theorem dX8_readStep_30 : decode cX8_readStep 30 = .ok (.iload_n 1, 1) := dk_27 (dk_at dksX8_readStep_1 8 rfl rfl)
theorem dX8_readStep_31 : decode cX8_readStep 31 = .ok (.ldc_w 304, 3) := dk_19 1 48 (dk_at dksX8_readStep_1 9 rfl rfl)
theorem dX8_readStep_34 : decode cX8_readStep 34 = .ok (.invokestatic 195, 3) := dk_184 0 195 (dk_at dksX8_readStep_1 12 rfl rfl)
theorem dX8_readStep_37 : decode cX8_readStep 37 = .ok (.if_icmp .ne 7, 3) := dk_160 0 7 (dk_at dksX8_readStep_1 15 rfl rfl)
theorem dX8_readStep_40 : decode cX8_readStep 40 = .ok (.iconst 0, 1) := dk_3 (dk_at dksX8_readStep_1 18 rfl rfl)
theorem dX8_readStep_41 : decode cX8_readStep 41 = .ok (.goto 5, 3) := dk_167 0 5 (dk_at dksX8_readStep_1 19 rfl rfl)
theorem dX8_readStep_44 : decode cX8_readStep 44 = .ok (.bipush 7, 2) := dk_16 7 (dk_at dksX8_readStep_1 22 rfl rfl)
theorem dX8_readStep_46 : decode cX8_readStep 46 = .ok (.iconst 0, 1) := dk_3 (dk_at dksX8_readStep_2 0 rfl rfl)
theorem dX8_readStep_47 : decode cX8_readStep 47 = .ok (.iconst 0, 1) := dk_3 (dk_at dksX8_readStep_2 1 rfl rfl)
theorem dX8_readStep_48 : decode cX8_readStep 48 = .ok (.invokevirtual 306, 3) := dk_182 1 50 (dk_at dksX8_readStep_2 2 rfl rfl)
theorem dX8_readStep_51 : decode cX8_readStep 51 = .ok (.goto 289, 3) := dk_167 1 33 (dk_at dksX8_readStep_2 5 rfl rfl)
theorem dX8_readStep_54 : decode cX8_readStep 54 = .ok (.iload_n 1, 1) := dk_27 (dk_at dksX8_readStep_2 8 rfl rfl)
theorem dX8_readStep_55 : decode cX8_readStep 55 = .ok (.ldc_w 310, 3) := dk_19 1 54 (dk_at dksX8_readStep_2 9 rfl rfl)
theorem dX8_readStep_58 : decode cX8_readStep 58 = .ok (.invokestatic 195, 3) := dk_184 0 195 (dk_at dksX8_readStep_2 12 rfl rfl)
theorem dX8_readStep_61 : decode cX8_readStep 61 = .ok (.if_icmp .ne 32, 3) := dk_160 0 32 (dk_at dksX8_readStep_2 15 rfl rfl)
theorem dX8_readStep_64 : decode cX8_readStep 64 = .ok (.aload_n 0, 1) := dk_42 (dk_at dksX8_readStep_2 18 rfl rfl)
theorem dX8_readStep_65 : decode cX8_readStep 65 = .ok (.invokevirtual 230, 3) := dk_182 0 230 (dk_at dksX8_readStep_2 19 rfl rfl)
theorem dX8_readStep_68 : decode cX8_readStep 68 = .ok (.aload_n 0, 1) := dk_42 (dk_at dksX8_readStep_2 22 rfl rfl)
theorem dX8_readStep_69 : decode cX8_readStep 69 = .ok (.invokevirtual 312, 3) := dk_182 1 56 (dk_at dksX8_readStep_3 0 rfl rfl)
theorem dX8_readStep_72 : decode cX8_readStep 72 = .ok (.istore_n 2, 1) := dk_61 (dk_at dksX8_readStep_3 3 rfl rfl)
theorem dX8_readStep_73 : decode cX8_readStep 73 = .ok (.aload_n 0, 1) := dk_42 (dk_at dksX8_readStep_3 4 rfl rfl)
theorem dX8_readStep_74 : decode cX8_readStep 74 = .ok (.iconst 1, 1) := dk_4 (dk_at dksX8_readStep_3 5 rfl rfl)
theorem dX8_readStep_75 : decode cX8_readStep 75 = .ok (.iload_n 2, 1) := dk_28 (dk_at dksX8_readStep_3 6 rfl rfl)
theorem dX8_readStep_76 : decode cX8_readStep 76 = .ok (.aload_n 0, 1) := dk_42 (dk_at dksX8_readStep_3 7 rfl rfl)
theorem dX8_readStep_77 : decode cX8_readStep 77 = .ok (.iconst 0, 1) := dk_3 (dk_at dksX8_readStep_3 8 rfl rfl)
theorem dX8_readStep_78 : decode cX8_readStep 78 = .ok (.aload_n 0, 1) := dk_42 (dk_at dksX8_readStep_3 9 rfl rfl)
theorem dX8_readStep_79 : decode cX8_readStep 79 = .ok (.getfield 172, 3) := dk_180 0 172 (dk_at dksX8_readStep_3 10 rfl rfl)
theorem dX8_readStep_82 : decode cX8_readStep 82 = .ok (.iconst 1, 1) := dk_4 (dk_at dksX8_readStep_3 13 rfl rfl)
theorem dX8_readStep_83 : decode cX8_readStep 83 = .ok (.isub, 1) := dk_100 (dk_at dksX8_readStep_3 14 rfl rfl)
theorem dX8_readStep_84 : decode cX8_readStep 84 = .ok (.invokevirtual 199, 3) := dk_182 0 199 (dk_at dksX8_readStep_3 15 rfl rfl)
theorem dX8_readStep_87 : decode cX8_readStep 87 = .ok (.invokevirtual 306, 3) := dk_182 1 50 (dk_at dksX8_readStep_3 18 rfl rfl)
theorem dX8_readStep_90 : decode cX8_readStep 90 = .ok (.goto 250, 3) := dk_167 0 250 (dk_at dksX8_readStep_3 21 rfl rfl)
theorem dX8_readStep_93 : decode cX8_readStep 93 = .ok (.iload_n 1, 1) := dk_27 (dk_at dksX8_readStep_4 0 rfl rfl)
theorem dX8_readStep_94 : decode cX8_readStep 94 = .ok (.ldc_w 315, 3) := dk_19 1 59 (dk_at dksX8_readStep_4 1 rfl rfl)
theorem dX8_readStep_97 : decode cX8_readStep 97 = .ok (.invokestatic 195, 3) := dk_184 0 195 (dk_at dksX8_readStep_4 4 rfl rfl)
theorem dX8_readStep_100 : decode cX8_readStep 100 = .ok (.if_icmp .ne 28, 3) := dk_160 0 28 (dk_at dksX8_readStep_4 7 rfl rfl)
theorem dX8_readStep_103 : decode cX8_readStep 103 = .ok (.aload_n 0, 1) := dk_42 (dk_at dksX8_readStep_4 10 rfl rfl)
theorem dX8_readStep_104 : decode cX8_readStep 104 = .ok (.invokevirtual 230, 3) := dk_182 0 230 (dk_at dksX8_readStep_4 11 rfl rfl)
theorem dX8_readStep_107 : decode cX8_readStep 107 = .ok (.aload_n 0, 1) := dk_42 (dk_at dksX8_readStep_4 14 rfl rfl)
theorem dX8_readStep_108 : decode cX8_readStep 108 = .ok (.invokevirtual 312, 3) := dk_182 1 56 (dk_at dksX8_readStep_4 15 rfl rfl)
theorem dX8_readStep_111 : decode cX8_readStep 111 = .ok (.istore_n 2, 1) := dk_61 (dk_at dksX8_readStep_4 18 rfl rfl)
theorem dX8_readStep_112 : decode cX8_readStep 112 = .ok (.aload_n 0, 1) := dk_42 (dk_at dksX8_readStep_4 19 rfl rfl)
theorem dX8_readStep_113 : decode cX8_readStep 113 = .ok (.iconst 2, 1) := dk_5 (dk_at dksX8_readStep_4 20 rfl rfl)
theorem dX8_readStep_114 : decode cX8_readStep 114 = .ok (.iload_n 2, 1) := dk_28 (dk_at dksX8_readStep_4 21 rfl rfl)
theorem dX8_readStep_115 : decode cX8_readStep 115 = .ok (.aload_n 0, 1) := dk_42 (dk_at dksX8_readStep_4 22 rfl rfl)
theorem dX8_readStep_116 : decode cX8_readStep 116 = .ok (.iconst 1, 1) := dk_4 (dk_at dksX8_readStep_4 23 rfl rfl)
theorem dX8_readStep_117 : decode cX8_readStep 117 = .ok (.bipush 24, 2) := dk_16 24 (dk_at dksX8_readStep_5 0 rfl rfl)
theorem dX8_readStep_119 : decode cX8_readStep 119 = .ok (.invokevirtual 199, 3) := dk_182 0 199 (dk_at dksX8_readStep_5 2 rfl rfl)
theorem dX8_readStep_122 : decode cX8_readStep 122 = .ok (.invokevirtual 306, 3) := dk_182 1 50 (dk_at dksX8_readStep_5 5 rfl rfl)
theorem dX8_readStep_125 : decode cX8_readStep 125 = .ok (.goto 215, 3) := dk_167 0 215 (dk_at dksX8_readStep_5 8 rfl rfl)
theorem dX8_readStep_128 : decode cX8_readStep 128 = .ok (.iload_n 1, 1) := dk_27 (dk_at dksX8_readStep_5 11 rfl rfl)
theorem dX8_readStep_129 : decode cX8_readStep 129 = .ok (.ldc_w 317, 3) := dk_19 1 61 (dk_at dksX8_readStep_5 12 rfl rfl)
theorem dX8_readStep_132 : decode cX8_readStep 132 = .ok (.invokestatic 195, 3) := dk_184 0 195 (dk_at dksX8_readStep_5 15 rfl rfl)
theorem dX8_readStep_135 : decode cX8_readStep 135 = .ok (.if_icmp .eq 33, 3) := dk_159 0 33 (dk_at dksX8_readStep_5 18 rfl rfl)
theorem dX8_readStep_138 : decode cX8_readStep 138 = .ok (.iload_n 1, 1) := dk_27 (dk_at dksX8_readStep_5 21 rfl rfl)
theorem dX8_readStep_139 : decode cX8_readStep 139 = .ok (.ldc_w 319, 3) := dk_19 1 63 (dk_at dksX8_readStep_6 0 rfl rfl)
theorem dX8_readStep_142 : decode cX8_readStep 142 = .ok (.invokestatic 195, 3) := dk_184 0 195 (dk_at dksX8_readStep_6 3 rfl rfl)
theorem dX8_readStep_145 : decode cX8_readStep 145 = .ok (.if_icmp .eq 23, 3) := dk_159 0 23 (dk_at dksX8_readStep_6 6 rfl rfl)
theorem dX8_readStep_148 : decode cX8_readStep 148 = .ok (.iload_n 1, 1) := dk_27 (dk_at dksX8_readStep_6 9 rfl rfl)
theorem dX8_readStep_149 : decode cX8_readStep 149 = .ok (.ldc_w 321, 3) := dk_19 1 65 (dk_at dksX8_readStep_6 10 rfl rfl)
theorem dX8_readStep_152 : decode cX8_readStep 152 = .ok (.invokestatic 195, 3) := dk_184 0 195 (dk_at dksX8_readStep_6 13 rfl rfl)
theorem dX8_readStep_155 : decode cX8_readStep 155 = .ok (.if_icmp .eq 13, 3) := dk_159 0 13 (dk_at dksX8_readStep_6 16 rfl rfl)
theorem dX8_readStep_158 : decode cX8_readStep 158 = .ok (.iload_n 1, 1) := dk_27 (dk_at dksX8_readStep_6 19 rfl rfl)
theorem dX8_readStep_159 : decode cX8_readStep 159 = .ok (.ldc_w 323, 3) := dk_19 1 67 (dk_at dksX8_readStep_6 20 rfl rfl)
theorem dX8_readStep_162 : decode cX8_readStep 162 = .ok (.invokestatic 195, 3) := dk_184 0 195 (dk_at dksX8_readStep_7 0 rfl rfl)
theorem dX8_readStep_165 : decode cX8_readStep 165 = .ok (.if_icmp .ne 63, 3) := dk_160 0 63 (dk_at dksX8_readStep_7 3 rfl rfl)
theorem dX8_readStep_168 : decode cX8_readStep 168 = .ok (.aload_n 0, 1) := dk_42 (dk_at dksX8_readStep_7 6 rfl rfl)
theorem dX8_readStep_169 : decode cX8_readStep 169 = .ok (.invokevirtual 230, 3) := dk_182 0 230 (dk_at dksX8_readStep_7 7 rfl rfl)
theorem dX8_readStep_172 : decode cX8_readStep 172 = .ok (.aload_n 0, 1) := dk_42 (dk_at dksX8_readStep_7 10 rfl rfl)
theorem dX8_readStep_173 : decode cX8_readStep 173 = .ok (.iload_n 1, 1) := dk_27 (dk_at dksX8_readStep_7 11 rfl rfl)
theorem dX8_readStep_174 : decode cX8_readStep 174 = .ok (.ldc_w 317, 3) := dk_19 1 61 (dk_at dksX8_readStep_7 12 rfl rfl)
theorem dX8_readStep_177 : decode cX8_readStep 177 = .ok (.invokestatic 195, 3) := dk_184 0 195 (dk_at dksX8_readStep_7 15 rfl rfl)
theorem dX8_readStep_180 : decode cX8_readStep 180 = .ok (.if_icmp .ne 7, 3) := dk_160 0 7 (dk_at dksX8_readStep_7 18 rfl rfl)
theorem dX8_readStep_183 : decode cX8_readStep 183 = .ok (.iconst 3, 1) := dk_6 (dk_at dksX8_readStep_7 21 rfl rfl)
theorem dX8_readStep_184 : decode cX8_readStep 184 = .ok (.goto 33, 3) := dk_167 0 33 (dk_at dksX8_readStep_8 0 rfl rfl)
theorem dX8_readStep_187 : decode cX8_readStep 187 = .ok (.iload_n 1, 1) := dk_27 (dk_at dksX8_readStep_8 3 rfl rfl)
theorem dX8_readStep_188 : decode cX8_readStep 188 = .ok (.ldc_w 319, 3) := dk_19 1 63 (dk_at dksX8_readStep_8 4 rfl rfl)
theorem dX8_readStep_191 : decode cX8_readStep 191 = .ok (.invokestatic 195, 3) := dk_184 0 195 (dk_at dksX8_readStep_8 7 rfl rfl)
theorem dX8_readStep_194 : decode cX8_readStep 194 = .ok (.if_icmp .ne 7, 3) := dk_160 0 7 (dk_at dksX8_readStep_8 10 rfl rfl)
theorem dX8_readStep_197 : decode cX8_readStep 197 = .ok (.iconst 4, 1) := dk_7 (dk_at dksX8_readStep_8 13 rfl rfl)
theorem dX8_readStep_198 : decode cX8_readStep 198 = .ok (.goto 19, 3) := dk_167 0 19 (dk_at dksX8_readStep_8 14 rfl rfl)
theorem dX8_readStep_201 : decode cX8_readStep 201 = .ok (.iload_n 1, 1) := dk_27 (dk_at dksX8_readStep_8 17 rfl rfl)
theorem dX8_readStep_202 : decode cX8_readStep 202 = .ok (.ldc_w 321, 3) := dk_19 1 65 (dk_at dksX8_readStep_8 18 rfl rfl)
theorem dX8_readStep_205 : decode cX8_readStep 205 = .ok (.invokestatic 195, 3) := dk_184 0 195 (dk_at dksX8_readStep_8 21 rfl rfl)
theorem dX8_readStep_208 : decode cX8_readStep 208 = .ok (.if_icmp .ne 7, 3) := dk_160 0 7 (dk_at dksX8_readStep_9 0 rfl rfl)
theorem dX8_readStep_211 : decode cX8_readStep 211 = .ok (.iconst 5, 1) := dk_8 (dk_at dksX8_readStep_9 3 rfl rfl)
theorem dX8_readStep_212 : decode cX8_readStep 212 = .ok (.goto 5, 3) := dk_167 0 5 (dk_at dksX8_readStep_9 4 rfl rfl)
theorem dX8_readStep_215 : decode cX8_readStep 215 = .ok (.bipush 6, 2) := dk_16 6 (dk_at dksX8_readStep_9 7 rfl rfl)
theorem dX8_readStep_217 : decode cX8_readStep 217 = .ok (.aload_n 0, 1) := dk_42 (dk_at dksX8_readStep_9 9 rfl rfl)
theorem dX8_readStep_218 : decode cX8_readStep 218 = .ok (.invokevirtual 312, 3) := dk_182 1 56 (dk_at dksX8_readStep_9 10 rfl rfl)
theorem dX8_readStep_221 : decode cX8_readStep 221 = .ok (.iconst 0, 1) := dk_3 (dk_at dksX8_readStep_9 13 rfl rfl)
theorem dX8_readStep_222 : decode cX8_readStep 222 = .ok (.invokevirtual 306, 3) := dk_182 1 50 (dk_at dksX8_readStep_9 14 rfl rfl)
theorem dX8_readStep_225 : decode cX8_readStep 225 = .ok (.goto 115, 3) := dk_167 0 115 (dk_at dksX8_readStep_9 17 rfl rfl)
theorem dX8_readStep_228 : decode cX8_readStep 228 = .ok (.iload_n 1, 1) := dk_27 (dk_at dksX8_readStep_9 20 rfl rfl)
theorem dX8_readStep_229 : decode cX8_readStep 229 = .ok (.ldc_w 325, 3) := dk_19 1 69 (dk_at dksX8_readStep_9 21 rfl rfl)
theorem dX8_readStep_232 : decode cX8_readStep 232 = .ok (.invokestatic 195, 3) := dk_184 0 195 (dk_at dksX8_readStep_10 0 rfl rfl)
theorem dX8_readStep_235 : decode cX8_readStep 235 = .ok (.if_icmp .ne 96, 3) := dk_160 0 96 (dk_at dksX8_readStep_10 3 rfl rfl)
theorem dX8_readStep_238 : decode cX8_readStep 238 = .ok (.aload_n 0, 1) := dk_42 (dk_at dksX8_readStep_10 6 rfl rfl)
theorem dX8_readStep_239 : decode cX8_readStep 239 = .ok (.iconst 5, 1) := dk_8 (dk_at dksX8_readStep_10 7 rfl rfl)
theorem dX8_readStep_240 : decode cX8_readStep 240 = .ok (.invokevirtual 258, 3) := dk_182 1 2 (dk_at dksX8_readStep_10 8 rfl rfl)
theorem dX8_readStep_243 : decode cX8_readStep 243 = .ok (.aload_n 0, 1) := dk_42 (dk_at dksX8_readStep_10 11 rfl rfl)
theorem dX8_readStep_244 : decode cX8_readStep 244 = .ok (.iconst 0, 1) := dk_3 (dk_at dksX8_readStep_10 12 rfl rfl)
theorem dX8_readStep_245 : decode cX8_readStep 245 = .ok (.bipush 60, 2) := dk_16 60 (dk_at dksX8_readStep_10 13 rfl rfl)
theorem dX8_readStep_247 : decode cX8_readStep 247 = .ok (.invokevirtual 199, 3) := dk_182 0 199 (dk_at dksX8_readStep_10 15 rfl rfl)
theorem dX8_readStep_250 : decode cX8_readStep 250 = .ok (.istore_n 2, 1) := dk_61 (dk_at dksX8_readStep_10 18 rfl rfl)
theorem dX8_readStep_251 : decode cX8_readStep 251 = .ok (.aload_n 0, 1) := dk_42 (dk_at dksX8_readStep_10 19 rfl rfl)
theorem dX8_readStep_252 : decode cX8_readStep 252 = .ok (.bipush 91, 2) := dk_16 91 (dk_at dksX8_readStep_10 20 rfl rfl)
theorem dX8_readStep_254 : decode cX8_readStep 254 = .ok (.invokevirtual 239, 3) := dk_182 0 239 (dk_at dksX8_readStep_11 0 rfl rfl)
theorem dX8_readStep_257 : decode cX8_readStep 257 = .ok (.aload_n 0, 1) := dk_42 (dk_at dksX8_readStep_11 3 rfl rfl)
theorem dX8_readStep_258 : decode cX8_readStep 258 = .ok (.getfield 301, 3) := dk_180 1 45 (dk_at dksX8_readStep_11 4 rfl rfl)
theorem dX8_readStep_261 : decode cX8_readStep 261 = .ok (.istore_n 3, 1) := dk_62 (dk_at dksX8_readStep_11 7 rfl rfl)
theorem dX8_readStep_262 : decode cX8_readStep 262 = .ok (.aload_n 0, 1) := dk_42 (dk_at dksX8_readStep_11 8 rfl rfl)
theorem dX8_readStep_263 : decode cX8_readStep 263 = .ok (.bipush 8, 2) := dk_16 8 (dk_at dksX8_readStep_11 9 rfl rfl)
theorem dX8_readStep_265 : decode cX8_readStep 265 = .ok (.iload_n 2, 1) := dk_28 (dk_at dksX8_readStep_11 11 rfl rfl)
theorem dX8_readStep_266 : decode cX8_readStep 266 = .ok (.iconst 0, 1) := dk_3 (dk_at dksX8_readStep_11 12 rfl rfl)
theorem dX8_readStep_267 : decode cX8_readStep 267 = .ok (.invokevirtual 306, 3) := dk_182 1 50 (dk_at dksX8_readStep_11 13 rfl rfl)
theorem dX8_readStep_270 : decode cX8_readStep 270 = .ok (.aload_n 0, 1) := dk_42 (dk_at dksX8_readStep_11 16 rfl rfl)
theorem dX8_readStep_271 : decode cX8_readStep 271 = .ok (.invokevirtual 143, 3) := dk_182 0 143 (dk_at dksX8_readStep_11 17 rfl rfl)
theorem dX8_readStep_274 : decode cX8_readStep 274 = .ok (.ifCond .eq 19, 3) := dk_153 0 19 (dk_at dksX8_readStep_11 20 rfl rfl)
theorem dX8_readStep_277 : decode cX8_readStep 277 = .ok (.aload_n 0, 1) := dk_42 (dk_at dksX8_readStep_11 23 rfl rfl)
theorem dX8_readStep_278 : decode cX8_readStep 278 = .ok (.invokevirtual 126, 3) := dk_182 0 126 (dk_at dksX8_readStep_12 0 rfl rfl)
theorem dX8_readStep_281 : decode cX8_readStep 281 = .ok (.bipush 93, 2) := dk_16 93 (dk_at dksX8_readStep_12 3 rfl rfl)
theorem dX8_readStep_283 : decode cX8_readStep 283 = .ok (.if_icmp .eq 10, 3) := dk_159 0 10 (dk_at dksX8_readStep_12 5 rfl rfl)
theorem dX8_readStep_286 : decode cX8_readStep 286 = .ok (.aload_n 0, 1) := dk_42 (dk_at dksX8_readStep_12 8 rfl rfl)
theorem dX8_readStep_287 : decode cX8_readStep 287 = .ok (.invokevirtual 327, 3) := dk_182 1 71 (dk_at dksX8_readStep_12 9 rfl rfl)
theorem dX8_readStep_290 : decode cX8_readStep 290 = .ok (.goto (-20), 3) := dk_167 255 236 (dk_at dksX8_readStep_12 12 rfl rfl)
theorem dX8_readStep_293 : decode cX8_readStep 293 = .ok (.aload_n 0, 1) := dk_42 (dk_at dksX8_readStep_12 15 rfl rfl)
theorem dX8_readStep_294 : decode cX8_readStep 294 = .ok (.bipush 93, 2) := dk_16 93 (dk_at dksX8_readStep_12 16 rfl rfl)
theorem dX8_readStep_296 : decode cX8_readStep 296 = .ok (.invokevirtual 239, 3) := dk_182 0 239 (dk_at dksX8_readStep_12 18 rfl rfl)
theorem dX8_readStep_299 : decode cX8_readStep 299 = .ok (.aload_n 0, 1) := dk_42 (dk_at dksX8_readStep_12 21 rfl rfl)
theorem dX8_readStep_300 : decode cX8_readStep 300 = .ok (.dup, 1) := dk_89 (dk_at dksX8_readStep_12 22 rfl rfl)
theorem dX8_readStep_301 : decode cX8_readStep 301 = .ok (.getfield 154, 3) := dk_180 0 154 (dk_at dksX8_readStep_13 0 rfl rfl)
theorem dX8_readStep_304 : decode cX8_readStep 304 = .ok (.iconst 1, 1) := dk_4 (dk_at dksX8_readStep_13 3 rfl rfl)
theorem dX8_readStep_305 : decode cX8_readStep 305 = .ok (.isub, 1) := dk_100 (dk_at dksX8_readStep_13 4 rfl rfl)
theorem dX8_readStep_306 : decode cX8_readStep 306 = .ok (.putfield 154, 3) := dk_181 0 154 (dk_at dksX8_readStep_13 5 rfl rfl)
theorem dX8_readStep_309 : decode cX8_readStep 309 = .ok (.aload_n 0, 1) := dk_42 (dk_at dksX8_readStep_13 8 rfl rfl)
theorem dX8_readStep_310 : decode cX8_readStep 310 = .ok (.invokevirtual 143, 3) := dk_182 0 143 (dk_at dksX8_readStep_13 9 rfl rfl)
theorem dX8_readStep_313 : decode cX8_readStep 313 = .ok (.ifCond .eq 15, 3) := dk_153 0 15 (dk_at dksX8_readStep_13 12 rfl rfl)
theorem dX8_readStep_316 : decode cX8_readStep 316 = .ok (.aload_n 0, 1) := dk_42 (dk_at dksX8_readStep_13 15 rfl rfl)
theorem dX8_readStep_317 : decode cX8_readStep 317 = .ok (.getfield 56, 3) := dk_180 0 56 (dk_at dksX8_readStep_13 16 rfl rfl)
theorem dX8_readStep_320 : decode cX8_readStep 320 = .ok (.iload_n 3, 1) := dk_29 (dk_at dksX8_readStep_13 19 rfl rfl)
theorem dX8_readStep_321 : decode cX8_readStep 321 = .ok (.iconst 2, 1) := dk_5 (dk_at dksX8_readStep_13 20 rfl rfl)
theorem dX8_readStep_322 : decode cX8_readStep 322 = .ok (.iadd, 1) := dk_96 (dk_at dksX8_readStep_13 21 rfl rfl)
theorem dX8_readStep_323 : decode cX8_readStep 323 = .ok (.aload_n 0, 1) := dk_42 (dk_at dksX8_readStep_13 22 rfl rfl)
theorem dX8_readStep_324 : decode cX8_readStep 324 = .ok (.getfield 301, 3) := dk_180 1 45 (dk_at dksX8_readStep_14 0 rfl rfl)
theorem dX8_readStep_327 : decode cX8_readStep 327 = .ok (.iastore, 1) := dk_79 (dk_at dksX8_readStep_14 3 rfl rfl)
theorem dX8_readStep_328 : decode cX8_readStep 328 = .ok (.goto 12, 3) := dk_167 0 12 (dk_at dksX8_readStep_14 4 rfl rfl)
theorem dX8_readStep_331 : decode cX8_readStep 331 = .ok (.aload_n 0, 1) := dk_42 (dk_at dksX8_readStep_14 7 rfl rfl)
theorem dX8_readStep_332 : decode cX8_readStep 332 = .ok (.iconst 1, 1) := dk_4 (dk_at dksX8_readStep_14 8 rfl rfl)
theorem dX8_readStep_333 : decode cX8_readStep 333 = .ok (.aload_n 0, 1) := dk_42 (dk_at dksX8_readStep_14 9 rfl rfl)
theorem dX8_readStep_334 : decode cX8_readStep 334 = .ok (.getfield 120, 3) := dk_180 0 120 (dk_at dksX8_readStep_14 10 rfl rfl)
theorem dX8_readStep_337 : decode cX8_readStep 337 = .ok (.invokevirtual 150, 3) := dk_182 0 150 (dk_at dksX8_readStep_14 13 rfl rfl)
theorem dX8_readStep_340 : decode cX8_readStep 340 = .ok (.aload_n 0, 1) := dk_42 (dk_at dksX8_readStep_14 16 rfl rfl)
theorem dX8_readStep_341 : decode cX8_readStep 341 = .ok (.bipush 59, 2) := dk_16 59 (dk_at dksX8_readStep_14 17 rfl rfl)
theorem dX8_readStep_343 : decode cX8_readStep 343 = .ok (.invokevirtual 239, 3) := dk_182 0 239 (dk_at dksX8_readStep_14 19 rfl rfl)
theorem dX8_readStep_346 : decode cX8_readStep 346 = .ok (.return_, 1) := dk_177 (dk_at dksX8_readStep_14 22 rfl rfl)
abbrev cX8_tellsStep : ByteArray := prog_26_method_39_code
def yX8_tellsStep : MethodName := ⟨RX8, "tellsStep", "(III)V"⟩
def dkwX8_tellsStep_2 : List UInt8 := [6, 96, 181, 1, 45, 177]
abbrev dktX8_tellsStep_2 : List UInt8 := dkwX8_tellsStep_2 ++ []
def dkwX8_tellsStep_1 : List UInt8 := [180, 1, 45, 4, 96, 28, 79, 42, 180, 0, 56, 42, 180, 1, 45, 5, 96, 29, 79, 42, 89, 180, 1, 45]
abbrev dktX8_tellsStep_1 : List UInt8 := dkwX8_tellsStep_1 ++ dktX8_tellsStep_2
def dkwX8_tellsStep_0 : List UInt8 := [42, 182, 0, 143, 154, 0, 4, 177, 42, 180, 0, 56, 42, 180, 1, 45, 27, 79, 42, 180, 0, 56, 42]
abbrev dktX8_tellsStep_0 : List UInt8 := dkwX8_tellsStep_0 ++ dktX8_tellsStep_1
theorem dksX8_tellsStep_0 : cX8_tellsStep.data.toList.drop 0 = dktX8_tellsStep_0 := by decide +kernel
theorem dksX8_tellsStep_1 : cX8_tellsStep.data.toList.drop 23 = dktX8_tellsStep_1 := dk_seg dksX8_tellsStep_0 23 rfl rfl
theorem dksX8_tellsStep_2 : cX8_tellsStep.data.toList.drop 47 = dktX8_tellsStep_2 := dk_seg dksX8_tellsStep_1 24 rfl rfl
theorem dX8_tellsStep_0 : decode cX8_tellsStep 0 = .ok (.aload_n 0, 1) := dk_42 (dk_at dksX8_tellsStep_0 0 rfl rfl)
theorem dX8_tellsStep_1 : decode cX8_tellsStep 1 = .ok (.invokevirtual 143, 3) := dk_182 0 143 (dk_at dksX8_tellsStep_0 1 rfl rfl)
theorem dX8_tellsStep_4 : decode cX8_tellsStep 4 = .ok (.ifCond .ne 4, 3) := dk_154 0 4 (dk_at dksX8_tellsStep_0 4 rfl rfl)
theorem dX8_tellsStep_7 : decode cX8_tellsStep 7 = .ok (.return_, 1) := dk_177 (dk_at dksX8_tellsStep_0 7 rfl rfl)
theorem dX8_tellsStep_8 : decode cX8_tellsStep 8 = .ok (.aload_n 0, 1) := dk_42 (dk_at dksX8_tellsStep_0 8 rfl rfl)
theorem dX8_tellsStep_9 : decode cX8_tellsStep 9 = .ok (.getfield 56, 3) := dk_180 0 56 (dk_at dksX8_tellsStep_0 9 rfl rfl)
theorem dX8_tellsStep_12 : decode cX8_tellsStep 12 = .ok (.aload_n 0, 1) := dk_42 (dk_at dksX8_tellsStep_0 12 rfl rfl)
theorem dX8_tellsStep_13 : decode cX8_tellsStep 13 = .ok (.getfield 301, 3) := dk_180 1 45 (dk_at dksX8_tellsStep_0 13 rfl rfl)
theorem dX8_tellsStep_16 : decode cX8_tellsStep 16 = .ok (.iload_n 1, 1) := dk_27 (dk_at dksX8_tellsStep_0 16 rfl rfl)
theorem dX8_tellsStep_17 : decode cX8_tellsStep 17 = .ok (.iastore, 1) := dk_79 (dk_at dksX8_tellsStep_0 17 rfl rfl)
theorem dX8_tellsStep_18 : decode cX8_tellsStep 18 = .ok (.aload_n 0, 1) := dk_42 (dk_at dksX8_tellsStep_0 18 rfl rfl)
theorem dX8_tellsStep_19 : decode cX8_tellsStep 19 = .ok (.getfield 56, 3) := dk_180 0 56 (dk_at dksX8_tellsStep_0 19 rfl rfl)
theorem dX8_tellsStep_22 : decode cX8_tellsStep 22 = .ok (.aload_n 0, 1) := dk_42 (dk_at dksX8_tellsStep_0 22 rfl rfl)
theorem dX8_tellsStep_23 : decode cX8_tellsStep 23 = .ok (.getfield 301, 3) := dk_180 1 45 (dk_at dksX8_tellsStep_1 0 rfl rfl)
theorem dX8_tellsStep_26 : decode cX8_tellsStep 26 = .ok (.iconst 1, 1) := dk_4 (dk_at dksX8_tellsStep_1 3 rfl rfl)
theorem dX8_tellsStep_27 : decode cX8_tellsStep 27 = .ok (.iadd, 1) := dk_96 (dk_at dksX8_tellsStep_1 4 rfl rfl)
theorem dX8_tellsStep_28 : decode cX8_tellsStep 28 = .ok (.iload_n 2, 1) := dk_28 (dk_at dksX8_tellsStep_1 5 rfl rfl)
theorem dX8_tellsStep_29 : decode cX8_tellsStep 29 = .ok (.iastore, 1) := dk_79 (dk_at dksX8_tellsStep_1 6 rfl rfl)
theorem dX8_tellsStep_30 : decode cX8_tellsStep 30 = .ok (.aload_n 0, 1) := dk_42 (dk_at dksX8_tellsStep_1 7 rfl rfl)
theorem dX8_tellsStep_31 : decode cX8_tellsStep 31 = .ok (.getfield 56, 3) := dk_180 0 56 (dk_at dksX8_tellsStep_1 8 rfl rfl)
theorem dX8_tellsStep_34 : decode cX8_tellsStep 34 = .ok (.aload_n 0, 1) := dk_42 (dk_at dksX8_tellsStep_1 11 rfl rfl)
theorem dX8_tellsStep_35 : decode cX8_tellsStep 35 = .ok (.getfield 301, 3) := dk_180 1 45 (dk_at dksX8_tellsStep_1 12 rfl rfl)
theorem dX8_tellsStep_38 : decode cX8_tellsStep 38 = .ok (.iconst 2, 1) := dk_5 (dk_at dksX8_tellsStep_1 15 rfl rfl)
theorem dX8_tellsStep_39 : decode cX8_tellsStep 39 = .ok (.iadd, 1) := dk_96 (dk_at dksX8_tellsStep_1 16 rfl rfl)
theorem dX8_tellsStep_40 : decode cX8_tellsStep 40 = .ok (.iload_n 3, 1) := dk_29 (dk_at dksX8_tellsStep_1 17 rfl rfl)
theorem dX8_tellsStep_41 : decode cX8_tellsStep 41 = .ok (.iastore, 1) := dk_79 (dk_at dksX8_tellsStep_1 18 rfl rfl)
theorem dX8_tellsStep_42 : decode cX8_tellsStep 42 = .ok (.aload_n 0, 1) := dk_42 (dk_at dksX8_tellsStep_1 19 rfl rfl)
theorem dX8_tellsStep_43 : decode cX8_tellsStep 43 = .ok (.dup, 1) := dk_89 (dk_at dksX8_tellsStep_1 20 rfl rfl)
theorem dX8_tellsStep_44 : decode cX8_tellsStep 44 = .ok (.getfield 301, 3) := dk_180 1 45 (dk_at dksX8_tellsStep_1 21 rfl rfl)
theorem dX8_tellsStep_47 : decode cX8_tellsStep 47 = .ok (.iconst 3, 1) := dk_6 (dk_at dksX8_tellsStep_2 0 rfl rfl)
theorem dX8_tellsStep_48 : decode cX8_tellsStep 48 = .ok (.iadd, 1) := dk_96 (dk_at dksX8_tellsStep_2 1 rfl rfl)
theorem dX8_tellsStep_49 : decode cX8_tellsStep 49 = .ok (.putfield 301, 3) := dk_181 1 45 (dk_at dksX8_tellsStep_2 2 rfl rfl)
theorem dX8_tellsStep_52 : decode cX8_tellsStep 52 = .ok (.return_, 1) := dk_177 (dk_at dksX8_tellsStep_2 5 rfl rfl)
abbrev cX8_readOne : ByteArray := prog_26_method_40_code
def yX8_readOne : MethodName := ⟨RX8, "readOne", "()I"⟩
def dkwX8_readOne_0 : List UInt8 := [42, 3, 42, 180, 0, 169, 4, 100, 182, 0, 199, 172]
abbrev dktX8_readOne_0 : List UInt8 := dkwX8_readOne_0 ++ []
theorem dksX8_readOne_0 : cX8_readOne.data.toList.drop 0 = dktX8_readOne_0 := by decide +kernel
theorem dX8_readOne_0 : decode cX8_readOne 0 = .ok (.aload_n 0, 1) := dk_42 (dk_at dksX8_readOne_0 0 rfl rfl)
theorem dX8_readOne_1 : decode cX8_readOne 1 = .ok (.iconst 0, 1) := dk_3 (dk_at dksX8_readOne_0 1 rfl rfl)
theorem dX8_readOne_2 : decode cX8_readOne 2 = .ok (.aload_n 0, 1) := dk_42 (dk_at dksX8_readOne_0 2 rfl rfl)
theorem dX8_readOne_3 : decode cX8_readOne 3 = .ok (.getfield 169, 3) := dk_180 0 169 (dk_at dksX8_readOne_0 3 rfl rfl)
theorem dX8_readOne_6 : decode cX8_readOne 6 = .ok (.iconst 1, 1) := dk_4 (dk_at dksX8_readOne_0 6 rfl rfl)
theorem dX8_readOne_7 : decode cX8_readOne 7 = .ok (.isub, 1) := dk_100 (dk_at dksX8_readOne_0 7 rfl rfl)
theorem dX8_readOne_8 : decode cX8_readOne 8 = .ok (.invokevirtual 199, 3) := dk_182 0 199 (dk_at dksX8_readOne_0 8 rfl rfl)
theorem dX8_readOne_11 : decode cX8_readOne 11 = .ok (.ireturn, 1) := dk_172 (dk_at dksX8_readOne_0 11 rfl rfl)
abbrev cX8_take : ByteArray := prog_26_method_44_code
def yX8_take : MethodName := ⟨RX8, "take", "()V"⟩
def dkwX8_take_1 : List UInt8 := [42, 3, 181, 1, 98, 177]
abbrev dktX8_take_1 : List UInt8 := dkwX8_take_1 ++ []
def dkwX8_take_0 : List UInt8 := [42, 42, 180, 0, 62, 42, 180, 0, 65, 16, 66, 182, 0, 178, 42, 3, 181, 1, 92, 42, 3, 181, 1, 95]
abbrev dktX8_take_0 : List UInt8 := dkwX8_take_0 ++ dktX8_take_1
theorem dksX8_take_0 : cX8_take.data.toList.drop 0 = dktX8_take_0 := by decide +kernel
theorem dksX8_take_1 : cX8_take.data.toList.drop 24 = dktX8_take_1 := dk_seg dksX8_take_0 24 rfl rfl
theorem dX8_take_0 : decode cX8_take 0 = .ok (.aload_n 0, 1) := dk_42 (dk_at dksX8_take_0 0 rfl rfl)
theorem dX8_take_1 : decode cX8_take 1 = .ok (.aload_n 0, 1) := dk_42 (dk_at dksX8_take_0 1 rfl rfl)
theorem dX8_take_2 : decode cX8_take 2 = .ok (.getfield 62, 3) := dk_180 0 62 (dk_at dksX8_take_0 2 rfl rfl)
theorem dX8_take_5 : decode cX8_take 5 = .ok (.aload_n 0, 1) := dk_42 (dk_at dksX8_take_0 5 rfl rfl)
theorem dX8_take_6 : decode cX8_take 6 = .ok (.getfield 65, 3) := dk_180 0 65 (dk_at dksX8_take_0 6 rfl rfl)
theorem dX8_take_9 : decode cX8_take 9 = .ok (.bipush 66, 2) := dk_16 66 (dk_at dksX8_take_0 9 rfl rfl)
theorem dX8_take_11 : decode cX8_take 11 = .ok (.invokevirtual 178, 3) := dk_182 0 178 (dk_at dksX8_take_0 11 rfl rfl)
theorem dX8_take_14 : decode cX8_take 14 = .ok (.aload_n 0, 1) := dk_42 (dk_at dksX8_take_0 14 rfl rfl)
theorem dX8_take_15 : decode cX8_take 15 = .ok (.iconst 0, 1) := dk_3 (dk_at dksX8_take_0 15 rfl rfl)
theorem dX8_take_16 : decode cX8_take 16 = .ok (.putfield 348, 3) := dk_181 1 92 (dk_at dksX8_take_0 16 rfl rfl)
theorem dX8_take_19 : decode cX8_take 19 = .ok (.aload_n 0, 1) := dk_42 (dk_at dksX8_take_0 19 rfl rfl)
theorem dX8_take_20 : decode cX8_take 20 = .ok (.iconst 0, 1) := dk_3 (dk_at dksX8_take_0 20 rfl rfl)
theorem dX8_take_21 : decode cX8_take 21 = .ok (.putfield 351, 3) := dk_181 1 95 (dk_at dksX8_take_0 21 rfl rfl)
theorem dX8_take_24 : decode cX8_take 24 = .ok (.aload_n 0, 1) := dk_42 (dk_at dksX8_take_1 0 rfl rfl)
theorem dX8_take_25 : decode cX8_take 25 = .ok (.iconst 0, 1) := dk_3 (dk_at dksX8_take_1 1 rfl rfl)
theorem dX8_take_26 : decode cX8_take 26 = .ok (.putfield 354, 3) := dk_181 1 98 (dk_at dksX8_take_1 2 rfl rfl)
theorem dX8_take_29 : decode cX8_take 29 = .ok (.return_, 1) := dk_177 (dk_at dksX8_take_1 5 rfl rfl)
abbrev cX8_goesSteps : ByteArray := prog_26_method_43_code
def yX8_goesSteps : MethodName := ⟨RX8, "goesSteps", "(II)V"⟩
def dkwX8_goesSteps_6 : List UInt8 := [4, 96, 181, 1, 83, 132, 3, 3, 167, 255, 108, 177]
abbrev dktX8_goesSteps_6 : List UInt8 := dkwX8_goesSteps_6 ++ []
def dkwX8_goesSteps_5 : List UInt8 := [182, 1, 89, 153, 0, 16, 42, 89, 180, 1, 80, 4, 96, 181, 1, 80, 167, 0, 13, 42, 89, 180, 1, 83]
abbrev dktX8_goesSteps_5 : List UInt8 := dkwX8_goesSteps_5 ++ dktX8_goesSteps_6
def dkwX8_goesSteps_4 : List UInt8 := [42, 42, 180, 0, 59, 29, 46, 42, 180, 0, 59, 29, 4, 96, 46, 42, 180, 0, 59, 29, 5, 96, 46]
abbrev dktX8_goesSteps_4 : List UInt8 := dkwX8_goesSteps_4 ++ dktX8_goesSteps_5
def dkwX8_goesSteps_3 : List UInt8 := [162, 0, 18, 42, 29, 6, 96, 21, 4, 182, 1, 86, 132, 5, 1, 167, 255, 221, 21, 4, 62, 167, 255, 166]
abbrev dktX8_goesSteps_3 : List UInt8 := dkwX8_goesSteps_3 ++ dktX8_goesSteps_4
def dkwX8_goesSteps_2 : List UInt8 := [3, 54, 5, 21, 5, 42, 180, 0, 59, 29, 4, 96, 46, 162, 0, 28, 42, 180, 1, 77, 17, 0, 200]
abbrev dktX8_goesSteps_2 : List UInt8 := dkwX8_goesSteps_2 ++ dktX8_goesSteps_3
def dkwX8_goesSteps_1 : List UInt8 := [181, 1, 77, 42, 180, 0, 59, 29, 46, 16, 8, 160, 0, 60, 42, 180, 0, 59, 29, 5, 96, 46, 54, 4]
abbrev dktX8_goesSteps_1 : List UInt8 := dkwX8_goesSteps_1 ++ dktX8_goesSteps_2
def dkwX8_goesSteps_0 : List UInt8 := [27, 62, 29, 28, 162, 0, 149, 42, 180, 1, 77, 17, 0, 200, 162, 0, 139, 42, 89, 180, 1, 77, 4, 96]
abbrev dktX8_goesSteps_0 : List UInt8 := dkwX8_goesSteps_0 ++ dktX8_goesSteps_1
theorem dksX8_goesSteps_0 : cX8_goesSteps.data.toList.drop 0 = dktX8_goesSteps_0 := by decide +kernel
theorem dksX8_goesSteps_1 : cX8_goesSteps.data.toList.drop 24 = dktX8_goesSteps_1 := dk_seg dksX8_goesSteps_0 24 rfl rfl
theorem dksX8_goesSteps_2 : cX8_goesSteps.data.toList.drop 48 = dktX8_goesSteps_2 := dk_seg dksX8_goesSteps_1 24 rfl rfl
theorem dksX8_goesSteps_3 : cX8_goesSteps.data.toList.drop 71 = dktX8_goesSteps_3 := dk_seg dksX8_goesSteps_2 23 rfl rfl
theorem dksX8_goesSteps_4 : cX8_goesSteps.data.toList.drop 95 = dktX8_goesSteps_4 := dk_seg dksX8_goesSteps_3 24 rfl rfl
theorem dksX8_goesSteps_5 : cX8_goesSteps.data.toList.drop 118 = dktX8_goesSteps_5 := dk_seg dksX8_goesSteps_4 23 rfl rfl
theorem dksX8_goesSteps_6 : cX8_goesSteps.data.toList.drop 142 = dktX8_goesSteps_6 := dk_seg dksX8_goesSteps_5 24 rfl rfl
theorem dX8_goesSteps_0 : decode cX8_goesSteps 0 = .ok (.iload_n 1, 1) := dk_27 (dk_at dksX8_goesSteps_0 0 rfl rfl)
theorem dX8_goesSteps_1 : decode cX8_goesSteps 1 = .ok (.istore_n 3, 1) := dk_62 (dk_at dksX8_goesSteps_0 1 rfl rfl)
theorem dX8_goesSteps_2 : decode cX8_goesSteps 2 = .ok (.iload_n 3, 1) := dk_29 (dk_at dksX8_goesSteps_0 2 rfl rfl)
theorem dX8_goesSteps_3 : decode cX8_goesSteps 3 = .ok (.iload_n 2, 1) := dk_28 (dk_at dksX8_goesSteps_0 3 rfl rfl)
theorem dX8_goesSteps_4 : decode cX8_goesSteps 4 = .ok (.if_icmp .ge 149, 3) := dk_162 0 149 (dk_at dksX8_goesSteps_0 4 rfl rfl)
theorem dX8_goesSteps_7 : decode cX8_goesSteps 7 = .ok (.aload_n 0, 1) := dk_42 (dk_at dksX8_goesSteps_0 7 rfl rfl)
theorem dX8_goesSteps_8 : decode cX8_goesSteps 8 = .ok (.getfield 333, 3) := dk_180 1 77 (dk_at dksX8_goesSteps_0 8 rfl rfl)
theorem dX8_goesSteps_11 : decode cX8_goesSteps 11 = .ok (.sipush 200, 3) := dk_17 0 200 (dk_at dksX8_goesSteps_0 11 rfl rfl)
theorem dX8_goesSteps_14 : decode cX8_goesSteps 14 = .ok (.if_icmp .ge 139, 3) := dk_162 0 139 (dk_at dksX8_goesSteps_0 14 rfl rfl)
theorem dX8_goesSteps_17 : decode cX8_goesSteps 17 = .ok (.aload_n 0, 1) := dk_42 (dk_at dksX8_goesSteps_0 17 rfl rfl)
theorem dX8_goesSteps_18 : decode cX8_goesSteps 18 = .ok (.dup, 1) := dk_89 (dk_at dksX8_goesSteps_0 18 rfl rfl)
theorem dX8_goesSteps_19 : decode cX8_goesSteps 19 = .ok (.getfield 333, 3) := dk_180 1 77 (dk_at dksX8_goesSteps_0 19 rfl rfl)
theorem dX8_goesSteps_22 : decode cX8_goesSteps 22 = .ok (.iconst 1, 1) := dk_4 (dk_at dksX8_goesSteps_0 22 rfl rfl)
theorem dX8_goesSteps_23 : decode cX8_goesSteps 23 = .ok (.iadd, 1) := dk_96 (dk_at dksX8_goesSteps_0 23 rfl rfl)
theorem dX8_goesSteps_24 : decode cX8_goesSteps 24 = .ok (.putfield 333, 3) := dk_181 1 77 (dk_at dksX8_goesSteps_1 0 rfl rfl)
theorem dX8_goesSteps_27 : decode cX8_goesSteps 27 = .ok (.aload_n 0, 1) := dk_42 (dk_at dksX8_goesSteps_1 3 rfl rfl)
theorem dX8_goesSteps_28 : decode cX8_goesSteps 28 = .ok (.getfield 59, 3) := dk_180 0 59 (dk_at dksX8_goesSteps_1 4 rfl rfl)
theorem dX8_goesSteps_31 : decode cX8_goesSteps 31 = .ok (.iload_n 3, 1) := dk_29 (dk_at dksX8_goesSteps_1 7 rfl rfl)
theorem dX8_goesSteps_32 : decode cX8_goesSteps 32 = .ok (.iaload, 1) := dk_46 (dk_at dksX8_goesSteps_1 8 rfl rfl)
theorem dX8_goesSteps_33 : decode cX8_goesSteps 33 = .ok (.bipush 8, 2) := dk_16 8 (dk_at dksX8_goesSteps_1 9 rfl rfl)
theorem dX8_goesSteps_35 : decode cX8_goesSteps 35 = .ok (.if_icmp .ne 60, 3) := dk_160 0 60 (dk_at dksX8_goesSteps_1 11 rfl rfl)
theorem dX8_goesSteps_38 : decode cX8_goesSteps 38 = .ok (.aload_n 0, 1) := dk_42 (dk_at dksX8_goesSteps_1 14 rfl rfl)
theorem dX8_goesSteps_39 : decode cX8_goesSteps 39 = .ok (.getfield 59, 3) := dk_180 0 59 (dk_at dksX8_goesSteps_1 15 rfl rfl)
theorem dX8_goesSteps_42 : decode cX8_goesSteps 42 = .ok (.iload_n 3, 1) := dk_29 (dk_at dksX8_goesSteps_1 18 rfl rfl)
theorem dX8_goesSteps_43 : decode cX8_goesSteps 43 = .ok (.iconst 2, 1) := dk_5 (dk_at dksX8_goesSteps_1 19 rfl rfl)
theorem dX8_goesSteps_44 : decode cX8_goesSteps 44 = .ok (.iadd, 1) := dk_96 (dk_at dksX8_goesSteps_1 20 rfl rfl)
theorem dX8_goesSteps_45 : decode cX8_goesSteps 45 = .ok (.iaload, 1) := dk_46 (dk_at dksX8_goesSteps_1 21 rfl rfl)
theorem dX8_goesSteps_46 : decode cX8_goesSteps 46 = .ok (.istore 4, 2) := dk_54 4 (dk_at dksX8_goesSteps_1 22 rfl rfl)
theorem dX8_goesSteps_48 : decode cX8_goesSteps 48 = .ok (.iconst 0, 1) := dk_3 (dk_at dksX8_goesSteps_2 0 rfl rfl)
theorem dX8_goesSteps_49 : decode cX8_goesSteps 49 = .ok (.istore 5, 2) := dk_54 5 (dk_at dksX8_goesSteps_2 1 rfl rfl)
theorem dX8_goesSteps_51 : decode cX8_goesSteps 51 = .ok (.iload 5, 2) := dk_21 5 (dk_at dksX8_goesSteps_2 3 rfl rfl)
theorem dX8_goesSteps_53 : decode cX8_goesSteps 53 = .ok (.aload_n 0, 1) := dk_42 (dk_at dksX8_goesSteps_2 5 rfl rfl)
theorem dX8_goesSteps_54 : decode cX8_goesSteps 54 = .ok (.getfield 59, 3) := dk_180 0 59 (dk_at dksX8_goesSteps_2 6 rfl rfl)
theorem dX8_goesSteps_57 : decode cX8_goesSteps 57 = .ok (.iload_n 3, 1) := dk_29 (dk_at dksX8_goesSteps_2 9 rfl rfl)
theorem dX8_goesSteps_58 : decode cX8_goesSteps 58 = .ok (.iconst 1, 1) := dk_4 (dk_at dksX8_goesSteps_2 10 rfl rfl)
theorem dX8_goesSteps_59 : decode cX8_goesSteps 59 = .ok (.iadd, 1) := dk_96 (dk_at dksX8_goesSteps_2 11 rfl rfl)
theorem dX8_goesSteps_60 : decode cX8_goesSteps 60 = .ok (.iaload, 1) := dk_46 (dk_at dksX8_goesSteps_2 12 rfl rfl)
theorem dX8_goesSteps_61 : decode cX8_goesSteps 61 = .ok (.if_icmp .ge 28, 3) := dk_162 0 28 (dk_at dksX8_goesSteps_2 13 rfl rfl)
theorem dX8_goesSteps_64 : decode cX8_goesSteps 64 = .ok (.aload_n 0, 1) := dk_42 (dk_at dksX8_goesSteps_2 16 rfl rfl)
theorem dX8_goesSteps_65 : decode cX8_goesSteps 65 = .ok (.getfield 333, 3) := dk_180 1 77 (dk_at dksX8_goesSteps_2 17 rfl rfl)
theorem dX8_goesSteps_68 : decode cX8_goesSteps 68 = .ok (.sipush 200, 3) := dk_17 0 200 (dk_at dksX8_goesSteps_2 20 rfl rfl)
theorem dX8_goesSteps_71 : decode cX8_goesSteps 71 = .ok (.if_icmp .ge 18, 3) := dk_162 0 18 (dk_at dksX8_goesSteps_3 0 rfl rfl)
theorem dX8_goesSteps_74 : decode cX8_goesSteps 74 = .ok (.aload_n 0, 1) := dk_42 (dk_at dksX8_goesSteps_3 3 rfl rfl)
theorem dX8_goesSteps_75 : decode cX8_goesSteps 75 = .ok (.iload_n 3, 1) := dk_29 (dk_at dksX8_goesSteps_3 4 rfl rfl)
theorem dX8_goesSteps_76 : decode cX8_goesSteps 76 = .ok (.iconst 3, 1) := dk_6 (dk_at dksX8_goesSteps_3 5 rfl rfl)
theorem dX8_goesSteps_77 : decode cX8_goesSteps 77 = .ok (.iadd, 1) := dk_96 (dk_at dksX8_goesSteps_3 6 rfl rfl)
theorem dX8_goesSteps_78 : decode cX8_goesSteps 78 = .ok (.iload 4, 2) := dk_21 4 (dk_at dksX8_goesSteps_3 7 rfl rfl)
theorem dX8_goesSteps_80 : decode cX8_goesSteps 80 = .ok (.invokevirtual 342, 3) := dk_182 1 86 (dk_at dksX8_goesSteps_3 9 rfl rfl)
theorem dX8_goesSteps_83 : decode cX8_goesSteps 83 = .ok (.iinc 5 1, 3) := dk_132 5 1 (dk_at dksX8_goesSteps_3 12 rfl rfl)
theorem dX8_goesSteps_86 : decode cX8_goesSteps 86 = .ok (.goto (-35), 3) := dk_167 255 221 (dk_at dksX8_goesSteps_3 15 rfl rfl)
theorem dX8_goesSteps_89 : decode cX8_goesSteps 89 = .ok (.iload 4, 2) := dk_21 4 (dk_at dksX8_goesSteps_3 18 rfl rfl)
theorem dX8_goesSteps_91 : decode cX8_goesSteps 91 = .ok (.istore_n 3, 1) := dk_62 (dk_at dksX8_goesSteps_3 20 rfl rfl)
theorem dX8_goesSteps_92 : decode cX8_goesSteps 92 = .ok (.goto (-90), 3) := dk_167 255 166 (dk_at dksX8_goesSteps_3 21 rfl rfl)
theorem dX8_goesSteps_95 : decode cX8_goesSteps 95 = .ok (.aload_n 0, 1) := dk_42 (dk_at dksX8_goesSteps_4 0 rfl rfl)
theorem dX8_goesSteps_96 : decode cX8_goesSteps 96 = .ok (.aload_n 0, 1) := dk_42 (dk_at dksX8_goesSteps_4 1 rfl rfl)
theorem dX8_goesSteps_97 : decode cX8_goesSteps 97 = .ok (.getfield 59, 3) := dk_180 0 59 (dk_at dksX8_goesSteps_4 2 rfl rfl)
theorem dX8_goesSteps_100 : decode cX8_goesSteps 100 = .ok (.iload_n 3, 1) := dk_29 (dk_at dksX8_goesSteps_4 5 rfl rfl)
theorem dX8_goesSteps_101 : decode cX8_goesSteps 101 = .ok (.iaload, 1) := dk_46 (dk_at dksX8_goesSteps_4 6 rfl rfl)
theorem dX8_goesSteps_102 : decode cX8_goesSteps 102 = .ok (.aload_n 0, 1) := dk_42 (dk_at dksX8_goesSteps_4 7 rfl rfl)
theorem dX8_goesSteps_103 : decode cX8_goesSteps 103 = .ok (.getfield 59, 3) := dk_180 0 59 (dk_at dksX8_goesSteps_4 8 rfl rfl)
theorem dX8_goesSteps_106 : decode cX8_goesSteps 106 = .ok (.iload_n 3, 1) := dk_29 (dk_at dksX8_goesSteps_4 11 rfl rfl)
theorem dX8_goesSteps_107 : decode cX8_goesSteps 107 = .ok (.iconst 1, 1) := dk_4 (dk_at dksX8_goesSteps_4 12 rfl rfl)
theorem dX8_goesSteps_108 : decode cX8_goesSteps 108 = .ok (.iadd, 1) := dk_96 (dk_at dksX8_goesSteps_4 13 rfl rfl)
theorem dX8_goesSteps_109 : decode cX8_goesSteps 109 = .ok (.iaload, 1) := dk_46 (dk_at dksX8_goesSteps_4 14 rfl rfl)
theorem dX8_goesSteps_110 : decode cX8_goesSteps 110 = .ok (.aload_n 0, 1) := dk_42 (dk_at dksX8_goesSteps_4 15 rfl rfl)
theorem dX8_goesSteps_111 : decode cX8_goesSteps 111 = .ok (.getfield 59, 3) := dk_180 0 59 (dk_at dksX8_goesSteps_4 16 rfl rfl)
theorem dX8_goesSteps_114 : decode cX8_goesSteps 114 = .ok (.iload_n 3, 1) := dk_29 (dk_at dksX8_goesSteps_4 19 rfl rfl)
theorem dX8_goesSteps_115 : decode cX8_goesSteps 115 = .ok (.iconst 2, 1) := dk_5 (dk_at dksX8_goesSteps_4 20 rfl rfl)
theorem dX8_goesSteps_116 : decode cX8_goesSteps 116 = .ok (.iadd, 1) := dk_96 (dk_at dksX8_goesSteps_4 21 rfl rfl)
theorem dX8_goesSteps_117 : decode cX8_goesSteps 117 = .ok (.iaload, 1) := dk_46 (dk_at dksX8_goesSteps_4 22 rfl rfl)
theorem dX8_goesSteps_118 : decode cX8_goesSteps 118 = .ok (.invokevirtual 345, 3) := dk_182 1 89 (dk_at dksX8_goesSteps_5 0 rfl rfl)
theorem dX8_goesSteps_121 : decode cX8_goesSteps 121 = .ok (.ifCond .eq 16, 3) := dk_153 0 16 (dk_at dksX8_goesSteps_5 3 rfl rfl)
theorem dX8_goesSteps_124 : decode cX8_goesSteps 124 = .ok (.aload_n 0, 1) := dk_42 (dk_at dksX8_goesSteps_5 6 rfl rfl)
theorem dX8_goesSteps_125 : decode cX8_goesSteps 125 = .ok (.dup, 1) := dk_89 (dk_at dksX8_goesSteps_5 7 rfl rfl)
theorem dX8_goesSteps_126 : decode cX8_goesSteps 126 = .ok (.getfield 336, 3) := dk_180 1 80 (dk_at dksX8_goesSteps_5 8 rfl rfl)
theorem dX8_goesSteps_129 : decode cX8_goesSteps 129 = .ok (.iconst 1, 1) := dk_4 (dk_at dksX8_goesSteps_5 11 rfl rfl)
theorem dX8_goesSteps_130 : decode cX8_goesSteps 130 = .ok (.iadd, 1) := dk_96 (dk_at dksX8_goesSteps_5 12 rfl rfl)
theorem dX8_goesSteps_131 : decode cX8_goesSteps 131 = .ok (.putfield 336, 3) := dk_181 1 80 (dk_at dksX8_goesSteps_5 13 rfl rfl)
theorem dX8_goesSteps_134 : decode cX8_goesSteps 134 = .ok (.goto 13, 3) := dk_167 0 13 (dk_at dksX8_goesSteps_5 16 rfl rfl)
theorem dX8_goesSteps_137 : decode cX8_goesSteps 137 = .ok (.aload_n 0, 1) := dk_42 (dk_at dksX8_goesSteps_5 19 rfl rfl)
theorem dX8_goesSteps_138 : decode cX8_goesSteps 138 = .ok (.dup, 1) := dk_89 (dk_at dksX8_goesSteps_5 20 rfl rfl)
theorem dX8_goesSteps_139 : decode cX8_goesSteps 139 = .ok (.getfield 339, 3) := dk_180 1 83 (dk_at dksX8_goesSteps_5 21 rfl rfl)
theorem dX8_goesSteps_142 : decode cX8_goesSteps 142 = .ok (.iconst 1, 1) := dk_4 (dk_at dksX8_goesSteps_6 0 rfl rfl)
theorem dX8_goesSteps_143 : decode cX8_goesSteps 143 = .ok (.iadd, 1) := dk_96 (dk_at dksX8_goesSteps_6 1 rfl rfl)
theorem dX8_goesSteps_144 : decode cX8_goesSteps 144 = .ok (.putfield 339, 3) := dk_181 1 83 (dk_at dksX8_goesSteps_6 2 rfl rfl)
theorem dX8_goesSteps_147 : decode cX8_goesSteps 147 = .ok (.iinc 3 3, 3) := dk_132 3 3 (dk_at dksX8_goesSteps_6 5 rfl rfl)
theorem dX8_goesSteps_150 : decode cX8_goesSteps 150 = .ok (.goto (-148), 3) := dk_167 255 108 (dk_at dksX8_goesSteps_6 8 rfl rfl)
theorem dX8_goesSteps_153 : decode cX8_goesSteps 153 = .ok (.return_, 1) := dk_177 (dk_at dksX8_goesSteps_6 11 rfl rfl)
abbrev cX8_goes : ByteArray := prog_26_method_58_code
def yX8_goes : MethodName := ⟨RX8, "goes", "(III)Z"⟩
def dkwX8_goes_7 : List UInt8 := [96, 79, 4, 172]
abbrev dktX8_goes_7 : List UInt8 := dkwX8_goes_7 ++ []
def dkwX8_goes_6 : List UInt8 := [160, 0, 7, 3, 167, 0, 21, 21, 4, 29, 96, 16, 99, 164, 0, 8, 16, 99, 167, 0, 7, 21, 4, 29]
abbrev dktX8_goes_6 : List UInt8 := dkwX8_goes_6 ++ dktX8_goes_7
def dkwX8_goes_5 : List UInt8 := [160, 0, 13, 167, 0, 8, 21, 4, 154, 0, 5, 3, 172, 42, 180, 0, 65, 16, 24, 28, 96, 27, 6]
abbrev dktX8_goes_5 : List UInt8 := dkwX8_goes_5 ++ dktX8_goes_6
def dkwX8_goes_4 : List UInt8 := [54, 4, 27, 5, 160, 0, 25, 42, 180, 0, 65, 3, 28, 96, 46, 5, 160, 0, 18, 21, 4, 16, 99]
abbrev dktX8_goes_4 : List UInt8 := dkwX8_goes_4 ++ dktX8_goes_5
def dkwX8_goes_3 : List UInt8 := [46, 17, 3, 132, 160, 0, 5, 3, 172, 42, 182, 1, 145, 4, 172, 42, 180, 0, 65, 16, 24, 28, 96, 46]
abbrev dktX8_goes_3 : List UInt8 := dkwX8_goes_3 ++ dktX8_goes_4
def dkwX8_goes_2 : List UInt8 := [27, 16, 6, 160, 0, 9, 42, 28, 182, 1, 142, 172, 27, 16, 7, 160, 0, 24, 42, 180, 0, 65, 16, 64]
abbrev dktX8_goes_2 : List UInt8 := dkwX8_goes_2 ++ dktX8_goes_3
def dkwX8_goes_1 : List UInt8 := [159, 0, 8, 27, 8, 160, 0, 19, 42, 28, 27, 7, 160, 0, 7, 4, 167, 0, 4, 3, 182, 1, 139, 172]
abbrev dktX8_goes_1 : List UInt8 := dkwX8_goes_1 ++ dktX8_goes_2
def dkwX8_goes_0 : List UInt8 := [27, 154, 0, 8, 42, 182, 1, 133, 172, 27, 4, 160, 0, 10, 42, 28, 29, 182, 1, 136, 172, 27, 7]
abbrev dktX8_goes_0 : List UInt8 := dkwX8_goes_0 ++ dktX8_goes_1
theorem dksX8_goes_0 : cX8_goes.data.toList.drop 0 = dktX8_goes_0 := by decide +kernel
theorem dksX8_goes_1 : cX8_goes.data.toList.drop 23 = dktX8_goes_1 := dk_seg dksX8_goes_0 23 rfl rfl
theorem dksX8_goes_2 : cX8_goes.data.toList.drop 47 = dktX8_goes_2 := dk_seg dksX8_goes_1 24 rfl rfl
theorem dksX8_goes_3 : cX8_goes.data.toList.drop 71 = dktX8_goes_3 := dk_seg dksX8_goes_2 24 rfl rfl
theorem dksX8_goes_4 : cX8_goes.data.toList.drop 95 = dktX8_goes_4 := dk_seg dksX8_goes_3 24 rfl rfl
theorem dksX8_goes_5 : cX8_goes.data.toList.drop 118 = dktX8_goes_5 := dk_seg dksX8_goes_4 23 rfl rfl
theorem dksX8_goes_6 : cX8_goes.data.toList.drop 141 = dktX8_goes_6 := dk_seg dksX8_goes_5 23 rfl rfl
theorem dksX8_goes_7 : cX8_goes.data.toList.drop 165 = dktX8_goes_7 := dk_seg dksX8_goes_6 24 rfl rfl
theorem dX8_goes_0 : decode cX8_goes 0 = .ok (.iload_n 1, 1) := dk_27 (dk_at dksX8_goes_0 0 rfl rfl)
theorem dX8_goes_1 : decode cX8_goes 1 = .ok (.ifCond .ne 8, 3) := dk_154 0 8 (dk_at dksX8_goes_0 1 rfl rfl)
theorem dX8_goes_4 : decode cX8_goes 4 = .ok (.aload_n 0, 1) := dk_42 (dk_at dksX8_goes_0 4 rfl rfl)
theorem dX8_goes_5 : decode cX8_goes 5 = .ok (.invokevirtual 389, 3) := dk_182 1 133 (dk_at dksX8_goes_0 5 rfl rfl)
theorem dX8_goes_8 : decode cX8_goes 8 = .ok (.ireturn, 1) := dk_172 (dk_at dksX8_goes_0 8 rfl rfl)
theorem dX8_goes_9 : decode cX8_goes 9 = .ok (.iload_n 1, 1) := dk_27 (dk_at dksX8_goes_0 9 rfl rfl)
theorem dX8_goes_10 : decode cX8_goes 10 = .ok (.iconst 1, 1) := dk_4 (dk_at dksX8_goes_0 10 rfl rfl)
theorem dX8_goes_11 : decode cX8_goes 11 = .ok (.if_icmp .ne 10, 3) := dk_160 0 10 (dk_at dksX8_goes_0 11 rfl rfl)
theorem dX8_goes_14 : decode cX8_goes 14 = .ok (.aload_n 0, 1) := dk_42 (dk_at dksX8_goes_0 14 rfl rfl)
theorem dX8_goes_15 : decode cX8_goes 15 = .ok (.iload_n 2, 1) := dk_28 (dk_at dksX8_goes_0 15 rfl rfl)
theorem dX8_goes_16 : decode cX8_goes 16 = .ok (.iload_n 3, 1) := dk_29 (dk_at dksX8_goes_0 16 rfl rfl)
theorem dX8_goes_17 : decode cX8_goes 17 = .ok (.invokevirtual 392, 3) := dk_182 1 136 (dk_at dksX8_goes_0 17 rfl rfl)
theorem dX8_goes_20 : decode cX8_goes 20 = .ok (.ireturn, 1) := dk_172 (dk_at dksX8_goes_0 20 rfl rfl)
theorem dX8_goes_21 : decode cX8_goes 21 = .ok (.iload_n 1, 1) := dk_27 (dk_at dksX8_goes_0 21 rfl rfl)
theorem dX8_goes_22 : decode cX8_goes 22 = .ok (.iconst 4, 1) := dk_7 (dk_at dksX8_goes_0 22 rfl rfl)
theorem dX8_goes_23 : decode cX8_goes 23 = .ok (.if_icmp .eq 8, 3) := dk_159 0 8 (dk_at dksX8_goes_1 0 rfl rfl)
theorem dX8_goes_26 : decode cX8_goes 26 = .ok (.iload_n 1, 1) := dk_27 (dk_at dksX8_goes_1 3 rfl rfl)
theorem dX8_goes_27 : decode cX8_goes 27 = .ok (.iconst 5, 1) := dk_8 (dk_at dksX8_goes_1 4 rfl rfl)
theorem dX8_goes_28 : decode cX8_goes 28 = .ok (.if_icmp .ne 19, 3) := dk_160 0 19 (dk_at dksX8_goes_1 5 rfl rfl)
theorem dX8_goes_31 : decode cX8_goes 31 = .ok (.aload_n 0, 1) := dk_42 (dk_at dksX8_goes_1 8 rfl rfl)
theorem dX8_goes_32 : decode cX8_goes 32 = .ok (.iload_n 2, 1) := dk_28 (dk_at dksX8_goes_1 9 rfl rfl)
theorem dX8_goes_33 : decode cX8_goes 33 = .ok (.iload_n 1, 1) := dk_27 (dk_at dksX8_goes_1 10 rfl rfl)
theorem dX8_goes_34 : decode cX8_goes 34 = .ok (.iconst 4, 1) := dk_7 (dk_at dksX8_goes_1 11 rfl rfl)
theorem dX8_goes_35 : decode cX8_goes 35 = .ok (.if_icmp .ne 7, 3) := dk_160 0 7 (dk_at dksX8_goes_1 12 rfl rfl)
theorem dX8_goes_38 : decode cX8_goes 38 = .ok (.iconst 1, 1) := dk_4 (dk_at dksX8_goes_1 15 rfl rfl)
theorem dX8_goes_39 : decode cX8_goes 39 = .ok (.goto 4, 3) := dk_167 0 4 (dk_at dksX8_goes_1 16 rfl rfl)
theorem dX8_goes_42 : decode cX8_goes 42 = .ok (.iconst 0, 1) := dk_3 (dk_at dksX8_goes_1 19 rfl rfl)
theorem dX8_goes_43 : decode cX8_goes 43 = .ok (.invokevirtual 395, 3) := dk_182 1 139 (dk_at dksX8_goes_1 20 rfl rfl)
theorem dX8_goes_46 : decode cX8_goes 46 = .ok (.ireturn, 1) := dk_172 (dk_at dksX8_goes_1 23 rfl rfl)
theorem dX8_goes_47 : decode cX8_goes 47 = .ok (.iload_n 1, 1) := dk_27 (dk_at dksX8_goes_2 0 rfl rfl)
theorem dX8_goes_48 : decode cX8_goes 48 = .ok (.bipush 6, 2) := dk_16 6 (dk_at dksX8_goes_2 1 rfl rfl)
theorem dX8_goes_50 : decode cX8_goes 50 = .ok (.if_icmp .ne 9, 3) := dk_160 0 9 (dk_at dksX8_goes_2 3 rfl rfl)
theorem dX8_goes_53 : decode cX8_goes 53 = .ok (.aload_n 0, 1) := dk_42 (dk_at dksX8_goes_2 6 rfl rfl)
theorem dX8_goes_54 : decode cX8_goes 54 = .ok (.iload_n 2, 1) := dk_28 (dk_at dksX8_goes_2 7 rfl rfl)
theorem dX8_goes_55 : decode cX8_goes 55 = .ok (.invokevirtual 398, 3) := dk_182 1 142 (dk_at dksX8_goes_2 8 rfl rfl)
theorem dX8_goes_58 : decode cX8_goes 58 = .ok (.ireturn, 1) := dk_172 (dk_at dksX8_goes_2 11 rfl rfl)
theorem dX8_goes_59 : decode cX8_goes 59 = .ok (.iload_n 1, 1) := dk_27 (dk_at dksX8_goes_2 12 rfl rfl)
theorem dX8_goes_60 : decode cX8_goes 60 = .ok (.bipush 7, 2) := dk_16 7 (dk_at dksX8_goes_2 13 rfl rfl)
theorem dX8_goes_62 : decode cX8_goes 62 = .ok (.if_icmp .ne 24, 3) := dk_160 0 24 (dk_at dksX8_goes_2 15 rfl rfl)
theorem dX8_goes_65 : decode cX8_goes 65 = .ok (.aload_n 0, 1) := dk_42 (dk_at dksX8_goes_2 18 rfl rfl)
theorem dX8_goes_66 : decode cX8_goes 66 = .ok (.getfield 65, 3) := dk_180 0 65 (dk_at dksX8_goes_2 19 rfl rfl)
theorem dX8_goes_69 : decode cX8_goes 69 = .ok (.bipush 64, 2) := dk_16 64 (dk_at dksX8_goes_2 22 rfl rfl)
theorem dX8_goes_71 : decode cX8_goes 71 = .ok (.iaload, 1) := dk_46 (dk_at dksX8_goes_3 0 rfl rfl)
theorem dX8_goes_72 : decode cX8_goes 72 = .ok (.sipush 900, 3) := dk_17 3 132 (dk_at dksX8_goes_3 1 rfl rfl)
theorem dX8_goes_75 : decode cX8_goes 75 = .ok (.if_icmp .ne 5, 3) := dk_160 0 5 (dk_at dksX8_goes_3 4 rfl rfl)
theorem dX8_goes_78 : decode cX8_goes 78 = .ok (.iconst 0, 1) := dk_3 (dk_at dksX8_goes_3 7 rfl rfl)
theorem dX8_goes_79 : decode cX8_goes 79 = .ok (.ireturn, 1) := dk_172 (dk_at dksX8_goes_3 8 rfl rfl)
theorem dX8_goes_80 : decode cX8_goes 80 = .ok (.aload_n 0, 1) := dk_42 (dk_at dksX8_goes_3 9 rfl rfl)
theorem dX8_goes_81 : decode cX8_goes 81 = .ok (.invokevirtual 401, 3) := dk_182 1 145 (dk_at dksX8_goes_3 10 rfl rfl)
theorem dX8_goes_84 : decode cX8_goes 84 = .ok (.iconst 1, 1) := dk_4 (dk_at dksX8_goes_3 13 rfl rfl)
theorem dX8_goes_85 : decode cX8_goes 85 = .ok (.ireturn, 1) := dk_172 (dk_at dksX8_goes_3 14 rfl rfl)
theorem dX8_goes_86 : decode cX8_goes 86 = .ok (.aload_n 0, 1) := dk_42 (dk_at dksX8_goes_3 15 rfl rfl)
theorem dX8_goes_87 : decode cX8_goes 87 = .ok (.getfield 65, 3) := dk_180 0 65 (dk_at dksX8_goes_3 16 rfl rfl)
theorem dX8_goes_90 : decode cX8_goes 90 = .ok (.bipush 24, 2) := dk_16 24 (dk_at dksX8_goes_3 19 rfl rfl)
theorem dX8_goes_92 : decode cX8_goes 92 = .ok (.iload_n 2, 1) := dk_28 (dk_at dksX8_goes_3 21 rfl rfl)
theorem dX8_goes_93 : decode cX8_goes 93 = .ok (.iadd, 1) := dk_96 (dk_at dksX8_goes_3 22 rfl rfl)
theorem dX8_goes_94 : decode cX8_goes 94 = .ok (.iaload, 1) := dk_46 (dk_at dksX8_goes_3 23 rfl rfl)
theorem dX8_goes_95 : decode cX8_goes 95 = .ok (.istore 4, 2) := dk_54 4 (dk_at dksX8_goes_4 0 rfl rfl)
theorem dX8_goes_97 : decode cX8_goes 97 = .ok (.iload_n 1, 1) := dk_27 (dk_at dksX8_goes_4 2 rfl rfl)
theorem dX8_goes_98 : decode cX8_goes 98 = .ok (.iconst 2, 1) := dk_5 (dk_at dksX8_goes_4 3 rfl rfl)
theorem dX8_goes_99 : decode cX8_goes 99 = .ok (.if_icmp .ne 25, 3) := dk_160 0 25 (dk_at dksX8_goes_4 4 rfl rfl)
theorem dX8_goes_102 : decode cX8_goes 102 = .ok (.aload_n 0, 1) := dk_42 (dk_at dksX8_goes_4 7 rfl rfl)
theorem dX8_goes_103 : decode cX8_goes 103 = .ok (.getfield 65, 3) := dk_180 0 65 (dk_at dksX8_goes_4 8 rfl rfl)
theorem dX8_goes_106 : decode cX8_goes 106 = .ok (.iconst 0, 1) := dk_3 (dk_at dksX8_goes_4 11 rfl rfl)
theorem dX8_goes_107 : decode cX8_goes 107 = .ok (.iload_n 2, 1) := dk_28 (dk_at dksX8_goes_4 12 rfl rfl)
theorem dX8_goes_108 : decode cX8_goes 108 = .ok (.iadd, 1) := dk_96 (dk_at dksX8_goes_4 13 rfl rfl)
theorem dX8_goes_109 : decode cX8_goes 109 = .ok (.iaload, 1) := dk_46 (dk_at dksX8_goes_4 14 rfl rfl)
theorem dX8_goes_110 : decode cX8_goes 110 = .ok (.iconst 2, 1) := dk_5 (dk_at dksX8_goes_4 15 rfl rfl)
theorem dX8_goes_111 : decode cX8_goes 111 = .ok (.if_icmp .ne 18, 3) := dk_160 0 18 (dk_at dksX8_goes_4 16 rfl rfl)
theorem dX8_goes_114 : decode cX8_goes 114 = .ok (.iload 4, 2) := dk_21 4 (dk_at dksX8_goes_4 19 rfl rfl)
theorem dX8_goes_116 : decode cX8_goes 116 = .ok (.bipush 99, 2) := dk_16 99 (dk_at dksX8_goes_4 21 rfl rfl)
theorem dX8_goes_118 : decode cX8_goes 118 = .ok (.if_icmp .ne 13, 3) := dk_160 0 13 (dk_at dksX8_goes_5 0 rfl rfl)
theorem dX8_goes_121 : decode cX8_goes 121 = .ok (.goto 8, 3) := dk_167 0 8 (dk_at dksX8_goes_5 3 rfl rfl)
theorem dX8_goes_124 : decode cX8_goes 124 = .ok (.iload 4, 2) := dk_21 4 (dk_at dksX8_goes_5 6 rfl rfl)
theorem dX8_goes_126 : decode cX8_goes 126 = .ok (.ifCond .ne 5, 3) := dk_154 0 5 (dk_at dksX8_goes_5 8 rfl rfl)
theorem dX8_goes_129 : decode cX8_goes 129 = .ok (.iconst 0, 1) := dk_3 (dk_at dksX8_goes_5 11 rfl rfl)
theorem dX8_goes_130 : decode cX8_goes 130 = .ok (.ireturn, 1) := dk_172 (dk_at dksX8_goes_5 12 rfl rfl)
theorem dX8_goes_131 : decode cX8_goes 131 = .ok (.aload_n 0, 1) := dk_42 (dk_at dksX8_goes_5 13 rfl rfl)
theorem dX8_goes_132 : decode cX8_goes 132 = .ok (.getfield 65, 3) := dk_180 0 65 (dk_at dksX8_goes_5 14 rfl rfl)
theorem dX8_goes_135 : decode cX8_goes 135 = .ok (.bipush 24, 2) := dk_16 24 (dk_at dksX8_goes_5 17 rfl rfl)
theorem dX8_goes_137 : decode cX8_goes 137 = .ok (.iload_n 2, 1) := dk_28 (dk_at dksX8_goes_5 19 rfl rfl)
theorem dX8_goes_138 : decode cX8_goes 138 = .ok (.iadd, 1) := dk_96 (dk_at dksX8_goes_5 20 rfl rfl)
theorem dX8_goes_139 : decode cX8_goes 139 = .ok (.iload_n 1, 1) := dk_27 (dk_at dksX8_goes_5 21 rfl rfl)
theorem dX8_goes_140 : decode cX8_goes 140 = .ok (.iconst 3, 1) := dk_6 (dk_at dksX8_goes_5 22 rfl rfl)
theorem dX8_goes_141 : decode cX8_goes 141 = .ok (.if_icmp .ne 7, 3) := dk_160 0 7 (dk_at dksX8_goes_6 0 rfl rfl)
theorem dX8_goes_144 : decode cX8_goes 144 = .ok (.iconst 0, 1) := dk_3 (dk_at dksX8_goes_6 3 rfl rfl)
theorem dX8_goes_145 : decode cX8_goes 145 = .ok (.goto 21, 3) := dk_167 0 21 (dk_at dksX8_goes_6 4 rfl rfl)
theorem dX8_goes_148 : decode cX8_goes 148 = .ok (.iload 4, 2) := dk_21 4 (dk_at dksX8_goes_6 7 rfl rfl)
theorem dX8_goes_150 : decode cX8_goes 150 = .ok (.iload_n 3, 1) := dk_29 (dk_at dksX8_goes_6 9 rfl rfl)
theorem dX8_goes_151 : decode cX8_goes 151 = .ok (.iadd, 1) := dk_96 (dk_at dksX8_goes_6 10 rfl rfl)
theorem dX8_goes_152 : decode cX8_goes 152 = .ok (.bipush 99, 2) := dk_16 99 (dk_at dksX8_goes_6 11 rfl rfl)
theorem dX8_goes_154 : decode cX8_goes 154 = .ok (.if_icmp .le 8, 3) := dk_164 0 8 (dk_at dksX8_goes_6 13 rfl rfl)
theorem dX8_goes_157 : decode cX8_goes 157 = .ok (.bipush 99, 2) := dk_16 99 (dk_at dksX8_goes_6 16 rfl rfl)
theorem dX8_goes_159 : decode cX8_goes 159 = .ok (.goto 7, 3) := dk_167 0 7 (dk_at dksX8_goes_6 18 rfl rfl)
theorem dX8_goes_162 : decode cX8_goes 162 = .ok (.iload 4, 2) := dk_21 4 (dk_at dksX8_goes_6 21 rfl rfl)
theorem dX8_goes_164 : decode cX8_goes 164 = .ok (.iload_n 3, 1) := dk_29 (dk_at dksX8_goes_6 23 rfl rfl)
theorem dX8_goes_165 : decode cX8_goes 165 = .ok (.iadd, 1) := dk_96 (dk_at dksX8_goes_7 0 rfl rfl)
theorem dX8_goes_166 : decode cX8_goes 166 = .ok (.iastore, 1) := dk_79 (dk_at dksX8_goes_7 1 rfl rfl)
theorem dX8_goes_167 : decode cX8_goes 167 = .ok (.iconst 1, 1) := dk_4 (dk_at dksX8_goes_7 2 rfl rfl)
theorem dX8_goes_168 : decode cX8_goes 168 = .ok (.ireturn, 1) := dk_172 (dk_at dksX8_goes_7 3 rfl rfl)
abbrev cX8_lands : ByteArray := prog_26_method_52_code
def yX8_lands : MethodName := ⟨RX8, "lands", "()Z"⟩
def dkwX8_lands_2 : List UInt8 := [180, 0, 65, 3, 27, 96, 4, 79, 132, 1, 1, 167, 255, 225, 4, 172]
abbrev dktX8_lands_2 : List UInt8 := dkwX8_lands_2 ++ []
def dkwX8_lands_1 : List UInt8 := [3, 60, 27, 42, 180, 0, 169, 162, 0, 29, 42, 180, 0, 65, 3, 27, 96, 46, 154, 0, 12, 42]
abbrev dktX8_lands_1 : List UInt8 := dkwX8_lands_1 ++ dktX8_lands_2
def dkwX8_lands_0 : List UInt8 := [42, 3, 182, 1, 118, 153, 0, 17, 42, 180, 0, 65, 16, 64, 46, 42, 180, 0, 175, 162, 0, 5, 3, 172]
abbrev dktX8_lands_0 : List UInt8 := dkwX8_lands_0 ++ dktX8_lands_1
theorem dksX8_lands_0 : cX8_lands.data.toList.drop 0 = dktX8_lands_0 := by decide +kernel
theorem dksX8_lands_1 : cX8_lands.data.toList.drop 24 = dktX8_lands_1 := dk_seg dksX8_lands_0 24 rfl rfl
theorem dksX8_lands_2 : cX8_lands.data.toList.drop 46 = dktX8_lands_2 := dk_seg dksX8_lands_1 22 rfl rfl
theorem dX8_lands_0 : decode cX8_lands 0 = .ok (.aload_n 0, 1) := dk_42 (dk_at dksX8_lands_0 0 rfl rfl)
theorem dX8_lands_1 : decode cX8_lands 1 = .ok (.iconst 0, 1) := dk_3 (dk_at dksX8_lands_0 1 rfl rfl)
theorem dX8_lands_2 : decode cX8_lands 2 = .ok (.invokevirtual 374, 3) := dk_182 1 118 (dk_at dksX8_lands_0 2 rfl rfl)
theorem dX8_lands_5 : decode cX8_lands 5 = .ok (.ifCond .eq 17, 3) := dk_153 0 17 (dk_at dksX8_lands_0 5 rfl rfl)
theorem dX8_lands_8 : decode cX8_lands 8 = .ok (.aload_n 0, 1) := dk_42 (dk_at dksX8_lands_0 8 rfl rfl)
theorem dX8_lands_9 : decode cX8_lands 9 = .ok (.getfield 65, 3) := dk_180 0 65 (dk_at dksX8_lands_0 9 rfl rfl)
theorem dX8_lands_12 : decode cX8_lands 12 = .ok (.bipush 64, 2) := dk_16 64 (dk_at dksX8_lands_0 12 rfl rfl)
theorem dX8_lands_14 : decode cX8_lands 14 = .ok (.iaload, 1) := dk_46 (dk_at dksX8_lands_0 14 rfl rfl)
theorem dX8_lands_15 : decode cX8_lands 15 = .ok (.aload_n 0, 1) := dk_42 (dk_at dksX8_lands_0 15 rfl rfl)
theorem dX8_lands_16 : decode cX8_lands 16 = .ok (.getfield 175, 3) := dk_180 0 175 (dk_at dksX8_lands_0 16 rfl rfl)
theorem dX8_lands_19 : decode cX8_lands 19 = .ok (.if_icmp .ge 5, 3) := dk_162 0 5 (dk_at dksX8_lands_0 19 rfl rfl)
theorem dX8_lands_22 : decode cX8_lands 22 = .ok (.iconst 0, 1) := dk_3 (dk_at dksX8_lands_0 22 rfl rfl)
theorem dX8_lands_23 : decode cX8_lands 23 = .ok (.ireturn, 1) := dk_172 (dk_at dksX8_lands_0 23 rfl rfl)
theorem dX8_lands_24 : decode cX8_lands 24 = .ok (.iconst 0, 1) := dk_3 (dk_at dksX8_lands_1 0 rfl rfl)
theorem dX8_lands_25 : decode cX8_lands 25 = .ok (.istore_n 1, 1) := dk_60 (dk_at dksX8_lands_1 1 rfl rfl)
theorem dX8_lands_26 : decode cX8_lands 26 = .ok (.iload_n 1, 1) := dk_27 (dk_at dksX8_lands_1 2 rfl rfl)
theorem dX8_lands_27 : decode cX8_lands 27 = .ok (.aload_n 0, 1) := dk_42 (dk_at dksX8_lands_1 3 rfl rfl)
theorem dX8_lands_28 : decode cX8_lands 28 = .ok (.getfield 169, 3) := dk_180 0 169 (dk_at dksX8_lands_1 4 rfl rfl)
theorem dX8_lands_31 : decode cX8_lands 31 = .ok (.if_icmp .ge 29, 3) := dk_162 0 29 (dk_at dksX8_lands_1 7 rfl rfl)
theorem dX8_lands_34 : decode cX8_lands 34 = .ok (.aload_n 0, 1) := dk_42 (dk_at dksX8_lands_1 10 rfl rfl)
theorem dX8_lands_35 : decode cX8_lands 35 = .ok (.getfield 65, 3) := dk_180 0 65 (dk_at dksX8_lands_1 11 rfl rfl)
theorem dX8_lands_38 : decode cX8_lands 38 = .ok (.iconst 0, 1) := dk_3 (dk_at dksX8_lands_1 14 rfl rfl)
theorem dX8_lands_39 : decode cX8_lands 39 = .ok (.iload_n 1, 1) := dk_27 (dk_at dksX8_lands_1 15 rfl rfl)
theorem dX8_lands_40 : decode cX8_lands 40 = .ok (.iadd, 1) := dk_96 (dk_at dksX8_lands_1 16 rfl rfl)
theorem dX8_lands_41 : decode cX8_lands 41 = .ok (.iaload, 1) := dk_46 (dk_at dksX8_lands_1 17 rfl rfl)
theorem dX8_lands_42 : decode cX8_lands 42 = .ok (.ifCond .ne 12, 3) := dk_154 0 12 (dk_at dksX8_lands_1 18 rfl rfl)
theorem dX8_lands_45 : decode cX8_lands 45 = .ok (.aload_n 0, 1) := dk_42 (dk_at dksX8_lands_1 21 rfl rfl)
theorem dX8_lands_46 : decode cX8_lands 46 = .ok (.getfield 65, 3) := dk_180 0 65 (dk_at dksX8_lands_2 0 rfl rfl)
theorem dX8_lands_49 : decode cX8_lands 49 = .ok (.iconst 0, 1) := dk_3 (dk_at dksX8_lands_2 3 rfl rfl)
theorem dX8_lands_50 : decode cX8_lands 50 = .ok (.iload_n 1, 1) := dk_27 (dk_at dksX8_lands_2 4 rfl rfl)
theorem dX8_lands_51 : decode cX8_lands 51 = .ok (.iadd, 1) := dk_96 (dk_at dksX8_lands_2 5 rfl rfl)
theorem dX8_lands_52 : decode cX8_lands 52 = .ok (.iconst 1, 1) := dk_4 (dk_at dksX8_lands_2 6 rfl rfl)
theorem dX8_lands_53 : decode cX8_lands 53 = .ok (.iastore, 1) := dk_79 (dk_at dksX8_lands_2 7 rfl rfl)
theorem dX8_lands_54 : decode cX8_lands 54 = .ok (.iinc 1 1, 3) := dk_132 1 1 (dk_at dksX8_lands_2 8 rfl rfl)
theorem dX8_lands_57 : decode cX8_lands 57 = .ok (.goto (-31), 3) := dk_167 255 225 (dk_at dksX8_lands_2 11 rfl rfl)
theorem dX8_lands_60 : decode cX8_lands 60 = .ok (.iconst 1, 1) := dk_4 (dk_at dksX8_lands_2 14 rfl rfl)
theorem dX8_lands_61 : decode cX8_lands 61 = .ok (.ireturn, 1) := dk_172 (dk_at dksX8_lands_2 15 rfl rfl)
abbrev cX8_many : ByteArray := prog_26_method_50_code
def yX8_many : MethodName := ⟨RX8, "many", "(I)I"⟩
def dkwX8_many_1 : List UInt8 := [160, 0, 7, 4, 167, 0, 4, 3, 96, 61, 132, 3, 1, 167, 255, 225, 28, 172]
abbrev dktX8_many_1 : List UInt8 := dkwX8_many_1 ++ []
def dkwX8_many_0 : List UInt8 := [3, 61, 3, 62, 29, 42, 180, 0, 169, 162, 0, 29, 28, 42, 180, 0, 65, 3, 29, 96, 46, 27]
abbrev dktX8_many_0 : List UInt8 := dkwX8_many_0 ++ dktX8_many_1
theorem dksX8_many_0 : cX8_many.data.toList.drop 0 = dktX8_many_0 := by decide +kernel
theorem dksX8_many_1 : cX8_many.data.toList.drop 22 = dktX8_many_1 := dk_seg dksX8_many_0 22 rfl rfl
theorem dX8_many_0 : decode cX8_many 0 = .ok (.iconst 0, 1) := dk_3 (dk_at dksX8_many_0 0 rfl rfl)
theorem dX8_many_1 : decode cX8_many 1 = .ok (.istore_n 2, 1) := dk_61 (dk_at dksX8_many_0 1 rfl rfl)
theorem dX8_many_2 : decode cX8_many 2 = .ok (.iconst 0, 1) := dk_3 (dk_at dksX8_many_0 2 rfl rfl)
theorem dX8_many_3 : decode cX8_many 3 = .ok (.istore_n 3, 1) := dk_62 (dk_at dksX8_many_0 3 rfl rfl)
theorem dX8_many_4 : decode cX8_many 4 = .ok (.iload_n 3, 1) := dk_29 (dk_at dksX8_many_0 4 rfl rfl)
theorem dX8_many_5 : decode cX8_many 5 = .ok (.aload_n 0, 1) := dk_42 (dk_at dksX8_many_0 5 rfl rfl)
theorem dX8_many_6 : decode cX8_many 6 = .ok (.getfield 169, 3) := dk_180 0 169 (dk_at dksX8_many_0 6 rfl rfl)
theorem dX8_many_9 : decode cX8_many 9 = .ok (.if_icmp .ge 29, 3) := dk_162 0 29 (dk_at dksX8_many_0 9 rfl rfl)
theorem dX8_many_12 : decode cX8_many 12 = .ok (.iload_n 2, 1) := dk_28 (dk_at dksX8_many_0 12 rfl rfl)
theorem dX8_many_13 : decode cX8_many 13 = .ok (.aload_n 0, 1) := dk_42 (dk_at dksX8_many_0 13 rfl rfl)
theorem dX8_many_14 : decode cX8_many 14 = .ok (.getfield 65, 3) := dk_180 0 65 (dk_at dksX8_many_0 14 rfl rfl)
theorem dX8_many_17 : decode cX8_many 17 = .ok (.iconst 0, 1) := dk_3 (dk_at dksX8_many_0 17 rfl rfl)
theorem dX8_many_18 : decode cX8_many 18 = .ok (.iload_n 3, 1) := dk_29 (dk_at dksX8_many_0 18 rfl rfl)
theorem dX8_many_19 : decode cX8_many 19 = .ok (.iadd, 1) := dk_96 (dk_at dksX8_many_0 19 rfl rfl)
theorem dX8_many_20 : decode cX8_many 20 = .ok (.iaload, 1) := dk_46 (dk_at dksX8_many_0 20 rfl rfl)
theorem dX8_many_21 : decode cX8_many 21 = .ok (.iload_n 1, 1) := dk_27 (dk_at dksX8_many_0 21 rfl rfl)
theorem dX8_many_22 : decode cX8_many 22 = .ok (.if_icmp .ne 7, 3) := dk_160 0 7 (dk_at dksX8_many_1 0 rfl rfl)
theorem dX8_many_25 : decode cX8_many 25 = .ok (.iconst 1, 1) := dk_4 (dk_at dksX8_many_1 3 rfl rfl)
theorem dX8_many_26 : decode cX8_many 26 = .ok (.goto 4, 3) := dk_167 0 4 (dk_at dksX8_many_1 4 rfl rfl)
theorem dX8_many_29 : decode cX8_many 29 = .ok (.iconst 0, 1) := dk_3 (dk_at dksX8_many_1 7 rfl rfl)
theorem dX8_many_30 : decode cX8_many 30 = .ok (.iadd, 1) := dk_96 (dk_at dksX8_many_1 8 rfl rfl)
theorem dX8_many_31 : decode cX8_many 31 = .ok (.istore_n 2, 1) := dk_61 (dk_at dksX8_many_1 9 rfl rfl)
theorem dX8_many_32 : decode cX8_many 32 = .ok (.iinc 3 1, 3) := dk_132 3 1 (dk_at dksX8_many_1 10 rfl rfl)
theorem dX8_many_35 : decode cX8_many 35 = .ok (.goto (-31), 3) := dk_167 255 225 (dk_at dksX8_many_1 13 rfl rfl)
theorem dX8_many_38 : decode cX8_many 38 = .ok (.iload_n 2, 1) := dk_28 (dk_at dksX8_many_1 16 rfl rfl)
theorem dX8_many_39 : decode cX8_many 39 = .ok (.ireturn, 1) := dk_172 (dk_at dksX8_many_1 17 rfl rfl)
abbrev cX8_places : ByteArray := prog_26_method_53_code
def yX8_places : MethodName := ⟨RX8, "places", "(II)Z"⟩
def dkwX8_places_3 : List UInt8 := [180, 0, 65, 16, 64, 46, 79, 4, 172]
abbrev dktX8_places_3 : List UInt8 := dkwX8_places_3 ++ []
def dkwX8_places_2 : List UInt8 := [96, 28, 79, 42, 180, 0, 65, 16, 16, 27, 96, 3, 79, 42, 180, 0, 65, 16, 48, 27, 96, 42]
abbrev dktX8_places_2 : List UInt8 := dkwX8_places_2 ++ dktX8_places_3
def dkwX8_places_1 : List UInt8 := [5, 96, 46, 161, 0, 5, 3, 172, 42, 180, 0, 65, 3, 27, 96, 5, 79, 42, 180, 0, 65, 16, 8, 27]
abbrev dktX8_places_1 : List UInt8 := dkwX8_places_1 ++ dktX8_places_2
def dkwX8_places_0 : List UInt8 := [42, 180, 0, 65, 3, 27, 96, 46, 4, 160, 0, 21, 42, 28, 182, 1, 121, 42, 180, 0, 32, 6, 28, 104]
abbrev dktX8_places_0 : List UInt8 := dkwX8_places_0 ++ dktX8_places_1
theorem dksX8_places_0 : cX8_places.data.toList.drop 0 = dktX8_places_0 := by decide +kernel
theorem dksX8_places_1 : cX8_places.data.toList.drop 24 = dktX8_places_1 := dk_seg dksX8_places_0 24 rfl rfl
theorem dksX8_places_2 : cX8_places.data.toList.drop 48 = dktX8_places_2 := dk_seg dksX8_places_1 24 rfl rfl
theorem dksX8_places_3 : cX8_places.data.toList.drop 70 = dktX8_places_3 := dk_seg dksX8_places_2 22 rfl rfl
theorem dX8_places_0 : decode cX8_places 0 = .ok (.aload_n 0, 1) := dk_42 (dk_at dksX8_places_0 0 rfl rfl)
theorem dX8_places_1 : decode cX8_places 1 = .ok (.getfield 65, 3) := dk_180 0 65 (dk_at dksX8_places_0 1 rfl rfl)
theorem dX8_places_4 : decode cX8_places 4 = .ok (.iconst 0, 1) := dk_3 (dk_at dksX8_places_0 4 rfl rfl)
theorem dX8_places_5 : decode cX8_places 5 = .ok (.iload_n 1, 1) := dk_27 (dk_at dksX8_places_0 5 rfl rfl)
theorem dX8_places_6 : decode cX8_places 6 = .ok (.iadd, 1) := dk_96 (dk_at dksX8_places_0 6 rfl rfl)
theorem dX8_places_7 : decode cX8_places 7 = .ok (.iaload, 1) := dk_46 (dk_at dksX8_places_0 7 rfl rfl)
theorem dX8_places_8 : decode cX8_places 8 = .ok (.iconst 1, 1) := dk_4 (dk_at dksX8_places_0 8 rfl rfl)
theorem dX8_places_9 : decode cX8_places 9 = .ok (.if_icmp .ne 21, 3) := dk_160 0 21 (dk_at dksX8_places_0 9 rfl rfl)
theorem dX8_places_12 : decode cX8_places 12 = .ok (.aload_n 0, 1) := dk_42 (dk_at dksX8_places_0 12 rfl rfl)
theorem dX8_places_13 : decode cX8_places 13 = .ok (.iload_n 2, 1) := dk_28 (dk_at dksX8_places_0 13 rfl rfl)
theorem dX8_places_14 : decode cX8_places 14 = .ok (.invokevirtual 377, 3) := dk_182 1 121 (dk_at dksX8_places_0 14 rfl rfl)
theorem dX8_places_17 : decode cX8_places 17 = .ok (.aload_n 0, 1) := dk_42 (dk_at dksX8_places_0 17 rfl rfl)
theorem dX8_places_18 : decode cX8_places 18 = .ok (.getfield 32, 3) := dk_180 0 32 (dk_at dksX8_places_0 18 rfl rfl)
theorem dX8_places_21 : decode cX8_places 21 = .ok (.iconst 3, 1) := dk_6 (dk_at dksX8_places_0 21 rfl rfl)
theorem dX8_places_22 : decode cX8_places 22 = .ok (.iload_n 2, 1) := dk_28 (dk_at dksX8_places_0 22 rfl rfl)
theorem dX8_places_23 : decode cX8_places 23 = .ok (.imul, 1) := dk_104 (dk_at dksX8_places_0 23 rfl rfl)
theorem dX8_places_24 : decode cX8_places 24 = .ok (.iconst 2, 1) := dk_5 (dk_at dksX8_places_1 0 rfl rfl)
theorem dX8_places_25 : decode cX8_places 25 = .ok (.iadd, 1) := dk_96 (dk_at dksX8_places_1 1 rfl rfl)
theorem dX8_places_26 : decode cX8_places 26 = .ok (.iaload, 1) := dk_46 (dk_at dksX8_places_1 2 rfl rfl)
theorem dX8_places_27 : decode cX8_places 27 = .ok (.if_icmp .lt 5, 3) := dk_161 0 5 (dk_at dksX8_places_1 3 rfl rfl)
theorem dX8_places_30 : decode cX8_places 30 = .ok (.iconst 0, 1) := dk_3 (dk_at dksX8_places_1 6 rfl rfl)
theorem dX8_places_31 : decode cX8_places 31 = .ok (.ireturn, 1) := dk_172 (dk_at dksX8_places_1 7 rfl rfl)
theorem dX8_places_32 : decode cX8_places 32 = .ok (.aload_n 0, 1) := dk_42 (dk_at dksX8_places_1 8 rfl rfl)
theorem dX8_places_33 : decode cX8_places 33 = .ok (.getfield 65, 3) := dk_180 0 65 (dk_at dksX8_places_1 9 rfl rfl)
theorem dX8_places_36 : decode cX8_places 36 = .ok (.iconst 0, 1) := dk_3 (dk_at dksX8_places_1 12 rfl rfl)
theorem dX8_places_37 : decode cX8_places 37 = .ok (.iload_n 1, 1) := dk_27 (dk_at dksX8_places_1 13 rfl rfl)
theorem dX8_places_38 : decode cX8_places 38 = .ok (.iadd, 1) := dk_96 (dk_at dksX8_places_1 14 rfl rfl)
theorem dX8_places_39 : decode cX8_places 39 = .ok (.iconst 2, 1) := dk_5 (dk_at dksX8_places_1 15 rfl rfl)
theorem dX8_places_40 : decode cX8_places 40 = .ok (.iastore, 1) := dk_79 (dk_at dksX8_places_1 16 rfl rfl)
theorem dX8_places_41 : decode cX8_places 41 = .ok (.aload_n 0, 1) := dk_42 (dk_at dksX8_places_1 17 rfl rfl)
theorem dX8_places_42 : decode cX8_places 42 = .ok (.getfield 65, 3) := dk_180 0 65 (dk_at dksX8_places_1 18 rfl rfl)
theorem dX8_places_45 : decode cX8_places 45 = .ok (.bipush 8, 2) := dk_16 8 (dk_at dksX8_places_1 21 rfl rfl)
theorem dX8_places_47 : decode cX8_places 47 = .ok (.iload_n 1, 1) := dk_27 (dk_at dksX8_places_1 23 rfl rfl)
theorem dX8_places_48 : decode cX8_places 48 = .ok (.iadd, 1) := dk_96 (dk_at dksX8_places_2 0 rfl rfl)
theorem dX8_places_49 : decode cX8_places 49 = .ok (.iload_n 2, 1) := dk_28 (dk_at dksX8_places_2 1 rfl rfl)
theorem dX8_places_50 : decode cX8_places 50 = .ok (.iastore, 1) := dk_79 (dk_at dksX8_places_2 2 rfl rfl)
theorem dX8_places_51 : decode cX8_places 51 = .ok (.aload_n 0, 1) := dk_42 (dk_at dksX8_places_2 3 rfl rfl)
theorem dX8_places_52 : decode cX8_places 52 = .ok (.getfield 65, 3) := dk_180 0 65 (dk_at dksX8_places_2 4 rfl rfl)
theorem dX8_places_55 : decode cX8_places 55 = .ok (.bipush 16, 2) := dk_16 16 (dk_at dksX8_places_2 7 rfl rfl)
theorem dX8_places_57 : decode cX8_places 57 = .ok (.iload_n 1, 1) := dk_27 (dk_at dksX8_places_2 9 rfl rfl)
theorem dX8_places_58 : decode cX8_places 58 = .ok (.iadd, 1) := dk_96 (dk_at dksX8_places_2 10 rfl rfl)
theorem dX8_places_59 : decode cX8_places 59 = .ok (.iconst 0, 1) := dk_3 (dk_at dksX8_places_2 11 rfl rfl)
theorem dX8_places_60 : decode cX8_places 60 = .ok (.iastore, 1) := dk_79 (dk_at dksX8_places_2 12 rfl rfl)
theorem dX8_places_61 : decode cX8_places 61 = .ok (.aload_n 0, 1) := dk_42 (dk_at dksX8_places_2 13 rfl rfl)
theorem dX8_places_62 : decode cX8_places 62 = .ok (.getfield 65, 3) := dk_180 0 65 (dk_at dksX8_places_2 14 rfl rfl)
theorem dX8_places_65 : decode cX8_places 65 = .ok (.bipush 48, 2) := dk_16 48 (dk_at dksX8_places_2 17 rfl rfl)
theorem dX8_places_67 : decode cX8_places 67 = .ok (.iload_n 1, 1) := dk_27 (dk_at dksX8_places_2 19 rfl rfl)
theorem dX8_places_68 : decode cX8_places 68 = .ok (.iadd, 1) := dk_96 (dk_at dksX8_places_2 20 rfl rfl)
theorem dX8_places_69 : decode cX8_places 69 = .ok (.aload_n 0, 1) := dk_42 (dk_at dksX8_places_2 21 rfl rfl)
theorem dX8_places_70 : decode cX8_places 70 = .ok (.getfield 65, 3) := dk_180 0 65 (dk_at dksX8_places_3 0 rfl rfl)
theorem dX8_places_73 : decode cX8_places 73 = .ok (.bipush 64, 2) := dk_16 64 (dk_at dksX8_places_3 3 rfl rfl)
theorem dX8_places_75 : decode cX8_places 75 = .ok (.iaload, 1) := dk_46 (dk_at dksX8_places_3 5 rfl rfl)
theorem dX8_places_76 : decode cX8_places 76 = .ok (.iastore, 1) := dk_79 (dk_at dksX8_places_3 6 rfl rfl)
theorem dX8_places_77 : decode cX8_places 77 = .ok (.iconst 1, 1) := dk_4 (dk_at dksX8_places_3 7 rfl rfl)
theorem dX8_places_78 : decode cX8_places 78 = .ok (.ireturn, 1) := dk_172 (dk_at dksX8_places_3 8 rfl rfl)
abbrev cX8_boundTo : ByteArray := prog_26_method_51_code
def yX8_boundTo : MethodName := ⟨RX8, "boundTo", "(I)I"⟩
def dkwX8_boundTo_2 : List UInt8 := [132, 3, 1, 167, 255, 212, 28, 172]
abbrev dktX8_boundTo_2 : List UInt8 := dkwX8_boundTo_2 ++ []
def dkwX8_boundTo_1 : List UInt8 := [160, 0, 20, 42, 180, 0, 65, 16, 8, 29, 96, 46, 27, 160, 0, 7, 4, 167, 0, 4, 3, 96, 61]
abbrev dktX8_boundTo_1 : List UInt8 := dkwX8_boundTo_1 ++ dktX8_boundTo_2
def dkwX8_boundTo_0 : List UInt8 := [3, 61, 3, 62, 29, 42, 180, 0, 169, 162, 0, 42, 28, 42, 180, 0, 65, 3, 29, 96, 46, 5]
abbrev dktX8_boundTo_0 : List UInt8 := dkwX8_boundTo_0 ++ dktX8_boundTo_1
theorem dksX8_boundTo_0 : cX8_boundTo.data.toList.drop 0 = dktX8_boundTo_0 := by decide +kernel
theorem dksX8_boundTo_1 : cX8_boundTo.data.toList.drop 22 = dktX8_boundTo_1 := dk_seg dksX8_boundTo_0 22 rfl rfl
theorem dksX8_boundTo_2 : cX8_boundTo.data.toList.drop 45 = dktX8_boundTo_2 := dk_seg dksX8_boundTo_1 23 rfl rfl
theorem dX8_boundTo_0 : decode cX8_boundTo 0 = .ok (.iconst 0, 1) := dk_3 (dk_at dksX8_boundTo_0 0 rfl rfl)
theorem dX8_boundTo_1 : decode cX8_boundTo 1 = .ok (.istore_n 2, 1) := dk_61 (dk_at dksX8_boundTo_0 1 rfl rfl)
theorem dX8_boundTo_2 : decode cX8_boundTo 2 = .ok (.iconst 0, 1) := dk_3 (dk_at dksX8_boundTo_0 2 rfl rfl)
theorem dX8_boundTo_3 : decode cX8_boundTo 3 = .ok (.istore_n 3, 1) := dk_62 (dk_at dksX8_boundTo_0 3 rfl rfl)
theorem dX8_boundTo_4 : decode cX8_boundTo 4 = .ok (.iload_n 3, 1) := dk_29 (dk_at dksX8_boundTo_0 4 rfl rfl)
theorem dX8_boundTo_5 : decode cX8_boundTo 5 = .ok (.aload_n 0, 1) := dk_42 (dk_at dksX8_boundTo_0 5 rfl rfl)
theorem dX8_boundTo_6 : decode cX8_boundTo 6 = .ok (.getfield 169, 3) := dk_180 0 169 (dk_at dksX8_boundTo_0 6 rfl rfl)
theorem dX8_boundTo_9 : decode cX8_boundTo 9 = .ok (.if_icmp .ge 42, 3) := dk_162 0 42 (dk_at dksX8_boundTo_0 9 rfl rfl)
theorem dX8_boundTo_12 : decode cX8_boundTo 12 = .ok (.iload_n 2, 1) := dk_28 (dk_at dksX8_boundTo_0 12 rfl rfl)
theorem dX8_boundTo_13 : decode cX8_boundTo 13 = .ok (.aload_n 0, 1) := dk_42 (dk_at dksX8_boundTo_0 13 rfl rfl)
theorem dX8_boundTo_14 : decode cX8_boundTo 14 = .ok (.getfield 65, 3) := dk_180 0 65 (dk_at dksX8_boundTo_0 14 rfl rfl)
theorem dX8_boundTo_17 : decode cX8_boundTo 17 = .ok (.iconst 0, 1) := dk_3 (dk_at dksX8_boundTo_0 17 rfl rfl)
theorem dX8_boundTo_18 : decode cX8_boundTo 18 = .ok (.iload_n 3, 1) := dk_29 (dk_at dksX8_boundTo_0 18 rfl rfl)
theorem dX8_boundTo_19 : decode cX8_boundTo 19 = .ok (.iadd, 1) := dk_96 (dk_at dksX8_boundTo_0 19 rfl rfl)
theorem dX8_boundTo_20 : decode cX8_boundTo 20 = .ok (.iaload, 1) := dk_46 (dk_at dksX8_boundTo_0 20 rfl rfl)
theorem dX8_boundTo_21 : decode cX8_boundTo 21 = .ok (.iconst 2, 1) := dk_5 (dk_at dksX8_boundTo_0 21 rfl rfl)
theorem dX8_boundTo_22 : decode cX8_boundTo 22 = .ok (.if_icmp .ne 20, 3) := dk_160 0 20 (dk_at dksX8_boundTo_1 0 rfl rfl)
theorem dX8_boundTo_25 : decode cX8_boundTo 25 = .ok (.aload_n 0, 1) := dk_42 (dk_at dksX8_boundTo_1 3 rfl rfl)
theorem dX8_boundTo_26 : decode cX8_boundTo 26 = .ok (.getfield 65, 3) := dk_180 0 65 (dk_at dksX8_boundTo_1 4 rfl rfl)
theorem dX8_boundTo_29 : decode cX8_boundTo 29 = .ok (.bipush 8, 2) := dk_16 8 (dk_at dksX8_boundTo_1 7 rfl rfl)
theorem dX8_boundTo_31 : decode cX8_boundTo 31 = .ok (.iload_n 3, 1) := dk_29 (dk_at dksX8_boundTo_1 9 rfl rfl)
theorem dX8_boundTo_32 : decode cX8_boundTo 32 = .ok (.iadd, 1) := dk_96 (dk_at dksX8_boundTo_1 10 rfl rfl)
theorem dX8_boundTo_33 : decode cX8_boundTo 33 = .ok (.iaload, 1) := dk_46 (dk_at dksX8_boundTo_1 11 rfl rfl)
theorem dX8_boundTo_34 : decode cX8_boundTo 34 = .ok (.iload_n 1, 1) := dk_27 (dk_at dksX8_boundTo_1 12 rfl rfl)
theorem dX8_boundTo_35 : decode cX8_boundTo 35 = .ok (.if_icmp .ne 7, 3) := dk_160 0 7 (dk_at dksX8_boundTo_1 13 rfl rfl)
theorem dX8_boundTo_38 : decode cX8_boundTo 38 = .ok (.iconst 1, 1) := dk_4 (dk_at dksX8_boundTo_1 16 rfl rfl)
theorem dX8_boundTo_39 : decode cX8_boundTo 39 = .ok (.goto 4, 3) := dk_167 0 4 (dk_at dksX8_boundTo_1 17 rfl rfl)
theorem dX8_boundTo_42 : decode cX8_boundTo 42 = .ok (.iconst 0, 1) := dk_3 (dk_at dksX8_boundTo_1 20 rfl rfl)
theorem dX8_boundTo_43 : decode cX8_boundTo 43 = .ok (.iadd, 1) := dk_96 (dk_at dksX8_boundTo_1 21 rfl rfl)
theorem dX8_boundTo_44 : decode cX8_boundTo 44 = .ok (.istore_n 2, 1) := dk_61 (dk_at dksX8_boundTo_1 22 rfl rfl)
theorem dX8_boundTo_45 : decode cX8_boundTo 45 = .ok (.iinc 3 1, 3) := dk_132 3 1 (dk_at dksX8_boundTo_2 0 rfl rfl)
theorem dX8_boundTo_48 : decode cX8_boundTo 48 = .ok (.goto (-44), 3) := dk_167 255 212 (dk_at dksX8_boundTo_2 3 rfl rfl)
theorem dX8_boundTo_51 : decode cX8_boundTo 51 = .ok (.iload_n 2, 1) := dk_28 (dk_at dksX8_boundTo_2 6 rfl rfl)
theorem dX8_boundTo_52 : decode cX8_boundTo 52 = .ok (.ireturn, 1) := dk_172 (dk_at dksX8_boundTo_2 7 rfl rfl)
abbrev cX8_loses : ByteArray := prog_26_method_57_code
def yX8_loses : MethodName := ⟨RX8, "loses", "(II)Z"⟩
def dkwX8_loses_1 : List UInt8 := [160, 0, 5, 3, 172, 42, 180, 0, 65, 16, 40, 27, 96, 28, 79, 4, 172]
abbrev dktX8_loses_1 : List UInt8 := dkwX8_loses_1 ++ []
def dkwX8_loses_0 : List UInt8 := [42, 180, 0, 65, 3, 27, 96, 46, 6, 159, 0, 16, 42, 180, 0, 65, 16, 40, 27, 96, 46, 28]
abbrev dktX8_loses_0 : List UInt8 := dkwX8_loses_0 ++ dktX8_loses_1
theorem dksX8_loses_0 : cX8_loses.data.toList.drop 0 = dktX8_loses_0 := by decide +kernel
theorem dksX8_loses_1 : cX8_loses.data.toList.drop 22 = dktX8_loses_1 := dk_seg dksX8_loses_0 22 rfl rfl
theorem dX8_loses_0 : decode cX8_loses 0 = .ok (.aload_n 0, 1) := dk_42 (dk_at dksX8_loses_0 0 rfl rfl)
theorem dX8_loses_1 : decode cX8_loses 1 = .ok (.getfield 65, 3) := dk_180 0 65 (dk_at dksX8_loses_0 1 rfl rfl)
theorem dX8_loses_4 : decode cX8_loses 4 = .ok (.iconst 0, 1) := dk_3 (dk_at dksX8_loses_0 4 rfl rfl)
theorem dX8_loses_5 : decode cX8_loses 5 = .ok (.iload_n 1, 1) := dk_27 (dk_at dksX8_loses_0 5 rfl rfl)
theorem dX8_loses_6 : decode cX8_loses 6 = .ok (.iadd, 1) := dk_96 (dk_at dksX8_loses_0 6 rfl rfl)
theorem dX8_loses_7 : decode cX8_loses 7 = .ok (.iaload, 1) := dk_46 (dk_at dksX8_loses_0 7 rfl rfl)
theorem dX8_loses_8 : decode cX8_loses 8 = .ok (.iconst 3, 1) := dk_6 (dk_at dksX8_loses_0 8 rfl rfl)
theorem dX8_loses_9 : decode cX8_loses 9 = .ok (.if_icmp .eq 16, 3) := dk_159 0 16 (dk_at dksX8_loses_0 9 rfl rfl)
theorem dX8_loses_12 : decode cX8_loses 12 = .ok (.aload_n 0, 1) := dk_42 (dk_at dksX8_loses_0 12 rfl rfl)
theorem dX8_loses_13 : decode cX8_loses 13 = .ok (.getfield 65, 3) := dk_180 0 65 (dk_at dksX8_loses_0 13 rfl rfl)
theorem dX8_loses_16 : decode cX8_loses 16 = .ok (.bipush 40, 2) := dk_16 40 (dk_at dksX8_loses_0 16 rfl rfl)
theorem dX8_loses_18 : decode cX8_loses 18 = .ok (.iload_n 1, 1) := dk_27 (dk_at dksX8_loses_0 18 rfl rfl)
theorem dX8_loses_19 : decode cX8_loses 19 = .ok (.iadd, 1) := dk_96 (dk_at dksX8_loses_0 19 rfl rfl)
theorem dX8_loses_20 : decode cX8_loses 20 = .ok (.iaload, 1) := dk_46 (dk_at dksX8_loses_0 20 rfl rfl)
theorem dX8_loses_21 : decode cX8_loses 21 = .ok (.iload_n 2, 1) := dk_28 (dk_at dksX8_loses_0 21 rfl rfl)
theorem dX8_loses_22 : decode cX8_loses 22 = .ok (.if_icmp .ne 5, 3) := dk_160 0 5 (dk_at dksX8_loses_1 0 rfl rfl)
theorem dX8_loses_25 : decode cX8_loses 25 = .ok (.iconst 0, 1) := dk_3 (dk_at dksX8_loses_1 3 rfl rfl)
theorem dX8_loses_26 : decode cX8_loses 26 = .ok (.ireturn, 1) := dk_172 (dk_at dksX8_loses_1 4 rfl rfl)
theorem dX8_loses_27 : decode cX8_loses 27 = .ok (.aload_n 0, 1) := dk_42 (dk_at dksX8_loses_1 5 rfl rfl)
theorem dX8_loses_28 : decode cX8_loses 28 = .ok (.getfield 65, 3) := dk_180 0 65 (dk_at dksX8_loses_1 6 rfl rfl)
theorem dX8_loses_31 : decode cX8_loses 31 = .ok (.bipush 40, 2) := dk_16 40 (dk_at dksX8_loses_1 9 rfl rfl)
theorem dX8_loses_33 : decode cX8_loses 33 = .ok (.iload_n 1, 1) := dk_27 (dk_at dksX8_loses_1 11 rfl rfl)
theorem dX8_loses_34 : decode cX8_loses 34 = .ok (.iadd, 1) := dk_96 (dk_at dksX8_loses_1 12 rfl rfl)
theorem dX8_loses_35 : decode cX8_loses 35 = .ok (.iload_n 2, 1) := dk_28 (dk_at dksX8_loses_1 13 rfl rfl)
theorem dX8_loses_36 : decode cX8_loses 36 = .ok (.iastore, 1) := dk_79 (dk_at dksX8_loses_1 14 rfl rfl)
theorem dX8_loses_37 : decode cX8_loses 37 = .ok (.iconst 1, 1) := dk_4 (dk_at dksX8_loses_1 15 rfl rfl)
theorem dX8_loses_38 : decode cX8_loses 38 = .ok (.ireturn, 1) := dk_172 (dk_at dksX8_loses_1 16 rfl rfl)
abbrev cX8_pays : ByteArray := prog_26_method_56_code
def yX8_pays : MethodName := ⟨RX8, "pays", "(I)Z"⟩
def dkwX8_pays_1 : List UInt8 := [182, 1, 124, 7, 108, 100, 79, 42, 27, 182, 1, 130, 4, 172]
abbrev dktX8_pays_1 : List UInt8 := dkwX8_pays_1 ++ []
def dkwX8_pays_0 : List UInt8 := [42, 27, 182, 1, 127, 154, 0, 5, 3, 172, 42, 180, 0, 65, 16, 56, 27, 96, 92, 46, 42, 27]
abbrev dktX8_pays_0 : List UInt8 := dkwX8_pays_0 ++ dktX8_pays_1
theorem dksX8_pays_0 : cX8_pays.data.toList.drop 0 = dktX8_pays_0 := by decide +kernel
theorem dksX8_pays_1 : cX8_pays.data.toList.drop 22 = dktX8_pays_1 := dk_seg dksX8_pays_0 22 rfl rfl
theorem dX8_pays_0 : decode cX8_pays 0 = .ok (.aload_n 0, 1) := dk_42 (dk_at dksX8_pays_0 0 rfl rfl)
theorem dX8_pays_1 : decode cX8_pays 1 = .ok (.iload_n 1, 1) := dk_27 (dk_at dksX8_pays_0 1 rfl rfl)
theorem dX8_pays_2 : decode cX8_pays 2 = .ok (.invokevirtual 383, 3) := dk_182 1 127 (dk_at dksX8_pays_0 2 rfl rfl)
theorem dX8_pays_5 : decode cX8_pays 5 = .ok (.ifCond .ne 5, 3) := dk_154 0 5 (dk_at dksX8_pays_0 5 rfl rfl)
theorem dX8_pays_8 : decode cX8_pays 8 = .ok (.iconst 0, 1) := dk_3 (dk_at dksX8_pays_0 8 rfl rfl)
theorem dX8_pays_9 : decode cX8_pays 9 = .ok (.ireturn, 1) := dk_172 (dk_at dksX8_pays_0 9 rfl rfl)
theorem dX8_pays_10 : decode cX8_pays 10 = .ok (.aload_n 0, 1) := dk_42 (dk_at dksX8_pays_0 10 rfl rfl)
theorem dX8_pays_11 : decode cX8_pays 11 = .ok (.getfield 65, 3) := dk_180 0 65 (dk_at dksX8_pays_0 11 rfl rfl)
theorem dX8_pays_14 : decode cX8_pays 14 = .ok (.bipush 56, 2) := dk_16 56 (dk_at dksX8_pays_0 14 rfl rfl)
theorem dX8_pays_16 : decode cX8_pays 16 = .ok (.iload_n 1, 1) := dk_27 (dk_at dksX8_pays_0 16 rfl rfl)
theorem dX8_pays_17 : decode cX8_pays 17 = .ok (.iadd, 1) := dk_96 (dk_at dksX8_pays_0 17 rfl rfl)
theorem dX8_pays_18 : decode cX8_pays 18 = .ok (.dup2, 1) := dk_92 (dk_at dksX8_pays_0 18 rfl rfl)
theorem dX8_pays_19 : decode cX8_pays 19 = .ok (.iaload, 1) := dk_46 (dk_at dksX8_pays_0 19 rfl rfl)
theorem dX8_pays_20 : decode cX8_pays 20 = .ok (.aload_n 0, 1) := dk_42 (dk_at dksX8_pays_0 20 rfl rfl)
theorem dX8_pays_21 : decode cX8_pays 21 = .ok (.iload_n 1, 1) := dk_27 (dk_at dksX8_pays_0 21 rfl rfl)
theorem dX8_pays_22 : decode cX8_pays 22 = .ok (.invokevirtual 380, 3) := dk_182 1 124 (dk_at dksX8_pays_1 0 rfl rfl)
theorem dX8_pays_25 : decode cX8_pays 25 = .ok (.iconst 4, 1) := dk_7 (dk_at dksX8_pays_1 3 rfl rfl)
theorem dX8_pays_26 : decode cX8_pays 26 = .ok (.idiv, 1) := dk_108 (dk_at dksX8_pays_1 4 rfl rfl)
theorem dX8_pays_27 : decode cX8_pays 27 = .ok (.isub, 1) := dk_100 (dk_at dksX8_pays_1 5 rfl rfl)
theorem dX8_pays_28 : decode cX8_pays 28 = .ok (.iastore, 1) := dk_79 (dk_at dksX8_pays_1 6 rfl rfl)
theorem dX8_pays_29 : decode cX8_pays 29 = .ok (.aload_n 0, 1) := dk_42 (dk_at dksX8_pays_1 7 rfl rfl)
theorem dX8_pays_30 : decode cX8_pays 30 = .ok (.iload_n 1, 1) := dk_27 (dk_at dksX8_pays_1 8 rfl rfl)
theorem dX8_pays_31 : decode cX8_pays 31 = .ok (.invokevirtual 386, 3) := dk_182 1 130 (dk_at dksX8_pays_1 9 rfl rfl)
theorem dX8_pays_34 : decode cX8_pays 34 = .ok (.iconst 1, 1) := dk_4 (dk_at dksX8_pays_1 12 rfl rfl)
theorem dX8_pays_35 : decode cX8_pays 35 = .ok (.ireturn, 1) := dk_172 (dk_at dksX8_pays_1 13 rfl rfl)
abbrev cX8_canPayNow : ByteArray := prog_26_method_55_code
def yX8_canPayNow : MethodName := ⟨RX8, "canPayNow", "(I)Z"⟩
def dkwX8_canPayNow_2 : List UInt8 := [172]
abbrev dktX8_canPayNow_2 : List UInt8 := dkwX8_canPayNow_2 ++ []
def dkwX8_canPayNow_1 : List UInt8 := [42, 180, 0, 65, 16, 56, 27, 96, 46, 42, 27, 182, 1, 124, 7, 108, 161, 0, 7, 4, 167, 0, 4, 3]
abbrev dktX8_canPayNow_1 : List UInt8 := dkwX8_canPayNow_1 ++ dktX8_canPayNow_2
def dkwX8_canPayNow_0 : List UInt8 := [42, 180, 0, 65, 3, 27, 96, 46, 4, 159, 0, 15, 42, 180, 0, 65, 3, 27, 96, 46, 5, 160, 0, 26]
abbrev dktX8_canPayNow_0 : List UInt8 := dkwX8_canPayNow_0 ++ dktX8_canPayNow_1
theorem dksX8_canPayNow_0 : cX8_canPayNow.data.toList.drop 0 = dktX8_canPayNow_0 := by decide +kernel
theorem dksX8_canPayNow_1 : cX8_canPayNow.data.toList.drop 24 = dktX8_canPayNow_1 := dk_seg dksX8_canPayNow_0 24 rfl rfl
theorem dksX8_canPayNow_2 : cX8_canPayNow.data.toList.drop 48 = dktX8_canPayNow_2 := dk_seg dksX8_canPayNow_1 24 rfl rfl
theorem dX8_canPayNow_0 : decode cX8_canPayNow 0 = .ok (.aload_n 0, 1) := dk_42 (dk_at dksX8_canPayNow_0 0 rfl rfl)
theorem dX8_canPayNow_1 : decode cX8_canPayNow 1 = .ok (.getfield 65, 3) := dk_180 0 65 (dk_at dksX8_canPayNow_0 1 rfl rfl)
theorem dX8_canPayNow_4 : decode cX8_canPayNow 4 = .ok (.iconst 0, 1) := dk_3 (dk_at dksX8_canPayNow_0 4 rfl rfl)
theorem dX8_canPayNow_5 : decode cX8_canPayNow 5 = .ok (.iload_n 1, 1) := dk_27 (dk_at dksX8_canPayNow_0 5 rfl rfl)
theorem dX8_canPayNow_6 : decode cX8_canPayNow 6 = .ok (.iadd, 1) := dk_96 (dk_at dksX8_canPayNow_0 6 rfl rfl)
theorem dX8_canPayNow_7 : decode cX8_canPayNow 7 = .ok (.iaload, 1) := dk_46 (dk_at dksX8_canPayNow_0 7 rfl rfl)
theorem dX8_canPayNow_8 : decode cX8_canPayNow 8 = .ok (.iconst 1, 1) := dk_4 (dk_at dksX8_canPayNow_0 8 rfl rfl)
theorem dX8_canPayNow_9 : decode cX8_canPayNow 9 = .ok (.if_icmp .eq 15, 3) := dk_159 0 15 (dk_at dksX8_canPayNow_0 9 rfl rfl)
theorem dX8_canPayNow_12 : decode cX8_canPayNow 12 = .ok (.aload_n 0, 1) := dk_42 (dk_at dksX8_canPayNow_0 12 rfl rfl)
theorem dX8_canPayNow_13 : decode cX8_canPayNow 13 = .ok (.getfield 65, 3) := dk_180 0 65 (dk_at dksX8_canPayNow_0 13 rfl rfl)
theorem dX8_canPayNow_16 : decode cX8_canPayNow 16 = .ok (.iconst 0, 1) := dk_3 (dk_at dksX8_canPayNow_0 16 rfl rfl)
theorem dX8_canPayNow_17 : decode cX8_canPayNow 17 = .ok (.iload_n 1, 1) := dk_27 (dk_at dksX8_canPayNow_0 17 rfl rfl)
theorem dX8_canPayNow_18 : decode cX8_canPayNow 18 = .ok (.iadd, 1) := dk_96 (dk_at dksX8_canPayNow_0 18 rfl rfl)
theorem dX8_canPayNow_19 : decode cX8_canPayNow 19 = .ok (.iaload, 1) := dk_46 (dk_at dksX8_canPayNow_0 19 rfl rfl)
theorem dX8_canPayNow_20 : decode cX8_canPayNow 20 = .ok (.iconst 2, 1) := dk_5 (dk_at dksX8_canPayNow_0 20 rfl rfl)
theorem dX8_canPayNow_21 : decode cX8_canPayNow 21 = .ok (.if_icmp .ne 26, 3) := dk_160 0 26 (dk_at dksX8_canPayNow_0 21 rfl rfl)
theorem dX8_canPayNow_24 : decode cX8_canPayNow 24 = .ok (.aload_n 0, 1) := dk_42 (dk_at dksX8_canPayNow_1 0 rfl rfl)
theorem dX8_canPayNow_25 : decode cX8_canPayNow 25 = .ok (.getfield 65, 3) := dk_180 0 65 (dk_at dksX8_canPayNow_1 1 rfl rfl)
theorem dX8_canPayNow_28 : decode cX8_canPayNow 28 = .ok (.bipush 56, 2) := dk_16 56 (dk_at dksX8_canPayNow_1 4 rfl rfl)
theorem dX8_canPayNow_30 : decode cX8_canPayNow 30 = .ok (.iload_n 1, 1) := dk_27 (dk_at dksX8_canPayNow_1 6 rfl rfl)
theorem dX8_canPayNow_31 : decode cX8_canPayNow 31 = .ok (.iadd, 1) := dk_96 (dk_at dksX8_canPayNow_1 7 rfl rfl)
theorem dX8_canPayNow_32 : decode cX8_canPayNow 32 = .ok (.iaload, 1) := dk_46 (dk_at dksX8_canPayNow_1 8 rfl rfl)
theorem dX8_canPayNow_33 : decode cX8_canPayNow 33 = .ok (.aload_n 0, 1) := dk_42 (dk_at dksX8_canPayNow_1 9 rfl rfl)
theorem dX8_canPayNow_34 : decode cX8_canPayNow 34 = .ok (.iload_n 1, 1) := dk_27 (dk_at dksX8_canPayNow_1 10 rfl rfl)
theorem dX8_canPayNow_35 : decode cX8_canPayNow 35 = .ok (.invokevirtual 380, 3) := dk_182 1 124 (dk_at dksX8_canPayNow_1 11 rfl rfl)
theorem dX8_canPayNow_38 : decode cX8_canPayNow 38 = .ok (.iconst 4, 1) := dk_7 (dk_at dksX8_canPayNow_1 14 rfl rfl)
theorem dX8_canPayNow_39 : decode cX8_canPayNow 39 = .ok (.idiv, 1) := dk_108 (dk_at dksX8_canPayNow_1 15 rfl rfl)
theorem dX8_canPayNow_40 : decode cX8_canPayNow 40 = .ok (.if_icmp .lt 7, 3) := dk_161 0 7 (dk_at dksX8_canPayNow_1 16 rfl rfl)
theorem dX8_canPayNow_43 : decode cX8_canPayNow 43 = .ok (.iconst 1, 1) := dk_4 (dk_at dksX8_canPayNow_1 19 rfl rfl)
theorem dX8_canPayNow_44 : decode cX8_canPayNow 44 = .ok (.goto 4, 3) := dk_167 0 4 (dk_at dksX8_canPayNow_1 20 rfl rfl)
theorem dX8_canPayNow_47 : decode cX8_canPayNow 47 = .ok (.iconst 0, 1) := dk_3 (dk_at dksX8_canPayNow_1 23 rfl rfl)
theorem dX8_canPayNow_48 : decode cX8_canPayNow 48 = .ok (.ireturn, 1) := dk_172 (dk_at dksX8_canPayNow_2 0 rfl rfl)
abbrev cX8_owesOf : ByteArray := prog_26_method_49_code
def yX8_owesOf : MethodName := ⟨RX8, "owesOf", "(I)I"⟩
def dkwX8_owesOf_1 : List UInt8 := [180, 0, 65, 16, 16, 27, 96, 46, 100, 61, 28, 158, 0, 7, 28, 167, 0, 4, 3, 172]
abbrev dktX8_owesOf_1 : List UInt8 := dkwX8_owesOf_1 ++ []
def dkwX8_owesOf_0 : List UInt8 := [42, 180, 0, 65, 3, 27, 96, 46, 6, 160, 0, 5, 3, 172, 42, 27, 42, 180, 1, 92, 182, 1, 115, 42]
abbrev dktX8_owesOf_0 : List UInt8 := dkwX8_owesOf_0 ++ dktX8_owesOf_1
theorem dksX8_owesOf_0 : cX8_owesOf.data.toList.drop 0 = dktX8_owesOf_0 := by decide +kernel
theorem dksX8_owesOf_1 : cX8_owesOf.data.toList.drop 24 = dktX8_owesOf_1 := dk_seg dksX8_owesOf_0 24 rfl rfl
theorem dX8_owesOf_0 : decode cX8_owesOf 0 = .ok (.aload_n 0, 1) := dk_42 (dk_at dksX8_owesOf_0 0 rfl rfl)
theorem dX8_owesOf_1 : decode cX8_owesOf 1 = .ok (.getfield 65, 3) := dk_180 0 65 (dk_at dksX8_owesOf_0 1 rfl rfl)
theorem dX8_owesOf_4 : decode cX8_owesOf 4 = .ok (.iconst 0, 1) := dk_3 (dk_at dksX8_owesOf_0 4 rfl rfl)
theorem dX8_owesOf_5 : decode cX8_owesOf 5 = .ok (.iload_n 1, 1) := dk_27 (dk_at dksX8_owesOf_0 5 rfl rfl)
theorem dX8_owesOf_6 : decode cX8_owesOf 6 = .ok (.iadd, 1) := dk_96 (dk_at dksX8_owesOf_0 6 rfl rfl)
theorem dX8_owesOf_7 : decode cX8_owesOf 7 = .ok (.iaload, 1) := dk_46 (dk_at dksX8_owesOf_0 7 rfl rfl)
theorem dX8_owesOf_8 : decode cX8_owesOf 8 = .ok (.iconst 3, 1) := dk_6 (dk_at dksX8_owesOf_0 8 rfl rfl)
theorem dX8_owesOf_9 : decode cX8_owesOf 9 = .ok (.if_icmp .ne 5, 3) := dk_160 0 5 (dk_at dksX8_owesOf_0 9 rfl rfl)
theorem dX8_owesOf_12 : decode cX8_owesOf 12 = .ok (.iconst 0, 1) := dk_3 (dk_at dksX8_owesOf_0 12 rfl rfl)
theorem dX8_owesOf_13 : decode cX8_owesOf 13 = .ok (.ireturn, 1) := dk_172 (dk_at dksX8_owesOf_0 13 rfl rfl)
theorem dX8_owesOf_14 : decode cX8_owesOf 14 = .ok (.aload_n 0, 1) := dk_42 (dk_at dksX8_owesOf_0 14 rfl rfl)
theorem dX8_owesOf_15 : decode cX8_owesOf 15 = .ok (.iload_n 1, 1) := dk_27 (dk_at dksX8_owesOf_0 15 rfl rfl)
theorem dX8_owesOf_16 : decode cX8_owesOf 16 = .ok (.aload_n 0, 1) := dk_42 (dk_at dksX8_owesOf_0 16 rfl rfl)
theorem dX8_owesOf_17 : decode cX8_owesOf 17 = .ok (.getfield 348, 3) := dk_180 1 92 (dk_at dksX8_owesOf_0 17 rfl rfl)
theorem dX8_owesOf_20 : decode cX8_owesOf 20 = .ok (.invokevirtual 371, 3) := dk_182 1 115 (dk_at dksX8_owesOf_0 20 rfl rfl)
theorem dX8_owesOf_23 : decode cX8_owesOf 23 = .ok (.aload_n 0, 1) := dk_42 (dk_at dksX8_owesOf_0 23 rfl rfl)
theorem dX8_owesOf_24 : decode cX8_owesOf 24 = .ok (.getfield 65, 3) := dk_180 0 65 (dk_at dksX8_owesOf_1 0 rfl rfl)
theorem dX8_owesOf_27 : decode cX8_owesOf 27 = .ok (.bipush 16, 2) := dk_16 16 (dk_at dksX8_owesOf_1 3 rfl rfl)
theorem dX8_owesOf_29 : decode cX8_owesOf 29 = .ok (.iload_n 1, 1) := dk_27 (dk_at dksX8_owesOf_1 5 rfl rfl)
theorem dX8_owesOf_30 : decode cX8_owesOf 30 = .ok (.iadd, 1) := dk_96 (dk_at dksX8_owesOf_1 6 rfl rfl)
theorem dX8_owesOf_31 : decode cX8_owesOf 31 = .ok (.iaload, 1) := dk_46 (dk_at dksX8_owesOf_1 7 rfl rfl)
theorem dX8_owesOf_32 : decode cX8_owesOf 32 = .ok (.isub, 1) := dk_100 (dk_at dksX8_owesOf_1 8 rfl rfl)
theorem dX8_owesOf_33 : decode cX8_owesOf 33 = .ok (.istore_n 2, 1) := dk_61 (dk_at dksX8_owesOf_1 9 rfl rfl)
theorem dX8_owesOf_34 : decode cX8_owesOf 34 = .ok (.iload_n 2, 1) := dk_28 (dk_at dksX8_owesOf_1 10 rfl rfl)
theorem dX8_owesOf_35 : decode cX8_owesOf 35 = .ok (.ifCond .le 7, 3) := dk_158 0 7 (dk_at dksX8_owesOf_1 11 rfl rfl)
theorem dX8_owesOf_38 : decode cX8_owesOf 38 = .ok (.iload_n 2, 1) := dk_28 (dk_at dksX8_owesOf_1 14 rfl rfl)
theorem dX8_owesOf_39 : decode cX8_owesOf 39 = .ok (.goto 4, 3) := dk_167 0 4 (dk_at dksX8_owesOf_1 15 rfl rfl)
theorem dX8_owesOf_42 : decode cX8_owesOf 42 = .ok (.iconst 0, 1) := dk_3 (dk_at dksX8_owesOf_1 18 rfl rfl)
theorem dX8_owesOf_43 : decode cX8_owesOf 43 = .ok (.ireturn, 1) := dk_172 (dk_at dksX8_owesOf_1 19 rfl rfl)
abbrev cX8_asksBy : ByteArray := prog_26_method_48_code
def yX8_asksBy : MethodName := ⟨RX8, "asksBy", "(II)I"⟩
def dkwX8_asksBy_1 : List UInt8 := [182, 1, 111, 172]
abbrev dktX8_asksBy_1 : List UInt8 := dkwX8_asksBy_1 ++ []
def dkwX8_asksBy_0 : List UInt8 := [42, 27, 28, 42, 180, 0, 29, 7, 27, 104, 3, 96, 46, 42, 180, 0, 65, 16, 24, 27, 96, 46]
abbrev dktX8_asksBy_0 : List UInt8 := dkwX8_asksBy_0 ++ dktX8_asksBy_1
theorem dksX8_asksBy_0 : cX8_asksBy.data.toList.drop 0 = dktX8_asksBy_0 := by decide +kernel
theorem dksX8_asksBy_1 : cX8_asksBy.data.toList.drop 22 = dktX8_asksBy_1 := dk_seg dksX8_asksBy_0 22 rfl rfl
theorem dX8_asksBy_0 : decode cX8_asksBy 0 = .ok (.aload_n 0, 1) := dk_42 (dk_at dksX8_asksBy_0 0 rfl rfl)
theorem dX8_asksBy_1 : decode cX8_asksBy 1 = .ok (.iload_n 1, 1) := dk_27 (dk_at dksX8_asksBy_0 1 rfl rfl)
theorem dX8_asksBy_2 : decode cX8_asksBy 2 = .ok (.iload_n 2, 1) := dk_28 (dk_at dksX8_asksBy_0 2 rfl rfl)
theorem dX8_asksBy_3 : decode cX8_asksBy 3 = .ok (.aload_n 0, 1) := dk_42 (dk_at dksX8_asksBy_0 3 rfl rfl)
theorem dX8_asksBy_4 : decode cX8_asksBy 4 = .ok (.getfield 29, 3) := dk_180 0 29 (dk_at dksX8_asksBy_0 4 rfl rfl)
theorem dX8_asksBy_7 : decode cX8_asksBy 7 = .ok (.iconst 4, 1) := dk_7 (dk_at dksX8_asksBy_0 7 rfl rfl)
theorem dX8_asksBy_8 : decode cX8_asksBy 8 = .ok (.iload_n 1, 1) := dk_27 (dk_at dksX8_asksBy_0 8 rfl rfl)
theorem dX8_asksBy_9 : decode cX8_asksBy 9 = .ok (.imul, 1) := dk_104 (dk_at dksX8_asksBy_0 9 rfl rfl)
theorem dX8_asksBy_10 : decode cX8_asksBy 10 = .ok (.iconst 0, 1) := dk_3 (dk_at dksX8_asksBy_0 10 rfl rfl)
theorem dX8_asksBy_11 : decode cX8_asksBy 11 = .ok (.iadd, 1) := dk_96 (dk_at dksX8_asksBy_0 11 rfl rfl)
theorem dX8_asksBy_12 : decode cX8_asksBy 12 = .ok (.iaload, 1) := dk_46 (dk_at dksX8_asksBy_0 12 rfl rfl)
theorem dX8_asksBy_13 : decode cX8_asksBy 13 = .ok (.aload_n 0, 1) := dk_42 (dk_at dksX8_asksBy_0 13 rfl rfl)
theorem dX8_asksBy_14 : decode cX8_asksBy 14 = .ok (.getfield 65, 3) := dk_180 0 65 (dk_at dksX8_asksBy_0 14 rfl rfl)
theorem dX8_asksBy_17 : decode cX8_asksBy 17 = .ok (.bipush 24, 2) := dk_16 24 (dk_at dksX8_asksBy_0 17 rfl rfl)
theorem dX8_asksBy_19 : decode cX8_asksBy 19 = .ok (.iload_n 1, 1) := dk_27 (dk_at dksX8_asksBy_0 19 rfl rfl)
theorem dX8_asksBy_20 : decode cX8_asksBy 20 = .ok (.iadd, 1) := dk_96 (dk_at dksX8_asksBy_0 20 rfl rfl)
theorem dX8_asksBy_21 : decode cX8_asksBy 21 = .ok (.iaload, 1) := dk_46 (dk_at dksX8_asksBy_0 21 rfl rfl)
theorem dX8_asksBy_22 : decode cX8_asksBy 22 = .ok (.invokevirtual 367, 3) := dk_182 1 111 (dk_at dksX8_asksBy_1 0 rfl rfl)
theorem dX8_asksBy_25 : decode cX8_asksBy 25 = .ok (.ireturn, 1) := dk_172 (dk_at dksX8_asksBy_1 3 rfl rfl)
abbrev cX8_asksOf : ByteArray := prog_26_method_47_code
def yX8_asksOf : MethodName := ⟨RX8, "asksOf", "(IIII)I"⟩
def dkwX8_asksOf_5 : List UInt8 := [180, 0, 65, 16, 64, 46, 79, 42, 28, 182, 1, 108, 172]
abbrev dktX8_asksOf_5 : List UInt8 := dkwX8_asksOf_5 ++ []
def dkwX8_asksOf_4 : List UInt8 := [16, 64, 46, 167, 0, 12, 42, 180, 0, 65, 16, 48, 27, 96, 46, 79, 42, 180, 0, 53, 16, 7, 42]
abbrev dktX8_asksOf_4 : List UInt8 := dkwX8_asksOf_4 ++ dktX8_asksOf_5
def dkwX8_asksOf_3 : List UInt8 := [79, 42, 180, 0, 53, 16, 6, 42, 180, 0, 65, 16, 48, 27, 96, 46, 2, 160, 0, 13, 42, 180, 0, 65]
abbrev dktX8_asksOf_3 : List UInt8 := dkwX8_asksOf_3 ++ dktX8_asksOf_4
def dkwX8_asksOf_2 : List UInt8 := [180, 0, 53, 7, 42, 27, 182, 1, 105, 79, 42, 180, 0, 53, 8, 42, 180, 0, 65, 16, 40, 27, 96, 46]
abbrev dktX8_asksOf_2 : List UInt8 := dkwX8_asksOf_2 ++ dktX8_asksOf_3
def dkwX8_asksOf_1 : List UInt8 := [7, 27, 104, 4, 96, 46, 79, 42, 180, 0, 53, 6, 42, 180, 0, 65, 16, 32, 27, 96, 46, 79, 42]
abbrev dktX8_asksOf_1 : List UInt8 := dkwX8_asksOf_1 ++ dktX8_asksOf_2
def dkwX8_asksOf_0 : List UInt8 := [42, 180, 0, 53, 3, 29, 79, 42, 180, 0, 53, 4, 21, 4, 79, 42, 180, 0, 53, 5, 42, 180, 0, 29]
abbrev dktX8_asksOf_0 : List UInt8 := dkwX8_asksOf_0 ++ dktX8_asksOf_1
theorem dksX8_asksOf_0 : cX8_asksOf.data.toList.drop 0 = dktX8_asksOf_0 := by decide +kernel
theorem dksX8_asksOf_1 : cX8_asksOf.data.toList.drop 24 = dktX8_asksOf_1 := dk_seg dksX8_asksOf_0 24 rfl rfl
theorem dksX8_asksOf_2 : cX8_asksOf.data.toList.drop 47 = dktX8_asksOf_2 := dk_seg dksX8_asksOf_1 23 rfl rfl
theorem dksX8_asksOf_3 : cX8_asksOf.data.toList.drop 71 = dktX8_asksOf_3 := dk_seg dksX8_asksOf_2 24 rfl rfl
theorem dksX8_asksOf_4 : cX8_asksOf.data.toList.drop 95 = dktX8_asksOf_4 := dk_seg dksX8_asksOf_3 24 rfl rfl
theorem dksX8_asksOf_5 : cX8_asksOf.data.toList.drop 118 = dktX8_asksOf_5 := dk_seg dksX8_asksOf_4 23 rfl rfl
theorem dX8_asksOf_0 : decode cX8_asksOf 0 = .ok (.aload_n 0, 1) := dk_42 (dk_at dksX8_asksOf_0 0 rfl rfl)
theorem dX8_asksOf_1 : decode cX8_asksOf 1 = .ok (.getfield 53, 3) := dk_180 0 53 (dk_at dksX8_asksOf_0 1 rfl rfl)
theorem dX8_asksOf_4 : decode cX8_asksOf 4 = .ok (.iconst 0, 1) := dk_3 (dk_at dksX8_asksOf_0 4 rfl rfl)
theorem dX8_asksOf_5 : decode cX8_asksOf 5 = .ok (.iload_n 3, 1) := dk_29 (dk_at dksX8_asksOf_0 5 rfl rfl)
theorem dX8_asksOf_6 : decode cX8_asksOf 6 = .ok (.iastore, 1) := dk_79 (dk_at dksX8_asksOf_0 6 rfl rfl)
theorem dX8_asksOf_7 : decode cX8_asksOf 7 = .ok (.aload_n 0, 1) := dk_42 (dk_at dksX8_asksOf_0 7 rfl rfl)
theorem dX8_asksOf_8 : decode cX8_asksOf 8 = .ok (.getfield 53, 3) := dk_180 0 53 (dk_at dksX8_asksOf_0 8 rfl rfl)
theorem dX8_asksOf_11 : decode cX8_asksOf 11 = .ok (.iconst 1, 1) := dk_4 (dk_at dksX8_asksOf_0 11 rfl rfl)
theorem dX8_asksOf_12 : decode cX8_asksOf 12 = .ok (.iload 4, 2) := dk_21 4 (dk_at dksX8_asksOf_0 12 rfl rfl)
theorem dX8_asksOf_14 : decode cX8_asksOf 14 = .ok (.iastore, 1) := dk_79 (dk_at dksX8_asksOf_0 14 rfl rfl)
theorem dX8_asksOf_15 : decode cX8_asksOf 15 = .ok (.aload_n 0, 1) := dk_42 (dk_at dksX8_asksOf_0 15 rfl rfl)
theorem dX8_asksOf_16 : decode cX8_asksOf 16 = .ok (.getfield 53, 3) := dk_180 0 53 (dk_at dksX8_asksOf_0 16 rfl rfl)
theorem dX8_asksOf_19 : decode cX8_asksOf 19 = .ok (.iconst 2, 1) := dk_5 (dk_at dksX8_asksOf_0 19 rfl rfl)
theorem dX8_asksOf_20 : decode cX8_asksOf 20 = .ok (.aload_n 0, 1) := dk_42 (dk_at dksX8_asksOf_0 20 rfl rfl)
theorem dX8_asksOf_21 : decode cX8_asksOf 21 = .ok (.getfield 29, 3) := dk_180 0 29 (dk_at dksX8_asksOf_0 21 rfl rfl)
theorem dX8_asksOf_24 : decode cX8_asksOf 24 = .ok (.iconst 4, 1) := dk_7 (dk_at dksX8_asksOf_1 0 rfl rfl)
theorem dX8_asksOf_25 : decode cX8_asksOf 25 = .ok (.iload_n 1, 1) := dk_27 (dk_at dksX8_asksOf_1 1 rfl rfl)
theorem dX8_asksOf_26 : decode cX8_asksOf 26 = .ok (.imul, 1) := dk_104 (dk_at dksX8_asksOf_1 2 rfl rfl)
theorem dX8_asksOf_27 : decode cX8_asksOf 27 = .ok (.iconst 1, 1) := dk_4 (dk_at dksX8_asksOf_1 3 rfl rfl)
theorem dX8_asksOf_28 : decode cX8_asksOf 28 = .ok (.iadd, 1) := dk_96 (dk_at dksX8_asksOf_1 4 rfl rfl)
theorem dX8_asksOf_29 : decode cX8_asksOf 29 = .ok (.iaload, 1) := dk_46 (dk_at dksX8_asksOf_1 5 rfl rfl)
theorem dX8_asksOf_30 : decode cX8_asksOf 30 = .ok (.iastore, 1) := dk_79 (dk_at dksX8_asksOf_1 6 rfl rfl)
theorem dX8_asksOf_31 : decode cX8_asksOf 31 = .ok (.aload_n 0, 1) := dk_42 (dk_at dksX8_asksOf_1 7 rfl rfl)
theorem dX8_asksOf_32 : decode cX8_asksOf 32 = .ok (.getfield 53, 3) := dk_180 0 53 (dk_at dksX8_asksOf_1 8 rfl rfl)
theorem dX8_asksOf_35 : decode cX8_asksOf 35 = .ok (.iconst 3, 1) := dk_6 (dk_at dksX8_asksOf_1 11 rfl rfl)
theorem dX8_asksOf_36 : decode cX8_asksOf 36 = .ok (.aload_n 0, 1) := dk_42 (dk_at dksX8_asksOf_1 12 rfl rfl)
theorem dX8_asksOf_37 : decode cX8_asksOf 37 = .ok (.getfield 65, 3) := dk_180 0 65 (dk_at dksX8_asksOf_1 13 rfl rfl)
theorem dX8_asksOf_40 : decode cX8_asksOf 40 = .ok (.bipush 32, 2) := dk_16 32 (dk_at dksX8_asksOf_1 16 rfl rfl)
theorem dX8_asksOf_42 : decode cX8_asksOf 42 = .ok (.iload_n 1, 1) := dk_27 (dk_at dksX8_asksOf_1 18 rfl rfl)
theorem dX8_asksOf_43 : decode cX8_asksOf 43 = .ok (.iadd, 1) := dk_96 (dk_at dksX8_asksOf_1 19 rfl rfl)
theorem dX8_asksOf_44 : decode cX8_asksOf 44 = .ok (.iaload, 1) := dk_46 (dk_at dksX8_asksOf_1 20 rfl rfl)
theorem dX8_asksOf_45 : decode cX8_asksOf 45 = .ok (.iastore, 1) := dk_79 (dk_at dksX8_asksOf_1 21 rfl rfl)
theorem dX8_asksOf_46 : decode cX8_asksOf 46 = .ok (.aload_n 0, 1) := dk_42 (dk_at dksX8_asksOf_1 22 rfl rfl)
theorem dX8_asksOf_47 : decode cX8_asksOf 47 = .ok (.getfield 53, 3) := dk_180 0 53 (dk_at dksX8_asksOf_2 0 rfl rfl)
theorem dX8_asksOf_50 : decode cX8_asksOf 50 = .ok (.iconst 4, 1) := dk_7 (dk_at dksX8_asksOf_2 3 rfl rfl)
theorem dX8_asksOf_51 : decode cX8_asksOf 51 = .ok (.aload_n 0, 1) := dk_42 (dk_at dksX8_asksOf_2 4 rfl rfl)
theorem dX8_asksOf_52 : decode cX8_asksOf 52 = .ok (.iload_n 1, 1) := dk_27 (dk_at dksX8_asksOf_2 5 rfl rfl)
theorem dX8_asksOf_53 : decode cX8_asksOf 53 = .ok (.invokevirtual 361, 3) := dk_182 1 105 (dk_at dksX8_asksOf_2 6 rfl rfl)
theorem dX8_asksOf_56 : decode cX8_asksOf 56 = .ok (.iastore, 1) := dk_79 (dk_at dksX8_asksOf_2 9 rfl rfl)
theorem dX8_asksOf_57 : decode cX8_asksOf 57 = .ok (.aload_n 0, 1) := dk_42 (dk_at dksX8_asksOf_2 10 rfl rfl)
theorem dX8_asksOf_58 : decode cX8_asksOf 58 = .ok (.getfield 53, 3) := dk_180 0 53 (dk_at dksX8_asksOf_2 11 rfl rfl)
theorem dX8_asksOf_61 : decode cX8_asksOf 61 = .ok (.iconst 5, 1) := dk_8 (dk_at dksX8_asksOf_2 14 rfl rfl)
theorem dX8_asksOf_62 : decode cX8_asksOf 62 = .ok (.aload_n 0, 1) := dk_42 (dk_at dksX8_asksOf_2 15 rfl rfl)
theorem dX8_asksOf_63 : decode cX8_asksOf 63 = .ok (.getfield 65, 3) := dk_180 0 65 (dk_at dksX8_asksOf_2 16 rfl rfl)
theorem dX8_asksOf_66 : decode cX8_asksOf 66 = .ok (.bipush 40, 2) := dk_16 40 (dk_at dksX8_asksOf_2 19 rfl rfl)
theorem dX8_asksOf_68 : decode cX8_asksOf 68 = .ok (.iload_n 1, 1) := dk_27 (dk_at dksX8_asksOf_2 21 rfl rfl)
theorem dX8_asksOf_69 : decode cX8_asksOf 69 = .ok (.iadd, 1) := dk_96 (dk_at dksX8_asksOf_2 22 rfl rfl)
theorem dX8_asksOf_70 : decode cX8_asksOf 70 = .ok (.iaload, 1) := dk_46 (dk_at dksX8_asksOf_2 23 rfl rfl)
theorem dX8_asksOf_71 : decode cX8_asksOf 71 = .ok (.iastore, 1) := dk_79 (dk_at dksX8_asksOf_3 0 rfl rfl)
theorem dX8_asksOf_72 : decode cX8_asksOf 72 = .ok (.aload_n 0, 1) := dk_42 (dk_at dksX8_asksOf_3 1 rfl rfl)
theorem dX8_asksOf_73 : decode cX8_asksOf 73 = .ok (.getfield 53, 3) := dk_180 0 53 (dk_at dksX8_asksOf_3 2 rfl rfl)
theorem dX8_asksOf_76 : decode cX8_asksOf 76 = .ok (.bipush 6, 2) := dk_16 6 (dk_at dksX8_asksOf_3 5 rfl rfl)
theorem dX8_asksOf_78 : decode cX8_asksOf 78 = .ok (.aload_n 0, 1) := dk_42 (dk_at dksX8_asksOf_3 7 rfl rfl)
theorem dX8_asksOf_79 : decode cX8_asksOf 79 = .ok (.getfield 65, 3) := dk_180 0 65 (dk_at dksX8_asksOf_3 8 rfl rfl)
theorem dX8_asksOf_82 : decode cX8_asksOf 82 = .ok (.bipush 48, 2) := dk_16 48 (dk_at dksX8_asksOf_3 11 rfl rfl)
theorem dX8_asksOf_84 : decode cX8_asksOf 84 = .ok (.iload_n 1, 1) := dk_27 (dk_at dksX8_asksOf_3 13 rfl rfl)
theorem dX8_asksOf_85 : decode cX8_asksOf 85 = .ok (.iadd, 1) := dk_96 (dk_at dksX8_asksOf_3 14 rfl rfl)
theorem dX8_asksOf_86 : decode cX8_asksOf 86 = .ok (.iaload, 1) := dk_46 (dk_at dksX8_asksOf_3 15 rfl rfl)
theorem dX8_asksOf_87 : decode cX8_asksOf 87 = .ok (.iconst (-1), 1) := dk_2 (dk_at dksX8_asksOf_3 16 rfl rfl)
theorem dX8_asksOf_88 : decode cX8_asksOf 88 = .ok (.if_icmp .ne 13, 3) := dk_160 0 13 (dk_at dksX8_asksOf_3 17 rfl rfl)
theorem dX8_asksOf_91 : decode cX8_asksOf 91 = .ok (.aload_n 0, 1) := dk_42 (dk_at dksX8_asksOf_3 20 rfl rfl)
theorem dX8_asksOf_92 : decode cX8_asksOf 92 = .ok (.getfield 65, 3) := dk_180 0 65 (dk_at dksX8_asksOf_3 21 rfl rfl)
theorem dX8_asksOf_95 : decode cX8_asksOf 95 = .ok (.bipush 64, 2) := dk_16 64 (dk_at dksX8_asksOf_4 0 rfl rfl)
theorem dX8_asksOf_97 : decode cX8_asksOf 97 = .ok (.iaload, 1) := dk_46 (dk_at dksX8_asksOf_4 2 rfl rfl)
theorem dX8_asksOf_98 : decode cX8_asksOf 98 = .ok (.goto 12, 3) := dk_167 0 12 (dk_at dksX8_asksOf_4 3 rfl rfl)
theorem dX8_asksOf_101 : decode cX8_asksOf 101 = .ok (.aload_n 0, 1) := dk_42 (dk_at dksX8_asksOf_4 6 rfl rfl)
theorem dX8_asksOf_102 : decode cX8_asksOf 102 = .ok (.getfield 65, 3) := dk_180 0 65 (dk_at dksX8_asksOf_4 7 rfl rfl)
theorem dX8_asksOf_105 : decode cX8_asksOf 105 = .ok (.bipush 48, 2) := dk_16 48 (dk_at dksX8_asksOf_4 10 rfl rfl)
theorem dX8_asksOf_107 : decode cX8_asksOf 107 = .ok (.iload_n 1, 1) := dk_27 (dk_at dksX8_asksOf_4 12 rfl rfl)
theorem dX8_asksOf_108 : decode cX8_asksOf 108 = .ok (.iadd, 1) := dk_96 (dk_at dksX8_asksOf_4 13 rfl rfl)
theorem dX8_asksOf_109 : decode cX8_asksOf 109 = .ok (.iaload, 1) := dk_46 (dk_at dksX8_asksOf_4 14 rfl rfl)
theorem dX8_asksOf_110 : decode cX8_asksOf 110 = .ok (.iastore, 1) := dk_79 (dk_at dksX8_asksOf_4 15 rfl rfl)
theorem dX8_asksOf_111 : decode cX8_asksOf 111 = .ok (.aload_n 0, 1) := dk_42 (dk_at dksX8_asksOf_4 16 rfl rfl)
theorem dX8_asksOf_112 : decode cX8_asksOf 112 = .ok (.getfield 53, 3) := dk_180 0 53 (dk_at dksX8_asksOf_4 17 rfl rfl)
theorem dX8_asksOf_115 : decode cX8_asksOf 115 = .ok (.bipush 7, 2) := dk_16 7 (dk_at dksX8_asksOf_4 20 rfl rfl)
theorem dX8_asksOf_117 : decode cX8_asksOf 117 = .ok (.aload_n 0, 1) := dk_42 (dk_at dksX8_asksOf_4 22 rfl rfl)
theorem dX8_asksOf_118 : decode cX8_asksOf 118 = .ok (.getfield 65, 3) := dk_180 0 65 (dk_at dksX8_asksOf_5 0 rfl rfl)
theorem dX8_asksOf_121 : decode cX8_asksOf 121 = .ok (.bipush 64, 2) := dk_16 64 (dk_at dksX8_asksOf_5 3 rfl rfl)
theorem dX8_asksOf_123 : decode cX8_asksOf 123 = .ok (.iaload, 1) := dk_46 (dk_at dksX8_asksOf_5 5 rfl rfl)
theorem dX8_asksOf_124 : decode cX8_asksOf 124 = .ok (.iastore, 1) := dk_79 (dk_at dksX8_asksOf_5 6 rfl rfl)
theorem dX8_asksOf_125 : decode cX8_asksOf 125 = .ok (.aload_n 0, 1) := dk_42 (dk_at dksX8_asksOf_5 7 rfl rfl)
theorem dX8_asksOf_126 : decode cX8_asksOf 126 = .ok (.iload_n 2, 1) := dk_28 (dk_at dksX8_asksOf_5 8 rfl rfl)
theorem dX8_asksOf_127 : decode cX8_asksOf 127 = .ok (.invokevirtual 364, 3) := dk_182 1 108 (dk_at dksX8_asksOf_5 9 rfl rfl)
theorem dX8_asksOf_130 : decode cX8_asksOf 130 = .ok (.ireturn, 1) := dk_172 (dk_at dksX8_asksOf_5 12 rfl rfl)
abbrev cX8_kinMany : ByteArray := prog_26_method_46_code
def yX8_kinMany : MethodName := ⟨RX8, "kinMany", "(I)I"⟩
def dkwX8_kinMany_1 : List UInt8 := [167, 0, 4, 3, 96, 61, 132, 3, 1, 167, 255, 228, 28, 172]
abbrev dktX8_kinMany_1 : List UInt8 := dkwX8_kinMany_1 ++ []
def dkwX8_kinMany_0 : List UInt8 := [3, 61, 3, 62, 29, 42, 180, 0, 169, 162, 0, 26, 28, 42, 27, 29, 182, 1, 101, 153, 0, 7, 4]
abbrev dktX8_kinMany_0 : List UInt8 := dkwX8_kinMany_0 ++ dktX8_kinMany_1
theorem dksX8_kinMany_0 : cX8_kinMany.data.toList.drop 0 = dktX8_kinMany_0 := by decide +kernel
theorem dksX8_kinMany_1 : cX8_kinMany.data.toList.drop 23 = dktX8_kinMany_1 := dk_seg dksX8_kinMany_0 23 rfl rfl
theorem dX8_kinMany_0 : decode cX8_kinMany 0 = .ok (.iconst 0, 1) := dk_3 (dk_at dksX8_kinMany_0 0 rfl rfl)
theorem dX8_kinMany_1 : decode cX8_kinMany 1 = .ok (.istore_n 2, 1) := dk_61 (dk_at dksX8_kinMany_0 1 rfl rfl)
theorem dX8_kinMany_2 : decode cX8_kinMany 2 = .ok (.iconst 0, 1) := dk_3 (dk_at dksX8_kinMany_0 2 rfl rfl)
theorem dX8_kinMany_3 : decode cX8_kinMany 3 = .ok (.istore_n 3, 1) := dk_62 (dk_at dksX8_kinMany_0 3 rfl rfl)
theorem dX8_kinMany_4 : decode cX8_kinMany 4 = .ok (.iload_n 3, 1) := dk_29 (dk_at dksX8_kinMany_0 4 rfl rfl)
theorem dX8_kinMany_5 : decode cX8_kinMany 5 = .ok (.aload_n 0, 1) := dk_42 (dk_at dksX8_kinMany_0 5 rfl rfl)
theorem dX8_kinMany_6 : decode cX8_kinMany 6 = .ok (.getfield 169, 3) := dk_180 0 169 (dk_at dksX8_kinMany_0 6 rfl rfl)
theorem dX8_kinMany_9 : decode cX8_kinMany 9 = .ok (.if_icmp .ge 26, 3) := dk_162 0 26 (dk_at dksX8_kinMany_0 9 rfl rfl)
theorem dX8_kinMany_12 : decode cX8_kinMany 12 = .ok (.iload_n 2, 1) := dk_28 (dk_at dksX8_kinMany_0 12 rfl rfl)
theorem dX8_kinMany_13 : decode cX8_kinMany 13 = .ok (.aload_n 0, 1) := dk_42 (dk_at dksX8_kinMany_0 13 rfl rfl)
theorem dX8_kinMany_14 : decode cX8_kinMany 14 = .ok (.iload_n 1, 1) := dk_27 (dk_at dksX8_kinMany_0 14 rfl rfl)
theorem dX8_kinMany_15 : decode cX8_kinMany 15 = .ok (.iload_n 3, 1) := dk_29 (dk_at dksX8_kinMany_0 15 rfl rfl)
theorem dX8_kinMany_16 : decode cX8_kinMany 16 = .ok (.invokevirtual 357, 3) := dk_182 1 101 (dk_at dksX8_kinMany_0 16 rfl rfl)
theorem dX8_kinMany_19 : decode cX8_kinMany 19 = .ok (.ifCond .eq 7, 3) := dk_153 0 7 (dk_at dksX8_kinMany_0 19 rfl rfl)
theorem dX8_kinMany_22 : decode cX8_kinMany 22 = .ok (.iconst 1, 1) := dk_4 (dk_at dksX8_kinMany_0 22 rfl rfl)
theorem dX8_kinMany_23 : decode cX8_kinMany 23 = .ok (.goto 4, 3) := dk_167 0 4 (dk_at dksX8_kinMany_1 0 rfl rfl)
theorem dX8_kinMany_26 : decode cX8_kinMany 26 = .ok (.iconst 0, 1) := dk_3 (dk_at dksX8_kinMany_1 3 rfl rfl)
theorem dX8_kinMany_27 : decode cX8_kinMany 27 = .ok (.iadd, 1) := dk_96 (dk_at dksX8_kinMany_1 4 rfl rfl)
theorem dX8_kinMany_28 : decode cX8_kinMany 28 = .ok (.istore_n 2, 1) := dk_61 (dk_at dksX8_kinMany_1 5 rfl rfl)
theorem dX8_kinMany_29 : decode cX8_kinMany 29 = .ok (.iinc 3 1, 3) := dk_132 3 1 (dk_at dksX8_kinMany_1 6 rfl rfl)
theorem dX8_kinMany_32 : decode cX8_kinMany 32 = .ok (.goto (-28), 3) := dk_167 255 228 (dk_at dksX8_kinMany_1 9 rfl rfl)
theorem dX8_kinMany_35 : decode cX8_kinMany 35 = .ok (.iload_n 2, 1) := dk_28 (dk_at dksX8_kinMany_1 12 rfl rfl)
theorem dX8_kinMany_36 : decode cX8_kinMany 36 = .ok (.ireturn, 1) := dk_172 (dk_at dksX8_kinMany_1 13 rfl rfl)
abbrev cX8_areKin : ByteArray := prog_26_method_45_code
def yX8_areKin : MethodName := ⟨RX8, "areKin", "(II)Z"⟩
def dkwX8_areKin_1 : List UInt8 := [104, 5, 96, 46, 42, 180, 0, 29, 7, 28, 104, 5, 96, 46, 160, 0, 7, 4, 167, 0, 4, 3, 172]
abbrev dktX8_areKin_1 : List UInt8 := dkwX8_areKin_1 ++ []
def dkwX8_areKin_0 : List UInt8 := [27, 28, 159, 0, 43, 42, 180, 0, 29, 7, 27, 104, 5, 96, 46, 158, 0, 30, 42, 180, 0, 29, 7, 27]
abbrev dktX8_areKin_0 : List UInt8 := dkwX8_areKin_0 ++ dktX8_areKin_1
theorem dksX8_areKin_0 : cX8_areKin.data.toList.drop 0 = dktX8_areKin_0 := by decide +kernel
theorem dksX8_areKin_1 : cX8_areKin.data.toList.drop 24 = dktX8_areKin_1 := dk_seg dksX8_areKin_0 24 rfl rfl
theorem dX8_areKin_0 : decode cX8_areKin 0 = .ok (.iload_n 1, 1) := dk_27 (dk_at dksX8_areKin_0 0 rfl rfl)
theorem dX8_areKin_1 : decode cX8_areKin 1 = .ok (.iload_n 2, 1) := dk_28 (dk_at dksX8_areKin_0 1 rfl rfl)
theorem dX8_areKin_2 : decode cX8_areKin 2 = .ok (.if_icmp .eq 43, 3) := dk_159 0 43 (dk_at dksX8_areKin_0 2 rfl rfl)
theorem dX8_areKin_5 : decode cX8_areKin 5 = .ok (.aload_n 0, 1) := dk_42 (dk_at dksX8_areKin_0 5 rfl rfl)
theorem dX8_areKin_6 : decode cX8_areKin 6 = .ok (.getfield 29, 3) := dk_180 0 29 (dk_at dksX8_areKin_0 6 rfl rfl)
theorem dX8_areKin_9 : decode cX8_areKin 9 = .ok (.iconst 4, 1) := dk_7 (dk_at dksX8_areKin_0 9 rfl rfl)
theorem dX8_areKin_10 : decode cX8_areKin 10 = .ok (.iload_n 1, 1) := dk_27 (dk_at dksX8_areKin_0 10 rfl rfl)
theorem dX8_areKin_11 : decode cX8_areKin 11 = .ok (.imul, 1) := dk_104 (dk_at dksX8_areKin_0 11 rfl rfl)
theorem dX8_areKin_12 : decode cX8_areKin 12 = .ok (.iconst 2, 1) := dk_5 (dk_at dksX8_areKin_0 12 rfl rfl)
theorem dX8_areKin_13 : decode cX8_areKin 13 = .ok (.iadd, 1) := dk_96 (dk_at dksX8_areKin_0 13 rfl rfl)
theorem dX8_areKin_14 : decode cX8_areKin 14 = .ok (.iaload, 1) := dk_46 (dk_at dksX8_areKin_0 14 rfl rfl)
theorem dX8_areKin_15 : decode cX8_areKin 15 = .ok (.ifCond .le 30, 3) := dk_158 0 30 (dk_at dksX8_areKin_0 15 rfl rfl)
theorem dX8_areKin_18 : decode cX8_areKin 18 = .ok (.aload_n 0, 1) := dk_42 (dk_at dksX8_areKin_0 18 rfl rfl)
theorem dX8_areKin_19 : decode cX8_areKin 19 = .ok (.getfield 29, 3) := dk_180 0 29 (dk_at dksX8_areKin_0 19 rfl rfl)
theorem dX8_areKin_22 : decode cX8_areKin 22 = .ok (.iconst 4, 1) := dk_7 (dk_at dksX8_areKin_0 22 rfl rfl)
theorem dX8_areKin_23 : decode cX8_areKin 23 = .ok (.iload_n 1, 1) := dk_27 (dk_at dksX8_areKin_0 23 rfl rfl)
theorem dX8_areKin_24 : decode cX8_areKin 24 = .ok (.imul, 1) := dk_104 (dk_at dksX8_areKin_1 0 rfl rfl)
theorem dX8_areKin_25 : decode cX8_areKin 25 = .ok (.iconst 2, 1) := dk_5 (dk_at dksX8_areKin_1 1 rfl rfl)
theorem dX8_areKin_26 : decode cX8_areKin 26 = .ok (.iadd, 1) := dk_96 (dk_at dksX8_areKin_1 2 rfl rfl)
theorem dX8_areKin_27 : decode cX8_areKin 27 = .ok (.iaload, 1) := dk_46 (dk_at dksX8_areKin_1 3 rfl rfl)
theorem dX8_areKin_28 : decode cX8_areKin 28 = .ok (.aload_n 0, 1) := dk_42 (dk_at dksX8_areKin_1 4 rfl rfl)
theorem dX8_areKin_29 : decode cX8_areKin 29 = .ok (.getfield 29, 3) := dk_180 0 29 (dk_at dksX8_areKin_1 5 rfl rfl)
theorem dX8_areKin_32 : decode cX8_areKin 32 = .ok (.iconst 4, 1) := dk_7 (dk_at dksX8_areKin_1 8 rfl rfl)
theorem dX8_areKin_33 : decode cX8_areKin 33 = .ok (.iload_n 2, 1) := dk_28 (dk_at dksX8_areKin_1 9 rfl rfl)
theorem dX8_areKin_34 : decode cX8_areKin 34 = .ok (.imul, 1) := dk_104 (dk_at dksX8_areKin_1 10 rfl rfl)
theorem dX8_areKin_35 : decode cX8_areKin 35 = .ok (.iconst 2, 1) := dk_5 (dk_at dksX8_areKin_1 11 rfl rfl)
theorem dX8_areKin_36 : decode cX8_areKin 36 = .ok (.iadd, 1) := dk_96 (dk_at dksX8_areKin_1 12 rfl rfl)
theorem dX8_areKin_37 : decode cX8_areKin 37 = .ok (.iaload, 1) := dk_46 (dk_at dksX8_areKin_1 13 rfl rfl)
theorem dX8_areKin_38 : decode cX8_areKin 38 = .ok (.if_icmp .ne 7, 3) := dk_160 0 7 (dk_at dksX8_areKin_1 14 rfl rfl)
theorem dX8_areKin_41 : decode cX8_areKin 41 = .ok (.iconst 1, 1) := dk_4 (dk_at dksX8_areKin_1 17 rfl rfl)
theorem dX8_areKin_42 : decode cX8_areKin 42 = .ok (.goto 4, 3) := dk_167 0 4 (dk_at dksX8_areKin_1 18 rfl rfl)
theorem dX8_areKin_45 : decode cX8_areKin 45 = .ok (.iconst 0, 1) := dk_3 (dk_at dksX8_areKin_1 21 rfl rfl)
theorem dX8_areKin_46 : decode cX8_areKin 46 = .ok (.ireturn, 1) := dk_172 (dk_at dksX8_areKin_1 22 rfl rfl)
abbrev cX8_asksNow : ByteArray := prog_26_method_38_code
def yX8_asksNow : MethodName := ⟨RX8, "asksNow", "(I)I"⟩
def dkwX8_asksNow_2 : List UInt8 := [164, 0, 9, 17, 3, 231, 167, 0, 4, 28, 172]
abbrev dktX8_asksNow_2 : List UInt8 := dkwX8_asksNow_2 ++ []
def dkwX8_asksNow_1 : List UInt8 := [46, 104, 96, 167, 0, 8, 42, 27, 182, 1, 42, 61, 28, 156, 0, 7, 3, 167, 0, 17, 28, 17, 3, 231]
abbrev dktX8_asksNow_1 : List UInt8 := dkwX8_asksNow_1 ++ dktX8_asksNow_2
def dkwX8_asksNow_0 : List UInt8 := [42, 180, 0, 47, 27, 46, 154, 0, 24, 16, 52, 42, 180, 0, 53, 3, 46, 104, 7, 42, 180, 0, 53, 4]
abbrev dktX8_asksNow_0 : List UInt8 := dkwX8_asksNow_0 ++ dktX8_asksNow_1
theorem dksX8_asksNow_0 : cX8_asksNow.data.toList.drop 0 = dktX8_asksNow_0 := by decide +kernel
theorem dksX8_asksNow_1 : cX8_asksNow.data.toList.drop 24 = dktX8_asksNow_1 := dk_seg dksX8_asksNow_0 24 rfl rfl
theorem dksX8_asksNow_2 : cX8_asksNow.data.toList.drop 48 = dktX8_asksNow_2 := dk_seg dksX8_asksNow_1 24 rfl rfl
theorem dX8_asksNow_0 : decode cX8_asksNow 0 = .ok (.aload_n 0, 1) := dk_42 (dk_at dksX8_asksNow_0 0 rfl rfl)
theorem dX8_asksNow_1 : decode cX8_asksNow 1 = .ok (.getfield 47, 3) := dk_180 0 47 (dk_at dksX8_asksNow_0 1 rfl rfl)
theorem dX8_asksNow_4 : decode cX8_asksNow 4 = .ok (.iload_n 1, 1) := dk_27 (dk_at dksX8_asksNow_0 4 rfl rfl)
theorem dX8_asksNow_5 : decode cX8_asksNow 5 = .ok (.iaload, 1) := dk_46 (dk_at dksX8_asksNow_0 5 rfl rfl)
theorem dX8_asksNow_6 : decode cX8_asksNow 6 = .ok (.ifCond .ne 24, 3) := dk_154 0 24 (dk_at dksX8_asksNow_0 6 rfl rfl)
theorem dX8_asksNow_9 : decode cX8_asksNow 9 = .ok (.bipush 52, 2) := dk_16 52 (dk_at dksX8_asksNow_0 9 rfl rfl)
theorem dX8_asksNow_11 : decode cX8_asksNow 11 = .ok (.aload_n 0, 1) := dk_42 (dk_at dksX8_asksNow_0 11 rfl rfl)
theorem dX8_asksNow_12 : decode cX8_asksNow 12 = .ok (.getfield 53, 3) := dk_180 0 53 (dk_at dksX8_asksNow_0 12 rfl rfl)
theorem dX8_asksNow_15 : decode cX8_asksNow 15 = .ok (.iconst 0, 1) := dk_3 (dk_at dksX8_asksNow_0 15 rfl rfl)
theorem dX8_asksNow_16 : decode cX8_asksNow 16 = .ok (.iaload, 1) := dk_46 (dk_at dksX8_asksNow_0 16 rfl rfl)
theorem dX8_asksNow_17 : decode cX8_asksNow 17 = .ok (.imul, 1) := dk_104 (dk_at dksX8_asksNow_0 17 rfl rfl)
theorem dX8_asksNow_18 : decode cX8_asksNow 18 = .ok (.iconst 4, 1) := dk_7 (dk_at dksX8_asksNow_0 18 rfl rfl)
theorem dX8_asksNow_19 : decode cX8_asksNow 19 = .ok (.aload_n 0, 1) := dk_42 (dk_at dksX8_asksNow_0 19 rfl rfl)
theorem dX8_asksNow_20 : decode cX8_asksNow 20 = .ok (.getfield 53, 3) := dk_180 0 53 (dk_at dksX8_asksNow_0 20 rfl rfl)
theorem dX8_asksNow_23 : decode cX8_asksNow 23 = .ok (.iconst 1, 1) := dk_4 (dk_at dksX8_asksNow_0 23 rfl rfl)
theorem dX8_asksNow_24 : decode cX8_asksNow 24 = .ok (.iaload, 1) := dk_46 (dk_at dksX8_asksNow_1 0 rfl rfl)
theorem dX8_asksNow_25 : decode cX8_asksNow 25 = .ok (.imul, 1) := dk_104 (dk_at dksX8_asksNow_1 1 rfl rfl)
theorem dX8_asksNow_26 : decode cX8_asksNow 26 = .ok (.iadd, 1) := dk_96 (dk_at dksX8_asksNow_1 2 rfl rfl)
theorem dX8_asksNow_27 : decode cX8_asksNow 27 = .ok (.goto 8, 3) := dk_167 0 8 (dk_at dksX8_asksNow_1 3 rfl rfl)
theorem dX8_asksNow_30 : decode cX8_asksNow 30 = .ok (.aload_n 0, 1) := dk_42 (dk_at dksX8_asksNow_1 6 rfl rfl)
theorem dX8_asksNow_31 : decode cX8_asksNow 31 = .ok (.iload_n 1, 1) := dk_27 (dk_at dksX8_asksNow_1 7 rfl rfl)
theorem dX8_asksNow_32 : decode cX8_asksNow 32 = .ok (.invokevirtual 298, 3) := dk_182 1 42 (dk_at dksX8_asksNow_1 8 rfl rfl)
theorem dX8_asksNow_35 : decode cX8_asksNow 35 = .ok (.istore_n 2, 1) := dk_61 (dk_at dksX8_asksNow_1 11 rfl rfl)
theorem dX8_asksNow_36 : decode cX8_asksNow 36 = .ok (.iload_n 2, 1) := dk_28 (dk_at dksX8_asksNow_1 12 rfl rfl)
theorem dX8_asksNow_37 : decode cX8_asksNow 37 = .ok (.ifCond .ge 7, 3) := dk_156 0 7 (dk_at dksX8_asksNow_1 13 rfl rfl)
theorem dX8_asksNow_40 : decode cX8_asksNow 40 = .ok (.iconst 0, 1) := dk_3 (dk_at dksX8_asksNow_1 16 rfl rfl)
theorem dX8_asksNow_41 : decode cX8_asksNow 41 = .ok (.goto 17, 3) := dk_167 0 17 (dk_at dksX8_asksNow_1 17 rfl rfl)
theorem dX8_asksNow_44 : decode cX8_asksNow 44 = .ok (.iload_n 2, 1) := dk_28 (dk_at dksX8_asksNow_1 20 rfl rfl)
theorem dX8_asksNow_45 : decode cX8_asksNow 45 = .ok (.sipush 999, 3) := dk_17 3 231 (dk_at dksX8_asksNow_1 21 rfl rfl)
theorem dX8_asksNow_48 : decode cX8_asksNow 48 = .ok (.if_icmp .le 9, 3) := dk_164 0 9 (dk_at dksX8_asksNow_2 0 rfl rfl)
theorem dX8_asksNow_51 : decode cX8_asksNow 51 = .ok (.sipush 999, 3) := dk_17 3 231 (dk_at dksX8_asksNow_2 3 rfl rfl)
theorem dX8_asksNow_54 : decode cX8_asksNow 54 = .ok (.goto 4, 3) := dk_167 0 4 (dk_at dksX8_asksNow_2 6 rfl rfl)
theorem dX8_asksNow_57 : decode cX8_asksNow 57 = .ok (.iload_n 2, 1) := dk_28 (dk_at dksX8_asksNow_2 9 rfl rfl)
theorem dX8_asksNow_58 : decode cX8_asksNow 58 = .ok (.ireturn, 1) := dk_172 (dk_at dksX8_asksNow_2 10 rfl rfl)
abbrev cX8_valueOf : ByteArray := prog_26_method_36_code
def yX8_valueOf : MethodName := ⟨RX8, "valueOf", "(I)I"⟩
def dkwX8_valueOf_4 : List UInt8 := [180, 0, 50, 28, 46, 184, 1, 38, 79, 132, 3, 1, 167, 255, 156, 42, 180, 0, 50, 3, 46, 172]
abbrev dktX8_valueOf_4 : List UInt8 := dkwX8_valueOf_4 ++ []
def dkwX8_valueOf_3 : List UInt8 := [167, 0, 33, 132, 2, 255, 42, 180, 0, 50, 28, 4, 100, 21, 4, 42, 180, 0, 50, 28, 4, 100, 46, 42]
abbrev dktX8_valueOf_3 : List UInt8 := dkwX8_valueOf_3 ++ dktX8_valueOf_4
def dkwX8_valueOf_2 : List UInt8 := [42, 180, 0, 44, 29, 46, 167, 0, 14, 42, 180, 0, 53, 42, 180, 0, 44, 29, 46, 46, 79, 132, 2, 1]
abbrev dktX8_valueOf_2 : List UInt8 := dkwX8_valueOf_2 ++ dktX8_valueOf_3
def dkwX8_valueOf_1 : List UInt8 := [42, 180, 0, 41, 29, 46, 54, 4, 21, 4, 4, 163, 0, 40, 42, 180, 0, 50, 28, 21, 4, 154, 0, 12]
abbrev dktX8_valueOf_1 : List UInt8 := dkwX8_valueOf_1 ++ dktX8_valueOf_2
def dkwX8_valueOf_0 : List UInt8 := [3, 61, 17, 0, 150, 27, 104, 62, 29, 17, 0, 150, 27, 104, 42, 180, 0, 47, 27, 46, 96, 162, 0, 90]
abbrev dktX8_valueOf_0 : List UInt8 := dkwX8_valueOf_0 ++ dktX8_valueOf_1
theorem dksX8_valueOf_0 : cX8_valueOf.data.toList.drop 0 = dktX8_valueOf_0 := by decide +kernel
theorem dksX8_valueOf_1 : cX8_valueOf.data.toList.drop 24 = dktX8_valueOf_1 := dk_seg dksX8_valueOf_0 24 rfl rfl
theorem dksX8_valueOf_2 : cX8_valueOf.data.toList.drop 48 = dktX8_valueOf_2 := dk_seg dksX8_valueOf_1 24 rfl rfl
theorem dksX8_valueOf_3 : cX8_valueOf.data.toList.drop 72 = dktX8_valueOf_3 := dk_seg dksX8_valueOf_2 24 rfl rfl
theorem dksX8_valueOf_4 : cX8_valueOf.data.toList.drop 96 = dktX8_valueOf_4 := dk_seg dksX8_valueOf_3 24 rfl rfl
theorem dX8_valueOf_0 : decode cX8_valueOf 0 = .ok (.iconst 0, 1) := dk_3 (dk_at dksX8_valueOf_0 0 rfl rfl)
theorem dX8_valueOf_1 : decode cX8_valueOf 1 = .ok (.istore_n 2, 1) := dk_61 (dk_at dksX8_valueOf_0 1 rfl rfl)
theorem dX8_valueOf_2 : decode cX8_valueOf 2 = .ok (.sipush 150, 3) := dk_17 0 150 (dk_at dksX8_valueOf_0 2 rfl rfl)
theorem dX8_valueOf_5 : decode cX8_valueOf 5 = .ok (.iload_n 1, 1) := dk_27 (dk_at dksX8_valueOf_0 5 rfl rfl)
theorem dX8_valueOf_6 : decode cX8_valueOf 6 = .ok (.imul, 1) := dk_104 (dk_at dksX8_valueOf_0 6 rfl rfl)
theorem dX8_valueOf_7 : decode cX8_valueOf 7 = .ok (.istore_n 3, 1) := dk_62 (dk_at dksX8_valueOf_0 7 rfl rfl)
theorem dX8_valueOf_8 : decode cX8_valueOf 8 = .ok (.iload_n 3, 1) := dk_29 (dk_at dksX8_valueOf_0 8 rfl rfl)
theorem dX8_valueOf_9 : decode cX8_valueOf 9 = .ok (.sipush 150, 3) := dk_17 0 150 (dk_at dksX8_valueOf_0 9 rfl rfl)
theorem dX8_valueOf_12 : decode cX8_valueOf 12 = .ok (.iload_n 1, 1) := dk_27 (dk_at dksX8_valueOf_0 12 rfl rfl)
theorem dX8_valueOf_13 : decode cX8_valueOf 13 = .ok (.imul, 1) := dk_104 (dk_at dksX8_valueOf_0 13 rfl rfl)
theorem dX8_valueOf_14 : decode cX8_valueOf 14 = .ok (.aload_n 0, 1) := dk_42 (dk_at dksX8_valueOf_0 14 rfl rfl)
theorem dX8_valueOf_15 : decode cX8_valueOf 15 = .ok (.getfield 47, 3) := dk_180 0 47 (dk_at dksX8_valueOf_0 15 rfl rfl)
theorem dX8_valueOf_18 : decode cX8_valueOf 18 = .ok (.iload_n 1, 1) := dk_27 (dk_at dksX8_valueOf_0 18 rfl rfl)
theorem dX8_valueOf_19 : decode cX8_valueOf 19 = .ok (.iaload, 1) := dk_46 (dk_at dksX8_valueOf_0 19 rfl rfl)
theorem dX8_valueOf_20 : decode cX8_valueOf 20 = .ok (.iadd, 1) := dk_96 (dk_at dksX8_valueOf_0 20 rfl rfl)
theorem dX8_valueOf_21 : decode cX8_valueOf 21 = .ok (.if_icmp .ge 90, 3) := dk_162 0 90 (dk_at dksX8_valueOf_0 21 rfl rfl)
theorem dX8_valueOf_24 : decode cX8_valueOf 24 = .ok (.aload_n 0, 1) := dk_42 (dk_at dksX8_valueOf_1 0 rfl rfl)
theorem dX8_valueOf_25 : decode cX8_valueOf 25 = .ok (.getfield 41, 3) := dk_180 0 41 (dk_at dksX8_valueOf_1 1 rfl rfl)
theorem dX8_valueOf_28 : decode cX8_valueOf 28 = .ok (.iload_n 3, 1) := dk_29 (dk_at dksX8_valueOf_1 4 rfl rfl)
theorem dX8_valueOf_29 : decode cX8_valueOf 29 = .ok (.iaload, 1) := dk_46 (dk_at dksX8_valueOf_1 5 rfl rfl)
theorem dX8_valueOf_30 : decode cX8_valueOf 30 = .ok (.istore 4, 2) := dk_54 4 (dk_at dksX8_valueOf_1 6 rfl rfl)
theorem dX8_valueOf_32 : decode cX8_valueOf 32 = .ok (.iload 4, 2) := dk_21 4 (dk_at dksX8_valueOf_1 8 rfl rfl)
theorem dX8_valueOf_34 : decode cX8_valueOf 34 = .ok (.iconst 1, 1) := dk_4 (dk_at dksX8_valueOf_1 10 rfl rfl)
theorem dX8_valueOf_35 : decode cX8_valueOf 35 = .ok (.if_icmp .gt 40, 3) := dk_163 0 40 (dk_at dksX8_valueOf_1 11 rfl rfl)
theorem dX8_valueOf_38 : decode cX8_valueOf 38 = .ok (.aload_n 0, 1) := dk_42 (dk_at dksX8_valueOf_1 14 rfl rfl)
theorem dX8_valueOf_39 : decode cX8_valueOf 39 = .ok (.getfield 50, 3) := dk_180 0 50 (dk_at dksX8_valueOf_1 15 rfl rfl)
theorem dX8_valueOf_42 : decode cX8_valueOf 42 = .ok (.iload_n 2, 1) := dk_28 (dk_at dksX8_valueOf_1 18 rfl rfl)
theorem dX8_valueOf_43 : decode cX8_valueOf 43 = .ok (.iload 4, 2) := dk_21 4 (dk_at dksX8_valueOf_1 19 rfl rfl)
theorem dX8_valueOf_45 : decode cX8_valueOf 45 = .ok (.ifCond .ne 12, 3) := dk_154 0 12 (dk_at dksX8_valueOf_1 21 rfl rfl)
theorem dX8_valueOf_48 : decode cX8_valueOf 48 = .ok (.aload_n 0, 1) := dk_42 (dk_at dksX8_valueOf_2 0 rfl rfl)
theorem dX8_valueOf_49 : decode cX8_valueOf 49 = .ok (.getfield 44, 3) := dk_180 0 44 (dk_at dksX8_valueOf_2 1 rfl rfl)
theorem dX8_valueOf_52 : decode cX8_valueOf 52 = .ok (.iload_n 3, 1) := dk_29 (dk_at dksX8_valueOf_2 4 rfl rfl)
theorem dX8_valueOf_53 : decode cX8_valueOf 53 = .ok (.iaload, 1) := dk_46 (dk_at dksX8_valueOf_2 5 rfl rfl)
theorem dX8_valueOf_54 : decode cX8_valueOf 54 = .ok (.goto 14, 3) := dk_167 0 14 (dk_at dksX8_valueOf_2 6 rfl rfl)
theorem dX8_valueOf_57 : decode cX8_valueOf 57 = .ok (.aload_n 0, 1) := dk_42 (dk_at dksX8_valueOf_2 9 rfl rfl)
theorem dX8_valueOf_58 : decode cX8_valueOf 58 = .ok (.getfield 53, 3) := dk_180 0 53 (dk_at dksX8_valueOf_2 10 rfl rfl)
theorem dX8_valueOf_61 : decode cX8_valueOf 61 = .ok (.aload_n 0, 1) := dk_42 (dk_at dksX8_valueOf_2 13 rfl rfl)
theorem dX8_valueOf_62 : decode cX8_valueOf 62 = .ok (.getfield 44, 3) := dk_180 0 44 (dk_at dksX8_valueOf_2 14 rfl rfl)
theorem dX8_valueOf_65 : decode cX8_valueOf 65 = .ok (.iload_n 3, 1) := dk_29 (dk_at dksX8_valueOf_2 17 rfl rfl)
theorem dX8_valueOf_66 : decode cX8_valueOf 66 = .ok (.iaload, 1) := dk_46 (dk_at dksX8_valueOf_2 18 rfl rfl)
theorem dX8_valueOf_67 : decode cX8_valueOf 67 = .ok (.iaload, 1) := dk_46 (dk_at dksX8_valueOf_2 19 rfl rfl)
theorem dX8_valueOf_68 : decode cX8_valueOf 68 = .ok (.iastore, 1) := dk_79 (dk_at dksX8_valueOf_2 20 rfl rfl)
theorem dX8_valueOf_69 : decode cX8_valueOf 69 = .ok (.iinc 2 1, 3) := dk_132 2 1 (dk_at dksX8_valueOf_2 21 rfl rfl)
theorem dX8_valueOf_72 : decode cX8_valueOf 72 = .ok (.goto 33, 3) := dk_167 0 33 (dk_at dksX8_valueOf_3 0 rfl rfl)
theorem dX8_valueOf_75 : decode cX8_valueOf 75 = .ok (.iinc 2 (-1), 3) := dk_132 2 255 (dk_at dksX8_valueOf_3 3 rfl rfl)
theorem dX8_valueOf_78 : decode cX8_valueOf 78 = .ok (.aload_n 0, 1) := dk_42 (dk_at dksX8_valueOf_3 6 rfl rfl)
theorem dX8_valueOf_79 : decode cX8_valueOf 79 = .ok (.getfield 50, 3) := dk_180 0 50 (dk_at dksX8_valueOf_3 7 rfl rfl)
theorem dX8_valueOf_82 : decode cX8_valueOf 82 = .ok (.iload_n 2, 1) := dk_28 (dk_at dksX8_valueOf_3 10 rfl rfl)
theorem dX8_valueOf_83 : decode cX8_valueOf 83 = .ok (.iconst 1, 1) := dk_4 (dk_at dksX8_valueOf_3 11 rfl rfl)
theorem dX8_valueOf_84 : decode cX8_valueOf 84 = .ok (.isub, 1) := dk_100 (dk_at dksX8_valueOf_3 12 rfl rfl)
theorem dX8_valueOf_85 : decode cX8_valueOf 85 = .ok (.iload 4, 2) := dk_21 4 (dk_at dksX8_valueOf_3 13 rfl rfl)
theorem dX8_valueOf_87 : decode cX8_valueOf 87 = .ok (.aload_n 0, 1) := dk_42 (dk_at dksX8_valueOf_3 15 rfl rfl)
theorem dX8_valueOf_88 : decode cX8_valueOf 88 = .ok (.getfield 50, 3) := dk_180 0 50 (dk_at dksX8_valueOf_3 16 rfl rfl)
theorem dX8_valueOf_91 : decode cX8_valueOf 91 = .ok (.iload_n 2, 1) := dk_28 (dk_at dksX8_valueOf_3 19 rfl rfl)
theorem dX8_valueOf_92 : decode cX8_valueOf 92 = .ok (.iconst 1, 1) := dk_4 (dk_at dksX8_valueOf_3 20 rfl rfl)
theorem dX8_valueOf_93 : decode cX8_valueOf 93 = .ok (.isub, 1) := dk_100 (dk_at dksX8_valueOf_3 21 rfl rfl)
theorem dX8_valueOf_94 : decode cX8_valueOf 94 = .ok (.iaload, 1) := dk_46 (dk_at dksX8_valueOf_3 22 rfl rfl)
theorem dX8_valueOf_95 : decode cX8_valueOf 95 = .ok (.aload_n 0, 1) := dk_42 (dk_at dksX8_valueOf_3 23 rfl rfl)
theorem dX8_valueOf_96 : decode cX8_valueOf 96 = .ok (.getfield 50, 3) := dk_180 0 50 (dk_at dksX8_valueOf_4 0 rfl rfl)
theorem dX8_valueOf_99 : decode cX8_valueOf 99 = .ok (.iload_n 2, 1) := dk_28 (dk_at dksX8_valueOf_4 3 rfl rfl)
theorem dX8_valueOf_100 : decode cX8_valueOf 100 = .ok (.iaload, 1) := dk_46 (dk_at dksX8_valueOf_4 4 rfl rfl)
theorem dX8_valueOf_101 : decode cX8_valueOf 101 = .ok (.invokestatic 294, 3) := dk_184 1 38 (dk_at dksX8_valueOf_4 5 rfl rfl)
theorem dX8_valueOf_104 : decode cX8_valueOf 104 = .ok (.iastore, 1) := dk_79 (dk_at dksX8_valueOf_4 8 rfl rfl)
theorem dX8_valueOf_105 : decode cX8_valueOf 105 = .ok (.iinc 3 1, 3) := dk_132 3 1 (dk_at dksX8_valueOf_4 9 rfl rfl)
theorem dX8_valueOf_108 : decode cX8_valueOf 108 = .ok (.goto (-100), 3) := dk_167 255 156 (dk_at dksX8_valueOf_4 12 rfl rfl)
theorem dX8_valueOf_111 : decode cX8_valueOf 111 = .ok (.aload_n 0, 1) := dk_42 (dk_at dksX8_valueOf_4 15 rfl rfl)
theorem dX8_valueOf_112 : decode cX8_valueOf 112 = .ok (.getfield 50, 3) := dk_180 0 50 (dk_at dksX8_valueOf_4 16 rfl rfl)
theorem dX8_valueOf_115 : decode cX8_valueOf 115 = .ok (.iconst 0, 1) := dk_3 (dk_at dksX8_valueOf_4 19 rfl rfl)
theorem dX8_valueOf_116 : decode cX8_valueOf 116 = .ok (.iaload, 1) := dk_46 (dk_at dksX8_valueOf_4 20 rfl rfl)
theorem dX8_valueOf_117 : decode cX8_valueOf 117 = .ok (.ireturn, 1) := dk_172 (dk_at dksX8_valueOf_4 21 rfl rfl)
abbrev cX8_both : ByteArray := prog_26_method_37_code
def yX8_both : MethodName := ⟨RX8, "both", "(III)I"⟩
def dkwX8_both_3 : List UInt8 := [167, 0, 4, 28, 172]
abbrev dktX8_both_3 : List UInt8 := dkwX8_both_3 ++ []
def dkwX8_both_2 : List UInt8 := [162, 0, 7, 4, 167, 0, 4, 3, 26, 16, 6, 160, 0, 7, 4, 167, 0, 4, 3, 160, 0, 7, 27]
abbrev dktX8_both_2 : List UInt8 := dkwX8_both_2 ++ dktX8_both_3
def dkwX8_both_1 : List UInt8 := [28, 104, 172, 26, 8, 160, 0, 15, 28, 154, 0, 7, 3, 167, 0, 6, 27, 28, 108, 172, 27, 28]
abbrev dktX8_both_1 : List UInt8 := dkwX8_both_1 ++ dktX8_both_2
def dkwX8_both_0 : List UInt8 := [26, 5, 160, 0, 7, 27, 28, 96, 172, 26, 6, 160, 0, 7, 27, 28, 100, 172, 26, 7, 160, 0, 7, 27]
abbrev dktX8_both_0 : List UInt8 := dkwX8_both_0 ++ dktX8_both_1
theorem dksX8_both_0 : cX8_both.data.toList.drop 0 = dktX8_both_0 := by decide +kernel
theorem dksX8_both_1 : cX8_both.data.toList.drop 24 = dktX8_both_1 := dk_seg dksX8_both_0 24 rfl rfl
theorem dksX8_both_2 : cX8_both.data.toList.drop 46 = dktX8_both_2 := dk_seg dksX8_both_1 22 rfl rfl
theorem dksX8_both_3 : cX8_both.data.toList.drop 69 = dktX8_both_3 := dk_seg dksX8_both_2 23 rfl rfl
theorem dX8_both_0 : decode cX8_both 0 = .ok (.iload_n 0, 1) := dk_26 (dk_at dksX8_both_0 0 rfl rfl)
theorem dX8_both_1 : decode cX8_both 1 = .ok (.iconst 2, 1) := dk_5 (dk_at dksX8_both_0 1 rfl rfl)
theorem dX8_both_2 : decode cX8_both 2 = .ok (.if_icmp .ne 7, 3) := dk_160 0 7 (dk_at dksX8_both_0 2 rfl rfl)
theorem dX8_both_5 : decode cX8_both 5 = .ok (.iload_n 1, 1) := dk_27 (dk_at dksX8_both_0 5 rfl rfl)
theorem dX8_both_6 : decode cX8_both 6 = .ok (.iload_n 2, 1) := dk_28 (dk_at dksX8_both_0 6 rfl rfl)
theorem dX8_both_7 : decode cX8_both 7 = .ok (.iadd, 1) := dk_96 (dk_at dksX8_both_0 7 rfl rfl)
theorem dX8_both_8 : decode cX8_both 8 = .ok (.ireturn, 1) := dk_172 (dk_at dksX8_both_0 8 rfl rfl)
theorem dX8_both_9 : decode cX8_both 9 = .ok (.iload_n 0, 1) := dk_26 (dk_at dksX8_both_0 9 rfl rfl)
theorem dX8_both_10 : decode cX8_both 10 = .ok (.iconst 3, 1) := dk_6 (dk_at dksX8_both_0 10 rfl rfl)
theorem dX8_both_11 : decode cX8_both 11 = .ok (.if_icmp .ne 7, 3) := dk_160 0 7 (dk_at dksX8_both_0 11 rfl rfl)
theorem dX8_both_14 : decode cX8_both 14 = .ok (.iload_n 1, 1) := dk_27 (dk_at dksX8_both_0 14 rfl rfl)
theorem dX8_both_15 : decode cX8_both 15 = .ok (.iload_n 2, 1) := dk_28 (dk_at dksX8_both_0 15 rfl rfl)
theorem dX8_both_16 : decode cX8_both 16 = .ok (.isub, 1) := dk_100 (dk_at dksX8_both_0 16 rfl rfl)
theorem dX8_both_17 : decode cX8_both 17 = .ok (.ireturn, 1) := dk_172 (dk_at dksX8_both_0 17 rfl rfl)
theorem dX8_both_18 : decode cX8_both 18 = .ok (.iload_n 0, 1) := dk_26 (dk_at dksX8_both_0 18 rfl rfl)
theorem dX8_both_19 : decode cX8_both 19 = .ok (.iconst 4, 1) := dk_7 (dk_at dksX8_both_0 19 rfl rfl)
theorem dX8_both_20 : decode cX8_both 20 = .ok (.if_icmp .ne 7, 3) := dk_160 0 7 (dk_at dksX8_both_0 20 rfl rfl)
theorem dX8_both_23 : decode cX8_both 23 = .ok (.iload_n 1, 1) := dk_27 (dk_at dksX8_both_0 23 rfl rfl)
theorem dX8_both_24 : decode cX8_both 24 = .ok (.iload_n 2, 1) := dk_28 (dk_at dksX8_both_1 0 rfl rfl)
theorem dX8_both_25 : decode cX8_both 25 = .ok (.imul, 1) := dk_104 (dk_at dksX8_both_1 1 rfl rfl)
theorem dX8_both_26 : decode cX8_both 26 = .ok (.ireturn, 1) := dk_172 (dk_at dksX8_both_1 2 rfl rfl)
theorem dX8_both_27 : decode cX8_both 27 = .ok (.iload_n 0, 1) := dk_26 (dk_at dksX8_both_1 3 rfl rfl)
theorem dX8_both_28 : decode cX8_both 28 = .ok (.iconst 5, 1) := dk_8 (dk_at dksX8_both_1 4 rfl rfl)
theorem dX8_both_29 : decode cX8_both 29 = .ok (.if_icmp .ne 15, 3) := dk_160 0 15 (dk_at dksX8_both_1 5 rfl rfl)
theorem dX8_both_32 : decode cX8_both 32 = .ok (.iload_n 2, 1) := dk_28 (dk_at dksX8_both_1 8 rfl rfl)
theorem dX8_both_33 : decode cX8_both 33 = .ok (.ifCond .ne 7, 3) := dk_154 0 7 (dk_at dksX8_both_1 9 rfl rfl)
theorem dX8_both_36 : decode cX8_both 36 = .ok (.iconst 0, 1) := dk_3 (dk_at dksX8_both_1 12 rfl rfl)
theorem dX8_both_37 : decode cX8_both 37 = .ok (.goto 6, 3) := dk_167 0 6 (dk_at dksX8_both_1 13 rfl rfl)
theorem dX8_both_40 : decode cX8_both 40 = .ok (.iload_n 1, 1) := dk_27 (dk_at dksX8_both_1 16 rfl rfl)
theorem dX8_both_41 : decode cX8_both 41 = .ok (.iload_n 2, 1) := dk_28 (dk_at dksX8_both_1 17 rfl rfl)
theorem dX8_both_42 : decode cX8_both 42 = .ok (.idiv, 1) := dk_108 (dk_at dksX8_both_1 18 rfl rfl)
theorem dX8_both_43 : decode cX8_both 43 = .ok (.ireturn, 1) := dk_172 (dk_at dksX8_both_1 19 rfl rfl)
theorem dX8_both_44 : decode cX8_both 44 = .ok (.iload_n 1, 1) := dk_27 (dk_at dksX8_both_1 20 rfl rfl)
theorem dX8_both_45 : decode cX8_both 45 = .ok (.iload_n 2, 1) := dk_28 (dk_at dksX8_both_1 21 rfl rfl)
theorem dX8_both_46 : decode cX8_both 46 = .ok (.if_icmp .ge 7, 3) := dk_162 0 7 (dk_at dksX8_both_2 0 rfl rfl)
theorem dX8_both_49 : decode cX8_both 49 = .ok (.iconst 1, 1) := dk_4 (dk_at dksX8_both_2 3 rfl rfl)
theorem dX8_both_50 : decode cX8_both 50 = .ok (.goto 4, 3) := dk_167 0 4 (dk_at dksX8_both_2 4 rfl rfl)
theorem dX8_both_53 : decode cX8_both 53 = .ok (.iconst 0, 1) := dk_3 (dk_at dksX8_both_2 7 rfl rfl)
theorem dX8_both_54 : decode cX8_both 54 = .ok (.iload_n 0, 1) := dk_26 (dk_at dksX8_both_2 8 rfl rfl)
theorem dX8_both_55 : decode cX8_both 55 = .ok (.bipush 6, 2) := dk_16 6 (dk_at dksX8_both_2 9 rfl rfl)
theorem dX8_both_57 : decode cX8_both 57 = .ok (.if_icmp .ne 7, 3) := dk_160 0 7 (dk_at dksX8_both_2 11 rfl rfl)
theorem dX8_both_60 : decode cX8_both 60 = .ok (.iconst 1, 1) := dk_4 (dk_at dksX8_both_2 14 rfl rfl)
theorem dX8_both_61 : decode cX8_both 61 = .ok (.goto 4, 3) := dk_167 0 4 (dk_at dksX8_both_2 15 rfl rfl)
theorem dX8_both_64 : decode cX8_both 64 = .ok (.iconst 0, 1) := dk_3 (dk_at dksX8_both_2 18 rfl rfl)
theorem dX8_both_65 : decode cX8_both 65 = .ok (.if_icmp .ne 7, 3) := dk_160 0 7 (dk_at dksX8_both_2 19 rfl rfl)
theorem dX8_both_68 : decode cX8_both 68 = .ok (.iload_n 1, 1) := dk_27 (dk_at dksX8_both_2 22 rfl rfl)
theorem dX8_both_69 : decode cX8_both 69 = .ok (.goto 4, 3) := dk_167 0 4 (dk_at dksX8_both_3 0 rfl rfl)
theorem dX8_both_72 : decode cX8_both 72 = .ok (.iload_n 2, 1) := dk_28 (dk_at dksX8_both_3 3 rfl rfl)
theorem dX8_both_73 : decode cX8_both 73 = .ok (.ireturn, 1) := dk_172 (dk_at dksX8_both_3 4 rfl rfl)
abbrev cX8_frees : ByteArray := prog_26_method_54_code
def yX8_frees : MethodName := ⟨RX8, "frees", "(I)V"⟩
def dkwX8_frees_0 : List UInt8 := [42, 180, 0, 65, 3, 27, 96, 6, 79, 42, 180, 0, 65, 16, 8, 27, 96, 2, 79, 177]
abbrev dktX8_frees_0 : List UInt8 := dkwX8_frees_0 ++ []
theorem dksX8_frees_0 : cX8_frees.data.toList.drop 0 = dktX8_frees_0 := by decide +kernel
theorem dX8_frees_0 : decode cX8_frees 0 = .ok (.aload_n 0, 1) := dk_42 (dk_at dksX8_frees_0 0 rfl rfl)
theorem dX8_frees_1 : decode cX8_frees 1 = .ok (.getfield 65, 3) := dk_180 0 65 (dk_at dksX8_frees_0 1 rfl rfl)
theorem dX8_frees_4 : decode cX8_frees 4 = .ok (.iconst 0, 1) := dk_3 (dk_at dksX8_frees_0 4 rfl rfl)
theorem dX8_frees_5 : decode cX8_frees 5 = .ok (.iload_n 1, 1) := dk_27 (dk_at dksX8_frees_0 5 rfl rfl)
theorem dX8_frees_6 : decode cX8_frees 6 = .ok (.iadd, 1) := dk_96 (dk_at dksX8_frees_0 6 rfl rfl)
theorem dX8_frees_7 : decode cX8_frees 7 = .ok (.iconst 3, 1) := dk_6 (dk_at dksX8_frees_0 7 rfl rfl)
theorem dX8_frees_8 : decode cX8_frees 8 = .ok (.iastore, 1) := dk_79 (dk_at dksX8_frees_0 8 rfl rfl)
theorem dX8_frees_9 : decode cX8_frees 9 = .ok (.aload_n 0, 1) := dk_42 (dk_at dksX8_frees_0 9 rfl rfl)
theorem dX8_frees_10 : decode cX8_frees 10 = .ok (.getfield 65, 3) := dk_180 0 65 (dk_at dksX8_frees_0 10 rfl rfl)
theorem dX8_frees_13 : decode cX8_frees 13 = .ok (.bipush 8, 2) := dk_16 8 (dk_at dksX8_frees_0 13 rfl rfl)
theorem dX8_frees_15 : decode cX8_frees 15 = .ok (.iload_n 1, 1) := dk_27 (dk_at dksX8_frees_0 15 rfl rfl)
theorem dX8_frees_16 : decode cX8_frees 16 = .ok (.iadd, 1) := dk_96 (dk_at dksX8_frees_0 16 rfl rfl)
theorem dX8_frees_17 : decode cX8_frees 17 = .ok (.iconst (-1), 1) := dk_2 (dk_at dksX8_frees_0 17 rfl rfl)
theorem dX8_frees_18 : decode cX8_frees 18 = .ok (.iastore, 1) := dk_79 (dk_at dksX8_frees_0 18 rfl rfl)
theorem dX8_frees_19 : decode cX8_frees 19 = .ok (.return_, 1) := dk_177 (dk_at dksX8_frees_0 19 rfl rfl)
abbrev cX8_passes : ByteArray := prog_26_method_59_code
def yX8_passes : MethodName := ⟨RX8, "passes", "()V"⟩
def dkwX8_passes_6 : List UInt8 := [160, 0, 16, 42, 27, 182, 1, 124, 154, 0, 8, 42, 27, 182, 1, 130, 132, 1, 1, 167, 255, 220, 177]
abbrev dktX8_passes_6 : List UInt8 := dkwX8_passes_6 ++ []
def dkwX8_passes_5 : List UInt8 := [92, 46, 4, 96, 79, 3, 60, 27, 42, 180, 0, 169, 162, 0, 34, 42, 180, 0, 65, 3, 27, 96, 46, 5]
abbrev dktX8_passes_5 : List UInt8 := dkwX8_passes_5 ++ dktX8_passes_6
def dkwX8_passes_4 : List UInt8 := [96, 79, 42, 89, 180, 1, 95, 4, 96, 181, 1, 95, 132, 1, 1, 167, 255, 149, 42, 180, 0, 65, 16, 64]
abbrev dktX8_passes_4 : List UInt8 := dkwX8_passes_4 ++ dktX8_passes_5
def dkwX8_passes_3 : List UInt8 := [180, 0, 65, 16, 65, 92, 46, 4, 100, 79, 167, 0, 26, 42, 180, 0, 65, 16, 32, 27, 96, 92, 46, 4]
abbrev dktX8_passes_3 : List UInt8 := dkwX8_passes_3 ++ dktX8_passes_4
def dkwX8_passes_2 : List UInt8 := [180, 0, 65, 3, 27, 96, 46, 153, 0, 6, 167, 0, 50, 42, 180, 0, 65, 16, 65, 46, 158, 0, 17, 42]
abbrev dktX8_passes_2 : List UInt8 := dkwX8_passes_2 ++ dktX8_passes_3
def dkwX8_passes_1 : List UInt8 := [180, 0, 65, 16, 16, 27, 96, 92, 46, 4, 96, 79, 42, 89, 180, 1, 98, 4, 96, 181, 1, 98, 42]
abbrev dktX8_passes_1 : List UInt8 := dkwX8_passes_1 ++ dktX8_passes_2
def dkwX8_passes_0 : List UInt8 := [3, 60, 27, 42, 180, 0, 169, 162, 0, 105, 42, 180, 0, 65, 3, 27, 96, 46, 5, 160, 0, 26, 42]
abbrev dktX8_passes_0 : List UInt8 := dkwX8_passes_0 ++ dktX8_passes_1
theorem dksX8_passes_0 : cX8_passes.data.toList.drop 0 = dktX8_passes_0 := by decide +kernel
theorem dksX8_passes_1 : cX8_passes.data.toList.drop 23 = dktX8_passes_1 := dk_seg dksX8_passes_0 23 rfl rfl
theorem dksX8_passes_2 : cX8_passes.data.toList.drop 46 = dktX8_passes_2 := dk_seg dksX8_passes_1 23 rfl rfl
theorem dksX8_passes_3 : cX8_passes.data.toList.drop 70 = dktX8_passes_3 := dk_seg dksX8_passes_2 24 rfl rfl
theorem dksX8_passes_4 : cX8_passes.data.toList.drop 94 = dktX8_passes_4 := dk_seg dksX8_passes_3 24 rfl rfl
theorem dksX8_passes_5 : cX8_passes.data.toList.drop 118 = dktX8_passes_5 := dk_seg dksX8_passes_4 24 rfl rfl
theorem dksX8_passes_6 : cX8_passes.data.toList.drop 142 = dktX8_passes_6 := dk_seg dksX8_passes_5 24 rfl rfl
theorem dX8_passes_0 : decode cX8_passes 0 = .ok (.iconst 0, 1) := dk_3 (dk_at dksX8_passes_0 0 rfl rfl)
theorem dX8_passes_1 : decode cX8_passes 1 = .ok (.istore_n 1, 1) := dk_60 (dk_at dksX8_passes_0 1 rfl rfl)
theorem dX8_passes_2 : decode cX8_passes 2 = .ok (.iload_n 1, 1) := dk_27 (dk_at dksX8_passes_0 2 rfl rfl)
theorem dX8_passes_3 : decode cX8_passes 3 = .ok (.aload_n 0, 1) := dk_42 (dk_at dksX8_passes_0 3 rfl rfl)
theorem dX8_passes_4 : decode cX8_passes 4 = .ok (.getfield 169, 3) := dk_180 0 169 (dk_at dksX8_passes_0 4 rfl rfl)
theorem dX8_passes_7 : decode cX8_passes 7 = .ok (.if_icmp .ge 105, 3) := dk_162 0 105 (dk_at dksX8_passes_0 7 rfl rfl)
theorem dX8_passes_10 : decode cX8_passes 10 = .ok (.aload_n 0, 1) := dk_42 (dk_at dksX8_passes_0 10 rfl rfl)
theorem dX8_passes_11 : decode cX8_passes 11 = .ok (.getfield 65, 3) := dk_180 0 65 (dk_at dksX8_passes_0 11 rfl rfl)
theorem dX8_passes_14 : decode cX8_passes 14 = .ok (.iconst 0, 1) := dk_3 (dk_at dksX8_passes_0 14 rfl rfl)
theorem dX8_passes_15 : decode cX8_passes 15 = .ok (.iload_n 1, 1) := dk_27 (dk_at dksX8_passes_0 15 rfl rfl)
theorem dX8_passes_16 : decode cX8_passes 16 = .ok (.iadd, 1) := dk_96 (dk_at dksX8_passes_0 16 rfl rfl)
theorem dX8_passes_17 : decode cX8_passes 17 = .ok (.iaload, 1) := dk_46 (dk_at dksX8_passes_0 17 rfl rfl)
theorem dX8_passes_18 : decode cX8_passes 18 = .ok (.iconst 2, 1) := dk_5 (dk_at dksX8_passes_0 18 rfl rfl)
theorem dX8_passes_19 : decode cX8_passes 19 = .ok (.if_icmp .ne 26, 3) := dk_160 0 26 (dk_at dksX8_passes_0 19 rfl rfl)
theorem dX8_passes_22 : decode cX8_passes 22 = .ok (.aload_n 0, 1) := dk_42 (dk_at dksX8_passes_0 22 rfl rfl)
theorem dX8_passes_23 : decode cX8_passes 23 = .ok (.getfield 65, 3) := dk_180 0 65 (dk_at dksX8_passes_1 0 rfl rfl)
theorem dX8_passes_26 : decode cX8_passes 26 = .ok (.bipush 16, 2) := dk_16 16 (dk_at dksX8_passes_1 3 rfl rfl)
theorem dX8_passes_28 : decode cX8_passes 28 = .ok (.iload_n 1, 1) := dk_27 (dk_at dksX8_passes_1 5 rfl rfl)
theorem dX8_passes_29 : decode cX8_passes 29 = .ok (.iadd, 1) := dk_96 (dk_at dksX8_passes_1 6 rfl rfl)
theorem dX8_passes_30 : decode cX8_passes 30 = .ok (.dup2, 1) := dk_92 (dk_at dksX8_passes_1 7 rfl rfl)
theorem dX8_passes_31 : decode cX8_passes 31 = .ok (.iaload, 1) := dk_46 (dk_at dksX8_passes_1 8 rfl rfl)
theorem dX8_passes_32 : decode cX8_passes 32 = .ok (.iconst 1, 1) := dk_4 (dk_at dksX8_passes_1 9 rfl rfl)
theorem dX8_passes_33 : decode cX8_passes 33 = .ok (.iadd, 1) := dk_96 (dk_at dksX8_passes_1 10 rfl rfl)
theorem dX8_passes_34 : decode cX8_passes 34 = .ok (.iastore, 1) := dk_79 (dk_at dksX8_passes_1 11 rfl rfl)
theorem dX8_passes_35 : decode cX8_passes 35 = .ok (.aload_n 0, 1) := dk_42 (dk_at dksX8_passes_1 12 rfl rfl)
theorem dX8_passes_36 : decode cX8_passes 36 = .ok (.dup, 1) := dk_89 (dk_at dksX8_passes_1 13 rfl rfl)
theorem dX8_passes_37 : decode cX8_passes 37 = .ok (.getfield 354, 3) := dk_180 1 98 (dk_at dksX8_passes_1 14 rfl rfl)
theorem dX8_passes_40 : decode cX8_passes 40 = .ok (.iconst 1, 1) := dk_4 (dk_at dksX8_passes_1 17 rfl rfl)
theorem dX8_passes_41 : decode cX8_passes 41 = .ok (.iadd, 1) := dk_96 (dk_at dksX8_passes_1 18 rfl rfl)
theorem dX8_passes_42 : decode cX8_passes 42 = .ok (.putfield 354, 3) := dk_181 1 98 (dk_at dksX8_passes_1 19 rfl rfl)
theorem dX8_passes_45 : decode cX8_passes 45 = .ok (.aload_n 0, 1) := dk_42 (dk_at dksX8_passes_1 22 rfl rfl)
theorem dX8_passes_46 : decode cX8_passes 46 = .ok (.getfield 65, 3) := dk_180 0 65 (dk_at dksX8_passes_2 0 rfl rfl)
theorem dX8_passes_49 : decode cX8_passes 49 = .ok (.iconst 0, 1) := dk_3 (dk_at dksX8_passes_2 3 rfl rfl)
theorem dX8_passes_50 : decode cX8_passes 50 = .ok (.iload_n 1, 1) := dk_27 (dk_at dksX8_passes_2 4 rfl rfl)
theorem dX8_passes_51 : decode cX8_passes 51 = .ok (.iadd, 1) := dk_96 (dk_at dksX8_passes_2 5 rfl rfl)
theorem dX8_passes_52 : decode cX8_passes 52 = .ok (.iaload, 1) := dk_46 (dk_at dksX8_passes_2 6 rfl rfl)
theorem dX8_passes_53 : decode cX8_passes 53 = .ok (.ifCond .eq 6, 3) := dk_153 0 6 (dk_at dksX8_passes_2 7 rfl rfl)
theorem dX8_passes_56 : decode cX8_passes 56 = .ok (.goto 50, 3) := dk_167 0 50 (dk_at dksX8_passes_2 10 rfl rfl)
theorem dX8_passes_59 : decode cX8_passes 59 = .ok (.aload_n 0, 1) := dk_42 (dk_at dksX8_passes_2 13 rfl rfl)
theorem dX8_passes_60 : decode cX8_passes 60 = .ok (.getfield 65, 3) := dk_180 0 65 (dk_at dksX8_passes_2 14 rfl rfl)
theorem dX8_passes_63 : decode cX8_passes 63 = .ok (.bipush 65, 2) := dk_16 65 (dk_at dksX8_passes_2 17 rfl rfl)
theorem dX8_passes_65 : decode cX8_passes 65 = .ok (.iaload, 1) := dk_46 (dk_at dksX8_passes_2 19 rfl rfl)
theorem dX8_passes_66 : decode cX8_passes 66 = .ok (.ifCond .le 17, 3) := dk_158 0 17 (dk_at dksX8_passes_2 20 rfl rfl)
theorem dX8_passes_69 : decode cX8_passes 69 = .ok (.aload_n 0, 1) := dk_42 (dk_at dksX8_passes_2 23 rfl rfl)
theorem dX8_passes_70 : decode cX8_passes 70 = .ok (.getfield 65, 3) := dk_180 0 65 (dk_at dksX8_passes_3 0 rfl rfl)
theorem dX8_passes_73 : decode cX8_passes 73 = .ok (.bipush 65, 2) := dk_16 65 (dk_at dksX8_passes_3 3 rfl rfl)
theorem dX8_passes_75 : decode cX8_passes 75 = .ok (.dup2, 1) := dk_92 (dk_at dksX8_passes_3 5 rfl rfl)
theorem dX8_passes_76 : decode cX8_passes 76 = .ok (.iaload, 1) := dk_46 (dk_at dksX8_passes_3 6 rfl rfl)
theorem dX8_passes_77 : decode cX8_passes 77 = .ok (.iconst 1, 1) := dk_4 (dk_at dksX8_passes_3 7 rfl rfl)
theorem dX8_passes_78 : decode cX8_passes 78 = .ok (.isub, 1) := dk_100 (dk_at dksX8_passes_3 8 rfl rfl)
theorem dX8_passes_79 : decode cX8_passes 79 = .ok (.iastore, 1) := dk_79 (dk_at dksX8_passes_3 9 rfl rfl)
theorem dX8_passes_80 : decode cX8_passes 80 = .ok (.goto 26, 3) := dk_167 0 26 (dk_at dksX8_passes_3 10 rfl rfl)
theorem dX8_passes_83 : decode cX8_passes 83 = .ok (.aload_n 0, 1) := dk_42 (dk_at dksX8_passes_3 13 rfl rfl)
theorem dX8_passes_84 : decode cX8_passes 84 = .ok (.getfield 65, 3) := dk_180 0 65 (dk_at dksX8_passes_3 14 rfl rfl)
theorem dX8_passes_87 : decode cX8_passes 87 = .ok (.bipush 32, 2) := dk_16 32 (dk_at dksX8_passes_3 17 rfl rfl)
theorem dX8_passes_89 : decode cX8_passes 89 = .ok (.iload_n 1, 1) := dk_27 (dk_at dksX8_passes_3 19 rfl rfl)
theorem dX8_passes_90 : decode cX8_passes 90 = .ok (.iadd, 1) := dk_96 (dk_at dksX8_passes_3 20 rfl rfl)
theorem dX8_passes_91 : decode cX8_passes 91 = .ok (.dup2, 1) := dk_92 (dk_at dksX8_passes_3 21 rfl rfl)
theorem dX8_passes_92 : decode cX8_passes 92 = .ok (.iaload, 1) := dk_46 (dk_at dksX8_passes_3 22 rfl rfl)
theorem dX8_passes_93 : decode cX8_passes 93 = .ok (.iconst 1, 1) := dk_4 (dk_at dksX8_passes_3 23 rfl rfl)
theorem dX8_passes_94 : decode cX8_passes 94 = .ok (.iadd, 1) := dk_96 (dk_at dksX8_passes_4 0 rfl rfl)
theorem dX8_passes_95 : decode cX8_passes 95 = .ok (.iastore, 1) := dk_79 (dk_at dksX8_passes_4 1 rfl rfl)
theorem dX8_passes_96 : decode cX8_passes 96 = .ok (.aload_n 0, 1) := dk_42 (dk_at dksX8_passes_4 2 rfl rfl)
theorem dX8_passes_97 : decode cX8_passes 97 = .ok (.dup, 1) := dk_89 (dk_at dksX8_passes_4 3 rfl rfl)
theorem dX8_passes_98 : decode cX8_passes 98 = .ok (.getfield 351, 3) := dk_180 1 95 (dk_at dksX8_passes_4 4 rfl rfl)
theorem dX8_passes_101 : decode cX8_passes 101 = .ok (.iconst 1, 1) := dk_4 (dk_at dksX8_passes_4 7 rfl rfl)
theorem dX8_passes_102 : decode cX8_passes 102 = .ok (.iadd, 1) := dk_96 (dk_at dksX8_passes_4 8 rfl rfl)
theorem dX8_passes_103 : decode cX8_passes 103 = .ok (.putfield 351, 3) := dk_181 1 95 (dk_at dksX8_passes_4 9 rfl rfl)
theorem dX8_passes_106 : decode cX8_passes 106 = .ok (.iinc 1 1, 3) := dk_132 1 1 (dk_at dksX8_passes_4 12 rfl rfl)
theorem dX8_passes_109 : decode cX8_passes 109 = .ok (.goto (-107), 3) := dk_167 255 149 (dk_at dksX8_passes_4 15 rfl rfl)
theorem dX8_passes_112 : decode cX8_passes 112 = .ok (.aload_n 0, 1) := dk_42 (dk_at dksX8_passes_4 18 rfl rfl)
theorem dX8_passes_113 : decode cX8_passes 113 = .ok (.getfield 65, 3) := dk_180 0 65 (dk_at dksX8_passes_4 19 rfl rfl)
theorem dX8_passes_116 : decode cX8_passes 116 = .ok (.bipush 64, 2) := dk_16 64 (dk_at dksX8_passes_4 22 rfl rfl)
theorem dX8_passes_118 : decode cX8_passes 118 = .ok (.dup2, 1) := dk_92 (dk_at dksX8_passes_5 0 rfl rfl)
theorem dX8_passes_119 : decode cX8_passes 119 = .ok (.iaload, 1) := dk_46 (dk_at dksX8_passes_5 1 rfl rfl)
theorem dX8_passes_120 : decode cX8_passes 120 = .ok (.iconst 1, 1) := dk_4 (dk_at dksX8_passes_5 2 rfl rfl)
theorem dX8_passes_121 : decode cX8_passes 121 = .ok (.iadd, 1) := dk_96 (dk_at dksX8_passes_5 3 rfl rfl)
theorem dX8_passes_122 : decode cX8_passes 122 = .ok (.iastore, 1) := dk_79 (dk_at dksX8_passes_5 4 rfl rfl)
theorem dX8_passes_123 : decode cX8_passes 123 = .ok (.iconst 0, 1) := dk_3 (dk_at dksX8_passes_5 5 rfl rfl)
theorem dX8_passes_124 : decode cX8_passes 124 = .ok (.istore_n 1, 1) := dk_60 (dk_at dksX8_passes_5 6 rfl rfl)
theorem dX8_passes_125 : decode cX8_passes 125 = .ok (.iload_n 1, 1) := dk_27 (dk_at dksX8_passes_5 7 rfl rfl)
theorem dX8_passes_126 : decode cX8_passes 126 = .ok (.aload_n 0, 1) := dk_42 (dk_at dksX8_passes_5 8 rfl rfl)
theorem dX8_passes_127 : decode cX8_passes 127 = .ok (.getfield 169, 3) := dk_180 0 169 (dk_at dksX8_passes_5 9 rfl rfl)
theorem dX8_passes_130 : decode cX8_passes 130 = .ok (.if_icmp .ge 34, 3) := dk_162 0 34 (dk_at dksX8_passes_5 12 rfl rfl)
theorem dX8_passes_133 : decode cX8_passes 133 = .ok (.aload_n 0, 1) := dk_42 (dk_at dksX8_passes_5 15 rfl rfl)
theorem dX8_passes_134 : decode cX8_passes 134 = .ok (.getfield 65, 3) := dk_180 0 65 (dk_at dksX8_passes_5 16 rfl rfl)
theorem dX8_passes_137 : decode cX8_passes 137 = .ok (.iconst 0, 1) := dk_3 (dk_at dksX8_passes_5 19 rfl rfl)
theorem dX8_passes_138 : decode cX8_passes 138 = .ok (.iload_n 1, 1) := dk_27 (dk_at dksX8_passes_5 20 rfl rfl)
theorem dX8_passes_139 : decode cX8_passes 139 = .ok (.iadd, 1) := dk_96 (dk_at dksX8_passes_5 21 rfl rfl)
theorem dX8_passes_140 : decode cX8_passes 140 = .ok (.iaload, 1) := dk_46 (dk_at dksX8_passes_5 22 rfl rfl)
theorem dX8_passes_141 : decode cX8_passes 141 = .ok (.iconst 2, 1) := dk_5 (dk_at dksX8_passes_5 23 rfl rfl)
theorem dX8_passes_142 : decode cX8_passes 142 = .ok (.if_icmp .ne 16, 3) := dk_160 0 16 (dk_at dksX8_passes_6 0 rfl rfl)
theorem dX8_passes_145 : decode cX8_passes 145 = .ok (.aload_n 0, 1) := dk_42 (dk_at dksX8_passes_6 3 rfl rfl)
theorem dX8_passes_146 : decode cX8_passes 146 = .ok (.iload_n 1, 1) := dk_27 (dk_at dksX8_passes_6 4 rfl rfl)
theorem dX8_passes_147 : decode cX8_passes 147 = .ok (.invokevirtual 380, 3) := dk_182 1 124 (dk_at dksX8_passes_6 5 rfl rfl)
theorem dX8_passes_150 : decode cX8_passes 150 = .ok (.ifCond .ne 8, 3) := dk_154 0 8 (dk_at dksX8_passes_6 8 rfl rfl)
theorem dX8_passes_153 : decode cX8_passes 153 = .ok (.aload_n 0, 1) := dk_42 (dk_at dksX8_passes_6 11 rfl rfl)
theorem dX8_passes_154 : decode cX8_passes 154 = .ok (.iload_n 1, 1) := dk_27 (dk_at dksX8_passes_6 12 rfl rfl)
theorem dX8_passes_155 : decode cX8_passes 155 = .ok (.invokevirtual 386, 3) := dk_182 1 130 (dk_at dksX8_passes_6 13 rfl rfl)
theorem dX8_passes_158 : decode cX8_passes 158 = .ok (.iinc 1 1, 3) := dk_132 1 1 (dk_at dksX8_passes_6 16 rfl rfl)
theorem dX8_passes_161 : decode cX8_passes 161 = .ok (.goto (-36), 3) := dk_167 255 220 (dk_at dksX8_passes_6 19 rfl rfl)
theorem dX8_passes_164 : decode cX8_passes 164 = .ok (.return_, 1) := dk_177 (dk_at dksX8_passes_6 22 rfl rfl)
abbrev cX8_book : ByteArray := prog_26_method_60_code
def yX8_book : MethodName := ⟨RX8, "book", "(I)I"⟩
def dkwX8_book_9 : List UInt8 := [181, 0, 182, 42, 42, 180, 0, 71, 42, 180, 0, 74, 5, 28, 104, 182, 0, 178, 29, 172]
abbrev dktX8_book_9 : List UInt8 := dkwX8_book_9 ++ []
def dkwX8_book_8 : List UInt8 := [132, 2, 1, 167, 255, 115, 42, 28, 182, 0, 242, 62, 42, 180, 0, 114, 2, 159, 0, 5, 29, 172, 42, 28]
abbrev dktX8_book_8 : List UInt8 := dkwX8_book_8 ++ dktX8_book_9
def dkwX8_book_7 : List UInt8 := [42, 180, 0, 71, 5, 28, 104, 21, 4, 79, 42, 180, 0, 71, 5, 28, 104, 4, 96, 21, 5, 79]
abbrev dktX8_book_7 : List UInt8 := dkwX8_book_7 ++ dktX8_book_8
def dkwX8_book_6 : List UInt8 := [17, 3, 231, 182, 0, 199, 54, 5, 42, 16, 59, 182, 0, 239, 42, 182, 0, 143, 154, 0, 6, 167, 0, 31]
abbrev dktX8_book_6 : List UInt8 := dkwX8_book_6 ++ dktX8_book_7
def dkwX8_book_5 : List UInt8 := [167, 255, 220, 42, 182, 0, 143, 153, 0, 15, 28, 16, 8, 160, 0, 9, 42, 6, 29, 182, 0, 150, 42, 3]
abbrev dktX8_book_5 : List UInt8 := dkwX8_book_5 ++ dktX8_book_6
def dkwX8_book_4 : List UInt8 := [180, 0, 71, 5, 21, 5, 104, 46, 21, 4, 160, 0, 9, 42, 5, 29, 182, 0, 150, 132, 5, 1]
abbrev dktX8_book_4 : List UInt8 := dkwX8_book_4 ++ dktX8_book_5
def dkwX8_book_3 : List UInt8 := [182, 0, 199, 54, 4, 3, 54, 5, 21, 5, 28, 162, 0, 36, 42, 182, 0, 143, 153, 0, 29, 42]
abbrev dktX8_book_3 : List UInt8 := dkwX8_book_3 ++ dktX8_book_4
def dkwX8_book_2 : List UInt8 := [182, 0, 143, 153, 0, 140, 42, 182, 0, 215, 153, 0, 133, 42, 180, 0, 120, 62, 42, 3, 17, 1, 243]
abbrev dktX8_book_2 : List UInt8 := dkwX8_book_2 ++ dktX8_book_3
def dkwX8_book_1 : List UInt8 := [4, 167, 0, 4, 3, 4, 4, 182, 0, 207, 154, 0, 5, 3, 172, 42, 27, 182, 0, 211, 3, 61, 42]
abbrev dktX8_book_1 : List UInt8 := dkwX8_book_1 ++ dktX8_book_2
def dkwX8_book_0 : List UInt8 := [42, 3, 181, 0, 3, 42, 27, 155, 0, 21, 27, 42, 180, 0, 111, 163, 0, 13, 27, 16, 100, 163, 0, 7]
abbrev dktX8_book_0 : List UInt8 := dkwX8_book_0 ++ dktX8_book_1
theorem dksX8_book_0 : cX8_book.data.toList.drop 0 = dktX8_book_0 := by decide +kernel
theorem dksX8_book_1 : cX8_book.data.toList.drop 24 = dktX8_book_1 := dk_seg dksX8_book_0 24 rfl rfl
theorem dksX8_book_2 : cX8_book.data.toList.drop 47 = dktX8_book_2 := dk_seg dksX8_book_1 23 rfl rfl
theorem dksX8_book_3 : cX8_book.data.toList.drop 70 = dktX8_book_3 := dk_seg dksX8_book_2 23 rfl rfl
theorem dksX8_book_4 : cX8_book.data.toList.drop 92 = dktX8_book_4 := dk_seg dksX8_book_3 22 rfl rfl
theorem dksX8_book_5 : cX8_book.data.toList.drop 114 = dktX8_book_5 := dk_seg dksX8_book_4 22 rfl rfl
theorem dksX8_book_6 : cX8_book.data.toList.drop 138 = dktX8_book_6 := dk_seg dksX8_book_5 24 rfl rfl
theorem dksX8_book_7 : cX8_book.data.toList.drop 162 = dktX8_book_7 := dk_seg dksX8_book_6 24 rfl rfl
theorem dksX8_book_8 : cX8_book.data.toList.drop 184 = dktX8_book_8 := dk_seg dksX8_book_7 22 rfl rfl
theorem dksX8_book_9 : cX8_book.data.toList.drop 208 = dktX8_book_9 := dk_seg dksX8_book_8 24 rfl rfl
theorem dX8_book_0 : decode cX8_book 0 = .ok (.aload_n 0, 1) := dk_42 (dk_at dksX8_book_0 0 rfl rfl)
theorem dX8_book_1 : decode cX8_book 1 = .ok (.iconst 0, 1) := dk_3 (dk_at dksX8_book_0 1 rfl rfl)
theorem dX8_book_2 : decode cX8_book 2 = .ok (.putfield 3, 3) := dk_181 0 3 (dk_at dksX8_book_0 2 rfl rfl)
theorem dX8_book_5 : decode cX8_book 5 = .ok (.aload_n 0, 1) := dk_42 (dk_at dksX8_book_0 5 rfl rfl)
theorem dX8_book_6 : decode cX8_book 6 = .ok (.iload_n 1, 1) := dk_27 (dk_at dksX8_book_0 6 rfl rfl)
theorem dX8_book_7 : decode cX8_book 7 = .ok (.ifCond .lt 21, 3) := dk_155 0 21 (dk_at dksX8_book_0 7 rfl rfl)
theorem dX8_book_10 : decode cX8_book 10 = .ok (.iload_n 1, 1) := dk_27 (dk_at dksX8_book_0 10 rfl rfl)
theorem dX8_book_11 : decode cX8_book 11 = .ok (.aload_n 0, 1) := dk_42 (dk_at dksX8_book_0 11 rfl rfl)
theorem dX8_book_12 : decode cX8_book 12 = .ok (.getfield 111, 3) := dk_180 0 111 (dk_at dksX8_book_0 12 rfl rfl)
theorem dX8_book_15 : decode cX8_book 15 = .ok (.if_icmp .gt 13, 3) := dk_163 0 13 (dk_at dksX8_book_0 15 rfl rfl)
theorem dX8_book_18 : decode cX8_book 18 = .ok (.iload_n 1, 1) := dk_27 (dk_at dksX8_book_0 18 rfl rfl)
theorem dX8_book_19 : decode cX8_book 19 = .ok (.bipush 100, 2) := dk_16 100 (dk_at dksX8_book_0 19 rfl rfl)
theorem dX8_book_21 : decode cX8_book 21 = .ok (.if_icmp .gt 7, 3) := dk_163 0 7 (dk_at dksX8_book_0 21 rfl rfl)
theorem dX8_book_24 : decode cX8_book 24 = .ok (.iconst 1, 1) := dk_4 (dk_at dksX8_book_1 0 rfl rfl)
theorem dX8_book_25 : decode cX8_book 25 = .ok (.goto 4, 3) := dk_167 0 4 (dk_at dksX8_book_1 1 rfl rfl)
theorem dX8_book_28 : decode cX8_book 28 = .ok (.iconst 0, 1) := dk_3 (dk_at dksX8_book_1 4 rfl rfl)
theorem dX8_book_29 : decode cX8_book 29 = .ok (.iconst 1, 1) := dk_4 (dk_at dksX8_book_1 5 rfl rfl)
theorem dX8_book_30 : decode cX8_book 30 = .ok (.iconst 1, 1) := dk_4 (dk_at dksX8_book_1 6 rfl rfl)
theorem dX8_book_31 : decode cX8_book 31 = .ok (.invokevirtual 207, 3) := dk_182 0 207 (dk_at dksX8_book_1 7 rfl rfl)
theorem dX8_book_34 : decode cX8_book 34 = .ok (.ifCond .ne 5, 3) := dk_154 0 5 (dk_at dksX8_book_1 10 rfl rfl)
theorem dX8_book_37 : decode cX8_book 37 = .ok (.iconst 0, 1) := dk_3 (dk_at dksX8_book_1 13 rfl rfl)
theorem dX8_book_38 : decode cX8_book 38 = .ok (.ireturn, 1) := dk_172 (dk_at dksX8_book_1 14 rfl rfl)
theorem dX8_book_39 : decode cX8_book 39 = .ok (.aload_n 0, 1) := dk_42 (dk_at dksX8_book_1 15 rfl rfl)
theorem dX8_book_40 : decode cX8_book 40 = .ok (.iload_n 1, 1) := dk_27 (dk_at dksX8_book_1 16 rfl rfl)
theorem dX8_book_41 : decode cX8_book 41 = .ok (.invokevirtual 211, 3) := dk_182 0 211 (dk_at dksX8_book_1 17 rfl rfl)
theorem dX8_book_44 : decode cX8_book 44 = .ok (.iconst 0, 1) := dk_3 (dk_at dksX8_book_1 20 rfl rfl)
theorem dX8_book_45 : decode cX8_book 45 = .ok (.istore_n 2, 1) := dk_61 (dk_at dksX8_book_1 21 rfl rfl)
theorem dX8_book_46 : decode cX8_book 46 = .ok (.aload_n 0, 1) := dk_42 (dk_at dksX8_book_1 22 rfl rfl)
theorem dX8_book_47 : decode cX8_book 47 = .ok (.invokevirtual 143, 3) := dk_182 0 143 (dk_at dksX8_book_2 0 rfl rfl)
theorem dX8_book_50 : decode cX8_book 50 = .ok (.ifCond .eq 140, 3) := dk_153 0 140 (dk_at dksX8_book_2 3 rfl rfl)
theorem dX8_book_53 : decode cX8_book 53 = .ok (.aload_n 0, 1) := dk_42 (dk_at dksX8_book_2 6 rfl rfl)
theorem dX8_book_54 : decode cX8_book 54 = .ok (.invokevirtual 215, 3) := dk_182 0 215 (dk_at dksX8_book_2 7 rfl rfl)
theorem dX8_book_57 : decode cX8_book 57 = .ok (.ifCond .eq 133, 3) := dk_153 0 133 (dk_at dksX8_book_2 10 rfl rfl)
theorem dX8_book_60 : decode cX8_book 60 = .ok (.aload_n 0, 1) := dk_42 (dk_at dksX8_book_2 13 rfl rfl)
theorem dX8_book_61 : decode cX8_book 61 = .ok (.getfield 120, 3) := dk_180 0 120 (dk_at dksX8_book_2 14 rfl rfl)
theorem dX8_book_64 : decode cX8_book 64 = .ok (.istore_n 3, 1) := dk_62 (dk_at dksX8_book_2 17 rfl rfl)
theorem dX8_book_65 : decode cX8_book 65 = .ok (.aload_n 0, 1) := dk_42 (dk_at dksX8_book_2 18 rfl rfl)
theorem dX8_book_66 : decode cX8_book 66 = .ok (.iconst 0, 1) := dk_3 (dk_at dksX8_book_2 19 rfl rfl)
theorem dX8_book_67 : decode cX8_book 67 = .ok (.sipush 499, 3) := dk_17 1 243 (dk_at dksX8_book_2 20 rfl rfl)
theorem dX8_book_70 : decode cX8_book 70 = .ok (.invokevirtual 199, 3) := dk_182 0 199 (dk_at dksX8_book_3 0 rfl rfl)
theorem dX8_book_73 : decode cX8_book 73 = .ok (.istore 4, 2) := dk_54 4 (dk_at dksX8_book_3 3 rfl rfl)
theorem dX8_book_75 : decode cX8_book 75 = .ok (.iconst 0, 1) := dk_3 (dk_at dksX8_book_3 5 rfl rfl)
theorem dX8_book_76 : decode cX8_book 76 = .ok (.istore 5, 2) := dk_54 5 (dk_at dksX8_book_3 6 rfl rfl)
theorem dX8_book_78 : decode cX8_book 78 = .ok (.iload 5, 2) := dk_21 5 (dk_at dksX8_book_3 8 rfl rfl)
theorem dX8_book_80 : decode cX8_book 80 = .ok (.iload_n 2, 1) := dk_28 (dk_at dksX8_book_3 10 rfl rfl)
theorem dX8_book_81 : decode cX8_book 81 = .ok (.if_icmp .ge 36, 3) := dk_162 0 36 (dk_at dksX8_book_3 11 rfl rfl)
theorem dX8_book_84 : decode cX8_book 84 = .ok (.aload_n 0, 1) := dk_42 (dk_at dksX8_book_3 14 rfl rfl)
theorem dX8_book_85 : decode cX8_book 85 = .ok (.invokevirtual 143, 3) := dk_182 0 143 (dk_at dksX8_book_3 15 rfl rfl)
theorem dX8_book_88 : decode cX8_book 88 = .ok (.ifCond .eq 29, 3) := dk_153 0 29 (dk_at dksX8_book_3 18 rfl rfl)
theorem dX8_book_91 : decode cX8_book 91 = .ok (.aload_n 0, 1) := dk_42 (dk_at dksX8_book_3 21 rfl rfl)
theorem dX8_book_92 : decode cX8_book 92 = .ok (.getfield 71, 3) := dk_180 0 71 (dk_at dksX8_book_4 0 rfl rfl)
theorem dX8_book_95 : decode cX8_book 95 = .ok (.iconst 2, 1) := dk_5 (dk_at dksX8_book_4 3 rfl rfl)
theorem dX8_book_96 : decode cX8_book 96 = .ok (.iload 5, 2) := dk_21 5 (dk_at dksX8_book_4 4 rfl rfl)
theorem dX8_book_98 : decode cX8_book 98 = .ok (.imul, 1) := dk_104 (dk_at dksX8_book_4 6 rfl rfl)
theorem dX8_book_99 : decode cX8_book 99 = .ok (.iaload, 1) := dk_46 (dk_at dksX8_book_4 7 rfl rfl)
theorem dX8_book_100 : decode cX8_book 100 = .ok (.iload 4, 2) := dk_21 4 (dk_at dksX8_book_4 8 rfl rfl)
theorem dX8_book_102 : decode cX8_book 102 = .ok (.if_icmp .ne 9, 3) := dk_160 0 9 (dk_at dksX8_book_4 10 rfl rfl)
theorem dX8_book_105 : decode cX8_book 105 = .ok (.aload_n 0, 1) := dk_42 (dk_at dksX8_book_4 13 rfl rfl)
theorem dX8_book_106 : decode cX8_book 106 = .ok (.iconst 2, 1) := dk_5 (dk_at dksX8_book_4 14 rfl rfl)
theorem dX8_book_107 : decode cX8_book 107 = .ok (.iload_n 3, 1) := dk_29 (dk_at dksX8_book_4 15 rfl rfl)
theorem dX8_book_108 : decode cX8_book 108 = .ok (.invokevirtual 150, 3) := dk_182 0 150 (dk_at dksX8_book_4 16 rfl rfl)
theorem dX8_book_111 : decode cX8_book 111 = .ok (.iinc 5 1, 3) := dk_132 5 1 (dk_at dksX8_book_4 19 rfl rfl)
theorem dX8_book_114 : decode cX8_book 114 = .ok (.goto (-36), 3) := dk_167 255 220 (dk_at dksX8_book_5 0 rfl rfl)
theorem dX8_book_117 : decode cX8_book 117 = .ok (.aload_n 0, 1) := dk_42 (dk_at dksX8_book_5 3 rfl rfl)
theorem dX8_book_118 : decode cX8_book 118 = .ok (.invokevirtual 143, 3) := dk_182 0 143 (dk_at dksX8_book_5 4 rfl rfl)
theorem dX8_book_121 : decode cX8_book 121 = .ok (.ifCond .eq 15, 3) := dk_153 0 15 (dk_at dksX8_book_5 7 rfl rfl)
theorem dX8_book_124 : decode cX8_book 124 = .ok (.iload_n 2, 1) := dk_28 (dk_at dksX8_book_5 10 rfl rfl)
theorem dX8_book_125 : decode cX8_book 125 = .ok (.bipush 8, 2) := dk_16 8 (dk_at dksX8_book_5 11 rfl rfl)
theorem dX8_book_127 : decode cX8_book 127 = .ok (.if_icmp .ne 9, 3) := dk_160 0 9 (dk_at dksX8_book_5 13 rfl rfl)
theorem dX8_book_130 : decode cX8_book 130 = .ok (.aload_n 0, 1) := dk_42 (dk_at dksX8_book_5 16 rfl rfl)
theorem dX8_book_131 : decode cX8_book 131 = .ok (.iconst 3, 1) := dk_6 (dk_at dksX8_book_5 17 rfl rfl)
theorem dX8_book_132 : decode cX8_book 132 = .ok (.iload_n 3, 1) := dk_29 (dk_at dksX8_book_5 18 rfl rfl)
theorem dX8_book_133 : decode cX8_book 133 = .ok (.invokevirtual 150, 3) := dk_182 0 150 (dk_at dksX8_book_5 19 rfl rfl)
theorem dX8_book_136 : decode cX8_book 136 = .ok (.aload_n 0, 1) := dk_42 (dk_at dksX8_book_5 22 rfl rfl)
theorem dX8_book_137 : decode cX8_book 137 = .ok (.iconst 0, 1) := dk_3 (dk_at dksX8_book_5 23 rfl rfl)
theorem dX8_book_138 : decode cX8_book 138 = .ok (.sipush 999, 3) := dk_17 3 231 (dk_at dksX8_book_6 0 rfl rfl)
theorem dX8_book_141 : decode cX8_book 141 = .ok (.invokevirtual 199, 3) := dk_182 0 199 (dk_at dksX8_book_6 3 rfl rfl)
theorem dX8_book_144 : decode cX8_book 144 = .ok (.istore 5, 2) := dk_54 5 (dk_at dksX8_book_6 6 rfl rfl)
theorem dX8_book_146 : decode cX8_book 146 = .ok (.aload_n 0, 1) := dk_42 (dk_at dksX8_book_6 8 rfl rfl)
theorem dX8_book_147 : decode cX8_book 147 = .ok (.bipush 59, 2) := dk_16 59 (dk_at dksX8_book_6 9 rfl rfl)
theorem dX8_book_149 : decode cX8_book 149 = .ok (.invokevirtual 239, 3) := dk_182 0 239 (dk_at dksX8_book_6 11 rfl rfl)
theorem dX8_book_152 : decode cX8_book 152 = .ok (.aload_n 0, 1) := dk_42 (dk_at dksX8_book_6 14 rfl rfl)
theorem dX8_book_153 : decode cX8_book 153 = .ok (.invokevirtual 143, 3) := dk_182 0 143 (dk_at dksX8_book_6 15 rfl rfl)
theorem dX8_book_156 : decode cX8_book 156 = .ok (.ifCond .ne 6, 3) := dk_154 0 6 (dk_at dksX8_book_6 18 rfl rfl)
theorem dX8_book_159 : decode cX8_book 159 = .ok (.goto 31, 3) := dk_167 0 31 (dk_at dksX8_book_6 21 rfl rfl)
theorem dX8_book_162 : decode cX8_book 162 = .ok (.aload_n 0, 1) := dk_42 (dk_at dksX8_book_7 0 rfl rfl)
theorem dX8_book_163 : decode cX8_book 163 = .ok (.getfield 71, 3) := dk_180 0 71 (dk_at dksX8_book_7 1 rfl rfl)
theorem dX8_book_166 : decode cX8_book 166 = .ok (.iconst 2, 1) := dk_5 (dk_at dksX8_book_7 4 rfl rfl)
theorem dX8_book_167 : decode cX8_book 167 = .ok (.iload_n 2, 1) := dk_28 (dk_at dksX8_book_7 5 rfl rfl)
theorem dX8_book_168 : decode cX8_book 168 = .ok (.imul, 1) := dk_104 (dk_at dksX8_book_7 6 rfl rfl)
theorem dX8_book_169 : decode cX8_book 169 = .ok (.iload 4, 2) := dk_21 4 (dk_at dksX8_book_7 7 rfl rfl)
theorem dX8_book_171 : decode cX8_book 171 = .ok (.iastore, 1) := dk_79 (dk_at dksX8_book_7 9 rfl rfl)
theorem dX8_book_172 : decode cX8_book 172 = .ok (.aload_n 0, 1) := dk_42 (dk_at dksX8_book_7 10 rfl rfl)
theorem dX8_book_173 : decode cX8_book 173 = .ok (.getfield 71, 3) := dk_180 0 71 (dk_at dksX8_book_7 11 rfl rfl)
theorem dX8_book_176 : decode cX8_book 176 = .ok (.iconst 2, 1) := dk_5 (dk_at dksX8_book_7 14 rfl rfl)
theorem dX8_book_177 : decode cX8_book 177 = .ok (.iload_n 2, 1) := dk_28 (dk_at dksX8_book_7 15 rfl rfl)
theorem dX8_book_178 : decode cX8_book 178 = .ok (.imul, 1) := dk_104 (dk_at dksX8_book_7 16 rfl rfl)
theorem dX8_book_179 : decode cX8_book 179 = .ok (.iconst 1, 1) := dk_4 (dk_at dksX8_book_7 17 rfl rfl)
theorem dX8_book_180 : decode cX8_book 180 = .ok (.iadd, 1) := dk_96 (dk_at dksX8_book_7 18 rfl rfl)
theorem dX8_book_181 : decode cX8_book 181 = .ok (.iload 5, 2) := dk_21 5 (dk_at dksX8_book_7 19 rfl rfl)
theorem dX8_book_183 : decode cX8_book 183 = .ok (.iastore, 1) := dk_79 (dk_at dksX8_book_7 21 rfl rfl)
theorem dX8_book_184 : decode cX8_book 184 = .ok (.iinc 2 1, 3) := dk_132 2 1 (dk_at dksX8_book_8 0 rfl rfl)
theorem dX8_book_187 : decode cX8_book 187 = .ok (.goto (-141), 3) := dk_167 255 115 (dk_at dksX8_book_8 3 rfl rfl)
theorem dX8_book_190 : decode cX8_book 190 = .ok (.aload_n 0, 1) := dk_42 (dk_at dksX8_book_8 6 rfl rfl)
theorem dX8_book_191 : decode cX8_book 191 = .ok (.iload_n 2, 1) := dk_28 (dk_at dksX8_book_8 7 rfl rfl)
theorem dX8_book_192 : decode cX8_book 192 = .ok (.invokevirtual 242, 3) := dk_182 0 242 (dk_at dksX8_book_8 8 rfl rfl)
theorem dX8_book_195 : decode cX8_book 195 = .ok (.istore_n 3, 1) := dk_62 (dk_at dksX8_book_8 11 rfl rfl)
theorem dX8_book_196 : decode cX8_book 196 = .ok (.aload_n 0, 1) := dk_42 (dk_at dksX8_book_8 12 rfl rfl)
theorem dX8_book_197 : decode cX8_book 197 = .ok (.getfield 114, 3) := dk_180 0 114 (dk_at dksX8_book_8 13 rfl rfl)
theorem dX8_book_200 : decode cX8_book 200 = .ok (.iconst (-1), 1) := dk_2 (dk_at dksX8_book_8 16 rfl rfl)
theorem dX8_book_201 : decode cX8_book 201 = .ok (.if_icmp .eq 5, 3) := dk_159 0 5 (dk_at dksX8_book_8 17 rfl rfl)
theorem dX8_book_204 : decode cX8_book 204 = .ok (.iload_n 3, 1) := dk_29 (dk_at dksX8_book_8 20 rfl rfl)
theorem dX8_book_205 : decode cX8_book 205 = .ok (.ireturn, 1) := dk_172 (dk_at dksX8_book_8 21 rfl rfl)
theorem dX8_book_206 : decode cX8_book 206 = .ok (.aload_n 0, 1) := dk_42 (dk_at dksX8_book_8 22 rfl rfl)
theorem dX8_book_207 : decode cX8_book 207 = .ok (.iload_n 2, 1) := dk_28 (dk_at dksX8_book_8 23 rfl rfl)
theorem dX8_book_208 : decode cX8_book 208 = .ok (.putfield 182, 3) := dk_181 0 182 (dk_at dksX8_book_9 0 rfl rfl)
theorem dX8_book_211 : decode cX8_book 211 = .ok (.aload_n 0, 1) := dk_42 (dk_at dksX8_book_9 3 rfl rfl)
theorem dX8_book_212 : decode cX8_book 212 = .ok (.aload_n 0, 1) := dk_42 (dk_at dksX8_book_9 4 rfl rfl)
theorem dX8_book_213 : decode cX8_book 213 = .ok (.getfield 71, 3) := dk_180 0 71 (dk_at dksX8_book_9 5 rfl rfl)
theorem dX8_book_216 : decode cX8_book 216 = .ok (.aload_n 0, 1) := dk_42 (dk_at dksX8_book_9 8 rfl rfl)
theorem dX8_book_217 : decode cX8_book 217 = .ok (.getfield 74, 3) := dk_180 0 74 (dk_at dksX8_book_9 9 rfl rfl)
theorem dX8_book_220 : decode cX8_book 220 = .ok (.iconst 2, 1) := dk_5 (dk_at dksX8_book_9 12 rfl rfl)
theorem dX8_book_221 : decode cX8_book 221 = .ok (.iload_n 2, 1) := dk_28 (dk_at dksX8_book_9 13 rfl rfl)
theorem dX8_book_222 : decode cX8_book 222 = .ok (.imul, 1) := dk_104 (dk_at dksX8_book_9 14 rfl rfl)
theorem dX8_book_223 : decode cX8_book 223 = .ok (.invokevirtual 178, 3) := dk_182 0 178 (dk_at dksX8_book_9 15 rfl rfl)
theorem dX8_book_226 : decode cX8_book 226 = .ok (.iload_n 3, 1) := dk_29 (dk_at dksX8_book_9 18 rfl rfl)
theorem dX8_book_227 : decode cX8_book 227 = .ok (.ireturn, 1) := dk_172 (dk_at dksX8_book_9 19 rfl rfl)
abbrev cX8_undo : ByteArray := prog_26_method_61_code
def yX8_undo : MethodName := ⟨RX8, "undo", "()I"⟩
def dkwX8_undo_2 : List UInt8 := [27, 96, 46, 79, 132, 1, 1, 167, 255, 227, 42, 3, 181, 0, 191, 42, 180, 0, 185, 172]
abbrev dktX8_undo_2 : List UInt8 := dkwX8_undo_2 ++ []
def dkwX8_undo_1 : List UInt8 := [3, 60, 27, 16, 66, 162, 0, 29, 42, 180, 0, 62, 27, 42, 180, 0, 68, 16, 66, 42, 180, 0, 185, 104]
abbrev dktX8_undo_1 : List UInt8 := dkwX8_undo_1 ++ dktX8_undo_2
def dkwX8_undo_0 : List UInt8 := [42, 3, 181, 0, 3, 42, 180, 0, 185, 154, 0, 5, 2, 172, 42, 89, 180, 0, 185, 4, 100, 181, 0, 185]
abbrev dktX8_undo_0 : List UInt8 := dkwX8_undo_0 ++ dktX8_undo_1
theorem dksX8_undo_0 : cX8_undo.data.toList.drop 0 = dktX8_undo_0 := by decide +kernel
theorem dksX8_undo_1 : cX8_undo.data.toList.drop 24 = dktX8_undo_1 := dk_seg dksX8_undo_0 24 rfl rfl
theorem dksX8_undo_2 : cX8_undo.data.toList.drop 48 = dktX8_undo_2 := dk_seg dksX8_undo_1 24 rfl rfl
theorem dX8_undo_0 : decode cX8_undo 0 = .ok (.aload_n 0, 1) := dk_42 (dk_at dksX8_undo_0 0 rfl rfl)
theorem dX8_undo_1 : decode cX8_undo 1 = .ok (.iconst 0, 1) := dk_3 (dk_at dksX8_undo_0 1 rfl rfl)
theorem dX8_undo_2 : decode cX8_undo 2 = .ok (.putfield 3, 3) := dk_181 0 3 (dk_at dksX8_undo_0 2 rfl rfl)
theorem dX8_undo_5 : decode cX8_undo 5 = .ok (.aload_n 0, 1) := dk_42 (dk_at dksX8_undo_0 5 rfl rfl)
theorem dX8_undo_6 : decode cX8_undo 6 = .ok (.getfield 185, 3) := dk_180 0 185 (dk_at dksX8_undo_0 6 rfl rfl)
theorem dX8_undo_9 : decode cX8_undo 9 = .ok (.ifCond .ne 5, 3) := dk_154 0 5 (dk_at dksX8_undo_0 9 rfl rfl)
theorem dX8_undo_12 : decode cX8_undo 12 = .ok (.iconst (-1), 1) := dk_2 (dk_at dksX8_undo_0 12 rfl rfl)
theorem dX8_undo_13 : decode cX8_undo 13 = .ok (.ireturn, 1) := dk_172 (dk_at dksX8_undo_0 13 rfl rfl)
theorem dX8_undo_14 : decode cX8_undo 14 = .ok (.aload_n 0, 1) := dk_42 (dk_at dksX8_undo_0 14 rfl rfl)
theorem dX8_undo_15 : decode cX8_undo 15 = .ok (.dup, 1) := dk_89 (dk_at dksX8_undo_0 15 rfl rfl)
theorem dX8_undo_16 : decode cX8_undo 16 = .ok (.getfield 185, 3) := dk_180 0 185 (dk_at dksX8_undo_0 16 rfl rfl)
theorem dX8_undo_19 : decode cX8_undo 19 = .ok (.iconst 1, 1) := dk_4 (dk_at dksX8_undo_0 19 rfl rfl)
theorem dX8_undo_20 : decode cX8_undo 20 = .ok (.isub, 1) := dk_100 (dk_at dksX8_undo_0 20 rfl rfl)
theorem dX8_undo_21 : decode cX8_undo 21 = .ok (.putfield 185, 3) := dk_181 0 185 (dk_at dksX8_undo_0 21 rfl rfl)
theorem dX8_undo_24 : decode cX8_undo 24 = .ok (.iconst 0, 1) := dk_3 (dk_at dksX8_undo_1 0 rfl rfl)
theorem dX8_undo_25 : decode cX8_undo 25 = .ok (.istore_n 1, 1) := dk_60 (dk_at dksX8_undo_1 1 rfl rfl)
theorem dX8_undo_26 : decode cX8_undo 26 = .ok (.iload_n 1, 1) := dk_27 (dk_at dksX8_undo_1 2 rfl rfl)
theorem dX8_undo_27 : decode cX8_undo 27 = .ok (.bipush 66, 2) := dk_16 66 (dk_at dksX8_undo_1 3 rfl rfl)
theorem dX8_undo_29 : decode cX8_undo 29 = .ok (.if_icmp .ge 29, 3) := dk_162 0 29 (dk_at dksX8_undo_1 5 rfl rfl)
theorem dX8_undo_32 : decode cX8_undo 32 = .ok (.aload_n 0, 1) := dk_42 (dk_at dksX8_undo_1 8 rfl rfl)
theorem dX8_undo_33 : decode cX8_undo 33 = .ok (.getfield 62, 3) := dk_180 0 62 (dk_at dksX8_undo_1 9 rfl rfl)
theorem dX8_undo_36 : decode cX8_undo 36 = .ok (.iload_n 1, 1) := dk_27 (dk_at dksX8_undo_1 12 rfl rfl)
theorem dX8_undo_37 : decode cX8_undo 37 = .ok (.aload_n 0, 1) := dk_42 (dk_at dksX8_undo_1 13 rfl rfl)
theorem dX8_undo_38 : decode cX8_undo 38 = .ok (.getfield 68, 3) := dk_180 0 68 (dk_at dksX8_undo_1 14 rfl rfl)
theorem dX8_undo_41 : decode cX8_undo 41 = .ok (.bipush 66, 2) := dk_16 66 (dk_at dksX8_undo_1 17 rfl rfl)
theorem dX8_undo_43 : decode cX8_undo 43 = .ok (.aload_n 0, 1) := dk_42 (dk_at dksX8_undo_1 19 rfl rfl)
theorem dX8_undo_44 : decode cX8_undo 44 = .ok (.getfield 185, 3) := dk_180 0 185 (dk_at dksX8_undo_1 20 rfl rfl)
theorem dX8_undo_47 : decode cX8_undo 47 = .ok (.imul, 1) := dk_104 (dk_at dksX8_undo_1 23 rfl rfl)
theorem dX8_undo_48 : decode cX8_undo 48 = .ok (.iload_n 1, 1) := dk_27 (dk_at dksX8_undo_2 0 rfl rfl)
theorem dX8_undo_49 : decode cX8_undo 49 = .ok (.iadd, 1) := dk_96 (dk_at dksX8_undo_2 1 rfl rfl)
theorem dX8_undo_50 : decode cX8_undo 50 = .ok (.iaload, 1) := dk_46 (dk_at dksX8_undo_2 2 rfl rfl)
theorem dX8_undo_51 : decode cX8_undo 51 = .ok (.iastore, 1) := dk_79 (dk_at dksX8_undo_2 3 rfl rfl)
theorem dX8_undo_52 : decode cX8_undo 52 = .ok (.iinc 1 1, 3) := dk_132 1 1 (dk_at dksX8_undo_2 4 rfl rfl)
theorem dX8_undo_55 : decode cX8_undo 55 = .ok (.goto (-29), 3) := dk_167 255 227 (dk_at dksX8_undo_2 7 rfl rfl)
theorem dX8_undo_58 : decode cX8_undo 58 = .ok (.aload_n 0, 1) := dk_42 (dk_at dksX8_undo_2 10 rfl rfl)
theorem dX8_undo_59 : decode cX8_undo 59 = .ok (.iconst 0, 1) := dk_3 (dk_at dksX8_undo_2 11 rfl rfl)
theorem dX8_undo_60 : decode cX8_undo 60 = .ok (.putfield 191, 3) := dk_181 0 191 (dk_at dksX8_undo_2 12 rfl rfl)
theorem dX8_undo_63 : decode cX8_undo 63 = .ok (.aload_n 0, 1) := dk_42 (dk_at dksX8_undo_2 15 rfl rfl)
theorem dX8_undo_64 : decode cX8_undo 64 = .ok (.getfield 185, 3) := dk_180 0 185 (dk_at dksX8_undo_2 16 rfl rfl)
theorem dX8_undo_67 : decode cX8_undo 67 = .ok (.ireturn, 1) := dk_172 (dk_at dksX8_undo_2 19 rfl rfl)
abbrev cX8_told : ByteArray := prog_26_method_62_code
def yX8_told : MethodName := ⟨RX8, "told", "(I)I"⟩
def dkwX8_told_5 : List UInt8 := [180, 0, 175, 172]
abbrev dktX8_told_5 : List UInt8 := dkwX8_told_5 ++ []
def dkwX8_told_4 : List UInt8 := [160, 0, 10, 42, 180, 0, 182, 167, 0, 20, 27, 16, 9, 160, 0, 10, 42, 180, 0, 191, 167, 0, 7, 42]
abbrev dktX8_told_4 : List UInt8 := dkwX8_told_4 ++ dktX8_told_5
def dkwX8_told_3 : List UInt8 := [180, 0, 65, 16, 65, 46, 172, 27, 16, 8, 162, 0, 11, 42, 27, 7, 100, 182, 1, 118, 172, 27, 16, 8]
abbrev dktX8_told_3 : List UInt8 := dkwX8_told_3 ++ dktX8_told_4
def dkwX8_told_2 : List UInt8 := [42, 180, 0, 172, 167, 0, 25, 27, 5, 160, 0, 13, 42, 180, 0, 65, 16, 64, 46, 167, 0, 10, 42]
abbrev dktX8_told_2 : List UInt8 := dkwX8_told_2 ++ dktX8_told_3
def dkwX8_told_1 : List UInt8 := [182, 1, 74, 27, 7, 162, 0, 49, 27, 154, 0, 10, 42, 180, 0, 169, 167, 0, 37, 27, 4, 160, 0, 10]
abbrev dktX8_told_1 : List UInt8 := dkwX8_told_1 ++ dktX8_told_2
def dkwX8_told_0 : List UInt8 := [42, 3, 181, 0, 3, 42, 27, 3, 16, 10, 184, 1, 34, 4, 4, 182, 0, 207, 154, 0, 5, 3, 172, 42]
abbrev dktX8_told_0 : List UInt8 := dkwX8_told_0 ++ dktX8_told_1
theorem dksX8_told_0 : cX8_told.data.toList.drop 0 = dktX8_told_0 := by decide +kernel
theorem dksX8_told_1 : cX8_told.data.toList.drop 24 = dktX8_told_1 := dk_seg dksX8_told_0 24 rfl rfl
theorem dksX8_told_2 : cX8_told.data.toList.drop 48 = dktX8_told_2 := dk_seg dksX8_told_1 24 rfl rfl
theorem dksX8_told_3 : cX8_told.data.toList.drop 71 = dktX8_told_3 := dk_seg dksX8_told_2 23 rfl rfl
theorem dksX8_told_4 : cX8_told.data.toList.drop 95 = dktX8_told_4 := dk_seg dksX8_told_3 24 rfl rfl
theorem dksX8_told_5 : cX8_told.data.toList.drop 119 = dktX8_told_5 := dk_seg dksX8_told_4 24 rfl rfl
theorem dX8_told_0 : decode cX8_told 0 = .ok (.aload_n 0, 1) := dk_42 (dk_at dksX8_told_0 0 rfl rfl)
theorem dX8_told_1 : decode cX8_told 1 = .ok (.iconst 0, 1) := dk_3 (dk_at dksX8_told_0 1 rfl rfl)
theorem dX8_told_2 : decode cX8_told 2 = .ok (.putfield 3, 3) := dk_181 0 3 (dk_at dksX8_told_0 2 rfl rfl)
theorem dX8_told_5 : decode cX8_told 5 = .ok (.aload_n 0, 1) := dk_42 (dk_at dksX8_told_0 5 rfl rfl)
theorem dX8_told_6 : decode cX8_told 6 = .ok (.iload_n 1, 1) := dk_27 (dk_at dksX8_told_0 6 rfl rfl)
theorem dX8_told_7 : decode cX8_told 7 = .ok (.iconst 0, 1) := dk_3 (dk_at dksX8_told_0 7 rfl rfl)
theorem dX8_told_8 : decode cX8_told 8 = .ok (.bipush 10, 2) := dk_16 10 (dk_at dksX8_told_0 8 rfl rfl)
theorem dX8_told_10 : decode cX8_told 10 = .ok (.invokestatic 290, 3) := dk_184 1 34 (dk_at dksX8_told_0 10 rfl rfl)
theorem dX8_told_13 : decode cX8_told 13 = .ok (.iconst 1, 1) := dk_4 (dk_at dksX8_told_0 13 rfl rfl)
theorem dX8_told_14 : decode cX8_told 14 = .ok (.iconst 1, 1) := dk_4 (dk_at dksX8_told_0 14 rfl rfl)
theorem dX8_told_15 : decode cX8_told 15 = .ok (.invokevirtual 207, 3) := dk_182 0 207 (dk_at dksX8_told_0 15 rfl rfl)
theorem dX8_told_18 : decode cX8_told 18 = .ok (.ifCond .ne 5, 3) := dk_154 0 5 (dk_at dksX8_told_0 18 rfl rfl)
theorem dX8_told_21 : decode cX8_told 21 = .ok (.iconst 0, 1) := dk_3 (dk_at dksX8_told_0 21 rfl rfl)
theorem dX8_told_22 : decode cX8_told 22 = .ok (.ireturn, 1) := dk_172 (dk_at dksX8_told_0 22 rfl rfl)
theorem dX8_told_23 : decode cX8_told 23 = .ok (.aload_n 0, 1) := dk_42 (dk_at dksX8_told_0 23 rfl rfl)
theorem dX8_told_24 : decode cX8_told 24 = .ok (.invokevirtual 330, 3) := dk_182 1 74 (dk_at dksX8_told_1 0 rfl rfl)
theorem dX8_told_27 : decode cX8_told 27 = .ok (.iload_n 1, 1) := dk_27 (dk_at dksX8_told_1 3 rfl rfl)
theorem dX8_told_28 : decode cX8_told 28 = .ok (.iconst 4, 1) := dk_7 (dk_at dksX8_told_1 4 rfl rfl)
theorem dX8_told_29 : decode cX8_told 29 = .ok (.if_icmp .ge 49, 3) := dk_162 0 49 (dk_at dksX8_told_1 5 rfl rfl)
theorem dX8_told_32 : decode cX8_told 32 = .ok (.iload_n 1, 1) := dk_27 (dk_at dksX8_told_1 8 rfl rfl)
theorem dX8_told_33 : decode cX8_told 33 = .ok (.ifCond .ne 10, 3) := dk_154 0 10 (dk_at dksX8_told_1 9 rfl rfl)
theorem dX8_told_36 : decode cX8_told 36 = .ok (.aload_n 0, 1) := dk_42 (dk_at dksX8_told_1 12 rfl rfl)
theorem dX8_told_37 : decode cX8_told 37 = .ok (.getfield 169, 3) := dk_180 0 169 (dk_at dksX8_told_1 13 rfl rfl)
theorem dX8_told_40 : decode cX8_told 40 = .ok (.goto 37, 3) := dk_167 0 37 (dk_at dksX8_told_1 16 rfl rfl)
theorem dX8_told_43 : decode cX8_told 43 = .ok (.iload_n 1, 1) := dk_27 (dk_at dksX8_told_1 19 rfl rfl)
theorem dX8_told_44 : decode cX8_told 44 = .ok (.iconst 1, 1) := dk_4 (dk_at dksX8_told_1 20 rfl rfl)
theorem dX8_told_45 : decode cX8_told 45 = .ok (.if_icmp .ne 10, 3) := dk_160 0 10 (dk_at dksX8_told_1 21 rfl rfl)
theorem dX8_told_48 : decode cX8_told 48 = .ok (.aload_n 0, 1) := dk_42 (dk_at dksX8_told_2 0 rfl rfl)
theorem dX8_told_49 : decode cX8_told 49 = .ok (.getfield 172, 3) := dk_180 0 172 (dk_at dksX8_told_2 1 rfl rfl)
theorem dX8_told_52 : decode cX8_told 52 = .ok (.goto 25, 3) := dk_167 0 25 (dk_at dksX8_told_2 4 rfl rfl)
theorem dX8_told_55 : decode cX8_told 55 = .ok (.iload_n 1, 1) := dk_27 (dk_at dksX8_told_2 7 rfl rfl)
theorem dX8_told_56 : decode cX8_told 56 = .ok (.iconst 2, 1) := dk_5 (dk_at dksX8_told_2 8 rfl rfl)
theorem dX8_told_57 : decode cX8_told 57 = .ok (.if_icmp .ne 13, 3) := dk_160 0 13 (dk_at dksX8_told_2 9 rfl rfl)
theorem dX8_told_60 : decode cX8_told 60 = .ok (.aload_n 0, 1) := dk_42 (dk_at dksX8_told_2 12 rfl rfl)
theorem dX8_told_61 : decode cX8_told 61 = .ok (.getfield 65, 3) := dk_180 0 65 (dk_at dksX8_told_2 13 rfl rfl)
theorem dX8_told_64 : decode cX8_told 64 = .ok (.bipush 64, 2) := dk_16 64 (dk_at dksX8_told_2 16 rfl rfl)
theorem dX8_told_66 : decode cX8_told 66 = .ok (.iaload, 1) := dk_46 (dk_at dksX8_told_2 18 rfl rfl)
theorem dX8_told_67 : decode cX8_told 67 = .ok (.goto 10, 3) := dk_167 0 10 (dk_at dksX8_told_2 19 rfl rfl)
theorem dX8_told_70 : decode cX8_told 70 = .ok (.aload_n 0, 1) := dk_42 (dk_at dksX8_told_2 22 rfl rfl)
theorem dX8_told_71 : decode cX8_told 71 = .ok (.getfield 65, 3) := dk_180 0 65 (dk_at dksX8_told_3 0 rfl rfl)
theorem dX8_told_74 : decode cX8_told 74 = .ok (.bipush 65, 2) := dk_16 65 (dk_at dksX8_told_3 3 rfl rfl)
theorem dX8_told_76 : decode cX8_told 76 = .ok (.iaload, 1) := dk_46 (dk_at dksX8_told_3 5 rfl rfl)
theorem dX8_told_77 : decode cX8_told 77 = .ok (.ireturn, 1) := dk_172 (dk_at dksX8_told_3 6 rfl rfl)
theorem dX8_told_78 : decode cX8_told 78 = .ok (.iload_n 1, 1) := dk_27 (dk_at dksX8_told_3 7 rfl rfl)
theorem dX8_told_79 : decode cX8_told 79 = .ok (.bipush 8, 2) := dk_16 8 (dk_at dksX8_told_3 8 rfl rfl)
theorem dX8_told_81 : decode cX8_told 81 = .ok (.if_icmp .ge 11, 3) := dk_162 0 11 (dk_at dksX8_told_3 10 rfl rfl)
theorem dX8_told_84 : decode cX8_told 84 = .ok (.aload_n 0, 1) := dk_42 (dk_at dksX8_told_3 13 rfl rfl)
theorem dX8_told_85 : decode cX8_told 85 = .ok (.iload_n 1, 1) := dk_27 (dk_at dksX8_told_3 14 rfl rfl)
theorem dX8_told_86 : decode cX8_told 86 = .ok (.iconst 4, 1) := dk_7 (dk_at dksX8_told_3 15 rfl rfl)
theorem dX8_told_87 : decode cX8_told 87 = .ok (.isub, 1) := dk_100 (dk_at dksX8_told_3 16 rfl rfl)
theorem dX8_told_88 : decode cX8_told 88 = .ok (.invokevirtual 374, 3) := dk_182 1 118 (dk_at dksX8_told_3 17 rfl rfl)
theorem dX8_told_91 : decode cX8_told 91 = .ok (.ireturn, 1) := dk_172 (dk_at dksX8_told_3 20 rfl rfl)
theorem dX8_told_92 : decode cX8_told 92 = .ok (.iload_n 1, 1) := dk_27 (dk_at dksX8_told_3 21 rfl rfl)
theorem dX8_told_93 : decode cX8_told 93 = .ok (.bipush 8, 2) := dk_16 8 (dk_at dksX8_told_3 22 rfl rfl)
theorem dX8_told_95 : decode cX8_told 95 = .ok (.if_icmp .ne 10, 3) := dk_160 0 10 (dk_at dksX8_told_4 0 rfl rfl)
theorem dX8_told_98 : decode cX8_told 98 = .ok (.aload_n 0, 1) := dk_42 (dk_at dksX8_told_4 3 rfl rfl)
theorem dX8_told_99 : decode cX8_told 99 = .ok (.getfield 182, 3) := dk_180 0 182 (dk_at dksX8_told_4 4 rfl rfl)
theorem dX8_told_102 : decode cX8_told 102 = .ok (.goto 20, 3) := dk_167 0 20 (dk_at dksX8_told_4 7 rfl rfl)
theorem dX8_told_105 : decode cX8_told 105 = .ok (.iload_n 1, 1) := dk_27 (dk_at dksX8_told_4 10 rfl rfl)
theorem dX8_told_106 : decode cX8_told 106 = .ok (.bipush 9, 2) := dk_16 9 (dk_at dksX8_told_4 11 rfl rfl)
theorem dX8_told_108 : decode cX8_told 108 = .ok (.if_icmp .ne 10, 3) := dk_160 0 10 (dk_at dksX8_told_4 13 rfl rfl)
theorem dX8_told_111 : decode cX8_told 111 = .ok (.aload_n 0, 1) := dk_42 (dk_at dksX8_told_4 16 rfl rfl)
theorem dX8_told_112 : decode cX8_told 112 = .ok (.getfield 191, 3) := dk_180 0 191 (dk_at dksX8_told_4 17 rfl rfl)
theorem dX8_told_115 : decode cX8_told 115 = .ok (.goto 7, 3) := dk_167 0 7 (dk_at dksX8_told_4 20 rfl rfl)
theorem dX8_told_118 : decode cX8_told 118 = .ok (.aload_n 0, 1) := dk_42 (dk_at dksX8_told_4 23 rfl rfl)
theorem dX8_told_119 : decode cX8_told 119 = .ok (.getfield 175, 3) := dk_180 0 175 (dk_at dksX8_told_5 0 rfl rfl)
theorem dX8_told_122 : decode cX8_told 122 = .ok (.ireturn, 1) := dk_172 (dk_at dksX8_told_5 3 rfl rfl)
abbrev cX8_signer : ByteArray := prog_26_method_65_code
def yX8_signer : MethodName := ⟨RX8, "signer", "(II)I"⟩
def dkwX8_signer_6 : List UInt8 := [16, 40, 27, 96, 46, 167, 0, 12, 42, 180, 0, 62, 16, 56, 27, 96, 46, 172]
abbrev dktX8_signer_6 : List UInt8 := dkwX8_signer_6 ++ []
def dkwX8_signer_5 : List UInt8 := [167, 0, 12, 42, 180, 0, 62, 16, 32, 27, 96, 46, 172, 28, 16, 8, 160, 0, 15, 42, 180, 0, 62]
abbrev dktX8_signer_5 : List UInt8 := dkwX8_signer_5 ++ dktX8_signer_6
def dkwX8_signer_4 : List UInt8 := [172, 28, 16, 8, 162, 0, 31, 28, 16, 6, 160, 0, 15, 42, 180, 0, 62, 16, 24, 27, 96, 46]
abbrev dktX8_signer_4 : List UInt8 := dkwX8_signer_4 ++ dktX8_signer_5
def dkwX8_signer_3 : List UInt8 := [160, 0, 15, 42, 180, 0, 62, 16, 8, 27, 96, 46, 167, 0, 12, 42, 180, 0, 62, 16, 16, 27, 96, 46]
abbrev dktX8_signer_3 : List UInt8 := dkwX8_signer_3 ++ dktX8_signer_4
def dkwX8_signer_2 : List UInt8 := [28, 16, 6, 162, 0, 46, 28, 6, 160, 0, 14, 42, 180, 0, 62, 3, 27, 96, 46, 167, 0, 29, 28, 7]
abbrev dktX8_signer_2 : List UInt8 := dkwX8_signer_2 ++ dktX8_signer_3
def dkwX8_signer_1 : List UInt8 := [182, 0, 207, 154, 0, 5, 3, 172, 28, 6, 162, 0, 14, 42, 180, 0, 29, 7, 27, 104, 28, 96, 46, 172]
abbrev dktX8_signer_1 : List UInt8 := dkwX8_signer_1 ++ dktX8_signer_2
def dkwX8_signer_0 : List UInt8 := [42, 3, 181, 0, 3, 42, 27, 4, 182, 1, 148, 153, 0, 19, 42, 28, 3, 16, 9, 184, 1, 34, 5, 4]
abbrev dktX8_signer_0 : List UInt8 := dkwX8_signer_0 ++ dktX8_signer_1
theorem dksX8_signer_0 : cX8_signer.data.toList.drop 0 = dktX8_signer_0 := by decide +kernel
theorem dksX8_signer_1 : cX8_signer.data.toList.drop 24 = dktX8_signer_1 := dk_seg dksX8_signer_0 24 rfl rfl
theorem dksX8_signer_2 : cX8_signer.data.toList.drop 48 = dktX8_signer_2 := dk_seg dksX8_signer_1 24 rfl rfl
theorem dksX8_signer_3 : cX8_signer.data.toList.drop 72 = dktX8_signer_3 := dk_seg dksX8_signer_2 24 rfl rfl
theorem dksX8_signer_4 : cX8_signer.data.toList.drop 96 = dktX8_signer_4 := dk_seg dksX8_signer_3 24 rfl rfl
theorem dksX8_signer_5 : cX8_signer.data.toList.drop 118 = dktX8_signer_5 := dk_seg dksX8_signer_4 22 rfl rfl
theorem dksX8_signer_6 : cX8_signer.data.toList.drop 141 = dktX8_signer_6 := dk_seg dksX8_signer_5 23 rfl rfl
theorem dX8_signer_0 : decode cX8_signer 0 = .ok (.aload_n 0, 1) := dk_42 (dk_at dksX8_signer_0 0 rfl rfl)
theorem dX8_signer_1 : decode cX8_signer 1 = .ok (.iconst 0, 1) := dk_3 (dk_at dksX8_signer_0 1 rfl rfl)
theorem dX8_signer_2 : decode cX8_signer 2 = .ok (.putfield 3, 3) := dk_181 0 3 (dk_at dksX8_signer_0 2 rfl rfl)
theorem dX8_signer_5 : decode cX8_signer 5 = .ok (.aload_n 0, 1) := dk_42 (dk_at dksX8_signer_0 5 rfl rfl)
theorem dX8_signer_6 : decode cX8_signer 6 = .ok (.iload_n 1, 1) := dk_27 (dk_at dksX8_signer_0 6 rfl rfl)
theorem dX8_signer_7 : decode cX8_signer 7 = .ok (.iconst 1, 1) := dk_4 (dk_at dksX8_signer_0 7 rfl rfl)
theorem dX8_signer_8 : decode cX8_signer 8 = .ok (.invokevirtual 404, 3) := dk_182 1 148 (dk_at dksX8_signer_0 8 rfl rfl)
theorem dX8_signer_11 : decode cX8_signer 11 = .ok (.ifCond .eq 19, 3) := dk_153 0 19 (dk_at dksX8_signer_0 11 rfl rfl)
theorem dX8_signer_14 : decode cX8_signer 14 = .ok (.aload_n 0, 1) := dk_42 (dk_at dksX8_signer_0 14 rfl rfl)
theorem dX8_signer_15 : decode cX8_signer 15 = .ok (.iload_n 2, 1) := dk_28 (dk_at dksX8_signer_0 15 rfl rfl)
theorem dX8_signer_16 : decode cX8_signer 16 = .ok (.iconst 0, 1) := dk_3 (dk_at dksX8_signer_0 16 rfl rfl)
theorem dX8_signer_17 : decode cX8_signer 17 = .ok (.bipush 9, 2) := dk_16 9 (dk_at dksX8_signer_0 17 rfl rfl)
theorem dX8_signer_19 : decode cX8_signer 19 = .ok (.invokestatic 290, 3) := dk_184 1 34 (dk_at dksX8_signer_0 19 rfl rfl)
theorem dX8_signer_22 : decode cX8_signer 22 = .ok (.iconst 2, 1) := dk_5 (dk_at dksX8_signer_0 22 rfl rfl)
theorem dX8_signer_23 : decode cX8_signer 23 = .ok (.iconst 1, 1) := dk_4 (dk_at dksX8_signer_0 23 rfl rfl)
theorem dX8_signer_24 : decode cX8_signer 24 = .ok (.invokevirtual 207, 3) := dk_182 0 207 (dk_at dksX8_signer_1 0 rfl rfl)
theorem dX8_signer_27 : decode cX8_signer 27 = .ok (.ifCond .ne 5, 3) := dk_154 0 5 (dk_at dksX8_signer_1 3 rfl rfl)
theorem dX8_signer_30 : decode cX8_signer 30 = .ok (.iconst 0, 1) := dk_3 (dk_at dksX8_signer_1 6 rfl rfl)
theorem dX8_signer_31 : decode cX8_signer 31 = .ok (.ireturn, 1) := dk_172 (dk_at dksX8_signer_1 7 rfl rfl)
theorem dX8_signer_32 : decode cX8_signer 32 = .ok (.iload_n 2, 1) := dk_28 (dk_at dksX8_signer_1 8 rfl rfl)
theorem dX8_signer_33 : decode cX8_signer 33 = .ok (.iconst 3, 1) := dk_6 (dk_at dksX8_signer_1 9 rfl rfl)
theorem dX8_signer_34 : decode cX8_signer 34 = .ok (.if_icmp .ge 14, 3) := dk_162 0 14 (dk_at dksX8_signer_1 10 rfl rfl)
theorem dX8_signer_37 : decode cX8_signer 37 = .ok (.aload_n 0, 1) := dk_42 (dk_at dksX8_signer_1 13 rfl rfl)
theorem dX8_signer_38 : decode cX8_signer 38 = .ok (.getfield 29, 3) := dk_180 0 29 (dk_at dksX8_signer_1 14 rfl rfl)
theorem dX8_signer_41 : decode cX8_signer 41 = .ok (.iconst 4, 1) := dk_7 (dk_at dksX8_signer_1 17 rfl rfl)
theorem dX8_signer_42 : decode cX8_signer 42 = .ok (.iload_n 1, 1) := dk_27 (dk_at dksX8_signer_1 18 rfl rfl)
theorem dX8_signer_43 : decode cX8_signer 43 = .ok (.imul, 1) := dk_104 (dk_at dksX8_signer_1 19 rfl rfl)
theorem dX8_signer_44 : decode cX8_signer 44 = .ok (.iload_n 2, 1) := dk_28 (dk_at dksX8_signer_1 20 rfl rfl)
theorem dX8_signer_45 : decode cX8_signer 45 = .ok (.iadd, 1) := dk_96 (dk_at dksX8_signer_1 21 rfl rfl)
theorem dX8_signer_46 : decode cX8_signer 46 = .ok (.iaload, 1) := dk_46 (dk_at dksX8_signer_1 22 rfl rfl)
theorem dX8_signer_47 : decode cX8_signer 47 = .ok (.ireturn, 1) := dk_172 (dk_at dksX8_signer_1 23 rfl rfl)
theorem dX8_signer_48 : decode cX8_signer 48 = .ok (.iload_n 2, 1) := dk_28 (dk_at dksX8_signer_2 0 rfl rfl)
theorem dX8_signer_49 : decode cX8_signer 49 = .ok (.bipush 6, 2) := dk_16 6 (dk_at dksX8_signer_2 1 rfl rfl)
theorem dX8_signer_51 : decode cX8_signer 51 = .ok (.if_icmp .ge 46, 3) := dk_162 0 46 (dk_at dksX8_signer_2 3 rfl rfl)
theorem dX8_signer_54 : decode cX8_signer 54 = .ok (.iload_n 2, 1) := dk_28 (dk_at dksX8_signer_2 6 rfl rfl)
theorem dX8_signer_55 : decode cX8_signer 55 = .ok (.iconst 3, 1) := dk_6 (dk_at dksX8_signer_2 7 rfl rfl)
theorem dX8_signer_56 : decode cX8_signer 56 = .ok (.if_icmp .ne 14, 3) := dk_160 0 14 (dk_at dksX8_signer_2 8 rfl rfl)
theorem dX8_signer_59 : decode cX8_signer 59 = .ok (.aload_n 0, 1) := dk_42 (dk_at dksX8_signer_2 11 rfl rfl)
theorem dX8_signer_60 : decode cX8_signer 60 = .ok (.getfield 62, 3) := dk_180 0 62 (dk_at dksX8_signer_2 12 rfl rfl)
theorem dX8_signer_63 : decode cX8_signer 63 = .ok (.iconst 0, 1) := dk_3 (dk_at dksX8_signer_2 15 rfl rfl)
theorem dX8_signer_64 : decode cX8_signer 64 = .ok (.iload_n 1, 1) := dk_27 (dk_at dksX8_signer_2 16 rfl rfl)
theorem dX8_signer_65 : decode cX8_signer 65 = .ok (.iadd, 1) := dk_96 (dk_at dksX8_signer_2 17 rfl rfl)
theorem dX8_signer_66 : decode cX8_signer 66 = .ok (.iaload, 1) := dk_46 (dk_at dksX8_signer_2 18 rfl rfl)
theorem dX8_signer_67 : decode cX8_signer 67 = .ok (.goto 29, 3) := dk_167 0 29 (dk_at dksX8_signer_2 19 rfl rfl)
theorem dX8_signer_70 : decode cX8_signer 70 = .ok (.iload_n 2, 1) := dk_28 (dk_at dksX8_signer_2 22 rfl rfl)
theorem dX8_signer_71 : decode cX8_signer 71 = .ok (.iconst 4, 1) := dk_7 (dk_at dksX8_signer_2 23 rfl rfl)
theorem dX8_signer_72 : decode cX8_signer 72 = .ok (.if_icmp .ne 15, 3) := dk_160 0 15 (dk_at dksX8_signer_3 0 rfl rfl)
theorem dX8_signer_75 : decode cX8_signer 75 = .ok (.aload_n 0, 1) := dk_42 (dk_at dksX8_signer_3 3 rfl rfl)
theorem dX8_signer_76 : decode cX8_signer 76 = .ok (.getfield 62, 3) := dk_180 0 62 (dk_at dksX8_signer_3 4 rfl rfl)
theorem dX8_signer_79 : decode cX8_signer 79 = .ok (.bipush 8, 2) := dk_16 8 (dk_at dksX8_signer_3 7 rfl rfl)
theorem dX8_signer_81 : decode cX8_signer 81 = .ok (.iload_n 1, 1) := dk_27 (dk_at dksX8_signer_3 9 rfl rfl)
theorem dX8_signer_82 : decode cX8_signer 82 = .ok (.iadd, 1) := dk_96 (dk_at dksX8_signer_3 10 rfl rfl)
theorem dX8_signer_83 : decode cX8_signer 83 = .ok (.iaload, 1) := dk_46 (dk_at dksX8_signer_3 11 rfl rfl)
theorem dX8_signer_84 : decode cX8_signer 84 = .ok (.goto 12, 3) := dk_167 0 12 (dk_at dksX8_signer_3 12 rfl rfl)
theorem dX8_signer_87 : decode cX8_signer 87 = .ok (.aload_n 0, 1) := dk_42 (dk_at dksX8_signer_3 15 rfl rfl)
theorem dX8_signer_88 : decode cX8_signer 88 = .ok (.getfield 62, 3) := dk_180 0 62 (dk_at dksX8_signer_3 16 rfl rfl)
theorem dX8_signer_91 : decode cX8_signer 91 = .ok (.bipush 16, 2) := dk_16 16 (dk_at dksX8_signer_3 19 rfl rfl)
theorem dX8_signer_93 : decode cX8_signer 93 = .ok (.iload_n 1, 1) := dk_27 (dk_at dksX8_signer_3 21 rfl rfl)
theorem dX8_signer_94 : decode cX8_signer 94 = .ok (.iadd, 1) := dk_96 (dk_at dksX8_signer_3 22 rfl rfl)
theorem dX8_signer_95 : decode cX8_signer 95 = .ok (.iaload, 1) := dk_46 (dk_at dksX8_signer_3 23 rfl rfl)
theorem dX8_signer_96 : decode cX8_signer 96 = .ok (.ireturn, 1) := dk_172 (dk_at dksX8_signer_4 0 rfl rfl)
theorem dX8_signer_97 : decode cX8_signer 97 = .ok (.iload_n 2, 1) := dk_28 (dk_at dksX8_signer_4 1 rfl rfl)
theorem dX8_signer_98 : decode cX8_signer 98 = .ok (.bipush 8, 2) := dk_16 8 (dk_at dksX8_signer_4 2 rfl rfl)
theorem dX8_signer_100 : decode cX8_signer 100 = .ok (.if_icmp .ge 31, 3) := dk_162 0 31 (dk_at dksX8_signer_4 4 rfl rfl)
theorem dX8_signer_103 : decode cX8_signer 103 = .ok (.iload_n 2, 1) := dk_28 (dk_at dksX8_signer_4 7 rfl rfl)
theorem dX8_signer_104 : decode cX8_signer 104 = .ok (.bipush 6, 2) := dk_16 6 (dk_at dksX8_signer_4 8 rfl rfl)
theorem dX8_signer_106 : decode cX8_signer 106 = .ok (.if_icmp .ne 15, 3) := dk_160 0 15 (dk_at dksX8_signer_4 10 rfl rfl)
theorem dX8_signer_109 : decode cX8_signer 109 = .ok (.aload_n 0, 1) := dk_42 (dk_at dksX8_signer_4 13 rfl rfl)
theorem dX8_signer_110 : decode cX8_signer 110 = .ok (.getfield 62, 3) := dk_180 0 62 (dk_at dksX8_signer_4 14 rfl rfl)
theorem dX8_signer_113 : decode cX8_signer 113 = .ok (.bipush 24, 2) := dk_16 24 (dk_at dksX8_signer_4 17 rfl rfl)
theorem dX8_signer_115 : decode cX8_signer 115 = .ok (.iload_n 1, 1) := dk_27 (dk_at dksX8_signer_4 19 rfl rfl)
theorem dX8_signer_116 : decode cX8_signer 116 = .ok (.iadd, 1) := dk_96 (dk_at dksX8_signer_4 20 rfl rfl)
theorem dX8_signer_117 : decode cX8_signer 117 = .ok (.iaload, 1) := dk_46 (dk_at dksX8_signer_4 21 rfl rfl)
theorem dX8_signer_118 : decode cX8_signer 118 = .ok (.goto 12, 3) := dk_167 0 12 (dk_at dksX8_signer_5 0 rfl rfl)
theorem dX8_signer_121 : decode cX8_signer 121 = .ok (.aload_n 0, 1) := dk_42 (dk_at dksX8_signer_5 3 rfl rfl)
theorem dX8_signer_122 : decode cX8_signer 122 = .ok (.getfield 62, 3) := dk_180 0 62 (dk_at dksX8_signer_5 4 rfl rfl)
theorem dX8_signer_125 : decode cX8_signer 125 = .ok (.bipush 32, 2) := dk_16 32 (dk_at dksX8_signer_5 7 rfl rfl)
theorem dX8_signer_127 : decode cX8_signer 127 = .ok (.iload_n 1, 1) := dk_27 (dk_at dksX8_signer_5 9 rfl rfl)
theorem dX8_signer_128 : decode cX8_signer 128 = .ok (.iadd, 1) := dk_96 (dk_at dksX8_signer_5 10 rfl rfl)
theorem dX8_signer_129 : decode cX8_signer 129 = .ok (.iaload, 1) := dk_46 (dk_at dksX8_signer_5 11 rfl rfl)
theorem dX8_signer_130 : decode cX8_signer 130 = .ok (.ireturn, 1) := dk_172 (dk_at dksX8_signer_5 12 rfl rfl)
theorem dX8_signer_131 : decode cX8_signer 131 = .ok (.iload_n 2, 1) := dk_28 (dk_at dksX8_signer_5 13 rfl rfl)
theorem dX8_signer_132 : decode cX8_signer 132 = .ok (.bipush 8, 2) := dk_16 8 (dk_at dksX8_signer_5 14 rfl rfl)
theorem dX8_signer_134 : decode cX8_signer 134 = .ok (.if_icmp .ne 15, 3) := dk_160 0 15 (dk_at dksX8_signer_5 16 rfl rfl)
theorem dX8_signer_137 : decode cX8_signer 137 = .ok (.aload_n 0, 1) := dk_42 (dk_at dksX8_signer_5 19 rfl rfl)
theorem dX8_signer_138 : decode cX8_signer 138 = .ok (.getfield 62, 3) := dk_180 0 62 (dk_at dksX8_signer_5 20 rfl rfl)
theorem dX8_signer_141 : decode cX8_signer 141 = .ok (.bipush 40, 2) := dk_16 40 (dk_at dksX8_signer_6 0 rfl rfl)
theorem dX8_signer_143 : decode cX8_signer 143 = .ok (.iload_n 1, 1) := dk_27 (dk_at dksX8_signer_6 2 rfl rfl)
theorem dX8_signer_144 : decode cX8_signer 144 = .ok (.iadd, 1) := dk_96 (dk_at dksX8_signer_6 3 rfl rfl)
theorem dX8_signer_145 : decode cX8_signer 145 = .ok (.iaload, 1) := dk_46 (dk_at dksX8_signer_6 4 rfl rfl)
theorem dX8_signer_146 : decode cX8_signer 146 = .ok (.goto 12, 3) := dk_167 0 12 (dk_at dksX8_signer_6 5 rfl rfl)
theorem dX8_signer_149 : decode cX8_signer 149 = .ok (.aload_n 0, 1) := dk_42 (dk_at dksX8_signer_6 8 rfl rfl)
theorem dX8_signer_150 : decode cX8_signer 150 = .ok (.getfield 62, 3) := dk_180 0 62 (dk_at dksX8_signer_6 9 rfl rfl)
theorem dX8_signer_153 : decode cX8_signer 153 = .ok (.bipush 56, 2) := dk_16 56 (dk_at dksX8_signer_6 12 rfl rfl)
theorem dX8_signer_155 : decode cX8_signer 155 = .ok (.iload_n 1, 1) := dk_27 (dk_at dksX8_signer_6 14 rfl rfl)
theorem dX8_signer_156 : decode cX8_signer 156 = .ok (.iadd, 1) := dk_96 (dk_at dksX8_signer_6 15 rfl rfl)
theorem dX8_signer_157 : decode cX8_signer 157 = .ok (.iaload, 1) := dk_46 (dk_at dksX8_signer_6 16 rfl rfl)
theorem dX8_signer_158 : decode cX8_signer 158 = .ok (.ireturn, 1) := dk_172 (dk_at dksX8_signer_6 17 rfl rfl)
abbrev cX8_isSigner : ByteArray := prog_26_method_63_code
def yX8_isSigner : MethodName := ⟨RX8, "isSigner", "(II)Z"⟩
def dkwX8_isSigner_0 : List UInt8 := [42, 27, 3, 42, 180, 0, 169, 4, 100, 184, 1, 34, 28, 3, 182, 0, 207, 172]
abbrev dktX8_isSigner_0 : List UInt8 := dkwX8_isSigner_0 ++ []
theorem dksX8_isSigner_0 : cX8_isSigner.data.toList.drop 0 = dktX8_isSigner_0 := by decide +kernel
theorem dX8_isSigner_0 : decode cX8_isSigner 0 = .ok (.aload_n 0, 1) := dk_42 (dk_at dksX8_isSigner_0 0 rfl rfl)
theorem dX8_isSigner_1 : decode cX8_isSigner 1 = .ok (.iload_n 1, 1) := dk_27 (dk_at dksX8_isSigner_0 1 rfl rfl)
theorem dX8_isSigner_2 : decode cX8_isSigner 2 = .ok (.iconst 0, 1) := dk_3 (dk_at dksX8_isSigner_0 2 rfl rfl)
theorem dX8_isSigner_3 : decode cX8_isSigner 3 = .ok (.aload_n 0, 1) := dk_42 (dk_at dksX8_isSigner_0 3 rfl rfl)
theorem dX8_isSigner_4 : decode cX8_isSigner 4 = .ok (.getfield 169, 3) := dk_180 0 169 (dk_at dksX8_isSigner_0 4 rfl rfl)
theorem dX8_isSigner_7 : decode cX8_isSigner 7 = .ok (.iconst 1, 1) := dk_4 (dk_at dksX8_isSigner_0 7 rfl rfl)
theorem dX8_isSigner_8 : decode cX8_isSigner 8 = .ok (.isub, 1) := dk_100 (dk_at dksX8_isSigner_0 8 rfl rfl)
theorem dX8_isSigner_9 : decode cX8_isSigner 9 = .ok (.invokestatic 290, 3) := dk_184 1 34 (dk_at dksX8_isSigner_0 9 rfl rfl)
theorem dX8_isSigner_12 : decode cX8_isSigner 12 = .ok (.iload_n 2, 1) := dk_28 (dk_at dksX8_isSigner_0 12 rfl rfl)
theorem dX8_isSigner_13 : decode cX8_isSigner 13 = .ok (.iconst 0, 1) := dk_3 (dk_at dksX8_isSigner_0 13 rfl rfl)
theorem dX8_isSigner_14 : decode cX8_isSigner 14 = .ok (.invokevirtual 207, 3) := dk_182 0 207 (dk_at dksX8_isSigner_0 14 rfl rfl)
theorem dX8_isSigner_17 : decode cX8_isSigner 17 = .ok (.ireturn, 1) := dk_172 (dk_at dksX8_isSigner_0 17 rfl rfl)
abbrev cX8_taker : ByteArray := prog_26_method_66_code
def yX8_taker : MethodName := ⟨RX8, "taker", "(II)I"⟩
def dkwX8_taker_2 : List UInt8 := [28, 96, 46, 167, 0, 8, 42, 27, 182, 1, 121, 172]
abbrev dktX8_taker_2 : List UInt8 := dkwX8_taker_2 ++ []
def dkwX8_taker_1 : List UInt8 := [182, 0, 207, 154, 0, 5, 3, 172, 42, 182, 1, 74, 28, 6, 162, 0, 16, 42, 180, 0, 32, 6, 27, 104]
abbrev dktX8_taker_1 : List UInt8 := dkwX8_taker_1 ++ dktX8_taker_2
def dkwX8_taker_0 : List UInt8 := [42, 3, 181, 0, 3, 42, 27, 4, 182, 1, 151, 153, 0, 18, 42, 28, 3, 6, 184, 1, 34, 5, 4]
abbrev dktX8_taker_0 : List UInt8 := dkwX8_taker_0 ++ dktX8_taker_1
theorem dksX8_taker_0 : cX8_taker.data.toList.drop 0 = dktX8_taker_0 := by decide +kernel
theorem dksX8_taker_1 : cX8_taker.data.toList.drop 23 = dktX8_taker_1 := dk_seg dksX8_taker_0 23 rfl rfl
theorem dksX8_taker_2 : cX8_taker.data.toList.drop 47 = dktX8_taker_2 := dk_seg dksX8_taker_1 24 rfl rfl
theorem dX8_taker_0 : decode cX8_taker 0 = .ok (.aload_n 0, 1) := dk_42 (dk_at dksX8_taker_0 0 rfl rfl)
theorem dX8_taker_1 : decode cX8_taker 1 = .ok (.iconst 0, 1) := dk_3 (dk_at dksX8_taker_0 1 rfl rfl)
theorem dX8_taker_2 : decode cX8_taker 2 = .ok (.putfield 3, 3) := dk_181 0 3 (dk_at dksX8_taker_0 2 rfl rfl)
theorem dX8_taker_5 : decode cX8_taker 5 = .ok (.aload_n 0, 1) := dk_42 (dk_at dksX8_taker_0 5 rfl rfl)
theorem dX8_taker_6 : decode cX8_taker 6 = .ok (.iload_n 1, 1) := dk_27 (dk_at dksX8_taker_0 6 rfl rfl)
theorem dX8_taker_7 : decode cX8_taker 7 = .ok (.iconst 1, 1) := dk_4 (dk_at dksX8_taker_0 7 rfl rfl)
theorem dX8_taker_8 : decode cX8_taker 8 = .ok (.invokevirtual 407, 3) := dk_182 1 151 (dk_at dksX8_taker_0 8 rfl rfl)
theorem dX8_taker_11 : decode cX8_taker 11 = .ok (.ifCond .eq 18, 3) := dk_153 0 18 (dk_at dksX8_taker_0 11 rfl rfl)
theorem dX8_taker_14 : decode cX8_taker 14 = .ok (.aload_n 0, 1) := dk_42 (dk_at dksX8_taker_0 14 rfl rfl)
theorem dX8_taker_15 : decode cX8_taker 15 = .ok (.iload_n 2, 1) := dk_28 (dk_at dksX8_taker_0 15 rfl rfl)
theorem dX8_taker_16 : decode cX8_taker 16 = .ok (.iconst 0, 1) := dk_3 (dk_at dksX8_taker_0 16 rfl rfl)
theorem dX8_taker_17 : decode cX8_taker 17 = .ok (.iconst 3, 1) := dk_6 (dk_at dksX8_taker_0 17 rfl rfl)
theorem dX8_taker_18 : decode cX8_taker 18 = .ok (.invokestatic 290, 3) := dk_184 1 34 (dk_at dksX8_taker_0 18 rfl rfl)
theorem dX8_taker_21 : decode cX8_taker 21 = .ok (.iconst 2, 1) := dk_5 (dk_at dksX8_taker_0 21 rfl rfl)
theorem dX8_taker_22 : decode cX8_taker 22 = .ok (.iconst 1, 1) := dk_4 (dk_at dksX8_taker_0 22 rfl rfl)
theorem dX8_taker_23 : decode cX8_taker 23 = .ok (.invokevirtual 207, 3) := dk_182 0 207 (dk_at dksX8_taker_1 0 rfl rfl)
theorem dX8_taker_26 : decode cX8_taker 26 = .ok (.ifCond .ne 5, 3) := dk_154 0 5 (dk_at dksX8_taker_1 3 rfl rfl)
theorem dX8_taker_29 : decode cX8_taker 29 = .ok (.iconst 0, 1) := dk_3 (dk_at dksX8_taker_1 6 rfl rfl)
theorem dX8_taker_30 : decode cX8_taker 30 = .ok (.ireturn, 1) := dk_172 (dk_at dksX8_taker_1 7 rfl rfl)
theorem dX8_taker_31 : decode cX8_taker 31 = .ok (.aload_n 0, 1) := dk_42 (dk_at dksX8_taker_1 8 rfl rfl)
theorem dX8_taker_32 : decode cX8_taker 32 = .ok (.invokevirtual 330, 3) := dk_182 1 74 (dk_at dksX8_taker_1 9 rfl rfl)
theorem dX8_taker_35 : decode cX8_taker 35 = .ok (.iload_n 2, 1) := dk_28 (dk_at dksX8_taker_1 12 rfl rfl)
theorem dX8_taker_36 : decode cX8_taker 36 = .ok (.iconst 3, 1) := dk_6 (dk_at dksX8_taker_1 13 rfl rfl)
theorem dX8_taker_37 : decode cX8_taker 37 = .ok (.if_icmp .ge 16, 3) := dk_162 0 16 (dk_at dksX8_taker_1 14 rfl rfl)
theorem dX8_taker_40 : decode cX8_taker 40 = .ok (.aload_n 0, 1) := dk_42 (dk_at dksX8_taker_1 17 rfl rfl)
theorem dX8_taker_41 : decode cX8_taker 41 = .ok (.getfield 32, 3) := dk_180 0 32 (dk_at dksX8_taker_1 18 rfl rfl)
theorem dX8_taker_44 : decode cX8_taker 44 = .ok (.iconst 3, 1) := dk_6 (dk_at dksX8_taker_1 21 rfl rfl)
theorem dX8_taker_45 : decode cX8_taker 45 = .ok (.iload_n 1, 1) := dk_27 (dk_at dksX8_taker_1 22 rfl rfl)
theorem dX8_taker_46 : decode cX8_taker 46 = .ok (.imul, 1) := dk_104 (dk_at dksX8_taker_1 23 rfl rfl)
theorem dX8_taker_47 : decode cX8_taker 47 = .ok (.iload_n 2, 1) := dk_28 (dk_at dksX8_taker_2 0 rfl rfl)
theorem dX8_taker_48 : decode cX8_taker 48 = .ok (.iadd, 1) := dk_96 (dk_at dksX8_taker_2 1 rfl rfl)
theorem dX8_taker_49 : decode cX8_taker 49 = .ok (.iaload, 1) := dk_46 (dk_at dksX8_taker_2 2 rfl rfl)
theorem dX8_taker_50 : decode cX8_taker 50 = .ok (.goto 8, 3) := dk_167 0 8 (dk_at dksX8_taker_2 3 rfl rfl)
theorem dX8_taker_53 : decode cX8_taker 53 = .ok (.aload_n 0, 1) := dk_42 (dk_at dksX8_taker_2 6 rfl rfl)
theorem dX8_taker_54 : decode cX8_taker 54 = .ok (.iload_n 1, 1) := dk_27 (dk_at dksX8_taker_2 7 rfl rfl)
theorem dX8_taker_55 : decode cX8_taker 55 = .ok (.invokevirtual 377, 3) := dk_182 1 121 (dk_at dksX8_taker_2 8 rfl rfl)
theorem dX8_taker_58 : decode cX8_taker 58 = .ok (.ireturn, 1) := dk_172 (dk_at dksX8_taker_2 11 rfl rfl)
abbrev cX8_isTaker : ByteArray := prog_26_method_64_code
def yX8_isTaker : MethodName := ⟨RX8, "isTaker", "(II)Z"⟩
def dkwX8_isTaker_0 : List UInt8 := [42, 27, 3, 42, 180, 0, 172, 4, 100, 184, 1, 34, 28, 3, 182, 0, 207, 172]
abbrev dktX8_isTaker_0 : List UInt8 := dkwX8_isTaker_0 ++ []
theorem dksX8_isTaker_0 : cX8_isTaker.data.toList.drop 0 = dktX8_isTaker_0 := by decide +kernel
theorem dX8_isTaker_0 : decode cX8_isTaker 0 = .ok (.aload_n 0, 1) := dk_42 (dk_at dksX8_isTaker_0 0 rfl rfl)
theorem dX8_isTaker_1 : decode cX8_isTaker 1 = .ok (.iload_n 1, 1) := dk_27 (dk_at dksX8_isTaker_0 1 rfl rfl)
theorem dX8_isTaker_2 : decode cX8_isTaker 2 = .ok (.iconst 0, 1) := dk_3 (dk_at dksX8_isTaker_0 2 rfl rfl)
theorem dX8_isTaker_3 : decode cX8_isTaker 3 = .ok (.aload_n 0, 1) := dk_42 (dk_at dksX8_isTaker_0 3 rfl rfl)
theorem dX8_isTaker_4 : decode cX8_isTaker 4 = .ok (.getfield 172, 3) := dk_180 0 172 (dk_at dksX8_isTaker_0 4 rfl rfl)
theorem dX8_isTaker_7 : decode cX8_isTaker 7 = .ok (.iconst 1, 1) := dk_4 (dk_at dksX8_isTaker_0 7 rfl rfl)
theorem dX8_isTaker_8 : decode cX8_isTaker 8 = .ok (.isub, 1) := dk_100 (dk_at dksX8_isTaker_0 8 rfl rfl)
theorem dX8_isTaker_9 : decode cX8_isTaker 9 = .ok (.invokestatic 290, 3) := dk_184 1 34 (dk_at dksX8_isTaker_0 9 rfl rfl)
theorem dX8_isTaker_12 : decode cX8_isTaker 12 = .ok (.iload_n 2, 1) := dk_28 (dk_at dksX8_isTaker_0 12 rfl rfl)
theorem dX8_isTaker_13 : decode cX8_isTaker 13 = .ok (.iconst 0, 1) := dk_3 (dk_at dksX8_isTaker_0 13 rfl rfl)
theorem dX8_isTaker_14 : decode cX8_isTaker 14 = .ok (.invokevirtual 207, 3) := dk_182 0 207 (dk_at dksX8_isTaker_0 14 rfl rfl)
theorem dX8_isTaker_17 : decode cX8_isTaker 17 = .ok (.ireturn, 1) := dk_172 (dk_at dksX8_isTaker_0 17 rfl rfl)
abbrev cX8_asks : ByteArray := prog_26_method_67_code
def yX8_asks : MethodName := ⟨RX8, "asks", "(II)I"⟩
def dkwX8_asks_1 : List UInt8 := [182, 0, 207, 154, 0, 5, 3, 172, 42, 182, 1, 74, 42, 27, 28, 182, 1, 115, 172]
abbrev dktX8_asks_1 : List UInt8 := dkwX8_asks_1 ++ []
def dkwX8_asks_0 : List UInt8 := [42, 3, 181, 0, 3, 42, 27, 4, 182, 1, 148, 153, 0, 18, 42, 28, 3, 4, 184, 1, 34, 5, 4]
abbrev dktX8_asks_0 : List UInt8 := dkwX8_asks_0 ++ dktX8_asks_1
theorem dksX8_asks_0 : cX8_asks.data.toList.drop 0 = dktX8_asks_0 := by decide +kernel
theorem dksX8_asks_1 : cX8_asks.data.toList.drop 23 = dktX8_asks_1 := dk_seg dksX8_asks_0 23 rfl rfl
theorem dX8_asks_0 : decode cX8_asks 0 = .ok (.aload_n 0, 1) := dk_42 (dk_at dksX8_asks_0 0 rfl rfl)
theorem dX8_asks_1 : decode cX8_asks 1 = .ok (.iconst 0, 1) := dk_3 (dk_at dksX8_asks_0 1 rfl rfl)
theorem dX8_asks_2 : decode cX8_asks 2 = .ok (.putfield 3, 3) := dk_181 0 3 (dk_at dksX8_asks_0 2 rfl rfl)
theorem dX8_asks_5 : decode cX8_asks 5 = .ok (.aload_n 0, 1) := dk_42 (dk_at dksX8_asks_0 5 rfl rfl)
theorem dX8_asks_6 : decode cX8_asks 6 = .ok (.iload_n 1, 1) := dk_27 (dk_at dksX8_asks_0 6 rfl rfl)
theorem dX8_asks_7 : decode cX8_asks 7 = .ok (.iconst 1, 1) := dk_4 (dk_at dksX8_asks_0 7 rfl rfl)
theorem dX8_asks_8 : decode cX8_asks 8 = .ok (.invokevirtual 404, 3) := dk_182 1 148 (dk_at dksX8_asks_0 8 rfl rfl)
theorem dX8_asks_11 : decode cX8_asks 11 = .ok (.ifCond .eq 18, 3) := dk_153 0 18 (dk_at dksX8_asks_0 11 rfl rfl)
theorem dX8_asks_14 : decode cX8_asks 14 = .ok (.aload_n 0, 1) := dk_42 (dk_at dksX8_asks_0 14 rfl rfl)
theorem dX8_asks_15 : decode cX8_asks 15 = .ok (.iload_n 2, 1) := dk_28 (dk_at dksX8_asks_0 15 rfl rfl)
theorem dX8_asks_16 : decode cX8_asks 16 = .ok (.iconst 0, 1) := dk_3 (dk_at dksX8_asks_0 16 rfl rfl)
theorem dX8_asks_17 : decode cX8_asks 17 = .ok (.iconst 1, 1) := dk_4 (dk_at dksX8_asks_0 17 rfl rfl)
theorem dX8_asks_18 : decode cX8_asks 18 = .ok (.invokestatic 290, 3) := dk_184 1 34 (dk_at dksX8_asks_0 18 rfl rfl)
theorem dX8_asks_21 : decode cX8_asks 21 = .ok (.iconst 2, 1) := dk_5 (dk_at dksX8_asks_0 21 rfl rfl)
theorem dX8_asks_22 : decode cX8_asks 22 = .ok (.iconst 1, 1) := dk_4 (dk_at dksX8_asks_0 22 rfl rfl)
theorem dX8_asks_23 : decode cX8_asks 23 = .ok (.invokevirtual 207, 3) := dk_182 0 207 (dk_at dksX8_asks_1 0 rfl rfl)
theorem dX8_asks_26 : decode cX8_asks 26 = .ok (.ifCond .ne 5, 3) := dk_154 0 5 (dk_at dksX8_asks_1 3 rfl rfl)
theorem dX8_asks_29 : decode cX8_asks 29 = .ok (.iconst 0, 1) := dk_3 (dk_at dksX8_asks_1 6 rfl rfl)
theorem dX8_asks_30 : decode cX8_asks 30 = .ok (.ireturn, 1) := dk_172 (dk_at dksX8_asks_1 7 rfl rfl)
theorem dX8_asks_31 : decode cX8_asks 31 = .ok (.aload_n 0, 1) := dk_42 (dk_at dksX8_asks_1 8 rfl rfl)
theorem dX8_asks_32 : decode cX8_asks 32 = .ok (.invokevirtual 330, 3) := dk_182 1 74 (dk_at dksX8_asks_1 9 rfl rfl)
theorem dX8_asks_35 : decode cX8_asks 35 = .ok (.aload_n 0, 1) := dk_42 (dk_at dksX8_asks_1 12 rfl rfl)
theorem dX8_asks_36 : decode cX8_asks 36 = .ok (.iload_n 1, 1) := dk_27 (dk_at dksX8_asks_1 13 rfl rfl)
theorem dX8_asks_37 : decode cX8_asks 37 = .ok (.iload_n 2, 1) := dk_28 (dk_at dksX8_asks_1 14 rfl rfl)
theorem dX8_asks_38 : decode cX8_asks 38 = .ok (.invokevirtual 371, 3) := dk_182 1 115 (dk_at dksX8_asks_1 15 rfl rfl)
theorem dX8_asks_41 : decode cX8_asks 41 = .ok (.ireturn, 1) := dk_172 (dk_at dksX8_asks_1 18 rfl rfl)
abbrev cX8_owes : ByteArray := prog_26_method_68_code
def yX8_owes : MethodName := ⟨RX8, "owes", "(I)I"⟩
def dkwX8_owes_1 : List UInt8 := [182, 1, 124, 172]
abbrev dktX8_owes_1 : List UInt8 := dkwX8_owes_1 ++ []
def dkwX8_owes_0 : List UInt8 := [42, 3, 181, 0, 3, 42, 27, 4, 182, 1, 148, 154, 0, 5, 3, 172, 42, 182, 1, 74, 42, 27]
abbrev dktX8_owes_0 : List UInt8 := dkwX8_owes_0 ++ dktX8_owes_1
theorem dksX8_owes_0 : cX8_owes.data.toList.drop 0 = dktX8_owes_0 := by decide +kernel
theorem dksX8_owes_1 : cX8_owes.data.toList.drop 22 = dktX8_owes_1 := dk_seg dksX8_owes_0 22 rfl rfl
theorem dX8_owes_0 : decode cX8_owes 0 = .ok (.aload_n 0, 1) := dk_42 (dk_at dksX8_owes_0 0 rfl rfl)
theorem dX8_owes_1 : decode cX8_owes 1 = .ok (.iconst 0, 1) := dk_3 (dk_at dksX8_owes_0 1 rfl rfl)
theorem dX8_owes_2 : decode cX8_owes 2 = .ok (.putfield 3, 3) := dk_181 0 3 (dk_at dksX8_owes_0 2 rfl rfl)
theorem dX8_owes_5 : decode cX8_owes 5 = .ok (.aload_n 0, 1) := dk_42 (dk_at dksX8_owes_0 5 rfl rfl)
theorem dX8_owes_6 : decode cX8_owes 6 = .ok (.iload_n 1, 1) := dk_27 (dk_at dksX8_owes_0 6 rfl rfl)
theorem dX8_owes_7 : decode cX8_owes 7 = .ok (.iconst 1, 1) := dk_4 (dk_at dksX8_owes_0 7 rfl rfl)
theorem dX8_owes_8 : decode cX8_owes 8 = .ok (.invokevirtual 404, 3) := dk_182 1 148 (dk_at dksX8_owes_0 8 rfl rfl)
theorem dX8_owes_11 : decode cX8_owes 11 = .ok (.ifCond .ne 5, 3) := dk_154 0 5 (dk_at dksX8_owes_0 11 rfl rfl)
theorem dX8_owes_14 : decode cX8_owes 14 = .ok (.iconst 0, 1) := dk_3 (dk_at dksX8_owes_0 14 rfl rfl)
theorem dX8_owes_15 : decode cX8_owes 15 = .ok (.ireturn, 1) := dk_172 (dk_at dksX8_owes_0 15 rfl rfl)
theorem dX8_owes_16 : decode cX8_owes 16 = .ok (.aload_n 0, 1) := dk_42 (dk_at dksX8_owes_0 16 rfl rfl)
theorem dX8_owes_17 : decode cX8_owes 17 = .ok (.invokevirtual 330, 3) := dk_182 1 74 (dk_at dksX8_owes_0 17 rfl rfl)
theorem dX8_owes_20 : decode cX8_owes 20 = .ok (.aload_n 0, 1) := dk_42 (dk_at dksX8_owes_0 20 rfl rfl)
theorem dX8_owes_21 : decode cX8_owes 21 = .ok (.iload_n 1, 1) := dk_27 (dk_at dksX8_owes_0 21 rfl rfl)
theorem dX8_owes_22 : decode cX8_owes 22 = .ok (.invokevirtual 380, 3) := dk_182 1 124 (dk_at dksX8_owes_1 0 rfl rfl)
theorem dX8_owes_25 : decode cX8_owes 25 = .ok (.ireturn, 1) := dk_172 (dk_at dksX8_owes_1 3 rfl rfl)
abbrev cX8_would : ByteArray := prog_26_method_69_code
def yX8_would : MethodName := ⟨RX8, "would", "(IIIIII)I"⟩
def dkwX8_would_6 : List UInt8 := [180, 0, 53, 16, 7, 21, 6, 79, 42, 3, 182, 1, 108, 172]
abbrev dktX8_would_6 : List UInt8 := dkwX8_would_6 ++ []
def dkwX8_would_5 : List UInt8 := [180, 0, 53, 7, 3, 79, 42, 180, 0, 53, 8, 21, 5, 79, 42, 180, 0, 53, 16, 6, 3, 79, 42]
abbrev dktX8_would_5 : List UInt8 := dkwX8_would_5 ++ dktX8_would_6
def dkwX8_would_4 : List UInt8 := [180, 0, 53, 4, 28, 79, 42, 180, 0, 53, 5, 29, 79, 42, 180, 0, 53, 6, 21, 4, 79, 42]
abbrev dktX8_would_4 : List UInt8 := dkwX8_would_4 ++ dktX8_would_5
def dkwX8_would_3 : List UInt8 := [167, 0, 4, 3, 4, 4, 182, 0, 207, 154, 0, 5, 3, 172, 42, 180, 0, 53, 3, 27, 79, 42]
abbrev dktX8_would_3 : List UInt8 := dkwX8_would_3 ++ dktX8_would_4
def dkwX8_would_2 : List UInt8 := [21, 5, 3, 4, 184, 1, 34, 153, 0, 19, 21, 6, 3, 17, 3, 132, 184, 1, 34, 153, 0, 7, 4]
abbrev dktX8_would_2 : List UInt8 := dkwX8_would_2 ++ dktX8_would_3
def dkwX8_would_1 : List UInt8 := [153, 0, 49, 29, 3, 8, 184, 1, 34, 153, 0, 40, 21, 4, 3, 16, 99, 184, 1, 34, 153, 0, 29]
abbrev dktX8_would_1 : List UInt8 := dkwX8_would_1 ++ dktX8_would_2
def dkwX8_would_0 : List UInt8 := [42, 3, 181, 0, 3, 42, 27, 4, 16, 9, 184, 1, 34, 153, 0, 59, 28, 3, 16, 99, 184, 1, 34]
abbrev dktX8_would_0 : List UInt8 := dkwX8_would_0 ++ dktX8_would_1
theorem dksX8_would_0 : cX8_would.data.toList.drop 0 = dktX8_would_0 := by decide +kernel
theorem dksX8_would_1 : cX8_would.data.toList.drop 23 = dktX8_would_1 := dk_seg dksX8_would_0 23 rfl rfl
theorem dksX8_would_2 : cX8_would.data.toList.drop 46 = dktX8_would_2 := dk_seg dksX8_would_1 23 rfl rfl
theorem dksX8_would_3 : cX8_would.data.toList.drop 69 = dktX8_would_3 := dk_seg dksX8_would_2 23 rfl rfl
theorem dksX8_would_4 : cX8_would.data.toList.drop 91 = dktX8_would_4 := dk_seg dksX8_would_3 22 rfl rfl
theorem dksX8_would_5 : cX8_would.data.toList.drop 113 = dktX8_would_5 := dk_seg dksX8_would_4 22 rfl rfl
theorem dksX8_would_6 : cX8_would.data.toList.drop 136 = dktX8_would_6 := dk_seg dksX8_would_5 23 rfl rfl
theorem dX8_would_0 : decode cX8_would 0 = .ok (.aload_n 0, 1) := dk_42 (dk_at dksX8_would_0 0 rfl rfl)
theorem dX8_would_1 : decode cX8_would 1 = .ok (.iconst 0, 1) := dk_3 (dk_at dksX8_would_0 1 rfl rfl)
theorem dX8_would_2 : decode cX8_would 2 = .ok (.putfield 3, 3) := dk_181 0 3 (dk_at dksX8_would_0 2 rfl rfl)
theorem dX8_would_5 : decode cX8_would 5 = .ok (.aload_n 0, 1) := dk_42 (dk_at dksX8_would_0 5 rfl rfl)
theorem dX8_would_6 : decode cX8_would 6 = .ok (.iload_n 1, 1) := dk_27 (dk_at dksX8_would_0 6 rfl rfl)
theorem dX8_would_7 : decode cX8_would 7 = .ok (.iconst 1, 1) := dk_4 (dk_at dksX8_would_0 7 rfl rfl)
theorem dX8_would_8 : decode cX8_would 8 = .ok (.bipush 9, 2) := dk_16 9 (dk_at dksX8_would_0 8 rfl rfl)
theorem dX8_would_10 : decode cX8_would 10 = .ok (.invokestatic 290, 3) := dk_184 1 34 (dk_at dksX8_would_0 10 rfl rfl)
theorem dX8_would_13 : decode cX8_would 13 = .ok (.ifCond .eq 59, 3) := dk_153 0 59 (dk_at dksX8_would_0 13 rfl rfl)
theorem dX8_would_16 : decode cX8_would 16 = .ok (.iload_n 2, 1) := dk_28 (dk_at dksX8_would_0 16 rfl rfl)
theorem dX8_would_17 : decode cX8_would 17 = .ok (.iconst 0, 1) := dk_3 (dk_at dksX8_would_0 17 rfl rfl)
theorem dX8_would_18 : decode cX8_would 18 = .ok (.bipush 99, 2) := dk_16 99 (dk_at dksX8_would_0 18 rfl rfl)
theorem dX8_would_20 : decode cX8_would 20 = .ok (.invokestatic 290, 3) := dk_184 1 34 (dk_at dksX8_would_0 20 rfl rfl)
theorem dX8_would_23 : decode cX8_would 23 = .ok (.ifCond .eq 49, 3) := dk_153 0 49 (dk_at dksX8_would_1 0 rfl rfl)
theorem dX8_would_26 : decode cX8_would 26 = .ok (.iload_n 3, 1) := dk_29 (dk_at dksX8_would_1 3 rfl rfl)
theorem dX8_would_27 : decode cX8_would 27 = .ok (.iconst 0, 1) := dk_3 (dk_at dksX8_would_1 4 rfl rfl)
theorem dX8_would_28 : decode cX8_would 28 = .ok (.iconst 5, 1) := dk_8 (dk_at dksX8_would_1 5 rfl rfl)
theorem dX8_would_29 : decode cX8_would 29 = .ok (.invokestatic 290, 3) := dk_184 1 34 (dk_at dksX8_would_1 6 rfl rfl)
theorem dX8_would_32 : decode cX8_would 32 = .ok (.ifCond .eq 40, 3) := dk_153 0 40 (dk_at dksX8_would_1 9 rfl rfl)
theorem dX8_would_35 : decode cX8_would 35 = .ok (.iload 4, 2) := dk_21 4 (dk_at dksX8_would_1 12 rfl rfl)
theorem dX8_would_37 : decode cX8_would 37 = .ok (.iconst 0, 1) := dk_3 (dk_at dksX8_would_1 14 rfl rfl)
theorem dX8_would_38 : decode cX8_would 38 = .ok (.bipush 99, 2) := dk_16 99 (dk_at dksX8_would_1 15 rfl rfl)
theorem dX8_would_40 : decode cX8_would 40 = .ok (.invokestatic 290, 3) := dk_184 1 34 (dk_at dksX8_would_1 17 rfl rfl)
theorem dX8_would_43 : decode cX8_would 43 = .ok (.ifCond .eq 29, 3) := dk_153 0 29 (dk_at dksX8_would_1 20 rfl rfl)
theorem dX8_would_46 : decode cX8_would 46 = .ok (.iload 5, 2) := dk_21 5 (dk_at dksX8_would_2 0 rfl rfl)
theorem dX8_would_48 : decode cX8_would 48 = .ok (.iconst 0, 1) := dk_3 (dk_at dksX8_would_2 2 rfl rfl)
theorem dX8_would_49 : decode cX8_would 49 = .ok (.iconst 1, 1) := dk_4 (dk_at dksX8_would_2 3 rfl rfl)
theorem dX8_would_50 : decode cX8_would 50 = .ok (.invokestatic 290, 3) := dk_184 1 34 (dk_at dksX8_would_2 4 rfl rfl)
theorem dX8_would_53 : decode cX8_would 53 = .ok (.ifCond .eq 19, 3) := dk_153 0 19 (dk_at dksX8_would_2 7 rfl rfl)
theorem dX8_would_56 : decode cX8_would 56 = .ok (.iload 6, 2) := dk_21 6 (dk_at dksX8_would_2 10 rfl rfl)
theorem dX8_would_58 : decode cX8_would 58 = .ok (.iconst 0, 1) := dk_3 (dk_at dksX8_would_2 12 rfl rfl)
theorem dX8_would_59 : decode cX8_would 59 = .ok (.sipush 900, 3) := dk_17 3 132 (dk_at dksX8_would_2 13 rfl rfl)
theorem dX8_would_62 : decode cX8_would 62 = .ok (.invokestatic 290, 3) := dk_184 1 34 (dk_at dksX8_would_2 16 rfl rfl)
theorem dX8_would_65 : decode cX8_would 65 = .ok (.ifCond .eq 7, 3) := dk_153 0 7 (dk_at dksX8_would_2 19 rfl rfl)
theorem dX8_would_68 : decode cX8_would 68 = .ok (.iconst 1, 1) := dk_4 (dk_at dksX8_would_2 22 rfl rfl)
theorem dX8_would_69 : decode cX8_would 69 = .ok (.goto 4, 3) := dk_167 0 4 (dk_at dksX8_would_3 0 rfl rfl)
theorem dX8_would_72 : decode cX8_would 72 = .ok (.iconst 0, 1) := dk_3 (dk_at dksX8_would_3 3 rfl rfl)
theorem dX8_would_73 : decode cX8_would 73 = .ok (.iconst 1, 1) := dk_4 (dk_at dksX8_would_3 4 rfl rfl)
theorem dX8_would_74 : decode cX8_would 74 = .ok (.iconst 1, 1) := dk_4 (dk_at dksX8_would_3 5 rfl rfl)
theorem dX8_would_75 : decode cX8_would 75 = .ok (.invokevirtual 207, 3) := dk_182 0 207 (dk_at dksX8_would_3 6 rfl rfl)
theorem dX8_would_78 : decode cX8_would 78 = .ok (.ifCond .ne 5, 3) := dk_154 0 5 (dk_at dksX8_would_3 9 rfl rfl)
theorem dX8_would_81 : decode cX8_would 81 = .ok (.iconst 0, 1) := dk_3 (dk_at dksX8_would_3 12 rfl rfl)
theorem dX8_would_82 : decode cX8_would 82 = .ok (.ireturn, 1) := dk_172 (dk_at dksX8_would_3 13 rfl rfl)
theorem dX8_would_83 : decode cX8_would 83 = .ok (.aload_n 0, 1) := dk_42 (dk_at dksX8_would_3 14 rfl rfl)
theorem dX8_would_84 : decode cX8_would 84 = .ok (.getfield 53, 3) := dk_180 0 53 (dk_at dksX8_would_3 15 rfl rfl)
theorem dX8_would_87 : decode cX8_would 87 = .ok (.iconst 0, 1) := dk_3 (dk_at dksX8_would_3 18 rfl rfl)
theorem dX8_would_88 : decode cX8_would 88 = .ok (.iload_n 1, 1) := dk_27 (dk_at dksX8_would_3 19 rfl rfl)
theorem dX8_would_89 : decode cX8_would 89 = .ok (.iastore, 1) := dk_79 (dk_at dksX8_would_3 20 rfl rfl)
theorem dX8_would_90 : decode cX8_would 90 = .ok (.aload_n 0, 1) := dk_42 (dk_at dksX8_would_3 21 rfl rfl)
theorem dX8_would_91 : decode cX8_would 91 = .ok (.getfield 53, 3) := dk_180 0 53 (dk_at dksX8_would_4 0 rfl rfl)
theorem dX8_would_94 : decode cX8_would 94 = .ok (.iconst 1, 1) := dk_4 (dk_at dksX8_would_4 3 rfl rfl)
theorem dX8_would_95 : decode cX8_would 95 = .ok (.iload_n 2, 1) := dk_28 (dk_at dksX8_would_4 4 rfl rfl)
theorem dX8_would_96 : decode cX8_would 96 = .ok (.iastore, 1) := dk_79 (dk_at dksX8_would_4 5 rfl rfl)
theorem dX8_would_97 : decode cX8_would 97 = .ok (.aload_n 0, 1) := dk_42 (dk_at dksX8_would_4 6 rfl rfl)
theorem dX8_would_98 : decode cX8_would 98 = .ok (.getfield 53, 3) := dk_180 0 53 (dk_at dksX8_would_4 7 rfl rfl)
theorem dX8_would_101 : decode cX8_would 101 = .ok (.iconst 2, 1) := dk_5 (dk_at dksX8_would_4 10 rfl rfl)
theorem dX8_would_102 : decode cX8_would 102 = .ok (.iload_n 3, 1) := dk_29 (dk_at dksX8_would_4 11 rfl rfl)
theorem dX8_would_103 : decode cX8_would 103 = .ok (.iastore, 1) := dk_79 (dk_at dksX8_would_4 12 rfl rfl)
theorem dX8_would_104 : decode cX8_would 104 = .ok (.aload_n 0, 1) := dk_42 (dk_at dksX8_would_4 13 rfl rfl)
theorem dX8_would_105 : decode cX8_would 105 = .ok (.getfield 53, 3) := dk_180 0 53 (dk_at dksX8_would_4 14 rfl rfl)
theorem dX8_would_108 : decode cX8_would 108 = .ok (.iconst 3, 1) := dk_6 (dk_at dksX8_would_4 17 rfl rfl)
theorem dX8_would_109 : decode cX8_would 109 = .ok (.iload 4, 2) := dk_21 4 (dk_at dksX8_would_4 18 rfl rfl)
theorem dX8_would_111 : decode cX8_would 111 = .ok (.iastore, 1) := dk_79 (dk_at dksX8_would_4 20 rfl rfl)
theorem dX8_would_112 : decode cX8_would 112 = .ok (.aload_n 0, 1) := dk_42 (dk_at dksX8_would_4 21 rfl rfl)
theorem dX8_would_113 : decode cX8_would 113 = .ok (.getfield 53, 3) := dk_180 0 53 (dk_at dksX8_would_5 0 rfl rfl)
theorem dX8_would_116 : decode cX8_would 116 = .ok (.iconst 4, 1) := dk_7 (dk_at dksX8_would_5 3 rfl rfl)
theorem dX8_would_117 : decode cX8_would 117 = .ok (.iconst 0, 1) := dk_3 (dk_at dksX8_would_5 4 rfl rfl)
theorem dX8_would_118 : decode cX8_would 118 = .ok (.iastore, 1) := dk_79 (dk_at dksX8_would_5 5 rfl rfl)
theorem dX8_would_119 : decode cX8_would 119 = .ok (.aload_n 0, 1) := dk_42 (dk_at dksX8_would_5 6 rfl rfl)
theorem dX8_would_120 : decode cX8_would 120 = .ok (.getfield 53, 3) := dk_180 0 53 (dk_at dksX8_would_5 7 rfl rfl)
theorem dX8_would_123 : decode cX8_would 123 = .ok (.iconst 5, 1) := dk_8 (dk_at dksX8_would_5 10 rfl rfl)
theorem dX8_would_124 : decode cX8_would 124 = .ok (.iload 5, 2) := dk_21 5 (dk_at dksX8_would_5 11 rfl rfl)
theorem dX8_would_126 : decode cX8_would 126 = .ok (.iastore, 1) := dk_79 (dk_at dksX8_would_5 13 rfl rfl)
theorem dX8_would_127 : decode cX8_would 127 = .ok (.aload_n 0, 1) := dk_42 (dk_at dksX8_would_5 14 rfl rfl)
theorem dX8_would_128 : decode cX8_would 128 = .ok (.getfield 53, 3) := dk_180 0 53 (dk_at dksX8_would_5 15 rfl rfl)
theorem dX8_would_131 : decode cX8_would 131 = .ok (.bipush 6, 2) := dk_16 6 (dk_at dksX8_would_5 18 rfl rfl)
theorem dX8_would_133 : decode cX8_would 133 = .ok (.iconst 0, 1) := dk_3 (dk_at dksX8_would_5 20 rfl rfl)
theorem dX8_would_134 : decode cX8_would 134 = .ok (.iastore, 1) := dk_79 (dk_at dksX8_would_5 21 rfl rfl)
theorem dX8_would_135 : decode cX8_would 135 = .ok (.aload_n 0, 1) := dk_42 (dk_at dksX8_would_5 22 rfl rfl)
theorem dX8_would_136 : decode cX8_would 136 = .ok (.getfield 53, 3) := dk_180 0 53 (dk_at dksX8_would_6 0 rfl rfl)
theorem dX8_would_139 : decode cX8_would 139 = .ok (.bipush 7, 2) := dk_16 7 (dk_at dksX8_would_6 3 rfl rfl)
theorem dX8_would_141 : decode cX8_would 141 = .ok (.iload 6, 2) := dk_21 6 (dk_at dksX8_would_6 5 rfl rfl)
theorem dX8_would_143 : decode cX8_would 143 = .ok (.iastore, 1) := dk_79 (dk_at dksX8_would_6 7 rfl rfl)
theorem dX8_would_144 : decode cX8_would 144 = .ok (.aload_n 0, 1) := dk_42 (dk_at dksX8_would_6 8 rfl rfl)
theorem dX8_would_145 : decode cX8_would 145 = .ok (.iconst 0, 1) := dk_3 (dk_at dksX8_would_6 9 rfl rfl)
theorem dX8_would_146 : decode cX8_would 146 = .ok (.invokevirtual 364, 3) := dk_182 1 108 (dk_at dksX8_would_6 10 rfl rfl)
theorem dX8_would_149 : decode cX8_would 149 = .ok (.ireturn, 1) := dk_172 (dk_at dksX8_would_6 13 rfl rfl)
abbrev cX8_held : ByteArray := prog_26_method_70_code
def yX8_held : MethodName := ⟨RX8, "held", "()I"⟩
def dkwX8_held_2 : List UInt8 := [182, 1, 115, 161, 0, 9, 4, 28, 120, 167, 0, 4, 3, 128, 60, 132, 2, 1, 167, 255, 205, 27, 172]
abbrev dktX8_held_2 : List UInt8 := dkwX8_held_2 ++ []
def dkwX8_held_1 : List UInt8 := [180, 0, 65, 3, 28, 96, 46, 5, 160, 0, 27, 42, 180, 0, 65, 16, 16, 28, 96, 46, 42, 28, 4]
abbrev dktX8_held_1 : List UInt8 := dkwX8_held_1 ++ dktX8_held_2
def dkwX8_held_0 : List UInt8 := [42, 3, 181, 0, 3, 42, 182, 1, 74, 3, 60, 3, 61, 28, 42, 180, 0, 169, 162, 0, 49, 27, 42]
abbrev dktX8_held_0 : List UInt8 := dkwX8_held_0 ++ dktX8_held_1
theorem dksX8_held_0 : cX8_held.data.toList.drop 0 = dktX8_held_0 := by decide +kernel
theorem dksX8_held_1 : cX8_held.data.toList.drop 23 = dktX8_held_1 := dk_seg dksX8_held_0 23 rfl rfl
theorem dksX8_held_2 : cX8_held.data.toList.drop 46 = dktX8_held_2 := dk_seg dksX8_held_1 23 rfl rfl
theorem dX8_held_0 : decode cX8_held 0 = .ok (.aload_n 0, 1) := dk_42 (dk_at dksX8_held_0 0 rfl rfl)
theorem dX8_held_1 : decode cX8_held 1 = .ok (.iconst 0, 1) := dk_3 (dk_at dksX8_held_0 1 rfl rfl)
theorem dX8_held_2 : decode cX8_held 2 = .ok (.putfield 3, 3) := dk_181 0 3 (dk_at dksX8_held_0 2 rfl rfl)
theorem dX8_held_5 : decode cX8_held 5 = .ok (.aload_n 0, 1) := dk_42 (dk_at dksX8_held_0 5 rfl rfl)
theorem dX8_held_6 : decode cX8_held 6 = .ok (.invokevirtual 330, 3) := dk_182 1 74 (dk_at dksX8_held_0 6 rfl rfl)
theorem dX8_held_9 : decode cX8_held 9 = .ok (.iconst 0, 1) := dk_3 (dk_at dksX8_held_0 9 rfl rfl)
theorem dX8_held_10 : decode cX8_held 10 = .ok (.istore_n 1, 1) := dk_60 (dk_at dksX8_held_0 10 rfl rfl)
theorem dX8_held_11 : decode cX8_held 11 = .ok (.iconst 0, 1) := dk_3 (dk_at dksX8_held_0 11 rfl rfl)
theorem dX8_held_12 : decode cX8_held 12 = .ok (.istore_n 2, 1) := dk_61 (dk_at dksX8_held_0 12 rfl rfl)
theorem dX8_held_13 : decode cX8_held 13 = .ok (.iload_n 2, 1) := dk_28 (dk_at dksX8_held_0 13 rfl rfl)
theorem dX8_held_14 : decode cX8_held 14 = .ok (.aload_n 0, 1) := dk_42 (dk_at dksX8_held_0 14 rfl rfl)
theorem dX8_held_15 : decode cX8_held 15 = .ok (.getfield 169, 3) := dk_180 0 169 (dk_at dksX8_held_0 15 rfl rfl)
theorem dX8_held_18 : decode cX8_held 18 = .ok (.if_icmp .ge 49, 3) := dk_162 0 49 (dk_at dksX8_held_0 18 rfl rfl)
theorem dX8_held_21 : decode cX8_held 21 = .ok (.iload_n 1, 1) := dk_27 (dk_at dksX8_held_0 21 rfl rfl)
theorem dX8_held_22 : decode cX8_held 22 = .ok (.aload_n 0, 1) := dk_42 (dk_at dksX8_held_0 22 rfl rfl)
theorem dX8_held_23 : decode cX8_held 23 = .ok (.getfield 65, 3) := dk_180 0 65 (dk_at dksX8_held_1 0 rfl rfl)
theorem dX8_held_26 : decode cX8_held 26 = .ok (.iconst 0, 1) := dk_3 (dk_at dksX8_held_1 3 rfl rfl)
theorem dX8_held_27 : decode cX8_held 27 = .ok (.iload_n 2, 1) := dk_28 (dk_at dksX8_held_1 4 rfl rfl)
theorem dX8_held_28 : decode cX8_held 28 = .ok (.iadd, 1) := dk_96 (dk_at dksX8_held_1 5 rfl rfl)
theorem dX8_held_29 : decode cX8_held 29 = .ok (.iaload, 1) := dk_46 (dk_at dksX8_held_1 6 rfl rfl)
theorem dX8_held_30 : decode cX8_held 30 = .ok (.iconst 2, 1) := dk_5 (dk_at dksX8_held_1 7 rfl rfl)
theorem dX8_held_31 : decode cX8_held 31 = .ok (.if_icmp .ne 27, 3) := dk_160 0 27 (dk_at dksX8_held_1 8 rfl rfl)
theorem dX8_held_34 : decode cX8_held 34 = .ok (.aload_n 0, 1) := dk_42 (dk_at dksX8_held_1 11 rfl rfl)
theorem dX8_held_35 : decode cX8_held 35 = .ok (.getfield 65, 3) := dk_180 0 65 (dk_at dksX8_held_1 12 rfl rfl)
theorem dX8_held_38 : decode cX8_held 38 = .ok (.bipush 16, 2) := dk_16 16 (dk_at dksX8_held_1 15 rfl rfl)
theorem dX8_held_40 : decode cX8_held 40 = .ok (.iload_n 2, 1) := dk_28 (dk_at dksX8_held_1 17 rfl rfl)
theorem dX8_held_41 : decode cX8_held 41 = .ok (.iadd, 1) := dk_96 (dk_at dksX8_held_1 18 rfl rfl)
theorem dX8_held_42 : decode cX8_held 42 = .ok (.iaload, 1) := dk_46 (dk_at dksX8_held_1 19 rfl rfl)
theorem dX8_held_43 : decode cX8_held 43 = .ok (.aload_n 0, 1) := dk_42 (dk_at dksX8_held_1 20 rfl rfl)
theorem dX8_held_44 : decode cX8_held 44 = .ok (.iload_n 2, 1) := dk_28 (dk_at dksX8_held_1 21 rfl rfl)
theorem dX8_held_45 : decode cX8_held 45 = .ok (.iconst 1, 1) := dk_4 (dk_at dksX8_held_1 22 rfl rfl)
theorem dX8_held_46 : decode cX8_held 46 = .ok (.invokevirtual 371, 3) := dk_182 1 115 (dk_at dksX8_held_2 0 rfl rfl)
theorem dX8_held_49 : decode cX8_held 49 = .ok (.if_icmp .lt 9, 3) := dk_161 0 9 (dk_at dksX8_held_2 3 rfl rfl)
theorem dX8_held_52 : decode cX8_held 52 = .ok (.iconst 1, 1) := dk_4 (dk_at dksX8_held_2 6 rfl rfl)
theorem dX8_held_53 : decode cX8_held 53 = .ok (.iload_n 2, 1) := dk_28 (dk_at dksX8_held_2 7 rfl rfl)
theorem dX8_held_54 : decode cX8_held 54 = .ok (.ishl, 1) := dk_120 (dk_at dksX8_held_2 8 rfl rfl)
theorem dX8_held_55 : decode cX8_held 55 = .ok (.goto 4, 3) := dk_167 0 4 (dk_at dksX8_held_2 9 rfl rfl)
theorem dX8_held_58 : decode cX8_held 58 = .ok (.iconst 0, 1) := dk_3 (dk_at dksX8_held_2 12 rfl rfl)
theorem dX8_held_59 : decode cX8_held 59 = .ok (.ior, 1) := dk_128 (dk_at dksX8_held_2 13 rfl rfl)
theorem dX8_held_60 : decode cX8_held 60 = .ok (.istore_n 1, 1) := dk_60 (dk_at dksX8_held_2 14 rfl rfl)
theorem dX8_held_61 : decode cX8_held 61 = .ok (.iinc 2 1, 3) := dk_132 2 1 (dk_at dksX8_held_2 15 rfl rfl)
theorem dX8_held_64 : decode cX8_held 64 = .ok (.goto (-51), 3) := dk_167 255 205 (dk_at dksX8_held_2 18 rfl rfl)
theorem dX8_held_67 : decode cX8_held 67 = .ok (.iload_n 1, 1) := dk_27 (dk_at dksX8_held_2 21 rfl rfl)
theorem dX8_held_68 : decode cX8_held 68 = .ok (.ireturn, 1) := dk_172 (dk_at dksX8_held_2 22 rfl rfl)
abbrev cX8_freeIn : ByteArray := prog_26_method_72_code
def yX8_freeIn : MethodName := ⟨RX8, "freeIn", "(I)I"⟩
def dkwX8_freeIn_0 : List UInt8 := [42, 3, 181, 0, 3, 42, 27, 4, 182, 1, 148, 154, 0, 5, 3, 172, 42, 27, 3, 182, 1, 154, 172]
abbrev dktX8_freeIn_0 : List UInt8 := dkwX8_freeIn_0 ++ []
theorem dksX8_freeIn_0 : cX8_freeIn.data.toList.drop 0 = dktX8_freeIn_0 := by decide +kernel
theorem dX8_freeIn_0 : decode cX8_freeIn 0 = .ok (.aload_n 0, 1) := dk_42 (dk_at dksX8_freeIn_0 0 rfl rfl)
theorem dX8_freeIn_1 : decode cX8_freeIn 1 = .ok (.iconst 0, 1) := dk_3 (dk_at dksX8_freeIn_0 1 rfl rfl)
theorem dX8_freeIn_2 : decode cX8_freeIn 2 = .ok (.putfield 3, 3) := dk_181 0 3 (dk_at dksX8_freeIn_0 2 rfl rfl)
theorem dX8_freeIn_5 : decode cX8_freeIn 5 = .ok (.aload_n 0, 1) := dk_42 (dk_at dksX8_freeIn_0 5 rfl rfl)
theorem dX8_freeIn_6 : decode cX8_freeIn 6 = .ok (.iload_n 1, 1) := dk_27 (dk_at dksX8_freeIn_0 6 rfl rfl)
theorem dX8_freeIn_7 : decode cX8_freeIn 7 = .ok (.iconst 1, 1) := dk_4 (dk_at dksX8_freeIn_0 7 rfl rfl)
theorem dX8_freeIn_8 : decode cX8_freeIn 8 = .ok (.invokevirtual 404, 3) := dk_182 1 148 (dk_at dksX8_freeIn_0 8 rfl rfl)
theorem dX8_freeIn_11 : decode cX8_freeIn 11 = .ok (.ifCond .ne 5, 3) := dk_154 0 5 (dk_at dksX8_freeIn_0 11 rfl rfl)
theorem dX8_freeIn_14 : decode cX8_freeIn 14 = .ok (.iconst 0, 1) := dk_3 (dk_at dksX8_freeIn_0 14 rfl rfl)
theorem dX8_freeIn_15 : decode cX8_freeIn 15 = .ok (.ireturn, 1) := dk_172 (dk_at dksX8_freeIn_0 15 rfl rfl)
theorem dX8_freeIn_16 : decode cX8_freeIn 16 = .ok (.aload_n 0, 1) := dk_42 (dk_at dksX8_freeIn_0 16 rfl rfl)
theorem dX8_freeIn_17 : decode cX8_freeIn 17 = .ok (.iload_n 1, 1) := dk_27 (dk_at dksX8_freeIn_0 17 rfl rfl)
theorem dX8_freeIn_18 : decode cX8_freeIn 18 = .ok (.iconst 0, 1) := dk_3 (dk_at dksX8_freeIn_0 18 rfl rfl)
theorem dX8_freeIn_19 : decode cX8_freeIn 19 = .ok (.invokevirtual 410, 3) := dk_182 1 154 (dk_at dksX8_freeIn_0 19 rfl rfl)
theorem dX8_freeIn_22 : decode cX8_freeIn 22 = .ok (.ireturn, 1) := dk_172 (dk_at dksX8_freeIn_0 22 rfl rfl)
abbrev cX8_freeBy : ByteArray := prog_26_method_71_code
def yX8_freeBy : MethodName := ⟨RX8, "freeBy", "(II)I"⟩
def dkwX8_freeBy_2 : List UInt8 := [29, 172, 132, 3, 1, 167, 255, 228, 2, 172]
abbrev dktX8_freeBy_2 : List UInt8 := dkwX8_freeBy_2 ++ []
def dkwX8_freeBy_1 : List UInt8 := [62, 29, 17, 2, 88, 163, 0, 27, 42, 182, 1, 145, 42, 180, 0, 65, 3, 27, 96, 46, 6, 160, 0, 5]
abbrev dktX8_freeBy_1 : List UInt8 := dkwX8_freeBy_1 ++ dktX8_freeBy_2
def dkwX8_freeBy_0 : List UInt8 := [42, 182, 1, 74, 42, 28, 181, 1, 92, 42, 180, 0, 65, 3, 27, 96, 46, 5, 159, 0, 5, 2, 172, 4]
abbrev dktX8_freeBy_0 : List UInt8 := dkwX8_freeBy_0 ++ dktX8_freeBy_1
theorem dksX8_freeBy_0 : cX8_freeBy.data.toList.drop 0 = dktX8_freeBy_0 := by decide +kernel
theorem dksX8_freeBy_1 : cX8_freeBy.data.toList.drop 24 = dktX8_freeBy_1 := dk_seg dksX8_freeBy_0 24 rfl rfl
theorem dksX8_freeBy_2 : cX8_freeBy.data.toList.drop 48 = dktX8_freeBy_2 := dk_seg dksX8_freeBy_1 24 rfl rfl
theorem dX8_freeBy_0 : decode cX8_freeBy 0 = .ok (.aload_n 0, 1) := dk_42 (dk_at dksX8_freeBy_0 0 rfl rfl)
theorem dX8_freeBy_1 : decode cX8_freeBy 1 = .ok (.invokevirtual 330, 3) := dk_182 1 74 (dk_at dksX8_freeBy_0 1 rfl rfl)
theorem dX8_freeBy_4 : decode cX8_freeBy 4 = .ok (.aload_n 0, 1) := dk_42 (dk_at dksX8_freeBy_0 4 rfl rfl)
theorem dX8_freeBy_5 : decode cX8_freeBy 5 = .ok (.iload_n 2, 1) := dk_28 (dk_at dksX8_freeBy_0 5 rfl rfl)
theorem dX8_freeBy_6 : decode cX8_freeBy 6 = .ok (.putfield 348, 3) := dk_181 1 92 (dk_at dksX8_freeBy_0 6 rfl rfl)
theorem dX8_freeBy_9 : decode cX8_freeBy 9 = .ok (.aload_n 0, 1) := dk_42 (dk_at dksX8_freeBy_0 9 rfl rfl)
theorem dX8_freeBy_10 : decode cX8_freeBy 10 = .ok (.getfield 65, 3) := dk_180 0 65 (dk_at dksX8_freeBy_0 10 rfl rfl)
theorem dX8_freeBy_13 : decode cX8_freeBy 13 = .ok (.iconst 0, 1) := dk_3 (dk_at dksX8_freeBy_0 13 rfl rfl)
theorem dX8_freeBy_14 : decode cX8_freeBy 14 = .ok (.iload_n 1, 1) := dk_27 (dk_at dksX8_freeBy_0 14 rfl rfl)
theorem dX8_freeBy_15 : decode cX8_freeBy 15 = .ok (.iadd, 1) := dk_96 (dk_at dksX8_freeBy_0 15 rfl rfl)
theorem dX8_freeBy_16 : decode cX8_freeBy 16 = .ok (.iaload, 1) := dk_46 (dk_at dksX8_freeBy_0 16 rfl rfl)
theorem dX8_freeBy_17 : decode cX8_freeBy 17 = .ok (.iconst 2, 1) := dk_5 (dk_at dksX8_freeBy_0 17 rfl rfl)
theorem dX8_freeBy_18 : decode cX8_freeBy 18 = .ok (.if_icmp .eq 5, 3) := dk_159 0 5 (dk_at dksX8_freeBy_0 18 rfl rfl)
theorem dX8_freeBy_21 : decode cX8_freeBy 21 = .ok (.iconst (-1), 1) := dk_2 (dk_at dksX8_freeBy_0 21 rfl rfl)
theorem dX8_freeBy_22 : decode cX8_freeBy 22 = .ok (.ireturn, 1) := dk_172 (dk_at dksX8_freeBy_0 22 rfl rfl)
theorem dX8_freeBy_23 : decode cX8_freeBy 23 = .ok (.iconst 1, 1) := dk_4 (dk_at dksX8_freeBy_0 23 rfl rfl)
theorem dX8_freeBy_24 : decode cX8_freeBy 24 = .ok (.istore_n 3, 1) := dk_62 (dk_at dksX8_freeBy_1 0 rfl rfl)
theorem dX8_freeBy_25 : decode cX8_freeBy 25 = .ok (.iload_n 3, 1) := dk_29 (dk_at dksX8_freeBy_1 1 rfl rfl)
theorem dX8_freeBy_26 : decode cX8_freeBy 26 = .ok (.sipush 600, 3) := dk_17 2 88 (dk_at dksX8_freeBy_1 2 rfl rfl)
theorem dX8_freeBy_29 : decode cX8_freeBy 29 = .ok (.if_icmp .gt 27, 3) := dk_163 0 27 (dk_at dksX8_freeBy_1 5 rfl rfl)
theorem dX8_freeBy_32 : decode cX8_freeBy 32 = .ok (.aload_n 0, 1) := dk_42 (dk_at dksX8_freeBy_1 8 rfl rfl)
theorem dX8_freeBy_33 : decode cX8_freeBy 33 = .ok (.invokevirtual 401, 3) := dk_182 1 145 (dk_at dksX8_freeBy_1 9 rfl rfl)
theorem dX8_freeBy_36 : decode cX8_freeBy 36 = .ok (.aload_n 0, 1) := dk_42 (dk_at dksX8_freeBy_1 12 rfl rfl)
theorem dX8_freeBy_37 : decode cX8_freeBy 37 = .ok (.getfield 65, 3) := dk_180 0 65 (dk_at dksX8_freeBy_1 13 rfl rfl)
theorem dX8_freeBy_40 : decode cX8_freeBy 40 = .ok (.iconst 0, 1) := dk_3 (dk_at dksX8_freeBy_1 16 rfl rfl)
theorem dX8_freeBy_41 : decode cX8_freeBy 41 = .ok (.iload_n 1, 1) := dk_27 (dk_at dksX8_freeBy_1 17 rfl rfl)
theorem dX8_freeBy_42 : decode cX8_freeBy 42 = .ok (.iadd, 1) := dk_96 (dk_at dksX8_freeBy_1 18 rfl rfl)
theorem dX8_freeBy_43 : decode cX8_freeBy 43 = .ok (.iaload, 1) := dk_46 (dk_at dksX8_freeBy_1 19 rfl rfl)
theorem dX8_freeBy_44 : decode cX8_freeBy 44 = .ok (.iconst 3, 1) := dk_6 (dk_at dksX8_freeBy_1 20 rfl rfl)
theorem dX8_freeBy_45 : decode cX8_freeBy 45 = .ok (.if_icmp .ne 5, 3) := dk_160 0 5 (dk_at dksX8_freeBy_1 21 rfl rfl)
theorem dX8_freeBy_48 : decode cX8_freeBy 48 = .ok (.iload_n 3, 1) := dk_29 (dk_at dksX8_freeBy_2 0 rfl rfl)
theorem dX8_freeBy_49 : decode cX8_freeBy 49 = .ok (.ireturn, 1) := dk_172 (dk_at dksX8_freeBy_2 1 rfl rfl)
theorem dX8_freeBy_50 : decode cX8_freeBy 50 = .ok (.iinc 3 1, 3) := dk_132 3 1 (dk_at dksX8_freeBy_2 2 rfl rfl)
theorem dX8_freeBy_53 : decode cX8_freeBy 53 = .ok (.goto (-28), 3) := dk_167 255 228 (dk_at dksX8_freeBy_2 5 rfl rfl)
theorem dX8_freeBy_56 : decode cX8_freeBy 56 = .ok (.iconst (-1), 1) := dk_2 (dk_at dksX8_freeBy_2 8 rfl rfl)
theorem dX8_freeBy_57 : decode cX8_freeBy 57 = .ok (.ireturn, 1) := dk_172 (dk_at dksX8_freeBy_2 9 rfl rfl)
abbrev cX8_otherwise : ByteArray := prog_26_method_73_code
def yX8_otherwise : MethodName := ⟨RX8, "otherwise", "(I)I"⟩
def dkwX8_otherwise_0 : List UInt8 := [42, 3, 181, 0, 3, 42, 27, 4, 182, 1, 148, 154, 0, 5, 3, 172, 42, 27, 4, 182, 1, 154, 172]
abbrev dktX8_otherwise_0 : List UInt8 := dkwX8_otherwise_0 ++ []
theorem dksX8_otherwise_0 : cX8_otherwise.data.toList.drop 0 = dktX8_otherwise_0 := by decide +kernel
theorem dX8_otherwise_0 : decode cX8_otherwise 0 = .ok (.aload_n 0, 1) := dk_42 (dk_at dksX8_otherwise_0 0 rfl rfl)
theorem dX8_otherwise_1 : decode cX8_otherwise 1 = .ok (.iconst 0, 1) := dk_3 (dk_at dksX8_otherwise_0 1 rfl rfl)
theorem dX8_otherwise_2 : decode cX8_otherwise 2 = .ok (.putfield 3, 3) := dk_181 0 3 (dk_at dksX8_otherwise_0 2 rfl rfl)
theorem dX8_otherwise_5 : decode cX8_otherwise 5 = .ok (.aload_n 0, 1) := dk_42 (dk_at dksX8_otherwise_0 5 rfl rfl)
theorem dX8_otherwise_6 : decode cX8_otherwise 6 = .ok (.iload_n 1, 1) := dk_27 (dk_at dksX8_otherwise_0 6 rfl rfl)
theorem dX8_otherwise_7 : decode cX8_otherwise 7 = .ok (.iconst 1, 1) := dk_4 (dk_at dksX8_otherwise_0 7 rfl rfl)
theorem dX8_otherwise_8 : decode cX8_otherwise 8 = .ok (.invokevirtual 404, 3) := dk_182 1 148 (dk_at dksX8_otherwise_0 8 rfl rfl)
theorem dX8_otherwise_11 : decode cX8_otherwise 11 = .ok (.ifCond .ne 5, 3) := dk_154 0 5 (dk_at dksX8_otherwise_0 11 rfl rfl)
theorem dX8_otherwise_14 : decode cX8_otherwise 14 = .ok (.iconst 0, 1) := dk_3 (dk_at dksX8_otherwise_0 14 rfl rfl)
theorem dX8_otherwise_15 : decode cX8_otherwise 15 = .ok (.ireturn, 1) := dk_172 (dk_at dksX8_otherwise_0 15 rfl rfl)
theorem dX8_otherwise_16 : decode cX8_otherwise 16 = .ok (.aload_n 0, 1) := dk_42 (dk_at dksX8_otherwise_0 16 rfl rfl)
theorem dX8_otherwise_17 : decode cX8_otherwise 17 = .ok (.iload_n 1, 1) := dk_27 (dk_at dksX8_otherwise_0 17 rfl rfl)
theorem dX8_otherwise_18 : decode cX8_otherwise 18 = .ok (.iconst 1, 1) := dk_4 (dk_at dksX8_otherwise_0 18 rfl rfl)
theorem dX8_otherwise_19 : decode cX8_otherwise 19 = .ok (.invokevirtual 410, 3) := dk_182 1 154 (dk_at dksX8_otherwise_0 19 rfl rfl)
theorem dX8_otherwise_22 : decode cX8_otherwise 22 = .ok (.ireturn, 1) := dk_172 (dk_at dksX8_otherwise_0 22 rfl rfl)
abbrev cX8_ahead : ByteArray := prog_26_method_74_code
def yX8_ahead : MethodName := ⟨RX8, "ahead", "(II)I"⟩
def dkwX8_ahead_3 : List UInt8 := [167, 0, 19, 28, 4, 160, 0, 10, 42, 180, 1, 98, 167, 0, 7, 42, 180, 1, 95, 172]
abbrev dktX8_ahead_3 : List UInt8 := dkwX8_ahead_3 ++ []
def dkwX8_ahead_2 : List UInt8 := [29, 27, 162, 0, 13, 42, 182, 1, 145, 132, 3, 1, 167, 255, 244, 28, 154, 0, 11, 42, 6, 182, 1, 118]
abbrev dktX8_ahead_2 : List UInt8 := dkwX8_ahead_2 ++ dktX8_ahead_3
def dkwX8_ahead_1 : List UInt8 := [153, 0, 7, 4, 167, 0, 4, 3, 4, 4, 182, 0, 207, 154, 0, 5, 3, 172, 42, 182, 1, 74, 3, 62]
abbrev dktX8_ahead_1 : List UInt8 := dkwX8_ahead_1 ++ dktX8_ahead_2
def dkwX8_ahead_0 : List UInt8 := [42, 3, 181, 0, 3, 42, 27, 3, 17, 2, 88, 184, 1, 34, 153, 0, 16, 28, 3, 5, 184, 1, 34]
abbrev dktX8_ahead_0 : List UInt8 := dkwX8_ahead_0 ++ dktX8_ahead_1
theorem dksX8_ahead_0 : cX8_ahead.data.toList.drop 0 = dktX8_ahead_0 := by decide +kernel
theorem dksX8_ahead_1 : cX8_ahead.data.toList.drop 23 = dktX8_ahead_1 := dk_seg dksX8_ahead_0 23 rfl rfl
theorem dksX8_ahead_2 : cX8_ahead.data.toList.drop 47 = dktX8_ahead_2 := dk_seg dksX8_ahead_1 24 rfl rfl
theorem dksX8_ahead_3 : cX8_ahead.data.toList.drop 71 = dktX8_ahead_3 := dk_seg dksX8_ahead_2 24 rfl rfl
theorem dX8_ahead_0 : decode cX8_ahead 0 = .ok (.aload_n 0, 1) := dk_42 (dk_at dksX8_ahead_0 0 rfl rfl)
theorem dX8_ahead_1 : decode cX8_ahead 1 = .ok (.iconst 0, 1) := dk_3 (dk_at dksX8_ahead_0 1 rfl rfl)
theorem dX8_ahead_2 : decode cX8_ahead 2 = .ok (.putfield 3, 3) := dk_181 0 3 (dk_at dksX8_ahead_0 2 rfl rfl)
theorem dX8_ahead_5 : decode cX8_ahead 5 = .ok (.aload_n 0, 1) := dk_42 (dk_at dksX8_ahead_0 5 rfl rfl)
theorem dX8_ahead_6 : decode cX8_ahead 6 = .ok (.iload_n 1, 1) := dk_27 (dk_at dksX8_ahead_0 6 rfl rfl)
theorem dX8_ahead_7 : decode cX8_ahead 7 = .ok (.iconst 0, 1) := dk_3 (dk_at dksX8_ahead_0 7 rfl rfl)
theorem dX8_ahead_8 : decode cX8_ahead 8 = .ok (.sipush 600, 3) := dk_17 2 88 (dk_at dksX8_ahead_0 8 rfl rfl)
theorem dX8_ahead_11 : decode cX8_ahead 11 = .ok (.invokestatic 290, 3) := dk_184 1 34 (dk_at dksX8_ahead_0 11 rfl rfl)
theorem dX8_ahead_14 : decode cX8_ahead 14 = .ok (.ifCond .eq 16, 3) := dk_153 0 16 (dk_at dksX8_ahead_0 14 rfl rfl)
theorem dX8_ahead_17 : decode cX8_ahead 17 = .ok (.iload_n 2, 1) := dk_28 (dk_at dksX8_ahead_0 17 rfl rfl)
theorem dX8_ahead_18 : decode cX8_ahead 18 = .ok (.iconst 0, 1) := dk_3 (dk_at dksX8_ahead_0 18 rfl rfl)
theorem dX8_ahead_19 : decode cX8_ahead 19 = .ok (.iconst 2, 1) := dk_5 (dk_at dksX8_ahead_0 19 rfl rfl)
theorem dX8_ahead_20 : decode cX8_ahead 20 = .ok (.invokestatic 290, 3) := dk_184 1 34 (dk_at dksX8_ahead_0 20 rfl rfl)
theorem dX8_ahead_23 : decode cX8_ahead 23 = .ok (.ifCond .eq 7, 3) := dk_153 0 7 (dk_at dksX8_ahead_1 0 rfl rfl)
theorem dX8_ahead_26 : decode cX8_ahead 26 = .ok (.iconst 1, 1) := dk_4 (dk_at dksX8_ahead_1 3 rfl rfl)
theorem dX8_ahead_27 : decode cX8_ahead 27 = .ok (.goto 4, 3) := dk_167 0 4 (dk_at dksX8_ahead_1 4 rfl rfl)
theorem dX8_ahead_30 : decode cX8_ahead 30 = .ok (.iconst 0, 1) := dk_3 (dk_at dksX8_ahead_1 7 rfl rfl)
theorem dX8_ahead_31 : decode cX8_ahead 31 = .ok (.iconst 1, 1) := dk_4 (dk_at dksX8_ahead_1 8 rfl rfl)
theorem dX8_ahead_32 : decode cX8_ahead 32 = .ok (.iconst 1, 1) := dk_4 (dk_at dksX8_ahead_1 9 rfl rfl)
theorem dX8_ahead_33 : decode cX8_ahead 33 = .ok (.invokevirtual 207, 3) := dk_182 0 207 (dk_at dksX8_ahead_1 10 rfl rfl)
theorem dX8_ahead_36 : decode cX8_ahead 36 = .ok (.ifCond .ne 5, 3) := dk_154 0 5 (dk_at dksX8_ahead_1 13 rfl rfl)
theorem dX8_ahead_39 : decode cX8_ahead 39 = .ok (.iconst 0, 1) := dk_3 (dk_at dksX8_ahead_1 16 rfl rfl)
theorem dX8_ahead_40 : decode cX8_ahead 40 = .ok (.ireturn, 1) := dk_172 (dk_at dksX8_ahead_1 17 rfl rfl)
theorem dX8_ahead_41 : decode cX8_ahead 41 = .ok (.aload_n 0, 1) := dk_42 (dk_at dksX8_ahead_1 18 rfl rfl)
theorem dX8_ahead_42 : decode cX8_ahead 42 = .ok (.invokevirtual 330, 3) := dk_182 1 74 (dk_at dksX8_ahead_1 19 rfl rfl)
theorem dX8_ahead_45 : decode cX8_ahead 45 = .ok (.iconst 0, 1) := dk_3 (dk_at dksX8_ahead_1 22 rfl rfl)
theorem dX8_ahead_46 : decode cX8_ahead 46 = .ok (.istore_n 3, 1) := dk_62 (dk_at dksX8_ahead_1 23 rfl rfl)
theorem dX8_ahead_47 : decode cX8_ahead 47 = .ok (.iload_n 3, 1) := dk_29 (dk_at dksX8_ahead_2 0 rfl rfl)
theorem dX8_ahead_48 : decode cX8_ahead 48 = .ok (.iload_n 1, 1) := dk_27 (dk_at dksX8_ahead_2 1 rfl rfl)
theorem dX8_ahead_49 : decode cX8_ahead 49 = .ok (.if_icmp .ge 13, 3) := dk_162 0 13 (dk_at dksX8_ahead_2 2 rfl rfl)
theorem dX8_ahead_52 : decode cX8_ahead 52 = .ok (.aload_n 0, 1) := dk_42 (dk_at dksX8_ahead_2 5 rfl rfl)
theorem dX8_ahead_53 : decode cX8_ahead 53 = .ok (.invokevirtual 401, 3) := dk_182 1 145 (dk_at dksX8_ahead_2 6 rfl rfl)
theorem dX8_ahead_56 : decode cX8_ahead 56 = .ok (.iinc 3 1, 3) := dk_132 3 1 (dk_at dksX8_ahead_2 9 rfl rfl)
theorem dX8_ahead_59 : decode cX8_ahead 59 = .ok (.goto (-12), 3) := dk_167 255 244 (dk_at dksX8_ahead_2 12 rfl rfl)
theorem dX8_ahead_62 : decode cX8_ahead 62 = .ok (.iload_n 2, 1) := dk_28 (dk_at dksX8_ahead_2 15 rfl rfl)
theorem dX8_ahead_63 : decode cX8_ahead 63 = .ok (.ifCond .ne 11, 3) := dk_154 0 11 (dk_at dksX8_ahead_2 16 rfl rfl)
theorem dX8_ahead_66 : decode cX8_ahead 66 = .ok (.aload_n 0, 1) := dk_42 (dk_at dksX8_ahead_2 19 rfl rfl)
theorem dX8_ahead_67 : decode cX8_ahead 67 = .ok (.iconst 3, 1) := dk_6 (dk_at dksX8_ahead_2 20 rfl rfl)
theorem dX8_ahead_68 : decode cX8_ahead 68 = .ok (.invokevirtual 374, 3) := dk_182 1 118 (dk_at dksX8_ahead_2 21 rfl rfl)
theorem dX8_ahead_71 : decode cX8_ahead 71 = .ok (.goto 19, 3) := dk_167 0 19 (dk_at dksX8_ahead_3 0 rfl rfl)
theorem dX8_ahead_74 : decode cX8_ahead 74 = .ok (.iload_n 2, 1) := dk_28 (dk_at dksX8_ahead_3 3 rfl rfl)
theorem dX8_ahead_75 : decode cX8_ahead 75 = .ok (.iconst 1, 1) := dk_4 (dk_at dksX8_ahead_3 4 rfl rfl)
theorem dX8_ahead_76 : decode cX8_ahead 76 = .ok (.if_icmp .ne 10, 3) := dk_160 0 10 (dk_at dksX8_ahead_3 5 rfl rfl)
theorem dX8_ahead_79 : decode cX8_ahead 79 = .ok (.aload_n 0, 1) := dk_42 (dk_at dksX8_ahead_3 8 rfl rfl)
theorem dX8_ahead_80 : decode cX8_ahead 80 = .ok (.getfield 354, 3) := dk_180 1 98 (dk_at dksX8_ahead_3 9 rfl rfl)
theorem dX8_ahead_83 : decode cX8_ahead 83 = .ok (.goto 7, 3) := dk_167 0 7 (dk_at dksX8_ahead_3 12 rfl rfl)
theorem dX8_ahead_86 : decode cX8_ahead 86 = .ok (.aload_n 0, 1) := dk_42 (dk_at dksX8_ahead_3 15 rfl rfl)
theorem dX8_ahead_87 : decode cX8_ahead 87 = .ok (.getfield 351, 3) := dk_180 1 95 (dk_at dksX8_ahead_3 16 rfl rfl)
theorem dX8_ahead_90 : decode cX8_ahead 90 = .ok (.ireturn, 1) := dk_172 (dk_at dksX8_ahead_3 19 rfl rfl)
abbrev cX8_gives : ByteArray := prog_26_method_76_code
def yX8_gives : MethodName := ⟨RX8, "gives", "(II)I"⟩
def dkwX8_gives_1 : List UInt8 := [172, 42, 182, 1, 74, 42, 27, 28, 182, 1, 157, 172]
abbrev dktX8_gives_1 : List UInt8 := dkwX8_gives_1 ++ []
def dkwX8_gives_0 : List UInt8 := [42, 3, 181, 0, 3, 42, 27, 4, 182, 1, 151, 153, 0, 12, 42, 28, 4, 182, 1, 148, 154, 0, 5, 3]
abbrev dktX8_gives_0 : List UInt8 := dkwX8_gives_0 ++ dktX8_gives_1
theorem dksX8_gives_0 : cX8_gives.data.toList.drop 0 = dktX8_gives_0 := by decide +kernel
theorem dksX8_gives_1 : cX8_gives.data.toList.drop 24 = dktX8_gives_1 := dk_seg dksX8_gives_0 24 rfl rfl
theorem dX8_gives_0 : decode cX8_gives 0 = .ok (.aload_n 0, 1) := dk_42 (dk_at dksX8_gives_0 0 rfl rfl)
theorem dX8_gives_1 : decode cX8_gives 1 = .ok (.iconst 0, 1) := dk_3 (dk_at dksX8_gives_0 1 rfl rfl)
theorem dX8_gives_2 : decode cX8_gives 2 = .ok (.putfield 3, 3) := dk_181 0 3 (dk_at dksX8_gives_0 2 rfl rfl)
theorem dX8_gives_5 : decode cX8_gives 5 = .ok (.aload_n 0, 1) := dk_42 (dk_at dksX8_gives_0 5 rfl rfl)
theorem dX8_gives_6 : decode cX8_gives 6 = .ok (.iload_n 1, 1) := dk_27 (dk_at dksX8_gives_0 6 rfl rfl)
theorem dX8_gives_7 : decode cX8_gives 7 = .ok (.iconst 1, 1) := dk_4 (dk_at dksX8_gives_0 7 rfl rfl)
theorem dX8_gives_8 : decode cX8_gives 8 = .ok (.invokevirtual 407, 3) := dk_182 1 151 (dk_at dksX8_gives_0 8 rfl rfl)
theorem dX8_gives_11 : decode cX8_gives 11 = .ok (.ifCond .eq 12, 3) := dk_153 0 12 (dk_at dksX8_gives_0 11 rfl rfl)
theorem dX8_gives_14 : decode cX8_gives 14 = .ok (.aload_n 0, 1) := dk_42 (dk_at dksX8_gives_0 14 rfl rfl)
theorem dX8_gives_15 : decode cX8_gives 15 = .ok (.iload_n 2, 1) := dk_28 (dk_at dksX8_gives_0 15 rfl rfl)
theorem dX8_gives_16 : decode cX8_gives 16 = .ok (.iconst 1, 1) := dk_4 (dk_at dksX8_gives_0 16 rfl rfl)
theorem dX8_gives_17 : decode cX8_gives 17 = .ok (.invokevirtual 404, 3) := dk_182 1 148 (dk_at dksX8_gives_0 17 rfl rfl)
theorem dX8_gives_20 : decode cX8_gives 20 = .ok (.ifCond .ne 5, 3) := dk_154 0 5 (dk_at dksX8_gives_0 20 rfl rfl)
theorem dX8_gives_23 : decode cX8_gives 23 = .ok (.iconst 0, 1) := dk_3 (dk_at dksX8_gives_0 23 rfl rfl)
theorem dX8_gives_24 : decode cX8_gives 24 = .ok (.ireturn, 1) := dk_172 (dk_at dksX8_gives_1 0 rfl rfl)
theorem dX8_gives_25 : decode cX8_gives 25 = .ok (.aload_n 0, 1) := dk_42 (dk_at dksX8_gives_1 1 rfl rfl)
theorem dX8_gives_26 : decode cX8_gives 26 = .ok (.invokevirtual 330, 3) := dk_182 1 74 (dk_at dksX8_gives_1 2 rfl rfl)
theorem dX8_gives_29 : decode cX8_gives 29 = .ok (.aload_n 0, 1) := dk_42 (dk_at dksX8_gives_1 5 rfl rfl)
theorem dX8_gives_30 : decode cX8_gives 30 = .ok (.iload_n 1, 1) := dk_27 (dk_at dksX8_gives_1 6 rfl rfl)
theorem dX8_gives_31 : decode cX8_gives 31 = .ok (.iload_n 2, 1) := dk_28 (dk_at dksX8_gives_1 7 rfl rfl)
theorem dX8_gives_32 : decode cX8_gives 32 = .ok (.invokevirtual 413, 3) := dk_182 1 157 (dk_at dksX8_gives_1 8 rfl rfl)
theorem dX8_gives_35 : decode cX8_gives 35 = .ok (.ireturn, 1) := dk_172 (dk_at dksX8_gives_1 11 rfl rfl)
abbrev cX8_givesFor : ByteArray := prog_26_method_75_code
def yX8_givesFor : MethodName := ⟨RX8, "givesFor", "(II)I"⟩
def dkwX8_givesFor_2 : List UInt8 := [172]
abbrev dktX8_givesFor_2 : List UInt8 := dkwX8_givesFor_2 ++ []
def dkwX8_givesFor_1 : List UInt8 := [6, 27, 104, 46, 42, 180, 0, 29, 7, 28, 104, 4, 96, 46, 160, 0, 7, 29, 167, 0, 6, 29, 5, 108]
abbrev dktX8_givesFor_1 : List UInt8 := dkwX8_givesFor_1 ++ dktX8_givesFor_2
def dkwX8_givesFor_0 : List UInt8 := [42, 180, 0, 32, 6, 27, 104, 4, 96, 46, 42, 28, 182, 1, 124, 104, 16, 52, 108, 62, 42, 180, 0, 32]
abbrev dktX8_givesFor_0 : List UInt8 := dkwX8_givesFor_0 ++ dktX8_givesFor_1
theorem dksX8_givesFor_0 : cX8_givesFor.data.toList.drop 0 = dktX8_givesFor_0 := by decide +kernel
theorem dksX8_givesFor_1 : cX8_givesFor.data.toList.drop 24 = dktX8_givesFor_1 := dk_seg dksX8_givesFor_0 24 rfl rfl
theorem dksX8_givesFor_2 : cX8_givesFor.data.toList.drop 48 = dktX8_givesFor_2 := dk_seg dksX8_givesFor_1 24 rfl rfl
theorem dX8_givesFor_0 : decode cX8_givesFor 0 = .ok (.aload_n 0, 1) := dk_42 (dk_at dksX8_givesFor_0 0 rfl rfl)
theorem dX8_givesFor_1 : decode cX8_givesFor 1 = .ok (.getfield 32, 3) := dk_180 0 32 (dk_at dksX8_givesFor_0 1 rfl rfl)
theorem dX8_givesFor_4 : decode cX8_givesFor 4 = .ok (.iconst 3, 1) := dk_6 (dk_at dksX8_givesFor_0 4 rfl rfl)
theorem dX8_givesFor_5 : decode cX8_givesFor 5 = .ok (.iload_n 1, 1) := dk_27 (dk_at dksX8_givesFor_0 5 rfl rfl)
theorem dX8_givesFor_6 : decode cX8_givesFor 6 = .ok (.imul, 1) := dk_104 (dk_at dksX8_givesFor_0 6 rfl rfl)
theorem dX8_givesFor_7 : decode cX8_givesFor 7 = .ok (.iconst 1, 1) := dk_4 (dk_at dksX8_givesFor_0 7 rfl rfl)
theorem dX8_givesFor_8 : decode cX8_givesFor 8 = .ok (.iadd, 1) := dk_96 (dk_at dksX8_givesFor_0 8 rfl rfl)
theorem dX8_givesFor_9 : decode cX8_givesFor 9 = .ok (.iaload, 1) := dk_46 (dk_at dksX8_givesFor_0 9 rfl rfl)
theorem dX8_givesFor_10 : decode cX8_givesFor 10 = .ok (.aload_n 0, 1) := dk_42 (dk_at dksX8_givesFor_0 10 rfl rfl)
theorem dX8_givesFor_11 : decode cX8_givesFor 11 = .ok (.iload_n 2, 1) := dk_28 (dk_at dksX8_givesFor_0 11 rfl rfl)
theorem dX8_givesFor_12 : decode cX8_givesFor 12 = .ok (.invokevirtual 380, 3) := dk_182 1 124 (dk_at dksX8_givesFor_0 12 rfl rfl)
theorem dX8_givesFor_15 : decode cX8_givesFor 15 = .ok (.imul, 1) := dk_104 (dk_at dksX8_givesFor_0 15 rfl rfl)
theorem dX8_givesFor_16 : decode cX8_givesFor 16 = .ok (.bipush 52, 2) := dk_16 52 (dk_at dksX8_givesFor_0 16 rfl rfl)
theorem dX8_givesFor_18 : decode cX8_givesFor 18 = .ok (.idiv, 1) := dk_108 (dk_at dksX8_givesFor_0 18 rfl rfl)
theorem dX8_givesFor_19 : decode cX8_givesFor 19 = .ok (.istore_n 3, 1) := dk_62 (dk_at dksX8_givesFor_0 19 rfl rfl)
theorem dX8_givesFor_20 : decode cX8_givesFor 20 = .ok (.aload_n 0, 1) := dk_42 (dk_at dksX8_givesFor_0 20 rfl rfl)
theorem dX8_givesFor_21 : decode cX8_givesFor 21 = .ok (.getfield 32, 3) := dk_180 0 32 (dk_at dksX8_givesFor_0 21 rfl rfl)
theorem dX8_givesFor_24 : decode cX8_givesFor 24 = .ok (.iconst 3, 1) := dk_6 (dk_at dksX8_givesFor_1 0 rfl rfl)
theorem dX8_givesFor_25 : decode cX8_givesFor 25 = .ok (.iload_n 1, 1) := dk_27 (dk_at dksX8_givesFor_1 1 rfl rfl)
theorem dX8_givesFor_26 : decode cX8_givesFor 26 = .ok (.imul, 1) := dk_104 (dk_at dksX8_givesFor_1 2 rfl rfl)
theorem dX8_givesFor_27 : decode cX8_givesFor 27 = .ok (.iaload, 1) := dk_46 (dk_at dksX8_givesFor_1 3 rfl rfl)
theorem dX8_givesFor_28 : decode cX8_givesFor 28 = .ok (.aload_n 0, 1) := dk_42 (dk_at dksX8_givesFor_1 4 rfl rfl)
theorem dX8_givesFor_29 : decode cX8_givesFor 29 = .ok (.getfield 29, 3) := dk_180 0 29 (dk_at dksX8_givesFor_1 5 rfl rfl)
theorem dX8_givesFor_32 : decode cX8_givesFor 32 = .ok (.iconst 4, 1) := dk_7 (dk_at dksX8_givesFor_1 8 rfl rfl)
theorem dX8_givesFor_33 : decode cX8_givesFor 33 = .ok (.iload_n 2, 1) := dk_28 (dk_at dksX8_givesFor_1 9 rfl rfl)
theorem dX8_givesFor_34 : decode cX8_givesFor 34 = .ok (.imul, 1) := dk_104 (dk_at dksX8_givesFor_1 10 rfl rfl)
theorem dX8_givesFor_35 : decode cX8_givesFor 35 = .ok (.iconst 1, 1) := dk_4 (dk_at dksX8_givesFor_1 11 rfl rfl)
theorem dX8_givesFor_36 : decode cX8_givesFor 36 = .ok (.iadd, 1) := dk_96 (dk_at dksX8_givesFor_1 12 rfl rfl)
theorem dX8_givesFor_37 : decode cX8_givesFor 37 = .ok (.iaload, 1) := dk_46 (dk_at dksX8_givesFor_1 13 rfl rfl)
theorem dX8_givesFor_38 : decode cX8_givesFor 38 = .ok (.if_icmp .ne 7, 3) := dk_160 0 7 (dk_at dksX8_givesFor_1 14 rfl rfl)
theorem dX8_givesFor_41 : decode cX8_givesFor 41 = .ok (.iload_n 3, 1) := dk_29 (dk_at dksX8_givesFor_1 17 rfl rfl)
theorem dX8_givesFor_42 : decode cX8_givesFor 42 = .ok (.goto 6, 3) := dk_167 0 6 (dk_at dksX8_givesFor_1 18 rfl rfl)
theorem dX8_givesFor_45 : decode cX8_givesFor 45 = .ok (.iload_n 3, 1) := dk_29 (dk_at dksX8_givesFor_1 21 rfl rfl)
theorem dX8_givesFor_46 : decode cX8_givesFor 46 = .ok (.iconst 2, 1) := dk_5 (dk_at dksX8_givesFor_1 22 rfl rfl)
theorem dX8_givesFor_47 : decode cX8_givesFor 47 = .ok (.idiv, 1) := dk_108 (dk_at dksX8_givesFor_1 23 rfl rfl)
theorem dX8_givesFor_48 : decode cX8_givesFor 48 = .ok (.ireturn, 1) := dk_172 (dk_at dksX8_givesFor_2 0 rfl rfl)
abbrev cX8_best : ByteArray := prog_26_method_80_code
def yX8_best : MethodName := ⟨RX8, "best", "(I)I"⟩
def dkwX8_best_3 : List UInt8 := [28, 172]
abbrev dktX8_best_3 : List UInt8 := dkwX8_best_3 ++ []
def dkwX8_best_2 : List UInt8 := [28, 42, 180, 0, 86, 29, 46, 2, 160, 0, 7, 3, 167, 0, 4, 4, 96, 61, 132, 3, 1, 167, 255, 227]
abbrev dktX8_best_2 : List UInt8 := dkwX8_best_2 ++ dktX8_best_3
def dkwX8_best_1 : List UInt8 := [182, 1, 169, 27, 154, 0, 8, 42, 180, 1, 160, 172, 3, 61, 3, 62, 29, 42, 180, 0, 169, 162, 0, 27]
abbrev dktX8_best_1 : List UInt8 := dkwX8_best_1 ++ dktX8_best_2
def dkwX8_best_0 : List UInt8 := [42, 3, 181, 0, 3, 42, 27, 3, 4, 184, 1, 34, 4, 4, 182, 0, 207, 154, 0, 5, 3, 172, 42]
abbrev dktX8_best_0 : List UInt8 := dkwX8_best_0 ++ dktX8_best_1
theorem dksX8_best_0 : cX8_best.data.toList.drop 0 = dktX8_best_0 := by decide +kernel
theorem dksX8_best_1 : cX8_best.data.toList.drop 23 = dktX8_best_1 := dk_seg dksX8_best_0 23 rfl rfl
theorem dksX8_best_2 : cX8_best.data.toList.drop 47 = dktX8_best_2 := dk_seg dksX8_best_1 24 rfl rfl
theorem dksX8_best_3 : cX8_best.data.toList.drop 71 = dktX8_best_3 := dk_seg dksX8_best_2 24 rfl rfl
theorem dX8_best_0 : decode cX8_best 0 = .ok (.aload_n 0, 1) := dk_42 (dk_at dksX8_best_0 0 rfl rfl)
theorem dX8_best_1 : decode cX8_best 1 = .ok (.iconst 0, 1) := dk_3 (dk_at dksX8_best_0 1 rfl rfl)
theorem dX8_best_2 : decode cX8_best 2 = .ok (.putfield 3, 3) := dk_181 0 3 (dk_at dksX8_best_0 2 rfl rfl)
theorem dX8_best_5 : decode cX8_best 5 = .ok (.aload_n 0, 1) := dk_42 (dk_at dksX8_best_0 5 rfl rfl)
theorem dX8_best_6 : decode cX8_best 6 = .ok (.iload_n 1, 1) := dk_27 (dk_at dksX8_best_0 6 rfl rfl)
theorem dX8_best_7 : decode cX8_best 7 = .ok (.iconst 0, 1) := dk_3 (dk_at dksX8_best_0 7 rfl rfl)
theorem dX8_best_8 : decode cX8_best 8 = .ok (.iconst 1, 1) := dk_4 (dk_at dksX8_best_0 8 rfl rfl)
theorem dX8_best_9 : decode cX8_best 9 = .ok (.invokestatic 290, 3) := dk_184 1 34 (dk_at dksX8_best_0 9 rfl rfl)
theorem dX8_best_12 : decode cX8_best 12 = .ok (.iconst 1, 1) := dk_4 (dk_at dksX8_best_0 12 rfl rfl)
theorem dX8_best_13 : decode cX8_best 13 = .ok (.iconst 1, 1) := dk_4 (dk_at dksX8_best_0 13 rfl rfl)
theorem dX8_best_14 : decode cX8_best 14 = .ok (.invokevirtual 207, 3) := dk_182 0 207 (dk_at dksX8_best_0 14 rfl rfl)
theorem dX8_best_17 : decode cX8_best 17 = .ok (.ifCond .ne 5, 3) := dk_154 0 5 (dk_at dksX8_best_0 17 rfl rfl)
theorem dX8_best_20 : decode cX8_best 20 = .ok (.iconst 0, 1) := dk_3 (dk_at dksX8_best_0 20 rfl rfl)
theorem dX8_best_21 : decode cX8_best 21 = .ok (.ireturn, 1) := dk_172 (dk_at dksX8_best_0 21 rfl rfl)
theorem dX8_best_22 : decode cX8_best 22 = .ok (.aload_n 0, 1) := dk_42 (dk_at dksX8_best_0 22 rfl rfl)
theorem dX8_best_23 : decode cX8_best 23 = .ok (.invokevirtual 425, 3) := dk_182 1 169 (dk_at dksX8_best_1 0 rfl rfl)
theorem dX8_best_26 : decode cX8_best 26 = .ok (.iload_n 1, 1) := dk_27 (dk_at dksX8_best_1 3 rfl rfl)
theorem dX8_best_27 : decode cX8_best 27 = .ok (.ifCond .ne 8, 3) := dk_154 0 8 (dk_at dksX8_best_1 4 rfl rfl)
theorem dX8_best_30 : decode cX8_best 30 = .ok (.aload_n 0, 1) := dk_42 (dk_at dksX8_best_1 7 rfl rfl)
theorem dX8_best_31 : decode cX8_best 31 = .ok (.getfield 416, 3) := dk_180 1 160 (dk_at dksX8_best_1 8 rfl rfl)
theorem dX8_best_34 : decode cX8_best 34 = .ok (.ireturn, 1) := dk_172 (dk_at dksX8_best_1 11 rfl rfl)
theorem dX8_best_35 : decode cX8_best 35 = .ok (.iconst 0, 1) := dk_3 (dk_at dksX8_best_1 12 rfl rfl)
theorem dX8_best_36 : decode cX8_best 36 = .ok (.istore_n 2, 1) := dk_61 (dk_at dksX8_best_1 13 rfl rfl)
theorem dX8_best_37 : decode cX8_best 37 = .ok (.iconst 0, 1) := dk_3 (dk_at dksX8_best_1 14 rfl rfl)
theorem dX8_best_38 : decode cX8_best 38 = .ok (.istore_n 3, 1) := dk_62 (dk_at dksX8_best_1 15 rfl rfl)
theorem dX8_best_39 : decode cX8_best 39 = .ok (.iload_n 3, 1) := dk_29 (dk_at dksX8_best_1 16 rfl rfl)
theorem dX8_best_40 : decode cX8_best 40 = .ok (.aload_n 0, 1) := dk_42 (dk_at dksX8_best_1 17 rfl rfl)
theorem dX8_best_41 : decode cX8_best 41 = .ok (.getfield 169, 3) := dk_180 0 169 (dk_at dksX8_best_1 18 rfl rfl)
theorem dX8_best_44 : decode cX8_best 44 = .ok (.if_icmp .ge 27, 3) := dk_162 0 27 (dk_at dksX8_best_1 21 rfl rfl)
theorem dX8_best_47 : decode cX8_best 47 = .ok (.iload_n 2, 1) := dk_28 (dk_at dksX8_best_2 0 rfl rfl)
theorem dX8_best_48 : decode cX8_best 48 = .ok (.aload_n 0, 1) := dk_42 (dk_at dksX8_best_2 1 rfl rfl)
theorem dX8_best_49 : decode cX8_best 49 = .ok (.getfield 86, 3) := dk_180 0 86 (dk_at dksX8_best_2 2 rfl rfl)
theorem dX8_best_52 : decode cX8_best 52 = .ok (.iload_n 3, 1) := dk_29 (dk_at dksX8_best_2 5 rfl rfl)
theorem dX8_best_53 : decode cX8_best 53 = .ok (.iaload, 1) := dk_46 (dk_at dksX8_best_2 6 rfl rfl)
theorem dX8_best_54 : decode cX8_best 54 = .ok (.iconst (-1), 1) := dk_2 (dk_at dksX8_best_2 7 rfl rfl)
theorem dX8_best_55 : decode cX8_best 55 = .ok (.if_icmp .ne 7, 3) := dk_160 0 7 (dk_at dksX8_best_2 8 rfl rfl)
theorem dX8_best_58 : decode cX8_best 58 = .ok (.iconst 0, 1) := dk_3 (dk_at dksX8_best_2 11 rfl rfl)
theorem dX8_best_59 : decode cX8_best 59 = .ok (.goto 4, 3) := dk_167 0 4 (dk_at dksX8_best_2 12 rfl rfl)
theorem dX8_best_62 : decode cX8_best 62 = .ok (.iconst 1, 1) := dk_4 (dk_at dksX8_best_2 15 rfl rfl)
theorem dX8_best_63 : decode cX8_best 63 = .ok (.iadd, 1) := dk_96 (dk_at dksX8_best_2 16 rfl rfl)
theorem dX8_best_64 : decode cX8_best 64 = .ok (.istore_n 2, 1) := dk_61 (dk_at dksX8_best_2 17 rfl rfl)
theorem dX8_best_65 : decode cX8_best 65 = .ok (.iinc 3 1, 3) := dk_132 3 1 (dk_at dksX8_best_2 18 rfl rfl)
theorem dX8_best_68 : decode cX8_best 68 = .ok (.goto (-29), 3) := dk_167 255 227 (dk_at dksX8_best_2 21 rfl rfl)
theorem dX8_best_71 : decode cX8_best 71 = .ok (.iload_n 2, 1) := dk_28 (dk_at dksX8_best_3 0 rfl rfl)
theorem dX8_best_72 : decode cX8_best 72 = .ok (.ireturn, 1) := dk_172 (dk_at dksX8_best_3 1 rfl rfl)
abbrev cX8_findBest : ByteArray := prog_26_method_79_code
def yX8_findBest : MethodName := ⟨RX8, "findBest", "()V"⟩
def dkwX8_findBest_3 : List UInt8 := [132, 1, 1, 167, 255, 190, 42, 2, 181, 1, 160, 42, 3, 3, 182, 1, 163, 177]
abbrev dktX8_findBest_3 : List UInt8 := dkwX8_findBest_3 ++ []
def dkwX8_findBest_2 : List UInt8 := [180, 0, 77, 16, 8, 27, 104, 28, 96, 42, 27, 28, 182, 1, 157, 79, 132, 2, 1, 167, 255, 228]
abbrev dktX8_findBest_2 : List UInt8 := dkwX8_findBest_2 ++ dktX8_findBest_3
def dkwX8_findBest_1 : List UInt8 := [27, 104, 5, 96, 46, 42, 27, 182, 1, 121, 100, 79, 3, 61, 28, 42, 180, 0, 169, 162, 0, 26, 42]
abbrev dktX8_findBest_1 : List UInt8 := dkwX8_findBest_1 ++ dktX8_findBest_2
def dkwX8_findBest_0 : List UInt8 := [42, 182, 1, 74, 3, 60, 27, 42, 180, 0, 172, 162, 0, 64, 42, 180, 0, 80, 27, 42, 180, 0, 32, 6]
abbrev dktX8_findBest_0 : List UInt8 := dkwX8_findBest_0 ++ dktX8_findBest_1
theorem dksX8_findBest_0 : cX8_findBest.data.toList.drop 0 = dktX8_findBest_0 := by decide +kernel
theorem dksX8_findBest_1 : cX8_findBest.data.toList.drop 24 = dktX8_findBest_1 := dk_seg dksX8_findBest_0 24 rfl rfl
theorem dksX8_findBest_2 : cX8_findBest.data.toList.drop 47 = dktX8_findBest_2 := dk_seg dksX8_findBest_1 23 rfl rfl
theorem dksX8_findBest_3 : cX8_findBest.data.toList.drop 69 = dktX8_findBest_3 := dk_seg dksX8_findBest_2 22 rfl rfl
theorem dX8_findBest_0 : decode cX8_findBest 0 = .ok (.aload_n 0, 1) := dk_42 (dk_at dksX8_findBest_0 0 rfl rfl)
theorem dX8_findBest_1 : decode cX8_findBest 1 = .ok (.invokevirtual 330, 3) := dk_182 1 74 (dk_at dksX8_findBest_0 1 rfl rfl)
theorem dX8_findBest_4 : decode cX8_findBest 4 = .ok (.iconst 0, 1) := dk_3 (dk_at dksX8_findBest_0 4 rfl rfl)
theorem dX8_findBest_5 : decode cX8_findBest 5 = .ok (.istore_n 1, 1) := dk_60 (dk_at dksX8_findBest_0 5 rfl rfl)
theorem dX8_findBest_6 : decode cX8_findBest 6 = .ok (.iload_n 1, 1) := dk_27 (dk_at dksX8_findBest_0 6 rfl rfl)
theorem dX8_findBest_7 : decode cX8_findBest 7 = .ok (.aload_n 0, 1) := dk_42 (dk_at dksX8_findBest_0 7 rfl rfl)
theorem dX8_findBest_8 : decode cX8_findBest 8 = .ok (.getfield 172, 3) := dk_180 0 172 (dk_at dksX8_findBest_0 8 rfl rfl)
theorem dX8_findBest_11 : decode cX8_findBest 11 = .ok (.if_icmp .ge 64, 3) := dk_162 0 64 (dk_at dksX8_findBest_0 11 rfl rfl)
theorem dX8_findBest_14 : decode cX8_findBest 14 = .ok (.aload_n 0, 1) := dk_42 (dk_at dksX8_findBest_0 14 rfl rfl)
theorem dX8_findBest_15 : decode cX8_findBest 15 = .ok (.getfield 80, 3) := dk_180 0 80 (dk_at dksX8_findBest_0 15 rfl rfl)
theorem dX8_findBest_18 : decode cX8_findBest 18 = .ok (.iload_n 1, 1) := dk_27 (dk_at dksX8_findBest_0 18 rfl rfl)
theorem dX8_findBest_19 : decode cX8_findBest 19 = .ok (.aload_n 0, 1) := dk_42 (dk_at dksX8_findBest_0 19 rfl rfl)
theorem dX8_findBest_20 : decode cX8_findBest 20 = .ok (.getfield 32, 3) := dk_180 0 32 (dk_at dksX8_findBest_0 20 rfl rfl)
theorem dX8_findBest_23 : decode cX8_findBest 23 = .ok (.iconst 3, 1) := dk_6 (dk_at dksX8_findBest_0 23 rfl rfl)
theorem dX8_findBest_24 : decode cX8_findBest 24 = .ok (.iload_n 1, 1) := dk_27 (dk_at dksX8_findBest_1 0 rfl rfl)
theorem dX8_findBest_25 : decode cX8_findBest 25 = .ok (.imul, 1) := dk_104 (dk_at dksX8_findBest_1 1 rfl rfl)
theorem dX8_findBest_26 : decode cX8_findBest 26 = .ok (.iconst 2, 1) := dk_5 (dk_at dksX8_findBest_1 2 rfl rfl)
theorem dX8_findBest_27 : decode cX8_findBest 27 = .ok (.iadd, 1) := dk_96 (dk_at dksX8_findBest_1 3 rfl rfl)
theorem dX8_findBest_28 : decode cX8_findBest 28 = .ok (.iaload, 1) := dk_46 (dk_at dksX8_findBest_1 4 rfl rfl)
theorem dX8_findBest_29 : decode cX8_findBest 29 = .ok (.aload_n 0, 1) := dk_42 (dk_at dksX8_findBest_1 5 rfl rfl)
theorem dX8_findBest_30 : decode cX8_findBest 30 = .ok (.iload_n 1, 1) := dk_27 (dk_at dksX8_findBest_1 6 rfl rfl)
theorem dX8_findBest_31 : decode cX8_findBest 31 = .ok (.invokevirtual 377, 3) := dk_182 1 121 (dk_at dksX8_findBest_1 7 rfl rfl)
theorem dX8_findBest_34 : decode cX8_findBest 34 = .ok (.isub, 1) := dk_100 (dk_at dksX8_findBest_1 10 rfl rfl)
theorem dX8_findBest_35 : decode cX8_findBest 35 = .ok (.iastore, 1) := dk_79 (dk_at dksX8_findBest_1 11 rfl rfl)
theorem dX8_findBest_36 : decode cX8_findBest 36 = .ok (.iconst 0, 1) := dk_3 (dk_at dksX8_findBest_1 12 rfl rfl)
theorem dX8_findBest_37 : decode cX8_findBest 37 = .ok (.istore_n 2, 1) := dk_61 (dk_at dksX8_findBest_1 13 rfl rfl)
theorem dX8_findBest_38 : decode cX8_findBest 38 = .ok (.iload_n 2, 1) := dk_28 (dk_at dksX8_findBest_1 14 rfl rfl)
theorem dX8_findBest_39 : decode cX8_findBest 39 = .ok (.aload_n 0, 1) := dk_42 (dk_at dksX8_findBest_1 15 rfl rfl)
theorem dX8_findBest_40 : decode cX8_findBest 40 = .ok (.getfield 169, 3) := dk_180 0 169 (dk_at dksX8_findBest_1 16 rfl rfl)
theorem dX8_findBest_43 : decode cX8_findBest 43 = .ok (.if_icmp .ge 26, 3) := dk_162 0 26 (dk_at dksX8_findBest_1 19 rfl rfl)
theorem dX8_findBest_46 : decode cX8_findBest 46 = .ok (.aload_n 0, 1) := dk_42 (dk_at dksX8_findBest_1 22 rfl rfl)
theorem dX8_findBest_47 : decode cX8_findBest 47 = .ok (.getfield 77, 3) := dk_180 0 77 (dk_at dksX8_findBest_2 0 rfl rfl)
theorem dX8_findBest_50 : decode cX8_findBest 50 = .ok (.bipush 8, 2) := dk_16 8 (dk_at dksX8_findBest_2 3 rfl rfl)
theorem dX8_findBest_52 : decode cX8_findBest 52 = .ok (.iload_n 1, 1) := dk_27 (dk_at dksX8_findBest_2 5 rfl rfl)
theorem dX8_findBest_53 : decode cX8_findBest 53 = .ok (.imul, 1) := dk_104 (dk_at dksX8_findBest_2 6 rfl rfl)
theorem dX8_findBest_54 : decode cX8_findBest 54 = .ok (.iload_n 2, 1) := dk_28 (dk_at dksX8_findBest_2 7 rfl rfl)
theorem dX8_findBest_55 : decode cX8_findBest 55 = .ok (.iadd, 1) := dk_96 (dk_at dksX8_findBest_2 8 rfl rfl)
theorem dX8_findBest_56 : decode cX8_findBest 56 = .ok (.aload_n 0, 1) := dk_42 (dk_at dksX8_findBest_2 9 rfl rfl)
theorem dX8_findBest_57 : decode cX8_findBest 57 = .ok (.iload_n 1, 1) := dk_27 (dk_at dksX8_findBest_2 10 rfl rfl)
theorem dX8_findBest_58 : decode cX8_findBest 58 = .ok (.iload_n 2, 1) := dk_28 (dk_at dksX8_findBest_2 11 rfl rfl)
theorem dX8_findBest_59 : decode cX8_findBest 59 = .ok (.invokevirtual 413, 3) := dk_182 1 157 (dk_at dksX8_findBest_2 12 rfl rfl)
theorem dX8_findBest_62 : decode cX8_findBest 62 = .ok (.iastore, 1) := dk_79 (dk_at dksX8_findBest_2 15 rfl rfl)
theorem dX8_findBest_63 : decode cX8_findBest 63 = .ok (.iinc 2 1, 3) := dk_132 2 1 (dk_at dksX8_findBest_2 16 rfl rfl)
theorem dX8_findBest_66 : decode cX8_findBest 66 = .ok (.goto (-28), 3) := dk_167 255 228 (dk_at dksX8_findBest_2 19 rfl rfl)
theorem dX8_findBest_69 : decode cX8_findBest 69 = .ok (.iinc 1 1, 3) := dk_132 1 1 (dk_at dksX8_findBest_3 0 rfl rfl)
theorem dX8_findBest_72 : decode cX8_findBest 72 = .ok (.goto (-66), 3) := dk_167 255 190 (dk_at dksX8_findBest_3 3 rfl rfl)
theorem dX8_findBest_75 : decode cX8_findBest 75 = .ok (.aload_n 0, 1) := dk_42 (dk_at dksX8_findBest_3 6 rfl rfl)
theorem dX8_findBest_76 : decode cX8_findBest 76 = .ok (.iconst (-1), 1) := dk_2 (dk_at dksX8_findBest_3 7 rfl rfl)
theorem dX8_findBest_77 : decode cX8_findBest 77 = .ok (.putfield 416, 3) := dk_181 1 160 (dk_at dksX8_findBest_3 8 rfl rfl)
theorem dX8_findBest_80 : decode cX8_findBest 80 = .ok (.aload_n 0, 1) := dk_42 (dk_at dksX8_findBest_3 11 rfl rfl)
theorem dX8_findBest_81 : decode cX8_findBest 81 = .ok (.iconst 0, 1) := dk_3 (dk_at dksX8_findBest_3 12 rfl rfl)
theorem dX8_findBest_82 : decode cX8_findBest 82 = .ok (.iconst 0, 1) := dk_3 (dk_at dksX8_findBest_3 13 rfl rfl)
theorem dX8_findBest_83 : decode cX8_findBest 83 = .ok (.invokevirtual 419, 3) := dk_182 1 163 (dk_at dksX8_findBest_3 14 rfl rfl)
theorem dX8_findBest_86 : decode cX8_findBest 86 = .ok (.return_, 1) := dk_177 (dk_at dksX8_findBest_3 17 rfl rfl)
abbrev cX8_waysOn : ByteArray := prog_26_method_78_code
def yX8_waysOn : MethodName := ⟨RX8, "waysOn", "(II)V"⟩
def dkwX8_waysOn_6 : List UInt8 := [2, 159, 0, 13, 42, 180, 0, 80, 29, 92, 46, 4, 96, 79, 132, 3, 1, 167, 255, 167, 177]
abbrev dktX8_waysOn_6 : List UInt8 := dkwX8_waysOn_6 ++ []
def dkwX8_waysOn_5 : List UInt8 := [160, 0, 7, 28, 167, 0, 16, 28, 42, 180, 0, 77, 16, 8, 29, 104, 27, 96, 46, 96, 182, 1, 163, 29]
abbrev dktX8_waysOn_5 : List UInt8 := dkwX8_waysOn_5 ++ dktX8_waysOn_6
def dkwX8_waysOn_4 : List UInt8 := [79, 29, 2, 159, 0, 13, 42, 180, 0, 80, 29, 92, 46, 4, 100, 79, 42, 27, 4, 96, 29, 2]
abbrev dktX8_waysOn_4 : List UInt8 := dkwX8_waysOn_4 ++ dktX8_waysOn_5
def dkwX8_waysOn_3 : List UInt8 := [180, 0, 172, 162, 0, 87, 42, 27, 29, 182, 1, 166, 154, 0, 6, 167, 0, 69, 42, 180, 0, 83, 27, 29]
abbrev dktX8_waysOn_3 : List UInt8 := dkwX8_waysOn_3 ++ dktX8_waysOn_4
def dkwX8_waysOn_2 : List UInt8 := [159, 0, 19, 42, 180, 0, 83, 27, 2, 79, 42, 27, 4, 96, 28, 182, 1, 163, 177, 2, 62, 29, 42]
abbrev dktX8_waysOn_2 : List UInt8 := dkwX8_waysOn_2 ++ dktX8_waysOn_3
def dkwX8_waysOn_1 : List UInt8 := [180, 0, 83, 42, 180, 0, 86, 16, 8, 182, 0, 178, 177, 42, 180, 0, 65, 3, 27, 96, 46, 4]
abbrev dktX8_waysOn_1 : List UInt8 := dkwX8_waysOn_1 ++ dktX8_waysOn_2
def dkwX8_waysOn_0 : List UInt8 := [27, 42, 180, 0, 169, 160, 0, 32, 28, 42, 180, 1, 160, 163, 0, 4, 177, 42, 28, 181, 1, 160, 42, 42]
abbrev dktX8_waysOn_0 : List UInt8 := dkwX8_waysOn_0 ++ dktX8_waysOn_1
theorem dksX8_waysOn_0 : cX8_waysOn.data.toList.drop 0 = dktX8_waysOn_0 := by decide +kernel
theorem dksX8_waysOn_1 : cX8_waysOn.data.toList.drop 24 = dktX8_waysOn_1 := dk_seg dksX8_waysOn_0 24 rfl rfl
theorem dksX8_waysOn_2 : cX8_waysOn.data.toList.drop 46 = dktX8_waysOn_2 := dk_seg dksX8_waysOn_1 22 rfl rfl
theorem dksX8_waysOn_3 : cX8_waysOn.data.toList.drop 69 = dktX8_waysOn_3 := dk_seg dksX8_waysOn_2 23 rfl rfl
theorem dksX8_waysOn_4 : cX8_waysOn.data.toList.drop 93 = dktX8_waysOn_4 := dk_seg dksX8_waysOn_3 24 rfl rfl
theorem dksX8_waysOn_5 : cX8_waysOn.data.toList.drop 115 = dktX8_waysOn_5 := dk_seg dksX8_waysOn_4 22 rfl rfl
theorem dksX8_waysOn_6 : cX8_waysOn.data.toList.drop 139 = dktX8_waysOn_6 := dk_seg dksX8_waysOn_5 24 rfl rfl
theorem dX8_waysOn_0 : decode cX8_waysOn 0 = .ok (.iload_n 1, 1) := dk_27 (dk_at dksX8_waysOn_0 0 rfl rfl)
theorem dX8_waysOn_1 : decode cX8_waysOn 1 = .ok (.aload_n 0, 1) := dk_42 (dk_at dksX8_waysOn_0 1 rfl rfl)
theorem dX8_waysOn_2 : decode cX8_waysOn 2 = .ok (.getfield 169, 3) := dk_180 0 169 (dk_at dksX8_waysOn_0 2 rfl rfl)
theorem dX8_waysOn_5 : decode cX8_waysOn 5 = .ok (.if_icmp .ne 32, 3) := dk_160 0 32 (dk_at dksX8_waysOn_0 5 rfl rfl)
theorem dX8_waysOn_8 : decode cX8_waysOn 8 = .ok (.iload_n 2, 1) := dk_28 (dk_at dksX8_waysOn_0 8 rfl rfl)
theorem dX8_waysOn_9 : decode cX8_waysOn 9 = .ok (.aload_n 0, 1) := dk_42 (dk_at dksX8_waysOn_0 9 rfl rfl)
theorem dX8_waysOn_10 : decode cX8_waysOn 10 = .ok (.getfield 416, 3) := dk_180 1 160 (dk_at dksX8_waysOn_0 10 rfl rfl)
theorem dX8_waysOn_13 : decode cX8_waysOn 13 = .ok (.if_icmp .gt 4, 3) := dk_163 0 4 (dk_at dksX8_waysOn_0 13 rfl rfl)
theorem dX8_waysOn_16 : decode cX8_waysOn 16 = .ok (.return_, 1) := dk_177 (dk_at dksX8_waysOn_0 16 rfl rfl)
theorem dX8_waysOn_17 : decode cX8_waysOn 17 = .ok (.aload_n 0, 1) := dk_42 (dk_at dksX8_waysOn_0 17 rfl rfl)
theorem dX8_waysOn_18 : decode cX8_waysOn 18 = .ok (.iload_n 2, 1) := dk_28 (dk_at dksX8_waysOn_0 18 rfl rfl)
theorem dX8_waysOn_19 : decode cX8_waysOn 19 = .ok (.putfield 416, 3) := dk_181 1 160 (dk_at dksX8_waysOn_0 19 rfl rfl)
theorem dX8_waysOn_22 : decode cX8_waysOn 22 = .ok (.aload_n 0, 1) := dk_42 (dk_at dksX8_waysOn_0 22 rfl rfl)
theorem dX8_waysOn_23 : decode cX8_waysOn 23 = .ok (.aload_n 0, 1) := dk_42 (dk_at dksX8_waysOn_0 23 rfl rfl)
theorem dX8_waysOn_24 : decode cX8_waysOn 24 = .ok (.getfield 83, 3) := dk_180 0 83 (dk_at dksX8_waysOn_1 0 rfl rfl)
theorem dX8_waysOn_27 : decode cX8_waysOn 27 = .ok (.aload_n 0, 1) := dk_42 (dk_at dksX8_waysOn_1 3 rfl rfl)
theorem dX8_waysOn_28 : decode cX8_waysOn 28 = .ok (.getfield 86, 3) := dk_180 0 86 (dk_at dksX8_waysOn_1 4 rfl rfl)
theorem dX8_waysOn_31 : decode cX8_waysOn 31 = .ok (.bipush 8, 2) := dk_16 8 (dk_at dksX8_waysOn_1 7 rfl rfl)
theorem dX8_waysOn_33 : decode cX8_waysOn 33 = .ok (.invokevirtual 178, 3) := dk_182 0 178 (dk_at dksX8_waysOn_1 9 rfl rfl)
theorem dX8_waysOn_36 : decode cX8_waysOn 36 = .ok (.return_, 1) := dk_177 (dk_at dksX8_waysOn_1 12 rfl rfl)
theorem dX8_waysOn_37 : decode cX8_waysOn 37 = .ok (.aload_n 0, 1) := dk_42 (dk_at dksX8_waysOn_1 13 rfl rfl)
theorem dX8_waysOn_38 : decode cX8_waysOn 38 = .ok (.getfield 65, 3) := dk_180 0 65 (dk_at dksX8_waysOn_1 14 rfl rfl)
theorem dX8_waysOn_41 : decode cX8_waysOn 41 = .ok (.iconst 0, 1) := dk_3 (dk_at dksX8_waysOn_1 17 rfl rfl)
theorem dX8_waysOn_42 : decode cX8_waysOn 42 = .ok (.iload_n 1, 1) := dk_27 (dk_at dksX8_waysOn_1 18 rfl rfl)
theorem dX8_waysOn_43 : decode cX8_waysOn 43 = .ok (.iadd, 1) := dk_96 (dk_at dksX8_waysOn_1 19 rfl rfl)
theorem dX8_waysOn_44 : decode cX8_waysOn 44 = .ok (.iaload, 1) := dk_46 (dk_at dksX8_waysOn_1 20 rfl rfl)
theorem dX8_waysOn_45 : decode cX8_waysOn 45 = .ok (.iconst 1, 1) := dk_4 (dk_at dksX8_waysOn_1 21 rfl rfl)
theorem dX8_waysOn_46 : decode cX8_waysOn 46 = .ok (.if_icmp .eq 19, 3) := dk_159 0 19 (dk_at dksX8_waysOn_2 0 rfl rfl)
theorem dX8_waysOn_49 : decode cX8_waysOn 49 = .ok (.aload_n 0, 1) := dk_42 (dk_at dksX8_waysOn_2 3 rfl rfl)
theorem dX8_waysOn_50 : decode cX8_waysOn 50 = .ok (.getfield 83, 3) := dk_180 0 83 (dk_at dksX8_waysOn_2 4 rfl rfl)
theorem dX8_waysOn_53 : decode cX8_waysOn 53 = .ok (.iload_n 1, 1) := dk_27 (dk_at dksX8_waysOn_2 7 rfl rfl)
theorem dX8_waysOn_54 : decode cX8_waysOn 54 = .ok (.iconst (-1), 1) := dk_2 (dk_at dksX8_waysOn_2 8 rfl rfl)
theorem dX8_waysOn_55 : decode cX8_waysOn 55 = .ok (.iastore, 1) := dk_79 (dk_at dksX8_waysOn_2 9 rfl rfl)
theorem dX8_waysOn_56 : decode cX8_waysOn 56 = .ok (.aload_n 0, 1) := dk_42 (dk_at dksX8_waysOn_2 10 rfl rfl)
theorem dX8_waysOn_57 : decode cX8_waysOn 57 = .ok (.iload_n 1, 1) := dk_27 (dk_at dksX8_waysOn_2 11 rfl rfl)
theorem dX8_waysOn_58 : decode cX8_waysOn 58 = .ok (.iconst 1, 1) := dk_4 (dk_at dksX8_waysOn_2 12 rfl rfl)
theorem dX8_waysOn_59 : decode cX8_waysOn 59 = .ok (.iadd, 1) := dk_96 (dk_at dksX8_waysOn_2 13 rfl rfl)
theorem dX8_waysOn_60 : decode cX8_waysOn 60 = .ok (.iload_n 2, 1) := dk_28 (dk_at dksX8_waysOn_2 14 rfl rfl)
theorem dX8_waysOn_61 : decode cX8_waysOn 61 = .ok (.invokevirtual 419, 3) := dk_182 1 163 (dk_at dksX8_waysOn_2 15 rfl rfl)
theorem dX8_waysOn_64 : decode cX8_waysOn 64 = .ok (.return_, 1) := dk_177 (dk_at dksX8_waysOn_2 18 rfl rfl)
theorem dX8_waysOn_65 : decode cX8_waysOn 65 = .ok (.iconst (-1), 1) := dk_2 (dk_at dksX8_waysOn_2 19 rfl rfl)
theorem dX8_waysOn_66 : decode cX8_waysOn 66 = .ok (.istore_n 3, 1) := dk_62 (dk_at dksX8_waysOn_2 20 rfl rfl)
theorem dX8_waysOn_67 : decode cX8_waysOn 67 = .ok (.iload_n 3, 1) := dk_29 (dk_at dksX8_waysOn_2 21 rfl rfl)
theorem dX8_waysOn_68 : decode cX8_waysOn 68 = .ok (.aload_n 0, 1) := dk_42 (dk_at dksX8_waysOn_2 22 rfl rfl)
theorem dX8_waysOn_69 : decode cX8_waysOn 69 = .ok (.getfield 172, 3) := dk_180 0 172 (dk_at dksX8_waysOn_3 0 rfl rfl)
theorem dX8_waysOn_72 : decode cX8_waysOn 72 = .ok (.if_icmp .ge 87, 3) := dk_162 0 87 (dk_at dksX8_waysOn_3 3 rfl rfl)
theorem dX8_waysOn_75 : decode cX8_waysOn 75 = .ok (.aload_n 0, 1) := dk_42 (dk_at dksX8_waysOn_3 6 rfl rfl)
theorem dX8_waysOn_76 : decode cX8_waysOn 76 = .ok (.iload_n 1, 1) := dk_27 (dk_at dksX8_waysOn_3 7 rfl rfl)
theorem dX8_waysOn_77 : decode cX8_waysOn 77 = .ok (.iload_n 3, 1) := dk_29 (dk_at dksX8_waysOn_3 8 rfl rfl)
theorem dX8_waysOn_78 : decode cX8_waysOn 78 = .ok (.invokevirtual 422, 3) := dk_182 1 166 (dk_at dksX8_waysOn_3 9 rfl rfl)
theorem dX8_waysOn_81 : decode cX8_waysOn 81 = .ok (.ifCond .ne 6, 3) := dk_154 0 6 (dk_at dksX8_waysOn_3 12 rfl rfl)
theorem dX8_waysOn_84 : decode cX8_waysOn 84 = .ok (.goto 69, 3) := dk_167 0 69 (dk_at dksX8_waysOn_3 15 rfl rfl)
theorem dX8_waysOn_87 : decode cX8_waysOn 87 = .ok (.aload_n 0, 1) := dk_42 (dk_at dksX8_waysOn_3 18 rfl rfl)
theorem dX8_waysOn_88 : decode cX8_waysOn 88 = .ok (.getfield 83, 3) := dk_180 0 83 (dk_at dksX8_waysOn_3 19 rfl rfl)
theorem dX8_waysOn_91 : decode cX8_waysOn 91 = .ok (.iload_n 1, 1) := dk_27 (dk_at dksX8_waysOn_3 22 rfl rfl)
theorem dX8_waysOn_92 : decode cX8_waysOn 92 = .ok (.iload_n 3, 1) := dk_29 (dk_at dksX8_waysOn_3 23 rfl rfl)
theorem dX8_waysOn_93 : decode cX8_waysOn 93 = .ok (.iastore, 1) := dk_79 (dk_at dksX8_waysOn_4 0 rfl rfl)
theorem dX8_waysOn_94 : decode cX8_waysOn 94 = .ok (.iload_n 3, 1) := dk_29 (dk_at dksX8_waysOn_4 1 rfl rfl)
theorem dX8_waysOn_95 : decode cX8_waysOn 95 = .ok (.iconst (-1), 1) := dk_2 (dk_at dksX8_waysOn_4 2 rfl rfl)
theorem dX8_waysOn_96 : decode cX8_waysOn 96 = .ok (.if_icmp .eq 13, 3) := dk_159 0 13 (dk_at dksX8_waysOn_4 3 rfl rfl)
theorem dX8_waysOn_99 : decode cX8_waysOn 99 = .ok (.aload_n 0, 1) := dk_42 (dk_at dksX8_waysOn_4 6 rfl rfl)
theorem dX8_waysOn_100 : decode cX8_waysOn 100 = .ok (.getfield 80, 3) := dk_180 0 80 (dk_at dksX8_waysOn_4 7 rfl rfl)
theorem dX8_waysOn_103 : decode cX8_waysOn 103 = .ok (.iload_n 3, 1) := dk_29 (dk_at dksX8_waysOn_4 10 rfl rfl)
theorem dX8_waysOn_104 : decode cX8_waysOn 104 = .ok (.dup2, 1) := dk_92 (dk_at dksX8_waysOn_4 11 rfl rfl)
theorem dX8_waysOn_105 : decode cX8_waysOn 105 = .ok (.iaload, 1) := dk_46 (dk_at dksX8_waysOn_4 12 rfl rfl)
theorem dX8_waysOn_106 : decode cX8_waysOn 106 = .ok (.iconst 1, 1) := dk_4 (dk_at dksX8_waysOn_4 13 rfl rfl)
theorem dX8_waysOn_107 : decode cX8_waysOn 107 = .ok (.isub, 1) := dk_100 (dk_at dksX8_waysOn_4 14 rfl rfl)
theorem dX8_waysOn_108 : decode cX8_waysOn 108 = .ok (.iastore, 1) := dk_79 (dk_at dksX8_waysOn_4 15 rfl rfl)
theorem dX8_waysOn_109 : decode cX8_waysOn 109 = .ok (.aload_n 0, 1) := dk_42 (dk_at dksX8_waysOn_4 16 rfl rfl)
theorem dX8_waysOn_110 : decode cX8_waysOn 110 = .ok (.iload_n 1, 1) := dk_27 (dk_at dksX8_waysOn_4 17 rfl rfl)
theorem dX8_waysOn_111 : decode cX8_waysOn 111 = .ok (.iconst 1, 1) := dk_4 (dk_at dksX8_waysOn_4 18 rfl rfl)
theorem dX8_waysOn_112 : decode cX8_waysOn 112 = .ok (.iadd, 1) := dk_96 (dk_at dksX8_waysOn_4 19 rfl rfl)
theorem dX8_waysOn_113 : decode cX8_waysOn 113 = .ok (.iload_n 3, 1) := dk_29 (dk_at dksX8_waysOn_4 20 rfl rfl)
theorem dX8_waysOn_114 : decode cX8_waysOn 114 = .ok (.iconst (-1), 1) := dk_2 (dk_at dksX8_waysOn_4 21 rfl rfl)
theorem dX8_waysOn_115 : decode cX8_waysOn 115 = .ok (.if_icmp .ne 7, 3) := dk_160 0 7 (dk_at dksX8_waysOn_5 0 rfl rfl)
theorem dX8_waysOn_118 : decode cX8_waysOn 118 = .ok (.iload_n 2, 1) := dk_28 (dk_at dksX8_waysOn_5 3 rfl rfl)
theorem dX8_waysOn_119 : decode cX8_waysOn 119 = .ok (.goto 16, 3) := dk_167 0 16 (dk_at dksX8_waysOn_5 4 rfl rfl)
theorem dX8_waysOn_122 : decode cX8_waysOn 122 = .ok (.iload_n 2, 1) := dk_28 (dk_at dksX8_waysOn_5 7 rfl rfl)
theorem dX8_waysOn_123 : decode cX8_waysOn 123 = .ok (.aload_n 0, 1) := dk_42 (dk_at dksX8_waysOn_5 8 rfl rfl)
theorem dX8_waysOn_124 : decode cX8_waysOn 124 = .ok (.getfield 77, 3) := dk_180 0 77 (dk_at dksX8_waysOn_5 9 rfl rfl)
theorem dX8_waysOn_127 : decode cX8_waysOn 127 = .ok (.bipush 8, 2) := dk_16 8 (dk_at dksX8_waysOn_5 12 rfl rfl)
theorem dX8_waysOn_129 : decode cX8_waysOn 129 = .ok (.iload_n 3, 1) := dk_29 (dk_at dksX8_waysOn_5 14 rfl rfl)
theorem dX8_waysOn_130 : decode cX8_waysOn 130 = .ok (.imul, 1) := dk_104 (dk_at dksX8_waysOn_5 15 rfl rfl)
theorem dX8_waysOn_131 : decode cX8_waysOn 131 = .ok (.iload_n 1, 1) := dk_27 (dk_at dksX8_waysOn_5 16 rfl rfl)
theorem dX8_waysOn_132 : decode cX8_waysOn 132 = .ok (.iadd, 1) := dk_96 (dk_at dksX8_waysOn_5 17 rfl rfl)
theorem dX8_waysOn_133 : decode cX8_waysOn 133 = .ok (.iaload, 1) := dk_46 (dk_at dksX8_waysOn_5 18 rfl rfl)
theorem dX8_waysOn_134 : decode cX8_waysOn 134 = .ok (.iadd, 1) := dk_96 (dk_at dksX8_waysOn_5 19 rfl rfl)
theorem dX8_waysOn_135 : decode cX8_waysOn 135 = .ok (.invokevirtual 419, 3) := dk_182 1 163 (dk_at dksX8_waysOn_5 20 rfl rfl)
theorem dX8_waysOn_138 : decode cX8_waysOn 138 = .ok (.iload_n 3, 1) := dk_29 (dk_at dksX8_waysOn_5 23 rfl rfl)
theorem dX8_waysOn_139 : decode cX8_waysOn 139 = .ok (.iconst (-1), 1) := dk_2 (dk_at dksX8_waysOn_6 0 rfl rfl)
theorem dX8_waysOn_140 : decode cX8_waysOn 140 = .ok (.if_icmp .eq 13, 3) := dk_159 0 13 (dk_at dksX8_waysOn_6 1 rfl rfl)
theorem dX8_waysOn_143 : decode cX8_waysOn 143 = .ok (.aload_n 0, 1) := dk_42 (dk_at dksX8_waysOn_6 4 rfl rfl)
theorem dX8_waysOn_144 : decode cX8_waysOn 144 = .ok (.getfield 80, 3) := dk_180 0 80 (dk_at dksX8_waysOn_6 5 rfl rfl)
theorem dX8_waysOn_147 : decode cX8_waysOn 147 = .ok (.iload_n 3, 1) := dk_29 (dk_at dksX8_waysOn_6 8 rfl rfl)
theorem dX8_waysOn_148 : decode cX8_waysOn 148 = .ok (.dup2, 1) := dk_92 (dk_at dksX8_waysOn_6 9 rfl rfl)
theorem dX8_waysOn_149 : decode cX8_waysOn 149 = .ok (.iaload, 1) := dk_46 (dk_at dksX8_waysOn_6 10 rfl rfl)
theorem dX8_waysOn_150 : decode cX8_waysOn 150 = .ok (.iconst 1, 1) := dk_4 (dk_at dksX8_waysOn_6 11 rfl rfl)
theorem dX8_waysOn_151 : decode cX8_waysOn 151 = .ok (.iadd, 1) := dk_96 (dk_at dksX8_waysOn_6 12 rfl rfl)
theorem dX8_waysOn_152 : decode cX8_waysOn 152 = .ok (.iastore, 1) := dk_79 (dk_at dksX8_waysOn_6 13 rfl rfl)
theorem dX8_waysOn_153 : decode cX8_waysOn 153 = .ok (.iinc 3 1, 3) := dk_132 3 1 (dk_at dksX8_waysOn_6 14 rfl rfl)
theorem dX8_waysOn_156 : decode cX8_waysOn 156 = .ok (.goto (-89), 3) := dk_167 255 167 (dk_at dksX8_waysOn_6 17 rfl rfl)
theorem dX8_waysOn_159 : decode cX8_waysOn 159 = .ok (.return_, 1) := dk_177 (dk_at dksX8_waysOn_6 20 rfl rfl)
abbrev cX8_mayBeWith : ByteArray := prog_26_method_77_code
def yX8_mayBeWith : MethodName := ⟨RX8, "mayBeWith", "(II)Z"⟩
def dkwX8_mayBeWith_2 : List UInt8 := [159, 0, 12, 42, 180, 0, 80, 28, 46, 158, 0, 7, 4, 167, 0, 4, 3, 172]
abbrev dktX8_mayBeWith_2 : List UInt8 := dkwX8_mayBeWith_2 ++ []
def dkwX8_mayBeWith_1 : List UInt8 := [4, 160, 0, 15, 42, 180, 0, 83, 29, 46, 28, 159, 0, 5, 3, 172, 132, 3, 1, 167, 255, 215, 28, 2]
abbrev dktX8_mayBeWith_1 : List UInt8 := dkwX8_mayBeWith_1 ++ dktX8_mayBeWith_2
def dkwX8_mayBeWith_0 : List UInt8 := [3, 62, 29, 27, 162, 0, 42, 42, 29, 27, 182, 1, 101, 153, 0, 27, 42, 180, 0, 65, 3, 29, 96, 46]
abbrev dktX8_mayBeWith_0 : List UInt8 := dkwX8_mayBeWith_0 ++ dktX8_mayBeWith_1
theorem dksX8_mayBeWith_0 : cX8_mayBeWith.data.toList.drop 0 = dktX8_mayBeWith_0 := by decide +kernel
theorem dksX8_mayBeWith_1 : cX8_mayBeWith.data.toList.drop 24 = dktX8_mayBeWith_1 := dk_seg dksX8_mayBeWith_0 24 rfl rfl
theorem dksX8_mayBeWith_2 : cX8_mayBeWith.data.toList.drop 48 = dktX8_mayBeWith_2 := dk_seg dksX8_mayBeWith_1 24 rfl rfl
theorem dX8_mayBeWith_0 : decode cX8_mayBeWith 0 = .ok (.iconst 0, 1) := dk_3 (dk_at dksX8_mayBeWith_0 0 rfl rfl)
theorem dX8_mayBeWith_1 : decode cX8_mayBeWith 1 = .ok (.istore_n 3, 1) := dk_62 (dk_at dksX8_mayBeWith_0 1 rfl rfl)
theorem dX8_mayBeWith_2 : decode cX8_mayBeWith 2 = .ok (.iload_n 3, 1) := dk_29 (dk_at dksX8_mayBeWith_0 2 rfl rfl)
theorem dX8_mayBeWith_3 : decode cX8_mayBeWith 3 = .ok (.iload_n 1, 1) := dk_27 (dk_at dksX8_mayBeWith_0 3 rfl rfl)
theorem dX8_mayBeWith_4 : decode cX8_mayBeWith 4 = .ok (.if_icmp .ge 42, 3) := dk_162 0 42 (dk_at dksX8_mayBeWith_0 4 rfl rfl)
theorem dX8_mayBeWith_7 : decode cX8_mayBeWith 7 = .ok (.aload_n 0, 1) := dk_42 (dk_at dksX8_mayBeWith_0 7 rfl rfl)
theorem dX8_mayBeWith_8 : decode cX8_mayBeWith 8 = .ok (.iload_n 3, 1) := dk_29 (dk_at dksX8_mayBeWith_0 8 rfl rfl)
theorem dX8_mayBeWith_9 : decode cX8_mayBeWith 9 = .ok (.iload_n 1, 1) := dk_27 (dk_at dksX8_mayBeWith_0 9 rfl rfl)
theorem dX8_mayBeWith_10 : decode cX8_mayBeWith 10 = .ok (.invokevirtual 357, 3) := dk_182 1 101 (dk_at dksX8_mayBeWith_0 10 rfl rfl)
theorem dX8_mayBeWith_13 : decode cX8_mayBeWith 13 = .ok (.ifCond .eq 27, 3) := dk_153 0 27 (dk_at dksX8_mayBeWith_0 13 rfl rfl)
theorem dX8_mayBeWith_16 : decode cX8_mayBeWith 16 = .ok (.aload_n 0, 1) := dk_42 (dk_at dksX8_mayBeWith_0 16 rfl rfl)
theorem dX8_mayBeWith_17 : decode cX8_mayBeWith 17 = .ok (.getfield 65, 3) := dk_180 0 65 (dk_at dksX8_mayBeWith_0 17 rfl rfl)
theorem dX8_mayBeWith_20 : decode cX8_mayBeWith 20 = .ok (.iconst 0, 1) := dk_3 (dk_at dksX8_mayBeWith_0 20 rfl rfl)
theorem dX8_mayBeWith_21 : decode cX8_mayBeWith 21 = .ok (.iload_n 3, 1) := dk_29 (dk_at dksX8_mayBeWith_0 21 rfl rfl)
theorem dX8_mayBeWith_22 : decode cX8_mayBeWith 22 = .ok (.iadd, 1) := dk_96 (dk_at dksX8_mayBeWith_0 22 rfl rfl)
theorem dX8_mayBeWith_23 : decode cX8_mayBeWith 23 = .ok (.iaload, 1) := dk_46 (dk_at dksX8_mayBeWith_0 23 rfl rfl)
theorem dX8_mayBeWith_24 : decode cX8_mayBeWith 24 = .ok (.iconst 1, 1) := dk_4 (dk_at dksX8_mayBeWith_1 0 rfl rfl)
theorem dX8_mayBeWith_25 : decode cX8_mayBeWith 25 = .ok (.if_icmp .ne 15, 3) := dk_160 0 15 (dk_at dksX8_mayBeWith_1 1 rfl rfl)
theorem dX8_mayBeWith_28 : decode cX8_mayBeWith 28 = .ok (.aload_n 0, 1) := dk_42 (dk_at dksX8_mayBeWith_1 4 rfl rfl)
theorem dX8_mayBeWith_29 : decode cX8_mayBeWith 29 = .ok (.getfield 83, 3) := dk_180 0 83 (dk_at dksX8_mayBeWith_1 5 rfl rfl)
theorem dX8_mayBeWith_32 : decode cX8_mayBeWith 32 = .ok (.iload_n 3, 1) := dk_29 (dk_at dksX8_mayBeWith_1 8 rfl rfl)
theorem dX8_mayBeWith_33 : decode cX8_mayBeWith 33 = .ok (.iaload, 1) := dk_46 (dk_at dksX8_mayBeWith_1 9 rfl rfl)
theorem dX8_mayBeWith_34 : decode cX8_mayBeWith 34 = .ok (.iload_n 2, 1) := dk_28 (dk_at dksX8_mayBeWith_1 10 rfl rfl)
theorem dX8_mayBeWith_35 : decode cX8_mayBeWith 35 = .ok (.if_icmp .eq 5, 3) := dk_159 0 5 (dk_at dksX8_mayBeWith_1 11 rfl rfl)
theorem dX8_mayBeWith_38 : decode cX8_mayBeWith 38 = .ok (.iconst 0, 1) := dk_3 (dk_at dksX8_mayBeWith_1 14 rfl rfl)
theorem dX8_mayBeWith_39 : decode cX8_mayBeWith 39 = .ok (.ireturn, 1) := dk_172 (dk_at dksX8_mayBeWith_1 15 rfl rfl)
theorem dX8_mayBeWith_40 : decode cX8_mayBeWith 40 = .ok (.iinc 3 1, 3) := dk_132 3 1 (dk_at dksX8_mayBeWith_1 16 rfl rfl)
theorem dX8_mayBeWith_43 : decode cX8_mayBeWith 43 = .ok (.goto (-41), 3) := dk_167 255 215 (dk_at dksX8_mayBeWith_1 19 rfl rfl)
theorem dX8_mayBeWith_46 : decode cX8_mayBeWith 46 = .ok (.iload_n 2, 1) := dk_28 (dk_at dksX8_mayBeWith_1 22 rfl rfl)
theorem dX8_mayBeWith_47 : decode cX8_mayBeWith 47 = .ok (.iconst (-1), 1) := dk_2 (dk_at dksX8_mayBeWith_1 23 rfl rfl)
theorem dX8_mayBeWith_48 : decode cX8_mayBeWith 48 = .ok (.if_icmp .eq 12, 3) := dk_159 0 12 (dk_at dksX8_mayBeWith_2 0 rfl rfl)
theorem dX8_mayBeWith_51 : decode cX8_mayBeWith 51 = .ok (.aload_n 0, 1) := dk_42 (dk_at dksX8_mayBeWith_2 3 rfl rfl)
theorem dX8_mayBeWith_52 : decode cX8_mayBeWith 52 = .ok (.getfield 80, 3) := dk_180 0 80 (dk_at dksX8_mayBeWith_2 4 rfl rfl)
theorem dX8_mayBeWith_55 : decode cX8_mayBeWith 55 = .ok (.iload_n 2, 1) := dk_28 (dk_at dksX8_mayBeWith_2 7 rfl rfl)
theorem dX8_mayBeWith_56 : decode cX8_mayBeWith 56 = .ok (.iaload, 1) := dk_46 (dk_at dksX8_mayBeWith_2 8 rfl rfl)
theorem dX8_mayBeWith_57 : decode cX8_mayBeWith 57 = .ok (.ifCond .le 7, 3) := dk_158 0 7 (dk_at dksX8_mayBeWith_2 9 rfl rfl)
theorem dX8_mayBeWith_60 : decode cX8_mayBeWith 60 = .ok (.iconst 1, 1) := dk_4 (dk_at dksX8_mayBeWith_2 12 rfl rfl)
theorem dX8_mayBeWith_61 : decode cX8_mayBeWith 61 = .ok (.goto 4, 3) := dk_167 0 4 (dk_at dksX8_mayBeWith_2 13 rfl rfl)
theorem dX8_mayBeWith_64 : decode cX8_mayBeWith 64 = .ok (.iconst 0, 1) := dk_3 (dk_at dksX8_mayBeWith_2 16 rfl rfl)
theorem dX8_mayBeWith_65 : decode cX8_mayBeWith 65 = .ok (.ireturn, 1) := dk_172 (dk_at dksX8_mayBeWith_2 17 rfl rfl)
abbrev cX8_bestFor : ByteArray := prog_26_method_81_code
def yX8_bestFor : MethodName := ⟨RX8, "bestFor", "(I)I"⟩
def dkwX8_bestFor_1 : List UInt8 := [27, 46, 172]
abbrev dktX8_bestFor_1 : List UInt8 := dkwX8_bestFor_1 ++ []
def dkwX8_bestFor_0 : List UInt8 := [42, 3, 181, 0, 3, 42, 27, 4, 182, 1, 148, 154, 0, 5, 3, 172, 42, 182, 1, 169, 42, 180, 0, 86]
abbrev dktX8_bestFor_0 : List UInt8 := dkwX8_bestFor_0 ++ dktX8_bestFor_1
theorem dksX8_bestFor_0 : cX8_bestFor.data.toList.drop 0 = dktX8_bestFor_0 := by decide +kernel
theorem dksX8_bestFor_1 : cX8_bestFor.data.toList.drop 24 = dktX8_bestFor_1 := dk_seg dksX8_bestFor_0 24 rfl rfl
theorem dX8_bestFor_0 : decode cX8_bestFor 0 = .ok (.aload_n 0, 1) := dk_42 (dk_at dksX8_bestFor_0 0 rfl rfl)
theorem dX8_bestFor_1 : decode cX8_bestFor 1 = .ok (.iconst 0, 1) := dk_3 (dk_at dksX8_bestFor_0 1 rfl rfl)
theorem dX8_bestFor_2 : decode cX8_bestFor 2 = .ok (.putfield 3, 3) := dk_181 0 3 (dk_at dksX8_bestFor_0 2 rfl rfl)
theorem dX8_bestFor_5 : decode cX8_bestFor 5 = .ok (.aload_n 0, 1) := dk_42 (dk_at dksX8_bestFor_0 5 rfl rfl)
theorem dX8_bestFor_6 : decode cX8_bestFor 6 = .ok (.iload_n 1, 1) := dk_27 (dk_at dksX8_bestFor_0 6 rfl rfl)
theorem dX8_bestFor_7 : decode cX8_bestFor 7 = .ok (.iconst 1, 1) := dk_4 (dk_at dksX8_bestFor_0 7 rfl rfl)
theorem dX8_bestFor_8 : decode cX8_bestFor 8 = .ok (.invokevirtual 404, 3) := dk_182 1 148 (dk_at dksX8_bestFor_0 8 rfl rfl)
theorem dX8_bestFor_11 : decode cX8_bestFor 11 = .ok (.ifCond .ne 5, 3) := dk_154 0 5 (dk_at dksX8_bestFor_0 11 rfl rfl)
theorem dX8_bestFor_14 : decode cX8_bestFor 14 = .ok (.iconst 0, 1) := dk_3 (dk_at dksX8_bestFor_0 14 rfl rfl)
theorem dX8_bestFor_15 : decode cX8_bestFor 15 = .ok (.ireturn, 1) := dk_172 (dk_at dksX8_bestFor_0 15 rfl rfl)
theorem dX8_bestFor_16 : decode cX8_bestFor 16 = .ok (.aload_n 0, 1) := dk_42 (dk_at dksX8_bestFor_0 16 rfl rfl)
theorem dX8_bestFor_17 : decode cX8_bestFor 17 = .ok (.invokevirtual 425, 3) := dk_182 1 169 (dk_at dksX8_bestFor_0 17 rfl rfl)
theorem dX8_bestFor_20 : decode cX8_bestFor 20 = .ok (.aload_n 0, 1) := dk_42 (dk_at dksX8_bestFor_0 20 rfl rfl)
theorem dX8_bestFor_21 : decode cX8_bestFor 21 = .ok (.getfield 86, 3) := dk_180 0 86 (dk_at dksX8_bestFor_0 21 rfl rfl)
theorem dX8_bestFor_24 : decode cX8_bestFor 24 = .ok (.iload_n 1, 1) := dk_27 (dk_at dksX8_bestFor_1 0 rfl rfl)
theorem dX8_bestFor_25 : decode cX8_bestFor 25 = .ok (.iaload, 1) := dk_46 (dk_at dksX8_bestFor_1 1 rfl rfl)
theorem dX8_bestFor_26 : decode cX8_bestFor 26 = .ok (.ireturn, 1) := dk_172 (dk_at dksX8_bestFor_1 2 rfl rfl)
abbrev cX8_parted : ByteArray := prog_26_method_82_code
def yX8_parted : MethodName := ⟨RX8, "parted", "()I"⟩
def dkwX8_parted_4 : List UInt8 := [167, 255, 170, 27, 172]
abbrev dktX8_parted_4 : List UInt8 := dkwX8_parted_4 ++ []
def dkwX8_parted_3 : List UInt8 := [16, 8, 29, 96, 46, 159, 0, 7, 4, 167, 0, 4, 3, 96, 60, 132, 3, 1, 167, 255, 186, 132, 2, 1]
abbrev dktX8_parted_3 : List UInt8 := dkwX8_parted_3 ++ dktX8_parted_4
def dkwX8_parted_2 : List UInt8 := [180, 0, 62, 3, 29, 96, 46, 5, 160, 0, 28, 42, 180, 0, 62, 16, 8, 28, 96, 46, 42, 180, 0, 62]
abbrev dktX8_parted_2 : List UInt8 := dkwX8_parted_2 ++ dktX8_parted_3
def dkwX8_parted_1 : List UInt8 := [27, 42, 28, 29, 182, 1, 101, 153, 0, 52, 42, 180, 0, 62, 3, 28, 96, 46, 5, 160, 0, 40, 42]
abbrev dktX8_parted_1 : List UInt8 := dkwX8_parted_1 ++ dktX8_parted_2
def dkwX8_parted_0 : List UInt8 := [42, 3, 181, 0, 3, 3, 60, 3, 61, 28, 42, 180, 0, 169, 162, 0, 84, 3, 62, 29, 28, 162, 0, 71]
abbrev dktX8_parted_0 : List UInt8 := dkwX8_parted_0 ++ dktX8_parted_1
theorem dksX8_parted_0 : cX8_parted.data.toList.drop 0 = dktX8_parted_0 := by decide +kernel
theorem dksX8_parted_1 : cX8_parted.data.toList.drop 24 = dktX8_parted_1 := dk_seg dksX8_parted_0 24 rfl rfl
theorem dksX8_parted_2 : cX8_parted.data.toList.drop 47 = dktX8_parted_2 := dk_seg dksX8_parted_1 23 rfl rfl
theorem dksX8_parted_3 : cX8_parted.data.toList.drop 71 = dktX8_parted_3 := dk_seg dksX8_parted_2 24 rfl rfl
theorem dksX8_parted_4 : cX8_parted.data.toList.drop 95 = dktX8_parted_4 := dk_seg dksX8_parted_3 24 rfl rfl
theorem dX8_parted_0 : decode cX8_parted 0 = .ok (.aload_n 0, 1) := dk_42 (dk_at dksX8_parted_0 0 rfl rfl)
theorem dX8_parted_1 : decode cX8_parted 1 = .ok (.iconst 0, 1) := dk_3 (dk_at dksX8_parted_0 1 rfl rfl)
theorem dX8_parted_2 : decode cX8_parted 2 = .ok (.putfield 3, 3) := dk_181 0 3 (dk_at dksX8_parted_0 2 rfl rfl)
theorem dX8_parted_5 : decode cX8_parted 5 = .ok (.iconst 0, 1) := dk_3 (dk_at dksX8_parted_0 5 rfl rfl)
theorem dX8_parted_6 : decode cX8_parted 6 = .ok (.istore_n 1, 1) := dk_60 (dk_at dksX8_parted_0 6 rfl rfl)
theorem dX8_parted_7 : decode cX8_parted 7 = .ok (.iconst 0, 1) := dk_3 (dk_at dksX8_parted_0 7 rfl rfl)
theorem dX8_parted_8 : decode cX8_parted 8 = .ok (.istore_n 2, 1) := dk_61 (dk_at dksX8_parted_0 8 rfl rfl)
theorem dX8_parted_9 : decode cX8_parted 9 = .ok (.iload_n 2, 1) := dk_28 (dk_at dksX8_parted_0 9 rfl rfl)
theorem dX8_parted_10 : decode cX8_parted 10 = .ok (.aload_n 0, 1) := dk_42 (dk_at dksX8_parted_0 10 rfl rfl)
theorem dX8_parted_11 : decode cX8_parted 11 = .ok (.getfield 169, 3) := dk_180 0 169 (dk_at dksX8_parted_0 11 rfl rfl)
theorem dX8_parted_14 : decode cX8_parted 14 = .ok (.if_icmp .ge 84, 3) := dk_162 0 84 (dk_at dksX8_parted_0 14 rfl rfl)
theorem dX8_parted_17 : decode cX8_parted 17 = .ok (.iconst 0, 1) := dk_3 (dk_at dksX8_parted_0 17 rfl rfl)
theorem dX8_parted_18 : decode cX8_parted 18 = .ok (.istore_n 3, 1) := dk_62 (dk_at dksX8_parted_0 18 rfl rfl)
theorem dX8_parted_19 : decode cX8_parted 19 = .ok (.iload_n 3, 1) := dk_29 (dk_at dksX8_parted_0 19 rfl rfl)
theorem dX8_parted_20 : decode cX8_parted 20 = .ok (.iload_n 2, 1) := dk_28 (dk_at dksX8_parted_0 20 rfl rfl)
theorem dX8_parted_21 : decode cX8_parted 21 = .ok (.if_icmp .ge 71, 3) := dk_162 0 71 (dk_at dksX8_parted_0 21 rfl rfl)
theorem dX8_parted_24 : decode cX8_parted 24 = .ok (.iload_n 1, 1) := dk_27 (dk_at dksX8_parted_1 0 rfl rfl)
theorem dX8_parted_25 : decode cX8_parted 25 = .ok (.aload_n 0, 1) := dk_42 (dk_at dksX8_parted_1 1 rfl rfl)
theorem dX8_parted_26 : decode cX8_parted 26 = .ok (.iload_n 2, 1) := dk_28 (dk_at dksX8_parted_1 2 rfl rfl)
theorem dX8_parted_27 : decode cX8_parted 27 = .ok (.iload_n 3, 1) := dk_29 (dk_at dksX8_parted_1 3 rfl rfl)
theorem dX8_parted_28 : decode cX8_parted 28 = .ok (.invokevirtual 357, 3) := dk_182 1 101 (dk_at dksX8_parted_1 4 rfl rfl)
theorem dX8_parted_31 : decode cX8_parted 31 = .ok (.ifCond .eq 52, 3) := dk_153 0 52 (dk_at dksX8_parted_1 7 rfl rfl)
theorem dX8_parted_34 : decode cX8_parted 34 = .ok (.aload_n 0, 1) := dk_42 (dk_at dksX8_parted_1 10 rfl rfl)
theorem dX8_parted_35 : decode cX8_parted 35 = .ok (.getfield 62, 3) := dk_180 0 62 (dk_at dksX8_parted_1 11 rfl rfl)
theorem dX8_parted_38 : decode cX8_parted 38 = .ok (.iconst 0, 1) := dk_3 (dk_at dksX8_parted_1 14 rfl rfl)
theorem dX8_parted_39 : decode cX8_parted 39 = .ok (.iload_n 2, 1) := dk_28 (dk_at dksX8_parted_1 15 rfl rfl)
theorem dX8_parted_40 : decode cX8_parted 40 = .ok (.iadd, 1) := dk_96 (dk_at dksX8_parted_1 16 rfl rfl)
theorem dX8_parted_41 : decode cX8_parted 41 = .ok (.iaload, 1) := dk_46 (dk_at dksX8_parted_1 17 rfl rfl)
theorem dX8_parted_42 : decode cX8_parted 42 = .ok (.iconst 2, 1) := dk_5 (dk_at dksX8_parted_1 18 rfl rfl)
theorem dX8_parted_43 : decode cX8_parted 43 = .ok (.if_icmp .ne 40, 3) := dk_160 0 40 (dk_at dksX8_parted_1 19 rfl rfl)
theorem dX8_parted_46 : decode cX8_parted 46 = .ok (.aload_n 0, 1) := dk_42 (dk_at dksX8_parted_1 22 rfl rfl)
theorem dX8_parted_47 : decode cX8_parted 47 = .ok (.getfield 62, 3) := dk_180 0 62 (dk_at dksX8_parted_2 0 rfl rfl)
theorem dX8_parted_50 : decode cX8_parted 50 = .ok (.iconst 0, 1) := dk_3 (dk_at dksX8_parted_2 3 rfl rfl)
theorem dX8_parted_51 : decode cX8_parted 51 = .ok (.iload_n 3, 1) := dk_29 (dk_at dksX8_parted_2 4 rfl rfl)
theorem dX8_parted_52 : decode cX8_parted 52 = .ok (.iadd, 1) := dk_96 (dk_at dksX8_parted_2 5 rfl rfl)
theorem dX8_parted_53 : decode cX8_parted 53 = .ok (.iaload, 1) := dk_46 (dk_at dksX8_parted_2 6 rfl rfl)
theorem dX8_parted_54 : decode cX8_parted 54 = .ok (.iconst 2, 1) := dk_5 (dk_at dksX8_parted_2 7 rfl rfl)
theorem dX8_parted_55 : decode cX8_parted 55 = .ok (.if_icmp .ne 28, 3) := dk_160 0 28 (dk_at dksX8_parted_2 8 rfl rfl)
theorem dX8_parted_58 : decode cX8_parted 58 = .ok (.aload_n 0, 1) := dk_42 (dk_at dksX8_parted_2 11 rfl rfl)
theorem dX8_parted_59 : decode cX8_parted 59 = .ok (.getfield 62, 3) := dk_180 0 62 (dk_at dksX8_parted_2 12 rfl rfl)
theorem dX8_parted_62 : decode cX8_parted 62 = .ok (.bipush 8, 2) := dk_16 8 (dk_at dksX8_parted_2 15 rfl rfl)
theorem dX8_parted_64 : decode cX8_parted 64 = .ok (.iload_n 2, 1) := dk_28 (dk_at dksX8_parted_2 17 rfl rfl)
theorem dX8_parted_65 : decode cX8_parted 65 = .ok (.iadd, 1) := dk_96 (dk_at dksX8_parted_2 18 rfl rfl)
theorem dX8_parted_66 : decode cX8_parted 66 = .ok (.iaload, 1) := dk_46 (dk_at dksX8_parted_2 19 rfl rfl)
theorem dX8_parted_67 : decode cX8_parted 67 = .ok (.aload_n 0, 1) := dk_42 (dk_at dksX8_parted_2 20 rfl rfl)
theorem dX8_parted_68 : decode cX8_parted 68 = .ok (.getfield 62, 3) := dk_180 0 62 (dk_at dksX8_parted_2 21 rfl rfl)
theorem dX8_parted_71 : decode cX8_parted 71 = .ok (.bipush 8, 2) := dk_16 8 (dk_at dksX8_parted_3 0 rfl rfl)
theorem dX8_parted_73 : decode cX8_parted 73 = .ok (.iload_n 3, 1) := dk_29 (dk_at dksX8_parted_3 2 rfl rfl)
theorem dX8_parted_74 : decode cX8_parted 74 = .ok (.iadd, 1) := dk_96 (dk_at dksX8_parted_3 3 rfl rfl)
theorem dX8_parted_75 : decode cX8_parted 75 = .ok (.iaload, 1) := dk_46 (dk_at dksX8_parted_3 4 rfl rfl)
theorem dX8_parted_76 : decode cX8_parted 76 = .ok (.if_icmp .eq 7, 3) := dk_159 0 7 (dk_at dksX8_parted_3 5 rfl rfl)
theorem dX8_parted_79 : decode cX8_parted 79 = .ok (.iconst 1, 1) := dk_4 (dk_at dksX8_parted_3 8 rfl rfl)
theorem dX8_parted_80 : decode cX8_parted 80 = .ok (.goto 4, 3) := dk_167 0 4 (dk_at dksX8_parted_3 9 rfl rfl)
theorem dX8_parted_83 : decode cX8_parted 83 = .ok (.iconst 0, 1) := dk_3 (dk_at dksX8_parted_3 12 rfl rfl)
theorem dX8_parted_84 : decode cX8_parted 84 = .ok (.iadd, 1) := dk_96 (dk_at dksX8_parted_3 13 rfl rfl)
theorem dX8_parted_85 : decode cX8_parted 85 = .ok (.istore_n 1, 1) := dk_60 (dk_at dksX8_parted_3 14 rfl rfl)
theorem dX8_parted_86 : decode cX8_parted 86 = .ok (.iinc 3 1, 3) := dk_132 3 1 (dk_at dksX8_parted_3 15 rfl rfl)
theorem dX8_parted_89 : decode cX8_parted 89 = .ok (.goto (-70), 3) := dk_167 255 186 (dk_at dksX8_parted_3 18 rfl rfl)
theorem dX8_parted_92 : decode cX8_parted 92 = .ok (.iinc 2 1, 3) := dk_132 2 1 (dk_at dksX8_parted_3 21 rfl rfl)
theorem dX8_parted_95 : decode cX8_parted 95 = .ok (.goto (-86), 3) := dk_167 255 170 (dk_at dksX8_parted_4 0 rfl rfl)
theorem dX8_parted_98 : decode cX8_parted 98 = .ok (.iload_n 1, 1) := dk_27 (dk_at dksX8_parted_4 3 rfl rfl)
theorem dX8_parted_99 : decode cX8_parted 99 = .ok (.ireturn, 1) := dk_172 (dk_at dksX8_parted_4 4 rfl rfl)
abbrev cX8_kin : ByteArray := prog_26_method_83_code
def yX8_kin : MethodName := ⟨RX8, "kin", "(I)I"⟩
def dkwX8_kin_2 : List UInt8 := [61, 132, 3, 1, 167, 255, 226, 28, 172]
abbrev dktX8_kin_2 : List UInt8 := dkwX8_kin_2 ++ []
def dkwX8_kin_1 : List UInt8 := [180, 0, 169, 162, 0, 28, 28, 42, 27, 29, 182, 1, 101, 153, 0, 9, 4, 29, 120, 167, 0, 4, 3, 128]
abbrev dktX8_kin_1 : List UInt8 := dkwX8_kin_1 ++ dktX8_kin_2
def dkwX8_kin_0 : List UInt8 := [42, 3, 181, 0, 3, 42, 27, 4, 182, 1, 148, 154, 0, 5, 3, 172, 3, 61, 3, 62, 29, 42]
abbrev dktX8_kin_0 : List UInt8 := dkwX8_kin_0 ++ dktX8_kin_1
theorem dksX8_kin_0 : cX8_kin.data.toList.drop 0 = dktX8_kin_0 := by decide +kernel
theorem dksX8_kin_1 : cX8_kin.data.toList.drop 22 = dktX8_kin_1 := dk_seg dksX8_kin_0 22 rfl rfl
theorem dksX8_kin_2 : cX8_kin.data.toList.drop 46 = dktX8_kin_2 := dk_seg dksX8_kin_1 24 rfl rfl
theorem dX8_kin_0 : decode cX8_kin 0 = .ok (.aload_n 0, 1) := dk_42 (dk_at dksX8_kin_0 0 rfl rfl)
theorem dX8_kin_1 : decode cX8_kin 1 = .ok (.iconst 0, 1) := dk_3 (dk_at dksX8_kin_0 1 rfl rfl)
theorem dX8_kin_2 : decode cX8_kin 2 = .ok (.putfield 3, 3) := dk_181 0 3 (dk_at dksX8_kin_0 2 rfl rfl)
theorem dX8_kin_5 : decode cX8_kin 5 = .ok (.aload_n 0, 1) := dk_42 (dk_at dksX8_kin_0 5 rfl rfl)
theorem dX8_kin_6 : decode cX8_kin 6 = .ok (.iload_n 1, 1) := dk_27 (dk_at dksX8_kin_0 6 rfl rfl)
theorem dX8_kin_7 : decode cX8_kin 7 = .ok (.iconst 1, 1) := dk_4 (dk_at dksX8_kin_0 7 rfl rfl)
theorem dX8_kin_8 : decode cX8_kin 8 = .ok (.invokevirtual 404, 3) := dk_182 1 148 (dk_at dksX8_kin_0 8 rfl rfl)
theorem dX8_kin_11 : decode cX8_kin 11 = .ok (.ifCond .ne 5, 3) := dk_154 0 5 (dk_at dksX8_kin_0 11 rfl rfl)
theorem dX8_kin_14 : decode cX8_kin 14 = .ok (.iconst 0, 1) := dk_3 (dk_at dksX8_kin_0 14 rfl rfl)
theorem dX8_kin_15 : decode cX8_kin 15 = .ok (.ireturn, 1) := dk_172 (dk_at dksX8_kin_0 15 rfl rfl)
theorem dX8_kin_16 : decode cX8_kin 16 = .ok (.iconst 0, 1) := dk_3 (dk_at dksX8_kin_0 16 rfl rfl)
theorem dX8_kin_17 : decode cX8_kin 17 = .ok (.istore_n 2, 1) := dk_61 (dk_at dksX8_kin_0 17 rfl rfl)
theorem dX8_kin_18 : decode cX8_kin 18 = .ok (.iconst 0, 1) := dk_3 (dk_at dksX8_kin_0 18 rfl rfl)
theorem dX8_kin_19 : decode cX8_kin 19 = .ok (.istore_n 3, 1) := dk_62 (dk_at dksX8_kin_0 19 rfl rfl)
theorem dX8_kin_20 : decode cX8_kin 20 = .ok (.iload_n 3, 1) := dk_29 (dk_at dksX8_kin_0 20 rfl rfl)
theorem dX8_kin_21 : decode cX8_kin 21 = .ok (.aload_n 0, 1) := dk_42 (dk_at dksX8_kin_0 21 rfl rfl)
theorem dX8_kin_22 : decode cX8_kin 22 = .ok (.getfield 169, 3) := dk_180 0 169 (dk_at dksX8_kin_1 0 rfl rfl)
theorem dX8_kin_25 : decode cX8_kin 25 = .ok (.if_icmp .ge 28, 3) := dk_162 0 28 (dk_at dksX8_kin_1 3 rfl rfl)
theorem dX8_kin_28 : decode cX8_kin 28 = .ok (.iload_n 2, 1) := dk_28 (dk_at dksX8_kin_1 6 rfl rfl)
theorem dX8_kin_29 : decode cX8_kin 29 = .ok (.aload_n 0, 1) := dk_42 (dk_at dksX8_kin_1 7 rfl rfl)
theorem dX8_kin_30 : decode cX8_kin 30 = .ok (.iload_n 1, 1) := dk_27 (dk_at dksX8_kin_1 8 rfl rfl)
theorem dX8_kin_31 : decode cX8_kin 31 = .ok (.iload_n 3, 1) := dk_29 (dk_at dksX8_kin_1 9 rfl rfl)
theorem dX8_kin_32 : decode cX8_kin 32 = .ok (.invokevirtual 357, 3) := dk_182 1 101 (dk_at dksX8_kin_1 10 rfl rfl)
theorem dX8_kin_35 : decode cX8_kin 35 = .ok (.ifCond .eq 9, 3) := dk_153 0 9 (dk_at dksX8_kin_1 13 rfl rfl)
theorem dX8_kin_38 : decode cX8_kin 38 = .ok (.iconst 1, 1) := dk_4 (dk_at dksX8_kin_1 16 rfl rfl)
theorem dX8_kin_39 : decode cX8_kin 39 = .ok (.iload_n 3, 1) := dk_29 (dk_at dksX8_kin_1 17 rfl rfl)
theorem dX8_kin_40 : decode cX8_kin 40 = .ok (.ishl, 1) := dk_120 (dk_at dksX8_kin_1 18 rfl rfl)
theorem dX8_kin_41 : decode cX8_kin 41 = .ok (.goto 4, 3) := dk_167 0 4 (dk_at dksX8_kin_1 19 rfl rfl)
theorem dX8_kin_44 : decode cX8_kin 44 = .ok (.iconst 0, 1) := dk_3 (dk_at dksX8_kin_1 22 rfl rfl)
theorem dX8_kin_45 : decode cX8_kin 45 = .ok (.ior, 1) := dk_128 (dk_at dksX8_kin_1 23 rfl rfl)
theorem dX8_kin_46 : decode cX8_kin 46 = .ok (.istore_n 2, 1) := dk_61 (dk_at dksX8_kin_2 0 rfl rfl)
theorem dX8_kin_47 : decode cX8_kin 47 = .ok (.iinc 3 1, 3) := dk_132 3 1 (dk_at dksX8_kin_2 1 rfl rfl)
theorem dX8_kin_50 : decode cX8_kin 50 = .ok (.goto (-30), 3) := dk_167 255 226 (dk_at dksX8_kin_2 4 rfl rfl)
theorem dX8_kin_53 : decode cX8_kin 53 = .ok (.iload_n 2, 1) := dk_28 (dk_at dksX8_kin_2 7 rfl rfl)
theorem dX8_kin_54 : decode cX8_kin 54 = .ok (.ireturn, 1) := dk_172 (dk_at dksX8_kin_2 8 rfl rfl)
abbrev cX8_fare : ByteArray := prog_26_method_84_code
def yX8_fare : MethodName := ⟨RX8, "fare", "(I)I"⟩
def dkwX8_fare_1 : List UInt8 := [3, 27, 96, 46, 154, 0, 7, 2, 167, 0, 10, 42, 27, 182, 1, 124, 7, 108, 172]
abbrev dktX8_fare_1 : List UInt8 := dkwX8_fare_1 ++ []
def dkwX8_fare_0 : List UInt8 := [42, 3, 181, 0, 3, 42, 27, 4, 182, 1, 148, 154, 0, 5, 3, 172, 42, 182, 1, 74, 42, 180, 0, 65]
abbrev dktX8_fare_0 : List UInt8 := dkwX8_fare_0 ++ dktX8_fare_1
theorem dksX8_fare_0 : cX8_fare.data.toList.drop 0 = dktX8_fare_0 := by decide +kernel
theorem dksX8_fare_1 : cX8_fare.data.toList.drop 24 = dktX8_fare_1 := dk_seg dksX8_fare_0 24 rfl rfl
theorem dX8_fare_0 : decode cX8_fare 0 = .ok (.aload_n 0, 1) := dk_42 (dk_at dksX8_fare_0 0 rfl rfl)
theorem dX8_fare_1 : decode cX8_fare 1 = .ok (.iconst 0, 1) := dk_3 (dk_at dksX8_fare_0 1 rfl rfl)
theorem dX8_fare_2 : decode cX8_fare 2 = .ok (.putfield 3, 3) := dk_181 0 3 (dk_at dksX8_fare_0 2 rfl rfl)
theorem dX8_fare_5 : decode cX8_fare 5 = .ok (.aload_n 0, 1) := dk_42 (dk_at dksX8_fare_0 5 rfl rfl)
theorem dX8_fare_6 : decode cX8_fare 6 = .ok (.iload_n 1, 1) := dk_27 (dk_at dksX8_fare_0 6 rfl rfl)
theorem dX8_fare_7 : decode cX8_fare 7 = .ok (.iconst 1, 1) := dk_4 (dk_at dksX8_fare_0 7 rfl rfl)
theorem dX8_fare_8 : decode cX8_fare 8 = .ok (.invokevirtual 404, 3) := dk_182 1 148 (dk_at dksX8_fare_0 8 rfl rfl)
theorem dX8_fare_11 : decode cX8_fare 11 = .ok (.ifCond .ne 5, 3) := dk_154 0 5 (dk_at dksX8_fare_0 11 rfl rfl)
theorem dX8_fare_14 : decode cX8_fare 14 = .ok (.iconst 0, 1) := dk_3 (dk_at dksX8_fare_0 14 rfl rfl)
theorem dX8_fare_15 : decode cX8_fare 15 = .ok (.ireturn, 1) := dk_172 (dk_at dksX8_fare_0 15 rfl rfl)
theorem dX8_fare_16 : decode cX8_fare 16 = .ok (.aload_n 0, 1) := dk_42 (dk_at dksX8_fare_0 16 rfl rfl)
theorem dX8_fare_17 : decode cX8_fare 17 = .ok (.invokevirtual 330, 3) := dk_182 1 74 (dk_at dksX8_fare_0 17 rfl rfl)
theorem dX8_fare_20 : decode cX8_fare 20 = .ok (.aload_n 0, 1) := dk_42 (dk_at dksX8_fare_0 20 rfl rfl)
theorem dX8_fare_21 : decode cX8_fare 21 = .ok (.getfield 65, 3) := dk_180 0 65 (dk_at dksX8_fare_0 21 rfl rfl)
theorem dX8_fare_24 : decode cX8_fare 24 = .ok (.iconst 0, 1) := dk_3 (dk_at dksX8_fare_1 0 rfl rfl)
theorem dX8_fare_25 : decode cX8_fare 25 = .ok (.iload_n 1, 1) := dk_27 (dk_at dksX8_fare_1 1 rfl rfl)
theorem dX8_fare_26 : decode cX8_fare 26 = .ok (.iadd, 1) := dk_96 (dk_at dksX8_fare_1 2 rfl rfl)
theorem dX8_fare_27 : decode cX8_fare 27 = .ok (.iaload, 1) := dk_46 (dk_at dksX8_fare_1 3 rfl rfl)
theorem dX8_fare_28 : decode cX8_fare 28 = .ok (.ifCond .ne 7, 3) := dk_154 0 7 (dk_at dksX8_fare_1 4 rfl rfl)
theorem dX8_fare_31 : decode cX8_fare 31 = .ok (.iconst (-1), 1) := dk_2 (dk_at dksX8_fare_1 7 rfl rfl)
theorem dX8_fare_32 : decode cX8_fare 32 = .ok (.goto 10, 3) := dk_167 0 10 (dk_at dksX8_fare_1 8 rfl rfl)
theorem dX8_fare_35 : decode cX8_fare 35 = .ok (.aload_n 0, 1) := dk_42 (dk_at dksX8_fare_1 11 rfl rfl)
theorem dX8_fare_36 : decode cX8_fare 36 = .ok (.iload_n 1, 1) := dk_27 (dk_at dksX8_fare_1 12 rfl rfl)
theorem dX8_fare_37 : decode cX8_fare 37 = .ok (.invokevirtual 380, 3) := dk_182 1 124 (dk_at dksX8_fare_1 13 rfl rfl)
theorem dX8_fare_40 : decode cX8_fare 40 = .ok (.iconst 4, 1) := dk_7 (dk_at dksX8_fare_1 16 rfl rfl)
theorem dX8_fare_41 : decode cX8_fare 41 = .ok (.idiv, 1) := dk_108 (dk_at dksX8_fare_1 17 rfl rfl)
theorem dX8_fare_42 : decode cX8_fare 42 = .ok (.ireturn, 1) := dk_172 (dk_at dksX8_fare_1 18 rfl rfl)
abbrev cX8_canPay : ByteArray := prog_26_method_85_code
def yX8_canPay : MethodName := ⟨RX8, "canPay", "(I)Z"⟩
def dkwX8_canPay_1 : List UInt8 := [182, 1, 127, 172]
abbrev dktX8_canPay_1 : List UInt8 := dkwX8_canPay_1 ++ []
def dkwX8_canPay_0 : List UInt8 := [42, 3, 181, 0, 3, 42, 27, 4, 182, 1, 148, 154, 0, 5, 3, 172, 42, 182, 1, 74, 42, 27]
abbrev dktX8_canPay_0 : List UInt8 := dkwX8_canPay_0 ++ dktX8_canPay_1
theorem dksX8_canPay_0 : cX8_canPay.data.toList.drop 0 = dktX8_canPay_0 := by decide +kernel
theorem dksX8_canPay_1 : cX8_canPay.data.toList.drop 22 = dktX8_canPay_1 := dk_seg dksX8_canPay_0 22 rfl rfl
theorem dX8_canPay_0 : decode cX8_canPay 0 = .ok (.aload_n 0, 1) := dk_42 (dk_at dksX8_canPay_0 0 rfl rfl)
theorem dX8_canPay_1 : decode cX8_canPay 1 = .ok (.iconst 0, 1) := dk_3 (dk_at dksX8_canPay_0 1 rfl rfl)
theorem dX8_canPay_2 : decode cX8_canPay 2 = .ok (.putfield 3, 3) := dk_181 0 3 (dk_at dksX8_canPay_0 2 rfl rfl)
theorem dX8_canPay_5 : decode cX8_canPay 5 = .ok (.aload_n 0, 1) := dk_42 (dk_at dksX8_canPay_0 5 rfl rfl)
theorem dX8_canPay_6 : decode cX8_canPay 6 = .ok (.iload_n 1, 1) := dk_27 (dk_at dksX8_canPay_0 6 rfl rfl)
theorem dX8_canPay_7 : decode cX8_canPay 7 = .ok (.iconst 1, 1) := dk_4 (dk_at dksX8_canPay_0 7 rfl rfl)
theorem dX8_canPay_8 : decode cX8_canPay 8 = .ok (.invokevirtual 404, 3) := dk_182 1 148 (dk_at dksX8_canPay_0 8 rfl rfl)
theorem dX8_canPay_11 : decode cX8_canPay 11 = .ok (.ifCond .ne 5, 3) := dk_154 0 5 (dk_at dksX8_canPay_0 11 rfl rfl)
theorem dX8_canPay_14 : decode cX8_canPay 14 = .ok (.iconst 0, 1) := dk_3 (dk_at dksX8_canPay_0 14 rfl rfl)
theorem dX8_canPay_15 : decode cX8_canPay 15 = .ok (.ireturn, 1) := dk_172 (dk_at dksX8_canPay_0 15 rfl rfl)
theorem dX8_canPay_16 : decode cX8_canPay 16 = .ok (.aload_n 0, 1) := dk_42 (dk_at dksX8_canPay_0 16 rfl rfl)
theorem dX8_canPay_17 : decode cX8_canPay 17 = .ok (.invokevirtual 330, 3) := dk_182 1 74 (dk_at dksX8_canPay_0 17 rfl rfl)
theorem dX8_canPay_20 : decode cX8_canPay 20 = .ok (.aload_n 0, 1) := dk_42 (dk_at dksX8_canPay_0 20 rfl rfl)
theorem dX8_canPay_21 : decode cX8_canPay 21 = .ok (.iload_n 1, 1) := dk_27 (dk_at dksX8_canPay_0 21 rfl rfl)
theorem dX8_canPay_22 : decode cX8_canPay 22 = .ok (.invokevirtual 383, 3) := dk_182 1 127 (dk_at dksX8_canPay_1 0 rfl rfl)
theorem dX8_canPay_25 : decode cX8_canPay 25 = .ok (.ireturn, 1) := dk_172 (dk_at dksX8_canPay_1 3 rfl rfl)
abbrev cX8_enough : ByteArray := prog_26_method_86_code
def yX8_enough : MethodName := ⟨RX8, "enough", "(I)I"⟩
def dkwX8_enough_1 : List UInt8 := [182, 1, 74, 42, 3, 182, 1, 118, 27, 104, 172]
abbrev dktX8_enough_1 : List UInt8 := dkwX8_enough_1 ++ []
def dkwX8_enough_0 : List UInt8 := [42, 3, 181, 0, 3, 42, 27, 3, 16, 99, 184, 1, 34, 4, 4, 182, 0, 207, 154, 0, 5, 3, 172, 42]
abbrev dktX8_enough_0 : List UInt8 := dkwX8_enough_0 ++ dktX8_enough_1
theorem dksX8_enough_0 : cX8_enough.data.toList.drop 0 = dktX8_enough_0 := by decide +kernel
theorem dksX8_enough_1 : cX8_enough.data.toList.drop 24 = dktX8_enough_1 := dk_seg dksX8_enough_0 24 rfl rfl
theorem dX8_enough_0 : decode cX8_enough 0 = .ok (.aload_n 0, 1) := dk_42 (dk_at dksX8_enough_0 0 rfl rfl)
theorem dX8_enough_1 : decode cX8_enough 1 = .ok (.iconst 0, 1) := dk_3 (dk_at dksX8_enough_0 1 rfl rfl)
theorem dX8_enough_2 : decode cX8_enough 2 = .ok (.putfield 3, 3) := dk_181 0 3 (dk_at dksX8_enough_0 2 rfl rfl)
theorem dX8_enough_5 : decode cX8_enough 5 = .ok (.aload_n 0, 1) := dk_42 (dk_at dksX8_enough_0 5 rfl rfl)
theorem dX8_enough_6 : decode cX8_enough 6 = .ok (.iload_n 1, 1) := dk_27 (dk_at dksX8_enough_0 6 rfl rfl)
theorem dX8_enough_7 : decode cX8_enough 7 = .ok (.iconst 0, 1) := dk_3 (dk_at dksX8_enough_0 7 rfl rfl)
theorem dX8_enough_8 : decode cX8_enough 8 = .ok (.bipush 99, 2) := dk_16 99 (dk_at dksX8_enough_0 8 rfl rfl)
theorem dX8_enough_10 : decode cX8_enough 10 = .ok (.invokestatic 290, 3) := dk_184 1 34 (dk_at dksX8_enough_0 10 rfl rfl)
theorem dX8_enough_13 : decode cX8_enough 13 = .ok (.iconst 1, 1) := dk_4 (dk_at dksX8_enough_0 13 rfl rfl)
theorem dX8_enough_14 : decode cX8_enough 14 = .ok (.iconst 1, 1) := dk_4 (dk_at dksX8_enough_0 14 rfl rfl)
theorem dX8_enough_15 : decode cX8_enough 15 = .ok (.invokevirtual 207, 3) := dk_182 0 207 (dk_at dksX8_enough_0 15 rfl rfl)
theorem dX8_enough_18 : decode cX8_enough 18 = .ok (.ifCond .ne 5, 3) := dk_154 0 5 (dk_at dksX8_enough_0 18 rfl rfl)
theorem dX8_enough_21 : decode cX8_enough 21 = .ok (.iconst 0, 1) := dk_3 (dk_at dksX8_enough_0 21 rfl rfl)
theorem dX8_enough_22 : decode cX8_enough 22 = .ok (.ireturn, 1) := dk_172 (dk_at dksX8_enough_0 22 rfl rfl)
theorem dX8_enough_23 : decode cX8_enough 23 = .ok (.aload_n 0, 1) := dk_42 (dk_at dksX8_enough_0 23 rfl rfl)
theorem dX8_enough_24 : decode cX8_enough 24 = .ok (.invokevirtual 330, 3) := dk_182 1 74 (dk_at dksX8_enough_1 0 rfl rfl)
theorem dX8_enough_27 : decode cX8_enough 27 = .ok (.aload_n 0, 1) := dk_42 (dk_at dksX8_enough_1 3 rfl rfl)
theorem dX8_enough_28 : decode cX8_enough 28 = .ok (.iconst 0, 1) := dk_3 (dk_at dksX8_enough_1 4 rfl rfl)
theorem dX8_enough_29 : decode cX8_enough 29 = .ok (.invokevirtual 374, 3) := dk_182 1 118 (dk_at dksX8_enough_1 5 rfl rfl)
theorem dX8_enough_32 : decode cX8_enough 32 = .ok (.iload_n 1, 1) := dk_27 (dk_at dksX8_enough_1 8 rfl rfl)
theorem dX8_enough_33 : decode cX8_enough 33 = .ok (.imul, 1) := dk_104 (dk_at dksX8_enough_1 9 rfl rfl)
theorem dX8_enough_34 : decode cX8_enough 34 = .ok (.ireturn, 1) := dk_172 (dk_at dksX8_enough_1 10 rfl rfl)
abbrev cX8_level : ByteArray := prog_26_method_87_code
def yX8_level : MethodName := ⟨RX8, "level", "(I)I"⟩
def dkwX8_level_2 : List UInt8 := [182, 1, 118, 108, 61, 28, 27, 162, 0, 7, 28, 167, 0, 4, 27, 172]
abbrev dktX8_level_2 : List UInt8 := dkwX8_level_2 ++ []
def dkwX8_level_1 : List UInt8 := [182, 1, 74, 42, 3, 182, 1, 118, 154, 0, 5, 2, 172, 42, 180, 0, 65, 16, 65, 46, 42, 3]
abbrev dktX8_level_1 : List UInt8 := dkwX8_level_1 ++ dktX8_level_2
def dkwX8_level_0 : List UInt8 := [42, 3, 181, 0, 3, 42, 27, 3, 16, 99, 184, 1, 34, 4, 4, 182, 0, 207, 154, 0, 5, 3, 172, 42]
abbrev dktX8_level_0 : List UInt8 := dkwX8_level_0 ++ dktX8_level_1
theorem dksX8_level_0 : cX8_level.data.toList.drop 0 = dktX8_level_0 := by decide +kernel
theorem dksX8_level_1 : cX8_level.data.toList.drop 24 = dktX8_level_1 := dk_seg dksX8_level_0 24 rfl rfl
theorem dksX8_level_2 : cX8_level.data.toList.drop 46 = dktX8_level_2 := dk_seg dksX8_level_1 22 rfl rfl
theorem dX8_level_0 : decode cX8_level 0 = .ok (.aload_n 0, 1) := dk_42 (dk_at dksX8_level_0 0 rfl rfl)
theorem dX8_level_1 : decode cX8_level 1 = .ok (.iconst 0, 1) := dk_3 (dk_at dksX8_level_0 1 rfl rfl)
theorem dX8_level_2 : decode cX8_level 2 = .ok (.putfield 3, 3) := dk_181 0 3 (dk_at dksX8_level_0 2 rfl rfl)
theorem dX8_level_5 : decode cX8_level 5 = .ok (.aload_n 0, 1) := dk_42 (dk_at dksX8_level_0 5 rfl rfl)
theorem dX8_level_6 : decode cX8_level 6 = .ok (.iload_n 1, 1) := dk_27 (dk_at dksX8_level_0 6 rfl rfl)
theorem dX8_level_7 : decode cX8_level 7 = .ok (.iconst 0, 1) := dk_3 (dk_at dksX8_level_0 7 rfl rfl)
theorem dX8_level_8 : decode cX8_level 8 = .ok (.bipush 99, 2) := dk_16 99 (dk_at dksX8_level_0 8 rfl rfl)
theorem dX8_level_10 : decode cX8_level 10 = .ok (.invokestatic 290, 3) := dk_184 1 34 (dk_at dksX8_level_0 10 rfl rfl)
theorem dX8_level_13 : decode cX8_level 13 = .ok (.iconst 1, 1) := dk_4 (dk_at dksX8_level_0 13 rfl rfl)
theorem dX8_level_14 : decode cX8_level 14 = .ok (.iconst 1, 1) := dk_4 (dk_at dksX8_level_0 14 rfl rfl)
theorem dX8_level_15 : decode cX8_level 15 = .ok (.invokevirtual 207, 3) := dk_182 0 207 (dk_at dksX8_level_0 15 rfl rfl)
theorem dX8_level_18 : decode cX8_level 18 = .ok (.ifCond .ne 5, 3) := dk_154 0 5 (dk_at dksX8_level_0 18 rfl rfl)
theorem dX8_level_21 : decode cX8_level 21 = .ok (.iconst 0, 1) := dk_3 (dk_at dksX8_level_0 21 rfl rfl)
theorem dX8_level_22 : decode cX8_level 22 = .ok (.ireturn, 1) := dk_172 (dk_at dksX8_level_0 22 rfl rfl)
theorem dX8_level_23 : decode cX8_level 23 = .ok (.aload_n 0, 1) := dk_42 (dk_at dksX8_level_0 23 rfl rfl)
theorem dX8_level_24 : decode cX8_level 24 = .ok (.invokevirtual 330, 3) := dk_182 1 74 (dk_at dksX8_level_1 0 rfl rfl)
theorem dX8_level_27 : decode cX8_level 27 = .ok (.aload_n 0, 1) := dk_42 (dk_at dksX8_level_1 3 rfl rfl)
theorem dX8_level_28 : decode cX8_level 28 = .ok (.iconst 0, 1) := dk_3 (dk_at dksX8_level_1 4 rfl rfl)
theorem dX8_level_29 : decode cX8_level 29 = .ok (.invokevirtual 374, 3) := dk_182 1 118 (dk_at dksX8_level_1 5 rfl rfl)
theorem dX8_level_32 : decode cX8_level 32 = .ok (.ifCond .ne 5, 3) := dk_154 0 5 (dk_at dksX8_level_1 8 rfl rfl)
theorem dX8_level_35 : decode cX8_level 35 = .ok (.iconst (-1), 1) := dk_2 (dk_at dksX8_level_1 11 rfl rfl)
theorem dX8_level_36 : decode cX8_level 36 = .ok (.ireturn, 1) := dk_172 (dk_at dksX8_level_1 12 rfl rfl)
theorem dX8_level_37 : decode cX8_level 37 = .ok (.aload_n 0, 1) := dk_42 (dk_at dksX8_level_1 13 rfl rfl)
theorem dX8_level_38 : decode cX8_level 38 = .ok (.getfield 65, 3) := dk_180 0 65 (dk_at dksX8_level_1 14 rfl rfl)
theorem dX8_level_41 : decode cX8_level 41 = .ok (.bipush 65, 2) := dk_16 65 (dk_at dksX8_level_1 17 rfl rfl)
theorem dX8_level_43 : decode cX8_level 43 = .ok (.iaload, 1) := dk_46 (dk_at dksX8_level_1 19 rfl rfl)
theorem dX8_level_44 : decode cX8_level 44 = .ok (.aload_n 0, 1) := dk_42 (dk_at dksX8_level_1 20 rfl rfl)
theorem dX8_level_45 : decode cX8_level 45 = .ok (.iconst 0, 1) := dk_3 (dk_at dksX8_level_1 21 rfl rfl)
theorem dX8_level_46 : decode cX8_level 46 = .ok (.invokevirtual 374, 3) := dk_182 1 118 (dk_at dksX8_level_2 0 rfl rfl)
theorem dX8_level_49 : decode cX8_level 49 = .ok (.idiv, 1) := dk_108 (dk_at dksX8_level_2 3 rfl rfl)
theorem dX8_level_50 : decode cX8_level 50 = .ok (.istore_n 2, 1) := dk_61 (dk_at dksX8_level_2 4 rfl rfl)
theorem dX8_level_51 : decode cX8_level 51 = .ok (.iload_n 2, 1) := dk_28 (dk_at dksX8_level_2 5 rfl rfl)
theorem dX8_level_52 : decode cX8_level 52 = .ok (.iload_n 1, 1) := dk_27 (dk_at dksX8_level_2 6 rfl rfl)
theorem dX8_level_53 : decode cX8_level 53 = .ok (.if_icmp .ge 7, 3) := dk_162 0 7 (dk_at dksX8_level_2 7 rfl rfl)
theorem dX8_level_56 : decode cX8_level 56 = .ok (.iload_n 2, 1) := dk_28 (dk_at dksX8_level_2 10 rfl rfl)
theorem dX8_level_57 : decode cX8_level 57 = .ok (.goto 4, 3) := dk_167 0 4 (dk_at dksX8_level_2 11 rfl rfl)
theorem dX8_level_60 : decode cX8_level 60 = .ok (.iload_n 1, 1) := dk_27 (dk_at dksX8_level_2 14 rfl rfl)
theorem dX8_level_61 : decode cX8_level 61 = .ok (.ireturn, 1) := dk_172 (dk_at dksX8_level_2 15 rfl rfl)
abbrev cX8_hunger : ByteArray := prog_26_method_88_code
def yX8_hunger : MethodName := ⟨RX8, "hunger", "()I"⟩
def dkwX8_hunger_1 : List UInt8 := [180, 1, 95, 158, 0, 5, 27, 172, 132, 1, 1, 167, 255, 234, 2, 172]
abbrev dktX8_hunger_1 : List UInt8 := dkwX8_hunger_1 ++ []
def dkwX8_hunger_0 : List UInt8 := [42, 3, 181, 0, 3, 42, 182, 1, 74, 3, 60, 27, 16, 99, 163, 0, 22, 42, 182, 1, 145, 42]
abbrev dktX8_hunger_0 : List UInt8 := dkwX8_hunger_0 ++ dktX8_hunger_1
theorem dksX8_hunger_0 : cX8_hunger.data.toList.drop 0 = dktX8_hunger_0 := by decide +kernel
theorem dksX8_hunger_1 : cX8_hunger.data.toList.drop 22 = dktX8_hunger_1 := dk_seg dksX8_hunger_0 22 rfl rfl
theorem dX8_hunger_0 : decode cX8_hunger 0 = .ok (.aload_n 0, 1) := dk_42 (dk_at dksX8_hunger_0 0 rfl rfl)
theorem dX8_hunger_1 : decode cX8_hunger 1 = .ok (.iconst 0, 1) := dk_3 (dk_at dksX8_hunger_0 1 rfl rfl)
theorem dX8_hunger_2 : decode cX8_hunger 2 = .ok (.putfield 3, 3) := dk_181 0 3 (dk_at dksX8_hunger_0 2 rfl rfl)
theorem dX8_hunger_5 : decode cX8_hunger 5 = .ok (.aload_n 0, 1) := dk_42 (dk_at dksX8_hunger_0 5 rfl rfl)
theorem dX8_hunger_6 : decode cX8_hunger 6 = .ok (.invokevirtual 330, 3) := dk_182 1 74 (dk_at dksX8_hunger_0 6 rfl rfl)
theorem dX8_hunger_9 : decode cX8_hunger 9 = .ok (.iconst 0, 1) := dk_3 (dk_at dksX8_hunger_0 9 rfl rfl)
theorem dX8_hunger_10 : decode cX8_hunger 10 = .ok (.istore_n 1, 1) := dk_60 (dk_at dksX8_hunger_0 10 rfl rfl)
theorem dX8_hunger_11 : decode cX8_hunger 11 = .ok (.iload_n 1, 1) := dk_27 (dk_at dksX8_hunger_0 11 rfl rfl)
theorem dX8_hunger_12 : decode cX8_hunger 12 = .ok (.bipush 99, 2) := dk_16 99 (dk_at dksX8_hunger_0 12 rfl rfl)
theorem dX8_hunger_14 : decode cX8_hunger 14 = .ok (.if_icmp .gt 22, 3) := dk_163 0 22 (dk_at dksX8_hunger_0 14 rfl rfl)
theorem dX8_hunger_17 : decode cX8_hunger 17 = .ok (.aload_n 0, 1) := dk_42 (dk_at dksX8_hunger_0 17 rfl rfl)
theorem dX8_hunger_18 : decode cX8_hunger 18 = .ok (.invokevirtual 401, 3) := dk_182 1 145 (dk_at dksX8_hunger_0 18 rfl rfl)
theorem dX8_hunger_21 : decode cX8_hunger 21 = .ok (.aload_n 0, 1) := dk_42 (dk_at dksX8_hunger_0 21 rfl rfl)
theorem dX8_hunger_22 : decode cX8_hunger 22 = .ok (.getfield 351, 3) := dk_180 1 95 (dk_at dksX8_hunger_1 0 rfl rfl)
theorem dX8_hunger_25 : decode cX8_hunger 25 = .ok (.ifCond .le 5, 3) := dk_158 0 5 (dk_at dksX8_hunger_1 3 rfl rfl)
theorem dX8_hunger_28 : decode cX8_hunger 28 = .ok (.iload_n 1, 1) := dk_27 (dk_at dksX8_hunger_1 6 rfl rfl)
theorem dX8_hunger_29 : decode cX8_hunger 29 = .ok (.ireturn, 1) := dk_172 (dk_at dksX8_hunger_1 7 rfl rfl)
theorem dX8_hunger_30 : decode cX8_hunger 30 = .ok (.iinc 1 1, 3) := dk_132 1 1 (dk_at dksX8_hunger_1 8 rfl rfl)
theorem dX8_hunger_33 : decode cX8_hunger 33 = .ok (.goto (-22), 3) := dk_167 255 234 (dk_at dksX8_hunger_1 11 rfl rfl)
theorem dX8_hunger_36 : decode cX8_hunger 36 = .ok (.iconst (-1), 1) := dk_2 (dk_at dksX8_hunger_1 14 rfl rfl)
theorem dX8_hunger_37 : decode cX8_hunger 37 = .ok (.ireturn, 1) := dk_172 (dk_at dksX8_hunger_1 15 rfl rfl)
abbrev cX8_terms : ByteArray := prog_26_method_91_code
def yX8_terms : MethodName := ⟨RX8, "terms", "(II)I"⟩
def dkwX8_terms_8 : List UInt8 := [160, 0, 8, 21, 5, 167, 0, 5, 21, 6, 172]
abbrev dktX8_terms_8 : List UInt8 := dkwX8_terms_8 ++ []
def dkwX8_terms_7 : List UInt8 := [167, 255, 142, 28, 154, 0, 7, 29, 167, 0, 25, 28, 4, 160, 0, 8, 21, 4, 167, 0, 15, 28, 5]
abbrev dktX8_terms_7 : List UInt8 := dkwX8_terms_7 ++ dktX8_terms_8
def dkwX8_terms_6 : List UInt8 := [21, 6, 164, 0, 13, 42, 180, 0, 93, 21, 7, 46, 167, 0, 5, 21, 6, 54, 6, 132, 7, 1]
abbrev dktX8_terms_6 : List UInt8 := dkwX8_terms_6 ++ dktX8_terms_7
def dkwX8_terms_5 : List UInt8 := [162, 0, 13, 42, 180, 0, 93, 21, 7, 46, 167, 0, 5, 21, 5, 54, 5, 42, 180, 0, 93, 21, 7, 46]
abbrev dktX8_terms_5 : List UInt8 := dkwX8_terms_5 ++ dktX8_terms_6
def dkwX8_terms_4 : List UInt8 := [96, 167, 0, 5, 21, 4, 54, 4, 21, 5, 2, 159, 0, 15, 42, 180, 0, 93, 21, 7, 46, 21, 5]
abbrev dktX8_terms_4 : List UInt8 := dkwX8_terms_4 ++ dktX8_terms_5
def dkwX8_terms_3 : List UInt8 := [132, 3, 1, 21, 4, 2, 160, 0, 22, 16, 100, 21, 7, 16, 25, 108, 4, 96, 104, 21, 7, 16, 25, 112]
abbrev dktX8_terms_3 : List UInt8 := dkwX8_terms_3 ++ dktX8_terms_4
def dkwX8_terms_2 : List UInt8 := [3, 54, 7, 21, 7, 17, 0, 225, 162, 0, 112, 42, 180, 0, 89, 21, 7, 51, 154, 0, 6, 167, 0, 93]
abbrev dktX8_terms_2 : List UInt8 := dkwX8_terms_2 ++ dktX8_terms_3
def dkwX8_terms_1 : List UInt8 := [182, 0, 207, 154, 0, 5, 3, 172, 42, 27, 182, 1, 175, 3, 62, 2, 54, 4, 2, 54, 5, 2, 54, 6]
abbrev dktX8_terms_1 : List UInt8 := dkwX8_terms_1 ++ dktX8_terms_2
def dkwX8_terms_0 : List UInt8 := [42, 3, 181, 0, 3, 42, 27, 4, 182, 1, 148, 153, 0, 18, 42, 28, 3, 6, 184, 1, 34, 5, 4]
abbrev dktX8_terms_0 : List UInt8 := dkwX8_terms_0 ++ dktX8_terms_1
theorem dksX8_terms_0 : cX8_terms.data.toList.drop 0 = dktX8_terms_0 := by decide +kernel
theorem dksX8_terms_1 : cX8_terms.data.toList.drop 23 = dktX8_terms_1 := dk_seg dksX8_terms_0 23 rfl rfl
theorem dksX8_terms_2 : cX8_terms.data.toList.drop 47 = dktX8_terms_2 := dk_seg dksX8_terms_1 24 rfl rfl
theorem dksX8_terms_3 : cX8_terms.data.toList.drop 71 = dktX8_terms_3 := dk_seg dksX8_terms_2 24 rfl rfl
theorem dksX8_terms_4 : cX8_terms.data.toList.drop 95 = dktX8_terms_4 := dk_seg dksX8_terms_3 24 rfl rfl
theorem dksX8_terms_5 : cX8_terms.data.toList.drop 118 = dktX8_terms_5 := dk_seg dksX8_terms_4 23 rfl rfl
theorem dksX8_terms_6 : cX8_terms.data.toList.drop 142 = dktX8_terms_6 := dk_seg dksX8_terms_5 24 rfl rfl
theorem dksX8_terms_7 : cX8_terms.data.toList.drop 164 = dktX8_terms_7 := dk_seg dksX8_terms_6 22 rfl rfl
theorem dksX8_terms_8 : cX8_terms.data.toList.drop 187 = dktX8_terms_8 := dk_seg dksX8_terms_7 23 rfl rfl
theorem dX8_terms_0 : decode cX8_terms 0 = .ok (.aload_n 0, 1) := dk_42 (dk_at dksX8_terms_0 0 rfl rfl)
theorem dX8_terms_1 : decode cX8_terms 1 = .ok (.iconst 0, 1) := dk_3 (dk_at dksX8_terms_0 1 rfl rfl)
theorem dX8_terms_2 : decode cX8_terms 2 = .ok (.putfield 3, 3) := dk_181 0 3 (dk_at dksX8_terms_0 2 rfl rfl)
theorem dX8_terms_5 : decode cX8_terms 5 = .ok (.aload_n 0, 1) := dk_42 (dk_at dksX8_terms_0 5 rfl rfl)
theorem dX8_terms_6 : decode cX8_terms 6 = .ok (.iload_n 1, 1) := dk_27 (dk_at dksX8_terms_0 6 rfl rfl)
theorem dX8_terms_7 : decode cX8_terms 7 = .ok (.iconst 1, 1) := dk_4 (dk_at dksX8_terms_0 7 rfl rfl)
theorem dX8_terms_8 : decode cX8_terms 8 = .ok (.invokevirtual 404, 3) := dk_182 1 148 (dk_at dksX8_terms_0 8 rfl rfl)
theorem dX8_terms_11 : decode cX8_terms 11 = .ok (.ifCond .eq 18, 3) := dk_153 0 18 (dk_at dksX8_terms_0 11 rfl rfl)
theorem dX8_terms_14 : decode cX8_terms 14 = .ok (.aload_n 0, 1) := dk_42 (dk_at dksX8_terms_0 14 rfl rfl)
theorem dX8_terms_15 : decode cX8_terms 15 = .ok (.iload_n 2, 1) := dk_28 (dk_at dksX8_terms_0 15 rfl rfl)
theorem dX8_terms_16 : decode cX8_terms 16 = .ok (.iconst 0, 1) := dk_3 (dk_at dksX8_terms_0 16 rfl rfl)
theorem dX8_terms_17 : decode cX8_terms 17 = .ok (.iconst 3, 1) := dk_6 (dk_at dksX8_terms_0 17 rfl rfl)
theorem dX8_terms_18 : decode cX8_terms 18 = .ok (.invokestatic 290, 3) := dk_184 1 34 (dk_at dksX8_terms_0 18 rfl rfl)
theorem dX8_terms_21 : decode cX8_terms 21 = .ok (.iconst 2, 1) := dk_5 (dk_at dksX8_terms_0 21 rfl rfl)
theorem dX8_terms_22 : decode cX8_terms 22 = .ok (.iconst 1, 1) := dk_4 (dk_at dksX8_terms_0 22 rfl rfl)
theorem dX8_terms_23 : decode cX8_terms 23 = .ok (.invokevirtual 207, 3) := dk_182 0 207 (dk_at dksX8_terms_1 0 rfl rfl)
theorem dX8_terms_26 : decode cX8_terms 26 = .ok (.ifCond .ne 5, 3) := dk_154 0 5 (dk_at dksX8_terms_1 3 rfl rfl)
theorem dX8_terms_29 : decode cX8_terms 29 = .ok (.iconst 0, 1) := dk_3 (dk_at dksX8_terms_1 6 rfl rfl)
theorem dX8_terms_30 : decode cX8_terms 30 = .ok (.ireturn, 1) := dk_172 (dk_at dksX8_terms_1 7 rfl rfl)
theorem dX8_terms_31 : decode cX8_terms 31 = .ok (.aload_n 0, 1) := dk_42 (dk_at dksX8_terms_1 8 rfl rfl)
theorem dX8_terms_32 : decode cX8_terms 32 = .ok (.iload_n 1, 1) := dk_27 (dk_at dksX8_terms_1 9 rfl rfl)
theorem dX8_terms_33 : decode cX8_terms 33 = .ok (.invokevirtual 431, 3) := dk_182 1 175 (dk_at dksX8_terms_1 10 rfl rfl)
theorem dX8_terms_36 : decode cX8_terms 36 = .ok (.iconst 0, 1) := dk_3 (dk_at dksX8_terms_1 13 rfl rfl)
theorem dX8_terms_37 : decode cX8_terms 37 = .ok (.istore_n 3, 1) := dk_62 (dk_at dksX8_terms_1 14 rfl rfl)
theorem dX8_terms_38 : decode cX8_terms 38 = .ok (.iconst (-1), 1) := dk_2 (dk_at dksX8_terms_1 15 rfl rfl)
theorem dX8_terms_39 : decode cX8_terms 39 = .ok (.istore 4, 2) := dk_54 4 (dk_at dksX8_terms_1 16 rfl rfl)
theorem dX8_terms_41 : decode cX8_terms 41 = .ok (.iconst (-1), 1) := dk_2 (dk_at dksX8_terms_1 18 rfl rfl)
theorem dX8_terms_42 : decode cX8_terms 42 = .ok (.istore 5, 2) := dk_54 5 (dk_at dksX8_terms_1 19 rfl rfl)
theorem dX8_terms_44 : decode cX8_terms 44 = .ok (.iconst (-1), 1) := dk_2 (dk_at dksX8_terms_1 21 rfl rfl)
theorem dX8_terms_45 : decode cX8_terms 45 = .ok (.istore 6, 2) := dk_54 6 (dk_at dksX8_terms_1 22 rfl rfl)
theorem dX8_terms_47 : decode cX8_terms 47 = .ok (.iconst 0, 1) := dk_3 (dk_at dksX8_terms_2 0 rfl rfl)
theorem dX8_terms_48 : decode cX8_terms 48 = .ok (.istore 7, 2) := dk_54 7 (dk_at dksX8_terms_2 1 rfl rfl)
theorem dX8_terms_50 : decode cX8_terms 50 = .ok (.iload 7, 2) := dk_21 7 (dk_at dksX8_terms_2 3 rfl rfl)
theorem dX8_terms_52 : decode cX8_terms 52 = .ok (.sipush 225, 3) := dk_17 0 225 (dk_at dksX8_terms_2 5 rfl rfl)
theorem dX8_terms_55 : decode cX8_terms 55 = .ok (.if_icmp .ge 112, 3) := dk_162 0 112 (dk_at dksX8_terms_2 8 rfl rfl)
theorem dX8_terms_58 : decode cX8_terms 58 = .ok (.aload_n 0, 1) := dk_42 (dk_at dksX8_terms_2 11 rfl rfl)
theorem dX8_terms_59 : decode cX8_terms 59 = .ok (.getfield 89, 3) := dk_180 0 89 (dk_at dksX8_terms_2 12 rfl rfl)
theorem dX8_terms_62 : decode cX8_terms 62 = .ok (.iload 7, 2) := dk_21 7 (dk_at dksX8_terms_2 15 rfl rfl)
theorem dX8_terms_64 : decode cX8_terms 64 = .ok (.baload, 1) := dk_51 (dk_at dksX8_terms_2 17 rfl rfl)
theorem dX8_terms_65 : decode cX8_terms 65 = .ok (.ifCond .ne 6, 3) := dk_154 0 6 (dk_at dksX8_terms_2 18 rfl rfl)
theorem dX8_terms_68 : decode cX8_terms 68 = .ok (.goto 93, 3) := dk_167 0 93 (dk_at dksX8_terms_2 21 rfl rfl)
theorem dX8_terms_71 : decode cX8_terms 71 = .ok (.iinc 3 1, 3) := dk_132 3 1 (dk_at dksX8_terms_3 0 rfl rfl)
theorem dX8_terms_74 : decode cX8_terms 74 = .ok (.iload 4, 2) := dk_21 4 (dk_at dksX8_terms_3 3 rfl rfl)
theorem dX8_terms_76 : decode cX8_terms 76 = .ok (.iconst (-1), 1) := dk_2 (dk_at dksX8_terms_3 5 rfl rfl)
theorem dX8_terms_77 : decode cX8_terms 77 = .ok (.if_icmp .ne 22, 3) := dk_160 0 22 (dk_at dksX8_terms_3 6 rfl rfl)
theorem dX8_terms_80 : decode cX8_terms 80 = .ok (.bipush 100, 2) := dk_16 100 (dk_at dksX8_terms_3 9 rfl rfl)
theorem dX8_terms_82 : decode cX8_terms 82 = .ok (.iload 7, 2) := dk_21 7 (dk_at dksX8_terms_3 11 rfl rfl)
theorem dX8_terms_84 : decode cX8_terms 84 = .ok (.bipush 25, 2) := dk_16 25 (dk_at dksX8_terms_3 13 rfl rfl)
theorem dX8_terms_86 : decode cX8_terms 86 = .ok (.idiv, 1) := dk_108 (dk_at dksX8_terms_3 15 rfl rfl)
theorem dX8_terms_87 : decode cX8_terms 87 = .ok (.iconst 1, 1) := dk_4 (dk_at dksX8_terms_3 16 rfl rfl)
theorem dX8_terms_88 : decode cX8_terms 88 = .ok (.iadd, 1) := dk_96 (dk_at dksX8_terms_3 17 rfl rfl)
theorem dX8_terms_89 : decode cX8_terms 89 = .ok (.imul, 1) := dk_104 (dk_at dksX8_terms_3 18 rfl rfl)
theorem dX8_terms_90 : decode cX8_terms 90 = .ok (.iload 7, 2) := dk_21 7 (dk_at dksX8_terms_3 19 rfl rfl)
theorem dX8_terms_92 : decode cX8_terms 92 = .ok (.bipush 25, 2) := dk_16 25 (dk_at dksX8_terms_3 21 rfl rfl)
theorem dX8_terms_94 : decode cX8_terms 94 = .ok (.irem, 1) := dk_112 (dk_at dksX8_terms_3 23 rfl rfl)
theorem dX8_terms_95 : decode cX8_terms 95 = .ok (.iadd, 1) := dk_96 (dk_at dksX8_terms_4 0 rfl rfl)
theorem dX8_terms_96 : decode cX8_terms 96 = .ok (.goto 5, 3) := dk_167 0 5 (dk_at dksX8_terms_4 1 rfl rfl)
theorem dX8_terms_99 : decode cX8_terms 99 = .ok (.iload 4, 2) := dk_21 4 (dk_at dksX8_terms_4 4 rfl rfl)
theorem dX8_terms_101 : decode cX8_terms 101 = .ok (.istore 4, 2) := dk_54 4 (dk_at dksX8_terms_4 6 rfl rfl)
theorem dX8_terms_103 : decode cX8_terms 103 = .ok (.iload 5, 2) := dk_21 5 (dk_at dksX8_terms_4 8 rfl rfl)
theorem dX8_terms_105 : decode cX8_terms 105 = .ok (.iconst (-1), 1) := dk_2 (dk_at dksX8_terms_4 10 rfl rfl)
theorem dX8_terms_106 : decode cX8_terms 106 = .ok (.if_icmp .eq 15, 3) := dk_159 0 15 (dk_at dksX8_terms_4 11 rfl rfl)
theorem dX8_terms_109 : decode cX8_terms 109 = .ok (.aload_n 0, 1) := dk_42 (dk_at dksX8_terms_4 14 rfl rfl)
theorem dX8_terms_110 : decode cX8_terms 110 = .ok (.getfield 93, 3) := dk_180 0 93 (dk_at dksX8_terms_4 15 rfl rfl)
theorem dX8_terms_113 : decode cX8_terms 113 = .ok (.iload 7, 2) := dk_21 7 (dk_at dksX8_terms_4 18 rfl rfl)
theorem dX8_terms_115 : decode cX8_terms 115 = .ok (.iaload, 1) := dk_46 (dk_at dksX8_terms_4 20 rfl rfl)
theorem dX8_terms_116 : decode cX8_terms 116 = .ok (.iload 5, 2) := dk_21 5 (dk_at dksX8_terms_4 21 rfl rfl)
theorem dX8_terms_118 : decode cX8_terms 118 = .ok (.if_icmp .ge 13, 3) := dk_162 0 13 (dk_at dksX8_terms_5 0 rfl rfl)
theorem dX8_terms_121 : decode cX8_terms 121 = .ok (.aload_n 0, 1) := dk_42 (dk_at dksX8_terms_5 3 rfl rfl)
theorem dX8_terms_122 : decode cX8_terms 122 = .ok (.getfield 93, 3) := dk_180 0 93 (dk_at dksX8_terms_5 4 rfl rfl)
theorem dX8_terms_125 : decode cX8_terms 125 = .ok (.iload 7, 2) := dk_21 7 (dk_at dksX8_terms_5 7 rfl rfl)
theorem dX8_terms_127 : decode cX8_terms 127 = .ok (.iaload, 1) := dk_46 (dk_at dksX8_terms_5 9 rfl rfl)
theorem dX8_terms_128 : decode cX8_terms 128 = .ok (.goto 5, 3) := dk_167 0 5 (dk_at dksX8_terms_5 10 rfl rfl)
theorem dX8_terms_131 : decode cX8_terms 131 = .ok (.iload 5, 2) := dk_21 5 (dk_at dksX8_terms_5 13 rfl rfl)
theorem dX8_terms_133 : decode cX8_terms 133 = .ok (.istore 5, 2) := dk_54 5 (dk_at dksX8_terms_5 15 rfl rfl)
theorem dX8_terms_135 : decode cX8_terms 135 = .ok (.aload_n 0, 1) := dk_42 (dk_at dksX8_terms_5 17 rfl rfl)
theorem dX8_terms_136 : decode cX8_terms 136 = .ok (.getfield 93, 3) := dk_180 0 93 (dk_at dksX8_terms_5 18 rfl rfl)
theorem dX8_terms_139 : decode cX8_terms 139 = .ok (.iload 7, 2) := dk_21 7 (dk_at dksX8_terms_5 21 rfl rfl)
theorem dX8_terms_141 : decode cX8_terms 141 = .ok (.iaload, 1) := dk_46 (dk_at dksX8_terms_5 23 rfl rfl)
theorem dX8_terms_142 : decode cX8_terms 142 = .ok (.iload 6, 2) := dk_21 6 (dk_at dksX8_terms_6 0 rfl rfl)
theorem dX8_terms_144 : decode cX8_terms 144 = .ok (.if_icmp .le 13, 3) := dk_164 0 13 (dk_at dksX8_terms_6 2 rfl rfl)
theorem dX8_terms_147 : decode cX8_terms 147 = .ok (.aload_n 0, 1) := dk_42 (dk_at dksX8_terms_6 5 rfl rfl)
theorem dX8_terms_148 : decode cX8_terms 148 = .ok (.getfield 93, 3) := dk_180 0 93 (dk_at dksX8_terms_6 6 rfl rfl)
theorem dX8_terms_151 : decode cX8_terms 151 = .ok (.iload 7, 2) := dk_21 7 (dk_at dksX8_terms_6 9 rfl rfl)
theorem dX8_terms_153 : decode cX8_terms 153 = .ok (.iaload, 1) := dk_46 (dk_at dksX8_terms_6 11 rfl rfl)
theorem dX8_terms_154 : decode cX8_terms 154 = .ok (.goto 5, 3) := dk_167 0 5 (dk_at dksX8_terms_6 12 rfl rfl)
theorem dX8_terms_157 : decode cX8_terms 157 = .ok (.iload 6, 2) := dk_21 6 (dk_at dksX8_terms_6 15 rfl rfl)
theorem dX8_terms_159 : decode cX8_terms 159 = .ok (.istore 6, 2) := dk_54 6 (dk_at dksX8_terms_6 17 rfl rfl)
theorem dX8_terms_161 : decode cX8_terms 161 = .ok (.iinc 7 1, 3) := dk_132 7 1 (dk_at dksX8_terms_6 19 rfl rfl)
theorem dX8_terms_164 : decode cX8_terms 164 = .ok (.goto (-114), 3) := dk_167 255 142 (dk_at dksX8_terms_7 0 rfl rfl)
theorem dX8_terms_167 : decode cX8_terms 167 = .ok (.iload_n 2, 1) := dk_28 (dk_at dksX8_terms_7 3 rfl rfl)
theorem dX8_terms_168 : decode cX8_terms 168 = .ok (.ifCond .ne 7, 3) := dk_154 0 7 (dk_at dksX8_terms_7 4 rfl rfl)
theorem dX8_terms_171 : decode cX8_terms 171 = .ok (.iload_n 3, 1) := dk_29 (dk_at dksX8_terms_7 7 rfl rfl)
theorem dX8_terms_172 : decode cX8_terms 172 = .ok (.goto 25, 3) := dk_167 0 25 (dk_at dksX8_terms_7 8 rfl rfl)
theorem dX8_terms_175 : decode cX8_terms 175 = .ok (.iload_n 2, 1) := dk_28 (dk_at dksX8_terms_7 11 rfl rfl)
theorem dX8_terms_176 : decode cX8_terms 176 = .ok (.iconst 1, 1) := dk_4 (dk_at dksX8_terms_7 12 rfl rfl)
theorem dX8_terms_177 : decode cX8_terms 177 = .ok (.if_icmp .ne 8, 3) := dk_160 0 8 (dk_at dksX8_terms_7 13 rfl rfl)
theorem dX8_terms_180 : decode cX8_terms 180 = .ok (.iload 4, 2) := dk_21 4 (dk_at dksX8_terms_7 16 rfl rfl)
theorem dX8_terms_182 : decode cX8_terms 182 = .ok (.goto 15, 3) := dk_167 0 15 (dk_at dksX8_terms_7 18 rfl rfl)
theorem dX8_terms_185 : decode cX8_terms 185 = .ok (.iload_n 2, 1) := dk_28 (dk_at dksX8_terms_7 21 rfl rfl)
theorem dX8_terms_186 : decode cX8_terms 186 = .ok (.iconst 2, 1) := dk_5 (dk_at dksX8_terms_7 22 rfl rfl)
theorem dX8_terms_187 : decode cX8_terms 187 = .ok (.if_icmp .ne 8, 3) := dk_160 0 8 (dk_at dksX8_terms_8 0 rfl rfl)
theorem dX8_terms_190 : decode cX8_terms 190 = .ok (.iload 5, 2) := dk_21 5 (dk_at dksX8_terms_8 3 rfl rfl)
theorem dX8_terms_192 : decode cX8_terms 192 = .ok (.goto 5, 3) := dk_167 0 5 (dk_at dksX8_terms_8 5 rfl rfl)
theorem dX8_terms_195 : decode cX8_terms 195 = .ok (.iload 6, 2) := dk_21 6 (dk_at dksX8_terms_8 8 rfl rfl)
theorem dX8_terms_197 : decode cX8_terms 197 = .ok (.ireturn, 1) := dk_172 (dk_at dksX8_terms_8 10 rfl rfl)
abbrev cX8_findTerms : ByteArray := prog_26_method_90_code
def yX8_findTerms : MethodName := ⟨RX8, "findTerms", "(I)V"⟩
def dkwX8_findTerms_4 : List UInt8 := [160, 0, 7, 4, 167, 0, 4, 3, 84, 132, 3, 1, 167, 255, 195, 132, 2, 1, 167, 255, 151, 177]
abbrev dktX8_findTerms_4 : List UInt8 := dkwX8_findTerms_4 ++ []
def dkwX8_findTerms_3 : List UInt8 := [28, 46, 42, 180, 0, 74, 5, 29, 104, 46, 184, 1, 172, 42, 180, 0, 74, 5, 29, 104, 4, 96, 46]
abbrev dktX8_findTerms_3 : List UInt8 := dkwX8_findTerms_3 ++ dktX8_findTerms_4
def dkwX8_findTerms_2 : List UInt8 := [180, 0, 182, 162, 0, 59, 42, 180, 0, 89, 28, 42, 180, 0, 89, 28, 51, 153, 0, 37, 42, 180, 0, 93]
abbrev dktX8_findTerms_2 : List UInt8 := dkwX8_findTerms_2 ++ dktX8_findTerms_3
def dkwX8_findTerms_1 : List UInt8 := [108, 4, 96, 28, 16, 25, 112, 182, 1, 111, 79, 42, 180, 0, 89, 28, 4, 84, 3, 62, 29, 42]
abbrev dktX8_findTerms_1 : List UInt8 := dkwX8_findTerms_1 ++ dktX8_findTerms_2
def dkwX8_findTerms_0 : List UInt8 := [42, 182, 1, 74, 3, 61, 28, 17, 0, 225, 162, 0, 104, 42, 180, 0, 93, 28, 42, 27, 3, 28, 16, 25]
abbrev dktX8_findTerms_0 : List UInt8 := dkwX8_findTerms_0 ++ dktX8_findTerms_1
theorem dksX8_findTerms_0 : cX8_findTerms.data.toList.drop 0 = dktX8_findTerms_0 := by decide +kernel
theorem dksX8_findTerms_1 : cX8_findTerms.data.toList.drop 24 = dktX8_findTerms_1 := dk_seg dksX8_findTerms_0 24 rfl rfl
theorem dksX8_findTerms_2 : cX8_findTerms.data.toList.drop 46 = dktX8_findTerms_2 := dk_seg dksX8_findTerms_1 22 rfl rfl
theorem dksX8_findTerms_3 : cX8_findTerms.data.toList.drop 70 = dktX8_findTerms_3 := dk_seg dksX8_findTerms_2 24 rfl rfl
theorem dksX8_findTerms_4 : cX8_findTerms.data.toList.drop 93 = dktX8_findTerms_4 := dk_seg dksX8_findTerms_3 23 rfl rfl
theorem dX8_findTerms_0 : decode cX8_findTerms 0 = .ok (.aload_n 0, 1) := dk_42 (dk_at dksX8_findTerms_0 0 rfl rfl)
theorem dX8_findTerms_1 : decode cX8_findTerms 1 = .ok (.invokevirtual 330, 3) := dk_182 1 74 (dk_at dksX8_findTerms_0 1 rfl rfl)
theorem dX8_findTerms_4 : decode cX8_findTerms 4 = .ok (.iconst 0, 1) := dk_3 (dk_at dksX8_findTerms_0 4 rfl rfl)
theorem dX8_findTerms_5 : decode cX8_findTerms 5 = .ok (.istore_n 2, 1) := dk_61 (dk_at dksX8_findTerms_0 5 rfl rfl)
theorem dX8_findTerms_6 : decode cX8_findTerms 6 = .ok (.iload_n 2, 1) := dk_28 (dk_at dksX8_findTerms_0 6 rfl rfl)
theorem dX8_findTerms_7 : decode cX8_findTerms 7 = .ok (.sipush 225, 3) := dk_17 0 225 (dk_at dksX8_findTerms_0 7 rfl rfl)
theorem dX8_findTerms_10 : decode cX8_findTerms 10 = .ok (.if_icmp .ge 104, 3) := dk_162 0 104 (dk_at dksX8_findTerms_0 10 rfl rfl)
theorem dX8_findTerms_13 : decode cX8_findTerms 13 = .ok (.aload_n 0, 1) := dk_42 (dk_at dksX8_findTerms_0 13 rfl rfl)
theorem dX8_findTerms_14 : decode cX8_findTerms 14 = .ok (.getfield 93, 3) := dk_180 0 93 (dk_at dksX8_findTerms_0 14 rfl rfl)
theorem dX8_findTerms_17 : decode cX8_findTerms 17 = .ok (.iload_n 2, 1) := dk_28 (dk_at dksX8_findTerms_0 17 rfl rfl)
theorem dX8_findTerms_18 : decode cX8_findTerms 18 = .ok (.aload_n 0, 1) := dk_42 (dk_at dksX8_findTerms_0 18 rfl rfl)
theorem dX8_findTerms_19 : decode cX8_findTerms 19 = .ok (.iload_n 1, 1) := dk_27 (dk_at dksX8_findTerms_0 19 rfl rfl)
theorem dX8_findTerms_20 : decode cX8_findTerms 20 = .ok (.iconst 0, 1) := dk_3 (dk_at dksX8_findTerms_0 20 rfl rfl)
theorem dX8_findTerms_21 : decode cX8_findTerms 21 = .ok (.iload_n 2, 1) := dk_28 (dk_at dksX8_findTerms_0 21 rfl rfl)
theorem dX8_findTerms_22 : decode cX8_findTerms 22 = .ok (.bipush 25, 2) := dk_16 25 (dk_at dksX8_findTerms_0 22 rfl rfl)
theorem dX8_findTerms_24 : decode cX8_findTerms 24 = .ok (.idiv, 1) := dk_108 (dk_at dksX8_findTerms_1 0 rfl rfl)
theorem dX8_findTerms_25 : decode cX8_findTerms 25 = .ok (.iconst 1, 1) := dk_4 (dk_at dksX8_findTerms_1 1 rfl rfl)
theorem dX8_findTerms_26 : decode cX8_findTerms 26 = .ok (.iadd, 1) := dk_96 (dk_at dksX8_findTerms_1 2 rfl rfl)
theorem dX8_findTerms_27 : decode cX8_findTerms 27 = .ok (.iload_n 2, 1) := dk_28 (dk_at dksX8_findTerms_1 3 rfl rfl)
theorem dX8_findTerms_28 : decode cX8_findTerms 28 = .ok (.bipush 25, 2) := dk_16 25 (dk_at dksX8_findTerms_1 4 rfl rfl)
theorem dX8_findTerms_30 : decode cX8_findTerms 30 = .ok (.irem, 1) := dk_112 (dk_at dksX8_findTerms_1 6 rfl rfl)
theorem dX8_findTerms_31 : decode cX8_findTerms 31 = .ok (.invokevirtual 367, 3) := dk_182 1 111 (dk_at dksX8_findTerms_1 7 rfl rfl)
theorem dX8_findTerms_34 : decode cX8_findTerms 34 = .ok (.iastore, 1) := dk_79 (dk_at dksX8_findTerms_1 10 rfl rfl)
theorem dX8_findTerms_35 : decode cX8_findTerms 35 = .ok (.aload_n 0, 1) := dk_42 (dk_at dksX8_findTerms_1 11 rfl rfl)
theorem dX8_findTerms_36 : decode cX8_findTerms 36 = .ok (.getfield 89, 3) := dk_180 0 89 (dk_at dksX8_findTerms_1 12 rfl rfl)
theorem dX8_findTerms_39 : decode cX8_findTerms 39 = .ok (.iload_n 2, 1) := dk_28 (dk_at dksX8_findTerms_1 15 rfl rfl)
theorem dX8_findTerms_40 : decode cX8_findTerms 40 = .ok (.iconst 1, 1) := dk_4 (dk_at dksX8_findTerms_1 16 rfl rfl)
theorem dX8_findTerms_41 : decode cX8_findTerms 41 = .ok (.bastore, 1) := dk_84 (dk_at dksX8_findTerms_1 17 rfl rfl)
theorem dX8_findTerms_42 : decode cX8_findTerms 42 = .ok (.iconst 0, 1) := dk_3 (dk_at dksX8_findTerms_1 18 rfl rfl)
theorem dX8_findTerms_43 : decode cX8_findTerms 43 = .ok (.istore_n 3, 1) := dk_62 (dk_at dksX8_findTerms_1 19 rfl rfl)
theorem dX8_findTerms_44 : decode cX8_findTerms 44 = .ok (.iload_n 3, 1) := dk_29 (dk_at dksX8_findTerms_1 20 rfl rfl)
theorem dX8_findTerms_45 : decode cX8_findTerms 45 = .ok (.aload_n 0, 1) := dk_42 (dk_at dksX8_findTerms_1 21 rfl rfl)
theorem dX8_findTerms_46 : decode cX8_findTerms 46 = .ok (.getfield 182, 3) := dk_180 0 182 (dk_at dksX8_findTerms_2 0 rfl rfl)
theorem dX8_findTerms_49 : decode cX8_findTerms 49 = .ok (.if_icmp .ge 59, 3) := dk_162 0 59 (dk_at dksX8_findTerms_2 3 rfl rfl)
theorem dX8_findTerms_52 : decode cX8_findTerms 52 = .ok (.aload_n 0, 1) := dk_42 (dk_at dksX8_findTerms_2 6 rfl rfl)
theorem dX8_findTerms_53 : decode cX8_findTerms 53 = .ok (.getfield 89, 3) := dk_180 0 89 (dk_at dksX8_findTerms_2 7 rfl rfl)
theorem dX8_findTerms_56 : decode cX8_findTerms 56 = .ok (.iload_n 2, 1) := dk_28 (dk_at dksX8_findTerms_2 10 rfl rfl)
theorem dX8_findTerms_57 : decode cX8_findTerms 57 = .ok (.aload_n 0, 1) := dk_42 (dk_at dksX8_findTerms_2 11 rfl rfl)
theorem dX8_findTerms_58 : decode cX8_findTerms 58 = .ok (.getfield 89, 3) := dk_180 0 89 (dk_at dksX8_findTerms_2 12 rfl rfl)
theorem dX8_findTerms_61 : decode cX8_findTerms 61 = .ok (.iload_n 2, 1) := dk_28 (dk_at dksX8_findTerms_2 15 rfl rfl)
theorem dX8_findTerms_62 : decode cX8_findTerms 62 = .ok (.baload, 1) := dk_51 (dk_at dksX8_findTerms_2 16 rfl rfl)
theorem dX8_findTerms_63 : decode cX8_findTerms 63 = .ok (.ifCond .eq 37, 3) := dk_153 0 37 (dk_at dksX8_findTerms_2 17 rfl rfl)
theorem dX8_findTerms_66 : decode cX8_findTerms 66 = .ok (.aload_n 0, 1) := dk_42 (dk_at dksX8_findTerms_2 20 rfl rfl)
theorem dX8_findTerms_67 : decode cX8_findTerms 67 = .ok (.getfield 93, 3) := dk_180 0 93 (dk_at dksX8_findTerms_2 21 rfl rfl)
theorem dX8_findTerms_70 : decode cX8_findTerms 70 = .ok (.iload_n 2, 1) := dk_28 (dk_at dksX8_findTerms_3 0 rfl rfl)
theorem dX8_findTerms_71 : decode cX8_findTerms 71 = .ok (.iaload, 1) := dk_46 (dk_at dksX8_findTerms_3 1 rfl rfl)
theorem dX8_findTerms_72 : decode cX8_findTerms 72 = .ok (.aload_n 0, 1) := dk_42 (dk_at dksX8_findTerms_3 2 rfl rfl)
theorem dX8_findTerms_73 : decode cX8_findTerms 73 = .ok (.getfield 74, 3) := dk_180 0 74 (dk_at dksX8_findTerms_3 3 rfl rfl)
theorem dX8_findTerms_76 : decode cX8_findTerms 76 = .ok (.iconst 2, 1) := dk_5 (dk_at dksX8_findTerms_3 6 rfl rfl)
theorem dX8_findTerms_77 : decode cX8_findTerms 77 = .ok (.iload_n 3, 1) := dk_29 (dk_at dksX8_findTerms_3 7 rfl rfl)
theorem dX8_findTerms_78 : decode cX8_findTerms 78 = .ok (.imul, 1) := dk_104 (dk_at dksX8_findTerms_3 8 rfl rfl)
theorem dX8_findTerms_79 : decode cX8_findTerms 79 = .ok (.iaload, 1) := dk_46 (dk_at dksX8_findTerms_3 9 rfl rfl)
theorem dX8_findTerms_80 : decode cX8_findTerms 80 = .ok (.invokestatic 428, 3) := dk_184 1 172 (dk_at dksX8_findTerms_3 10 rfl rfl)
theorem dX8_findTerms_83 : decode cX8_findTerms 83 = .ok (.aload_n 0, 1) := dk_42 (dk_at dksX8_findTerms_3 13 rfl rfl)
theorem dX8_findTerms_84 : decode cX8_findTerms 84 = .ok (.getfield 74, 3) := dk_180 0 74 (dk_at dksX8_findTerms_3 14 rfl rfl)
theorem dX8_findTerms_87 : decode cX8_findTerms 87 = .ok (.iconst 2, 1) := dk_5 (dk_at dksX8_findTerms_3 17 rfl rfl)
theorem dX8_findTerms_88 : decode cX8_findTerms 88 = .ok (.iload_n 3, 1) := dk_29 (dk_at dksX8_findTerms_3 18 rfl rfl)
theorem dX8_findTerms_89 : decode cX8_findTerms 89 = .ok (.imul, 1) := dk_104 (dk_at dksX8_findTerms_3 19 rfl rfl)
theorem dX8_findTerms_90 : decode cX8_findTerms 90 = .ok (.iconst 1, 1) := dk_4 (dk_at dksX8_findTerms_3 20 rfl rfl)
theorem dX8_findTerms_91 : decode cX8_findTerms 91 = .ok (.iadd, 1) := dk_96 (dk_at dksX8_findTerms_3 21 rfl rfl)
theorem dX8_findTerms_92 : decode cX8_findTerms 92 = .ok (.iaload, 1) := dk_46 (dk_at dksX8_findTerms_3 22 rfl rfl)
theorem dX8_findTerms_93 : decode cX8_findTerms 93 = .ok (.if_icmp .ne 7, 3) := dk_160 0 7 (dk_at dksX8_findTerms_4 0 rfl rfl)
theorem dX8_findTerms_96 : decode cX8_findTerms 96 = .ok (.iconst 1, 1) := dk_4 (dk_at dksX8_findTerms_4 3 rfl rfl)
theorem dX8_findTerms_97 : decode cX8_findTerms 97 = .ok (.goto 4, 3) := dk_167 0 4 (dk_at dksX8_findTerms_4 4 rfl rfl)
theorem dX8_findTerms_100 : decode cX8_findTerms 100 = .ok (.iconst 0, 1) := dk_3 (dk_at dksX8_findTerms_4 7 rfl rfl)
theorem dX8_findTerms_101 : decode cX8_findTerms 101 = .ok (.bastore, 1) := dk_84 (dk_at dksX8_findTerms_4 8 rfl rfl)
theorem dX8_findTerms_102 : decode cX8_findTerms 102 = .ok (.iinc 3 1, 3) := dk_132 3 1 (dk_at dksX8_findTerms_4 9 rfl rfl)
theorem dX8_findTerms_105 : decode cX8_findTerms 105 = .ok (.goto (-61), 3) := dk_167 255 195 (dk_at dksX8_findTerms_4 12 rfl rfl)
theorem dX8_findTerms_108 : decode cX8_findTerms 108 = .ok (.iinc 2 1, 3) := dk_132 2 1 (dk_at dksX8_findTerms_4 15 rfl rfl)
theorem dX8_findTerms_111 : decode cX8_findTerms 111 = .ok (.goto (-105), 3) := dk_167 255 151 (dk_at dksX8_findTerms_4 18 rfl rfl)
theorem dX8_findTerms_114 : decode cX8_findTerms 114 = .ok (.return_, 1) := dk_177 (dk_at dksX8_findTerms_4 21 rfl rfl)
abbrev cX8_moreBy : ByteArray := prog_26_method_89_code
def yX8_moreBy : MethodName := ⟨RX8, "moreBy", "(II)I"⟩
def dkwX8_moreBy_0 : List UInt8 := [26, 27, 164, 0, 9, 26, 27, 100, 167, 0, 4, 3, 172]
abbrev dktX8_moreBy_0 : List UInt8 := dkwX8_moreBy_0 ++ []
theorem dksX8_moreBy_0 : cX8_moreBy.data.toList.drop 0 = dktX8_moreBy_0 := by decide +kernel
theorem dX8_moreBy_0 : decode cX8_moreBy 0 = .ok (.iload_n 0, 1) := dk_26 (dk_at dksX8_moreBy_0 0 rfl rfl)
theorem dX8_moreBy_1 : decode cX8_moreBy 1 = .ok (.iload_n 1, 1) := dk_27 (dk_at dksX8_moreBy_0 1 rfl rfl)
theorem dX8_moreBy_2 : decode cX8_moreBy 2 = .ok (.if_icmp .le 9, 3) := dk_164 0 9 (dk_at dksX8_moreBy_0 2 rfl rfl)
theorem dX8_moreBy_5 : decode cX8_moreBy 5 = .ok (.iload_n 0, 1) := dk_26 (dk_at dksX8_moreBy_0 5 rfl rfl)
theorem dX8_moreBy_6 : decode cX8_moreBy 6 = .ok (.iload_n 1, 1) := dk_27 (dk_at dksX8_moreBy_0 6 rfl rfl)
theorem dX8_moreBy_7 : decode cX8_moreBy 7 = .ok (.isub, 1) := dk_100 (dk_at dksX8_moreBy_0 7 rfl rfl)
theorem dX8_moreBy_8 : decode cX8_moreBy 8 = .ok (.goto 4, 3) := dk_167 0 4 (dk_at dksX8_moreBy_0 8 rfl rfl)
theorem dX8_moreBy_11 : decode cX8_moreBy 11 = .ok (.iconst 0, 1) := dk_3 (dk_at dksX8_moreBy_0 11 rfl rfl)
theorem dX8_moreBy_12 : decode cX8_moreBy 12 = .ok (.ireturn, 1) := dk_172 (dk_at dksX8_moreBy_0 12 rfl rfl)
abbrev cX8_ask : ByteArray := prog_26_method_94_code
def yX8_ask : MethodName := ⟨RX8, "ask", "(II)I"⟩
def dkwX8_ask_4 : List UInt8 := [132, 5, 1, 167, 255, 203, 28, 154, 0, 7, 29, 167, 0, 5, 21, 4, 172]
abbrev dktX8_ask_4 : List UInt8 := dkwX8_ask_4 ++ []
def dkwX8_ask_3 : List UInt8 := [54, 6, 29, 2, 159, 0, 13, 21, 6, 21, 4, 161, 0, 6, 167, 0, 10, 21, 5, 62, 21, 6, 54, 4]
abbrev dktX8_ask_3 : List UInt8 := dkwX8_ask_3 ++ dktX8_ask_4
def dkwX8_ask_2 : List UInt8 := [17, 1, 244, 162, 0, 51, 42, 21, 5, 182, 1, 178, 153, 0, 6, 167, 0, 33, 42, 21, 5, 182, 1, 181]
abbrev dktX8_ask_2 : List UInt8 := dkwX8_ask_2 ++ dktX8_ask_3
def dkwX8_ask_1 : List UInt8 := [182, 0, 207, 154, 0, 5, 3, 172, 42, 27, 182, 1, 175, 2, 62, 2, 54, 4, 3, 54, 5, 21, 5]
abbrev dktX8_ask_1 : List UInt8 := dkwX8_ask_1 ++ dktX8_ask_2
def dkwX8_ask_0 : List UInt8 := [42, 3, 181, 0, 3, 42, 27, 4, 182, 1, 148, 153, 0, 18, 42, 28, 3, 4, 184, 1, 34, 5, 4]
abbrev dktX8_ask_0 : List UInt8 := dkwX8_ask_0 ++ dktX8_ask_1
theorem dksX8_ask_0 : cX8_ask.data.toList.drop 0 = dktX8_ask_0 := by decide +kernel
theorem dksX8_ask_1 : cX8_ask.data.toList.drop 23 = dktX8_ask_1 := dk_seg dksX8_ask_0 23 rfl rfl
theorem dksX8_ask_2 : cX8_ask.data.toList.drop 46 = dktX8_ask_2 := dk_seg dksX8_ask_1 23 rfl rfl
theorem dksX8_ask_3 : cX8_ask.data.toList.drop 70 = dktX8_ask_3 := dk_seg dksX8_ask_2 24 rfl rfl
theorem dksX8_ask_4 : cX8_ask.data.toList.drop 94 = dktX8_ask_4 := dk_seg dksX8_ask_3 24 rfl rfl
theorem dX8_ask_0 : decode cX8_ask 0 = .ok (.aload_n 0, 1) := dk_42 (dk_at dksX8_ask_0 0 rfl rfl)
theorem dX8_ask_1 : decode cX8_ask 1 = .ok (.iconst 0, 1) := dk_3 (dk_at dksX8_ask_0 1 rfl rfl)
theorem dX8_ask_2 : decode cX8_ask 2 = .ok (.putfield 3, 3) := dk_181 0 3 (dk_at dksX8_ask_0 2 rfl rfl)
theorem dX8_ask_5 : decode cX8_ask 5 = .ok (.aload_n 0, 1) := dk_42 (dk_at dksX8_ask_0 5 rfl rfl)
theorem dX8_ask_6 : decode cX8_ask 6 = .ok (.iload_n 1, 1) := dk_27 (dk_at dksX8_ask_0 6 rfl rfl)
theorem dX8_ask_7 : decode cX8_ask 7 = .ok (.iconst 1, 1) := dk_4 (dk_at dksX8_ask_0 7 rfl rfl)
theorem dX8_ask_8 : decode cX8_ask 8 = .ok (.invokevirtual 404, 3) := dk_182 1 148 (dk_at dksX8_ask_0 8 rfl rfl)
theorem dX8_ask_11 : decode cX8_ask 11 = .ok (.ifCond .eq 18, 3) := dk_153 0 18 (dk_at dksX8_ask_0 11 rfl rfl)
theorem dX8_ask_14 : decode cX8_ask 14 = .ok (.aload_n 0, 1) := dk_42 (dk_at dksX8_ask_0 14 rfl rfl)
theorem dX8_ask_15 : decode cX8_ask 15 = .ok (.iload_n 2, 1) := dk_28 (dk_at dksX8_ask_0 15 rfl rfl)
theorem dX8_ask_16 : decode cX8_ask 16 = .ok (.iconst 0, 1) := dk_3 (dk_at dksX8_ask_0 16 rfl rfl)
theorem dX8_ask_17 : decode cX8_ask 17 = .ok (.iconst 1, 1) := dk_4 (dk_at dksX8_ask_0 17 rfl rfl)
theorem dX8_ask_18 : decode cX8_ask 18 = .ok (.invokestatic 290, 3) := dk_184 1 34 (dk_at dksX8_ask_0 18 rfl rfl)
theorem dX8_ask_21 : decode cX8_ask 21 = .ok (.iconst 2, 1) := dk_5 (dk_at dksX8_ask_0 21 rfl rfl)
theorem dX8_ask_22 : decode cX8_ask 22 = .ok (.iconst 1, 1) := dk_4 (dk_at dksX8_ask_0 22 rfl rfl)
theorem dX8_ask_23 : decode cX8_ask 23 = .ok (.invokevirtual 207, 3) := dk_182 0 207 (dk_at dksX8_ask_1 0 rfl rfl)
theorem dX8_ask_26 : decode cX8_ask 26 = .ok (.ifCond .ne 5, 3) := dk_154 0 5 (dk_at dksX8_ask_1 3 rfl rfl)
theorem dX8_ask_29 : decode cX8_ask 29 = .ok (.iconst 0, 1) := dk_3 (dk_at dksX8_ask_1 6 rfl rfl)
theorem dX8_ask_30 : decode cX8_ask 30 = .ok (.ireturn, 1) := dk_172 (dk_at dksX8_ask_1 7 rfl rfl)
theorem dX8_ask_31 : decode cX8_ask 31 = .ok (.aload_n 0, 1) := dk_42 (dk_at dksX8_ask_1 8 rfl rfl)
theorem dX8_ask_32 : decode cX8_ask 32 = .ok (.iload_n 1, 1) := dk_27 (dk_at dksX8_ask_1 9 rfl rfl)
theorem dX8_ask_33 : decode cX8_ask 33 = .ok (.invokevirtual 431, 3) := dk_182 1 175 (dk_at dksX8_ask_1 10 rfl rfl)
theorem dX8_ask_36 : decode cX8_ask 36 = .ok (.iconst (-1), 1) := dk_2 (dk_at dksX8_ask_1 13 rfl rfl)
theorem dX8_ask_37 : decode cX8_ask 37 = .ok (.istore_n 3, 1) := dk_62 (dk_at dksX8_ask_1 14 rfl rfl)
theorem dX8_ask_38 : decode cX8_ask 38 = .ok (.iconst (-1), 1) := dk_2 (dk_at dksX8_ask_1 15 rfl rfl)
theorem dX8_ask_39 : decode cX8_ask 39 = .ok (.istore 4, 2) := dk_54 4 (dk_at dksX8_ask_1 16 rfl rfl)
theorem dX8_ask_41 : decode cX8_ask 41 = .ok (.iconst 0, 1) := dk_3 (dk_at dksX8_ask_1 18 rfl rfl)
theorem dX8_ask_42 : decode cX8_ask 42 = .ok (.istore 5, 2) := dk_54 5 (dk_at dksX8_ask_1 19 rfl rfl)
theorem dX8_ask_44 : decode cX8_ask 44 = .ok (.iload 5, 2) := dk_21 5 (dk_at dksX8_ask_1 21 rfl rfl)
theorem dX8_ask_46 : decode cX8_ask 46 = .ok (.sipush 500, 3) := dk_17 1 244 (dk_at dksX8_ask_2 0 rfl rfl)
theorem dX8_ask_49 : decode cX8_ask 49 = .ok (.if_icmp .ge 51, 3) := dk_162 0 51 (dk_at dksX8_ask_2 3 rfl rfl)
theorem dX8_ask_52 : decode cX8_ask 52 = .ok (.aload_n 0, 1) := dk_42 (dk_at dksX8_ask_2 6 rfl rfl)
theorem dX8_ask_53 : decode cX8_ask 53 = .ok (.iload 5, 2) := dk_21 5 (dk_at dksX8_ask_2 7 rfl rfl)
theorem dX8_ask_55 : decode cX8_ask 55 = .ok (.invokevirtual 434, 3) := dk_182 1 178 (dk_at dksX8_ask_2 9 rfl rfl)
theorem dX8_ask_58 : decode cX8_ask 58 = .ok (.ifCond .eq 6, 3) := dk_153 0 6 (dk_at dksX8_ask_2 12 rfl rfl)
theorem dX8_ask_61 : decode cX8_ask 61 = .ok (.goto 33, 3) := dk_167 0 33 (dk_at dksX8_ask_2 15 rfl rfl)
theorem dX8_ask_64 : decode cX8_ask 64 = .ok (.aload_n 0, 1) := dk_42 (dk_at dksX8_ask_2 18 rfl rfl)
theorem dX8_ask_65 : decode cX8_ask 65 = .ok (.iload 5, 2) := dk_21 5 (dk_at dksX8_ask_2 19 rfl rfl)
theorem dX8_ask_67 : decode cX8_ask 67 = .ok (.invokevirtual 437, 3) := dk_182 1 181 (dk_at dksX8_ask_2 21 rfl rfl)
theorem dX8_ask_70 : decode cX8_ask 70 = .ok (.istore 6, 2) := dk_54 6 (dk_at dksX8_ask_3 0 rfl rfl)
theorem dX8_ask_72 : decode cX8_ask 72 = .ok (.iload_n 3, 1) := dk_29 (dk_at dksX8_ask_3 2 rfl rfl)
theorem dX8_ask_73 : decode cX8_ask 73 = .ok (.iconst (-1), 1) := dk_2 (dk_at dksX8_ask_3 3 rfl rfl)
theorem dX8_ask_74 : decode cX8_ask 74 = .ok (.if_icmp .eq 13, 3) := dk_159 0 13 (dk_at dksX8_ask_3 4 rfl rfl)
theorem dX8_ask_77 : decode cX8_ask 77 = .ok (.iload 6, 2) := dk_21 6 (dk_at dksX8_ask_3 7 rfl rfl)
theorem dX8_ask_79 : decode cX8_ask 79 = .ok (.iload 4, 2) := dk_21 4 (dk_at dksX8_ask_3 9 rfl rfl)
theorem dX8_ask_81 : decode cX8_ask 81 = .ok (.if_icmp .lt 6, 3) := dk_161 0 6 (dk_at dksX8_ask_3 11 rfl rfl)
theorem dX8_ask_84 : decode cX8_ask 84 = .ok (.goto 10, 3) := dk_167 0 10 (dk_at dksX8_ask_3 14 rfl rfl)
theorem dX8_ask_87 : decode cX8_ask 87 = .ok (.iload 5, 2) := dk_21 5 (dk_at dksX8_ask_3 17 rfl rfl)
theorem dX8_ask_89 : decode cX8_ask 89 = .ok (.istore_n 3, 1) := dk_62 (dk_at dksX8_ask_3 19 rfl rfl)
theorem dX8_ask_90 : decode cX8_ask 90 = .ok (.iload 6, 2) := dk_21 6 (dk_at dksX8_ask_3 20 rfl rfl)
theorem dX8_ask_92 : decode cX8_ask 92 = .ok (.istore 4, 2) := dk_54 4 (dk_at dksX8_ask_3 22 rfl rfl)
theorem dX8_ask_94 : decode cX8_ask 94 = .ok (.iinc 5 1, 3) := dk_132 5 1 (dk_at dksX8_ask_4 0 rfl rfl)
theorem dX8_ask_97 : decode cX8_ask 97 = .ok (.goto (-53), 3) := dk_167 255 203 (dk_at dksX8_ask_4 3 rfl rfl)
theorem dX8_ask_100 : decode cX8_ask 100 = .ok (.iload_n 2, 1) := dk_28 (dk_at dksX8_ask_4 6 rfl rfl)
theorem dX8_ask_101 : decode cX8_ask 101 = .ok (.ifCond .ne 7, 3) := dk_154 0 7 (dk_at dksX8_ask_4 7 rfl rfl)
theorem dX8_ask_104 : decode cX8_ask 104 = .ok (.iload_n 3, 1) := dk_29 (dk_at dksX8_ask_4 10 rfl rfl)
theorem dX8_ask_105 : decode cX8_ask 105 = .ok (.goto 5, 3) := dk_167 0 5 (dk_at dksX8_ask_4 11 rfl rfl)
theorem dX8_ask_108 : decode cX8_ask 108 = .ok (.iload 4, 2) := dk_21 4 (dk_at dksX8_ask_4 14 rfl rfl)
theorem dX8_ask_110 : decode cX8_ask 110 = .ok (.ireturn, 1) := dk_172 (dk_at dksX8_ask_4 16 rfl rfl)
abbrev cX8_isTold : ByteArray := prog_26_method_92_code
def yX8_isTold : MethodName := ⟨RX8, "isTold", "(I)Z"⟩
def dkwX8_isTold_1 : List UInt8 := [132, 2, 1, 167, 255, 231, 3, 172]
abbrev dktX8_isTold_1 : List UInt8 := dkwX8_isTold_1 ++ []
def dkwX8_isTold_0 : List UInt8 := [3, 61, 28, 42, 180, 0, 182, 162, 0, 23, 42, 180, 0, 74, 5, 28, 104, 46, 27, 160, 0, 5, 4, 172]
abbrev dktX8_isTold_0 : List UInt8 := dkwX8_isTold_0 ++ dktX8_isTold_1
theorem dksX8_isTold_0 : cX8_isTold.data.toList.drop 0 = dktX8_isTold_0 := by decide +kernel
theorem dksX8_isTold_1 : cX8_isTold.data.toList.drop 24 = dktX8_isTold_1 := dk_seg dksX8_isTold_0 24 rfl rfl
theorem dX8_isTold_0 : decode cX8_isTold 0 = .ok (.iconst 0, 1) := dk_3 (dk_at dksX8_isTold_0 0 rfl rfl)
theorem dX8_isTold_1 : decode cX8_isTold 1 = .ok (.istore_n 2, 1) := dk_61 (dk_at dksX8_isTold_0 1 rfl rfl)
theorem dX8_isTold_2 : decode cX8_isTold 2 = .ok (.iload_n 2, 1) := dk_28 (dk_at dksX8_isTold_0 2 rfl rfl)
theorem dX8_isTold_3 : decode cX8_isTold 3 = .ok (.aload_n 0, 1) := dk_42 (dk_at dksX8_isTold_0 3 rfl rfl)
theorem dX8_isTold_4 : decode cX8_isTold 4 = .ok (.getfield 182, 3) := dk_180 0 182 (dk_at dksX8_isTold_0 4 rfl rfl)
theorem dX8_isTold_7 : decode cX8_isTold 7 = .ok (.if_icmp .ge 23, 3) := dk_162 0 23 (dk_at dksX8_isTold_0 7 rfl rfl)
theorem dX8_isTold_10 : decode cX8_isTold 10 = .ok (.aload_n 0, 1) := dk_42 (dk_at dksX8_isTold_0 10 rfl rfl)
theorem dX8_isTold_11 : decode cX8_isTold 11 = .ok (.getfield 74, 3) := dk_180 0 74 (dk_at dksX8_isTold_0 11 rfl rfl)
theorem dX8_isTold_14 : decode cX8_isTold 14 = .ok (.iconst 2, 1) := dk_5 (dk_at dksX8_isTold_0 14 rfl rfl)
theorem dX8_isTold_15 : decode cX8_isTold 15 = .ok (.iload_n 2, 1) := dk_28 (dk_at dksX8_isTold_0 15 rfl rfl)
theorem dX8_isTold_16 : decode cX8_isTold 16 = .ok (.imul, 1) := dk_104 (dk_at dksX8_isTold_0 16 rfl rfl)
theorem dX8_isTold_17 : decode cX8_isTold 17 = .ok (.iaload, 1) := dk_46 (dk_at dksX8_isTold_0 17 rfl rfl)
theorem dX8_isTold_18 : decode cX8_isTold 18 = .ok (.iload_n 1, 1) := dk_27 (dk_at dksX8_isTold_0 18 rfl rfl)
theorem dX8_isTold_19 : decode cX8_isTold 19 = .ok (.if_icmp .ne 5, 3) := dk_160 0 5 (dk_at dksX8_isTold_0 19 rfl rfl)
theorem dX8_isTold_22 : decode cX8_isTold 22 = .ok (.iconst 1, 1) := dk_4 (dk_at dksX8_isTold_0 22 rfl rfl)
theorem dX8_isTold_23 : decode cX8_isTold 23 = .ok (.ireturn, 1) := dk_172 (dk_at dksX8_isTold_0 23 rfl rfl)
theorem dX8_isTold_24 : decode cX8_isTold 24 = .ok (.iinc 2 1, 3) := dk_132 2 1 (dk_at dksX8_isTold_1 0 rfl rfl)
theorem dX8_isTold_27 : decode cX8_isTold 27 = .ok (.goto (-25), 3) := dk_167 255 231 (dk_at dksX8_isTold_1 3 rfl rfl)
theorem dX8_isTold_30 : decode cX8_isTold 30 = .ok (.iconst 0, 1) := dk_3 (dk_at dksX8_isTold_1 6 rfl rfl)
theorem dX8_isTold_31 : decode cX8_isTold 31 = .ok (.ireturn, 1) := dk_172 (dk_at dksX8_isTold_1 7 rfl rfl)
abbrev cX8_worstAt : ByteArray := prog_26_method_93_code
def yX8_worstAt : MethodName := ⟨RX8, "worstAt", "(I)I"⟩
def dkwX8_worstAt_4 : List UInt8 := [132, 3, 1, 167, 255, 188, 28, 172]
abbrev dktX8_worstAt_4 : List UInt8 := dkwX8_worstAt_4 ++ []
def dkwX8_worstAt_3 : List UInt8 := [180, 0, 96, 21, 4, 46, 28, 164, 0, 13, 42, 180, 0, 96, 21, 4, 46, 167, 0, 4, 28, 61]
abbrev dktX8_worstAt_3 : List UInt8 := dkwX8_worstAt_3 ++ dktX8_worstAt_4
def dkwX8_worstAt_2 : List UInt8 := [180, 0, 93, 29, 46, 27, 184, 1, 172, 54, 4, 42, 180, 0, 96, 21, 4, 92, 46, 4, 96, 79, 42]
abbrev dktX8_worstAt_2 : List UInt8 := dkwX8_worstAt_2 ++ dktX8_worstAt_3
def dkwX8_worstAt_1 : List UInt8 := [3, 62, 29, 17, 0, 225, 162, 0, 67, 42, 180, 0, 89, 29, 51, 154, 0, 6, 167, 0, 49, 42]
abbrev dktX8_worstAt_1 : List UInt8 := dkwX8_worstAt_1 ++ dktX8_worstAt_2
def dkwX8_worstAt_0 : List UInt8 := [3, 61, 28, 17, 3, 232, 162, 0, 16, 42, 180, 0, 96, 28, 3, 79, 132, 2, 1, 167, 255, 239, 3, 61]
abbrev dktX8_worstAt_0 : List UInt8 := dkwX8_worstAt_0 ++ dktX8_worstAt_1
theorem dksX8_worstAt_0 : cX8_worstAt.data.toList.drop 0 = dktX8_worstAt_0 := by decide +kernel
theorem dksX8_worstAt_1 : cX8_worstAt.data.toList.drop 24 = dktX8_worstAt_1 := dk_seg dksX8_worstAt_0 24 rfl rfl
theorem dksX8_worstAt_2 : cX8_worstAt.data.toList.drop 46 = dktX8_worstAt_2 := dk_seg dksX8_worstAt_1 22 rfl rfl
theorem dksX8_worstAt_3 : cX8_worstAt.data.toList.drop 69 = dktX8_worstAt_3 := dk_seg dksX8_worstAt_2 23 rfl rfl
theorem dksX8_worstAt_4 : cX8_worstAt.data.toList.drop 91 = dktX8_worstAt_4 := dk_seg dksX8_worstAt_3 22 rfl rfl
theorem dX8_worstAt_0 : decode cX8_worstAt 0 = .ok (.iconst 0, 1) := dk_3 (dk_at dksX8_worstAt_0 0 rfl rfl)
theorem dX8_worstAt_1 : decode cX8_worstAt 1 = .ok (.istore_n 2, 1) := dk_61 (dk_at dksX8_worstAt_0 1 rfl rfl)
theorem dX8_worstAt_2 : decode cX8_worstAt 2 = .ok (.iload_n 2, 1) := dk_28 (dk_at dksX8_worstAt_0 2 rfl rfl)
theorem dX8_worstAt_3 : decode cX8_worstAt 3 = .ok (.sipush 1000, 3) := dk_17 3 232 (dk_at dksX8_worstAt_0 3 rfl rfl)
theorem dX8_worstAt_6 : decode cX8_worstAt 6 = .ok (.if_icmp .ge 16, 3) := dk_162 0 16 (dk_at dksX8_worstAt_0 6 rfl rfl)
theorem dX8_worstAt_9 : decode cX8_worstAt 9 = .ok (.aload_n 0, 1) := dk_42 (dk_at dksX8_worstAt_0 9 rfl rfl)
theorem dX8_worstAt_10 : decode cX8_worstAt 10 = .ok (.getfield 96, 3) := dk_180 0 96 (dk_at dksX8_worstAt_0 10 rfl rfl)
theorem dX8_worstAt_13 : decode cX8_worstAt 13 = .ok (.iload_n 2, 1) := dk_28 (dk_at dksX8_worstAt_0 13 rfl rfl)
theorem dX8_worstAt_14 : decode cX8_worstAt 14 = .ok (.iconst 0, 1) := dk_3 (dk_at dksX8_worstAt_0 14 rfl rfl)
theorem dX8_worstAt_15 : decode cX8_worstAt 15 = .ok (.iastore, 1) := dk_79 (dk_at dksX8_worstAt_0 15 rfl rfl)
theorem dX8_worstAt_16 : decode cX8_worstAt 16 = .ok (.iinc 2 1, 3) := dk_132 2 1 (dk_at dksX8_worstAt_0 16 rfl rfl)
theorem dX8_worstAt_19 : decode cX8_worstAt 19 = .ok (.goto (-17), 3) := dk_167 255 239 (dk_at dksX8_worstAt_0 19 rfl rfl)
theorem dX8_worstAt_22 : decode cX8_worstAt 22 = .ok (.iconst 0, 1) := dk_3 (dk_at dksX8_worstAt_0 22 rfl rfl)
theorem dX8_worstAt_23 : decode cX8_worstAt 23 = .ok (.istore_n 2, 1) := dk_61 (dk_at dksX8_worstAt_0 23 rfl rfl)
theorem dX8_worstAt_24 : decode cX8_worstAt 24 = .ok (.iconst 0, 1) := dk_3 (dk_at dksX8_worstAt_1 0 rfl rfl)
theorem dX8_worstAt_25 : decode cX8_worstAt 25 = .ok (.istore_n 3, 1) := dk_62 (dk_at dksX8_worstAt_1 1 rfl rfl)
theorem dX8_worstAt_26 : decode cX8_worstAt 26 = .ok (.iload_n 3, 1) := dk_29 (dk_at dksX8_worstAt_1 2 rfl rfl)
theorem dX8_worstAt_27 : decode cX8_worstAt 27 = .ok (.sipush 225, 3) := dk_17 0 225 (dk_at dksX8_worstAt_1 3 rfl rfl)
theorem dX8_worstAt_30 : decode cX8_worstAt 30 = .ok (.if_icmp .ge 67, 3) := dk_162 0 67 (dk_at dksX8_worstAt_1 6 rfl rfl)
theorem dX8_worstAt_33 : decode cX8_worstAt 33 = .ok (.aload_n 0, 1) := dk_42 (dk_at dksX8_worstAt_1 9 rfl rfl)
theorem dX8_worstAt_34 : decode cX8_worstAt 34 = .ok (.getfield 89, 3) := dk_180 0 89 (dk_at dksX8_worstAt_1 10 rfl rfl)
theorem dX8_worstAt_37 : decode cX8_worstAt 37 = .ok (.iload_n 3, 1) := dk_29 (dk_at dksX8_worstAt_1 13 rfl rfl)
theorem dX8_worstAt_38 : decode cX8_worstAt 38 = .ok (.baload, 1) := dk_51 (dk_at dksX8_worstAt_1 14 rfl rfl)
theorem dX8_worstAt_39 : decode cX8_worstAt 39 = .ok (.ifCond .ne 6, 3) := dk_154 0 6 (dk_at dksX8_worstAt_1 15 rfl rfl)
theorem dX8_worstAt_42 : decode cX8_worstAt 42 = .ok (.goto 49, 3) := dk_167 0 49 (dk_at dksX8_worstAt_1 18 rfl rfl)
theorem dX8_worstAt_45 : decode cX8_worstAt 45 = .ok (.aload_n 0, 1) := dk_42 (dk_at dksX8_worstAt_1 21 rfl rfl)
theorem dX8_worstAt_46 : decode cX8_worstAt 46 = .ok (.getfield 93, 3) := dk_180 0 93 (dk_at dksX8_worstAt_2 0 rfl rfl)
theorem dX8_worstAt_49 : decode cX8_worstAt 49 = .ok (.iload_n 3, 1) := dk_29 (dk_at dksX8_worstAt_2 3 rfl rfl)
theorem dX8_worstAt_50 : decode cX8_worstAt 50 = .ok (.iaload, 1) := dk_46 (dk_at dksX8_worstAt_2 4 rfl rfl)
theorem dX8_worstAt_51 : decode cX8_worstAt 51 = .ok (.iload_n 1, 1) := dk_27 (dk_at dksX8_worstAt_2 5 rfl rfl)
theorem dX8_worstAt_52 : decode cX8_worstAt 52 = .ok (.invokestatic 428, 3) := dk_184 1 172 (dk_at dksX8_worstAt_2 6 rfl rfl)
theorem dX8_worstAt_55 : decode cX8_worstAt 55 = .ok (.istore 4, 2) := dk_54 4 (dk_at dksX8_worstAt_2 9 rfl rfl)
theorem dX8_worstAt_57 : decode cX8_worstAt 57 = .ok (.aload_n 0, 1) := dk_42 (dk_at dksX8_worstAt_2 11 rfl rfl)
theorem dX8_worstAt_58 : decode cX8_worstAt 58 = .ok (.getfield 96, 3) := dk_180 0 96 (dk_at dksX8_worstAt_2 12 rfl rfl)
theorem dX8_worstAt_61 : decode cX8_worstAt 61 = .ok (.iload 4, 2) := dk_21 4 (dk_at dksX8_worstAt_2 15 rfl rfl)
theorem dX8_worstAt_63 : decode cX8_worstAt 63 = .ok (.dup2, 1) := dk_92 (dk_at dksX8_worstAt_2 17 rfl rfl)
theorem dX8_worstAt_64 : decode cX8_worstAt 64 = .ok (.iaload, 1) := dk_46 (dk_at dksX8_worstAt_2 18 rfl rfl)
theorem dX8_worstAt_65 : decode cX8_worstAt 65 = .ok (.iconst 1, 1) := dk_4 (dk_at dksX8_worstAt_2 19 rfl rfl)
theorem dX8_worstAt_66 : decode cX8_worstAt 66 = .ok (.iadd, 1) := dk_96 (dk_at dksX8_worstAt_2 20 rfl rfl)
theorem dX8_worstAt_67 : decode cX8_worstAt 67 = .ok (.iastore, 1) := dk_79 (dk_at dksX8_worstAt_2 21 rfl rfl)
theorem dX8_worstAt_68 : decode cX8_worstAt 68 = .ok (.aload_n 0, 1) := dk_42 (dk_at dksX8_worstAt_2 22 rfl rfl)
theorem dX8_worstAt_69 : decode cX8_worstAt 69 = .ok (.getfield 96, 3) := dk_180 0 96 (dk_at dksX8_worstAt_3 0 rfl rfl)
theorem dX8_worstAt_72 : decode cX8_worstAt 72 = .ok (.iload 4, 2) := dk_21 4 (dk_at dksX8_worstAt_3 3 rfl rfl)
theorem dX8_worstAt_74 : decode cX8_worstAt 74 = .ok (.iaload, 1) := dk_46 (dk_at dksX8_worstAt_3 5 rfl rfl)
theorem dX8_worstAt_75 : decode cX8_worstAt 75 = .ok (.iload_n 2, 1) := dk_28 (dk_at dksX8_worstAt_3 6 rfl rfl)
theorem dX8_worstAt_76 : decode cX8_worstAt 76 = .ok (.if_icmp .le 13, 3) := dk_164 0 13 (dk_at dksX8_worstAt_3 7 rfl rfl)
theorem dX8_worstAt_79 : decode cX8_worstAt 79 = .ok (.aload_n 0, 1) := dk_42 (dk_at dksX8_worstAt_3 10 rfl rfl)
theorem dX8_worstAt_80 : decode cX8_worstAt 80 = .ok (.getfield 96, 3) := dk_180 0 96 (dk_at dksX8_worstAt_3 11 rfl rfl)
theorem dX8_worstAt_83 : decode cX8_worstAt 83 = .ok (.iload 4, 2) := dk_21 4 (dk_at dksX8_worstAt_3 14 rfl rfl)
theorem dX8_worstAt_85 : decode cX8_worstAt 85 = .ok (.iaload, 1) := dk_46 (dk_at dksX8_worstAt_3 16 rfl rfl)
theorem dX8_worstAt_86 : decode cX8_worstAt 86 = .ok (.goto 4, 3) := dk_167 0 4 (dk_at dksX8_worstAt_3 17 rfl rfl)
theorem dX8_worstAt_89 : decode cX8_worstAt 89 = .ok (.iload_n 2, 1) := dk_28 (dk_at dksX8_worstAt_3 20 rfl rfl)
theorem dX8_worstAt_90 : decode cX8_worstAt 90 = .ok (.istore_n 2, 1) := dk_61 (dk_at dksX8_worstAt_3 21 rfl rfl)
theorem dX8_worstAt_91 : decode cX8_worstAt 91 = .ok (.iinc 3 1, 3) := dk_132 3 1 (dk_at dksX8_worstAt_4 0 rfl rfl)
theorem dX8_worstAt_94 : decode cX8_worstAt 94 = .ok (.goto (-68), 3) := dk_167 255 188 (dk_at dksX8_worstAt_4 3 rfl rfl)
theorem dX8_worstAt_97 : decode cX8_worstAt 97 = .ok (.iload_n 2, 1) := dk_28 (dk_at dksX8_worstAt_4 6 rfl rfl)
theorem dX8_worstAt_98 : decode cX8_worstAt 98 = .ok (.ireturn, 1) := dk_172 (dk_at dksX8_worstAt_4 7 rfl rfl)
abbrev cX8_court : ByteArray := prog_26_method_98_code
def yX8_court : MethodName := ⟨RX8, "court", "(III)J"⟩
def dkwX8_court_3 : List UInt8 := [184, 1, 194, 173]
abbrev dktX8_court_3 : List UInt8 := dkwX8_court_3 ++ []
def dkwX8_court_2 : List UInt8 := [4, 182, 0, 207, 154, 0, 5, 9, 173, 27, 28, 184, 1, 188, 20, 1, 192, 27, 184, 1, 184, 29]
abbrev dktX8_court_2 : List UInt8 := dkwX8_court_2 ++ dktX8_court_3
def dkwX8_court_1 : List UInt8 := [3, 16, 16, 184, 1, 34, 153, 0, 16, 29, 3, 4, 184, 1, 34, 153, 0, 7, 4, 167, 0, 4, 3, 4]
abbrev dktX8_court_1 : List UInt8 := dkwX8_court_1 ++ dktX8_court_2
def dkwX8_court_0 : List UInt8 := [42, 3, 181, 0, 3, 42, 27, 4, 16, 9, 184, 1, 34, 153, 0, 33, 27, 5, 112, 4, 160, 0, 26, 28]
abbrev dktX8_court_0 : List UInt8 := dkwX8_court_0 ++ dktX8_court_1
theorem dksX8_court_0 : cX8_court.data.toList.drop 0 = dktX8_court_0 := by decide +kernel
theorem dksX8_court_1 : cX8_court.data.toList.drop 24 = dktX8_court_1 := dk_seg dksX8_court_0 24 rfl rfl
theorem dksX8_court_2 : cX8_court.data.toList.drop 48 = dktX8_court_2 := dk_seg dksX8_court_1 24 rfl rfl
theorem dksX8_court_3 : cX8_court.data.toList.drop 70 = dktX8_court_3 := dk_seg dksX8_court_2 22 rfl rfl
theorem dX8_court_0 : decode cX8_court 0 = .ok (.aload_n 0, 1) := dk_42 (dk_at dksX8_court_0 0 rfl rfl)
theorem dX8_court_1 : decode cX8_court 1 = .ok (.iconst 0, 1) := dk_3 (dk_at dksX8_court_0 1 rfl rfl)
theorem dX8_court_2 : decode cX8_court 2 = .ok (.putfield 3, 3) := dk_181 0 3 (dk_at dksX8_court_0 2 rfl rfl)
theorem dX8_court_5 : decode cX8_court 5 = .ok (.aload_n 0, 1) := dk_42 (dk_at dksX8_court_0 5 rfl rfl)
theorem dX8_court_6 : decode cX8_court 6 = .ok (.iload_n 1, 1) := dk_27 (dk_at dksX8_court_0 6 rfl rfl)
theorem dX8_court_7 : decode cX8_court 7 = .ok (.iconst 1, 1) := dk_4 (dk_at dksX8_court_0 7 rfl rfl)
theorem dX8_court_8 : decode cX8_court 8 = .ok (.bipush 9, 2) := dk_16 9 (dk_at dksX8_court_0 8 rfl rfl)
theorem dX8_court_10 : decode cX8_court 10 = .ok (.invokestatic 290, 3) := dk_184 1 34 (dk_at dksX8_court_0 10 rfl rfl)
theorem dX8_court_13 : decode cX8_court 13 = .ok (.ifCond .eq 33, 3) := dk_153 0 33 (dk_at dksX8_court_0 13 rfl rfl)
theorem dX8_court_16 : decode cX8_court 16 = .ok (.iload_n 1, 1) := dk_27 (dk_at dksX8_court_0 16 rfl rfl)
theorem dX8_court_17 : decode cX8_court 17 = .ok (.iconst 2, 1) := dk_5 (dk_at dksX8_court_0 17 rfl rfl)
theorem dX8_court_18 : decode cX8_court 18 = .ok (.irem, 1) := dk_112 (dk_at dksX8_court_0 18 rfl rfl)
theorem dX8_court_19 : decode cX8_court 19 = .ok (.iconst 1, 1) := dk_4 (dk_at dksX8_court_0 19 rfl rfl)
theorem dX8_court_20 : decode cX8_court 20 = .ok (.if_icmp .ne 26, 3) := dk_160 0 26 (dk_at dksX8_court_0 20 rfl rfl)
theorem dX8_court_23 : decode cX8_court 23 = .ok (.iload_n 2, 1) := dk_28 (dk_at dksX8_court_0 23 rfl rfl)
theorem dX8_court_24 : decode cX8_court 24 = .ok (.iconst 0, 1) := dk_3 (dk_at dksX8_court_1 0 rfl rfl)
theorem dX8_court_25 : decode cX8_court 25 = .ok (.bipush 16, 2) := dk_16 16 (dk_at dksX8_court_1 1 rfl rfl)
theorem dX8_court_27 : decode cX8_court 27 = .ok (.invokestatic 290, 3) := dk_184 1 34 (dk_at dksX8_court_1 3 rfl rfl)
theorem dX8_court_30 : decode cX8_court 30 = .ok (.ifCond .eq 16, 3) := dk_153 0 16 (dk_at dksX8_court_1 6 rfl rfl)
theorem dX8_court_33 : decode cX8_court 33 = .ok (.iload_n 3, 1) := dk_29 (dk_at dksX8_court_1 9 rfl rfl)
theorem dX8_court_34 : decode cX8_court 34 = .ok (.iconst 0, 1) := dk_3 (dk_at dksX8_court_1 10 rfl rfl)
theorem dX8_court_35 : decode cX8_court 35 = .ok (.iconst 1, 1) := dk_4 (dk_at dksX8_court_1 11 rfl rfl)
theorem dX8_court_36 : decode cX8_court 36 = .ok (.invokestatic 290, 3) := dk_184 1 34 (dk_at dksX8_court_1 12 rfl rfl)
theorem dX8_court_39 : decode cX8_court 39 = .ok (.ifCond .eq 7, 3) := dk_153 0 7 (dk_at dksX8_court_1 15 rfl rfl)
theorem dX8_court_42 : decode cX8_court 42 = .ok (.iconst 1, 1) := dk_4 (dk_at dksX8_court_1 18 rfl rfl)
theorem dX8_court_43 : decode cX8_court 43 = .ok (.goto 4, 3) := dk_167 0 4 (dk_at dksX8_court_1 19 rfl rfl)
theorem dX8_court_46 : decode cX8_court 46 = .ok (.iconst 0, 1) := dk_3 (dk_at dksX8_court_1 22 rfl rfl)
theorem dX8_court_47 : decode cX8_court 47 = .ok (.iconst 1, 1) := dk_4 (dk_at dksX8_court_1 23 rfl rfl)
theorem dX8_court_48 : decode cX8_court 48 = .ok (.iconst 1, 1) := dk_4 (dk_at dksX8_court_2 0 rfl rfl)
theorem dX8_court_49 : decode cX8_court 49 = .ok (.invokevirtual 207, 3) := dk_182 0 207 (dk_at dksX8_court_2 1 rfl rfl)
theorem dX8_court_52 : decode cX8_court 52 = .ok (.ifCond .ne 5, 3) := dk_154 0 5 (dk_at dksX8_court_2 4 rfl rfl)
theorem dX8_court_55 : decode cX8_court 55 = .ok (.lconst 0, 1) := dk_9 (dk_at dksX8_court_2 7 rfl rfl)
theorem dX8_court_56 : decode cX8_court 56 = .ok (.lreturn, 1) := dk_173 (dk_at dksX8_court_2 8 rfl rfl)
theorem dX8_court_57 : decode cX8_court 57 = .ok (.iload_n 1, 1) := dk_27 (dk_at dksX8_court_2 9 rfl rfl)
theorem dX8_court_58 : decode cX8_court 58 = .ok (.iload_n 2, 1) := dk_28 (dk_at dksX8_court_2 10 rfl rfl)
theorem dX8_court_59 : decode cX8_court 59 = .ok (.invokestatic 444, 3) := dk_184 1 188 (dk_at dksX8_court_2 11 rfl rfl)
theorem dX8_court_62 : decode cX8_court 62 = .ok (.ldc2_w 448, 3) := dk_20 1 192 (dk_at dksX8_court_2 14 rfl rfl)
theorem dX8_court_65 : decode cX8_court 65 = .ok (.iload_n 1, 1) := dk_27 (dk_at dksX8_court_2 17 rfl rfl)
theorem dX8_court_66 : decode cX8_court 66 = .ok (.invokestatic 440, 3) := dk_184 1 184 (dk_at dksX8_court_2 18 rfl rfl)
theorem dX8_court_69 : decode cX8_court 69 = .ok (.iload_n 3, 1) := dk_29 (dk_at dksX8_court_2 21 rfl rfl)
theorem dX8_court_70 : decode cX8_court 70 = .ok (.invokestatic 450, 3) := dk_184 1 194 (dk_at dksX8_court_3 0 rfl rfl)
theorem dX8_court_73 : decode cX8_court 73 = .ok (.lreturn, 1) := dk_173 (dk_at dksX8_court_3 3 rfl rfl)
abbrev cX8_courtBy : ByteArray := prog_26_method_97_code
def yX8_courtBy : MethodName := ⟨RX8, "courtBy", "(II)J"⟩
def dkwX8_courtBy_3 : List UInt8 := [184, 1, 184, 105, 167, 0, 4, 9, 97, 65, 132, 4, 1, 167, 255, 180, 32, 173]
abbrev dktX8_courtBy_3 : List UInt8 := dkwX8_courtBy_3 ++ []
def dkwX8_courtBy_2 : List UInt8 := [21, 5, 104, 26, 164, 0, 26, 27, 133, 21, 5, 184, 1, 184, 16, 16, 27, 100, 133, 26, 21, 5, 100]
abbrev dktX8_courtBy_2 : List UInt8 := dkwX8_courtBy_2 ++ dktX8_courtBy_3
def dkwX8_courtBy_1 : List UInt8 := [162, 0, 21, 21, 5, 21, 4, 21, 6, 122, 4, 126, 96, 54, 5, 132, 6, 1, 167, 255, 235, 32, 5]
abbrev dktX8_courtBy_1 : List UInt8 := dkwX8_courtBy_1 ++ dktX8_courtBy_2
def dkwX8_courtBy_0 : List UInt8 := [9, 65, 3, 54, 4, 21, 4, 4, 26, 120, 162, 0, 74, 3, 54, 5, 3, 54, 6, 21, 6, 26]
abbrev dktX8_courtBy_0 : List UInt8 := dkwX8_courtBy_0 ++ dktX8_courtBy_1
theorem dksX8_courtBy_0 : cX8_courtBy.data.toList.drop 0 = dktX8_courtBy_0 := by decide +kernel
theorem dksX8_courtBy_1 : cX8_courtBy.data.toList.drop 22 = dktX8_courtBy_1 := dk_seg dksX8_courtBy_0 22 rfl rfl
theorem dksX8_courtBy_2 : cX8_courtBy.data.toList.drop 45 = dktX8_courtBy_2 := dk_seg dksX8_courtBy_1 23 rfl rfl
theorem dksX8_courtBy_3 : cX8_courtBy.data.toList.drop 68 = dktX8_courtBy_3 := dk_seg dksX8_courtBy_2 23 rfl rfl
theorem dX8_courtBy_0 : decode cX8_courtBy 0 = .ok (.lconst 0, 1) := dk_9 (dk_at dksX8_courtBy_0 0 rfl rfl)
theorem dX8_courtBy_1 : decode cX8_courtBy 1 = .ok (.lstore_n 2, 1) := dk_65 (dk_at dksX8_courtBy_0 1 rfl rfl)
theorem dX8_courtBy_2 : decode cX8_courtBy 2 = .ok (.iconst 0, 1) := dk_3 (dk_at dksX8_courtBy_0 2 rfl rfl)
theorem dX8_courtBy_3 : decode cX8_courtBy 3 = .ok (.istore 4, 2) := dk_54 4 (dk_at dksX8_courtBy_0 3 rfl rfl)
theorem dX8_courtBy_5 : decode cX8_courtBy 5 = .ok (.iload 4, 2) := dk_21 4 (dk_at dksX8_courtBy_0 5 rfl rfl)
theorem dX8_courtBy_7 : decode cX8_courtBy 7 = .ok (.iconst 1, 1) := dk_4 (dk_at dksX8_courtBy_0 7 rfl rfl)
theorem dX8_courtBy_8 : decode cX8_courtBy 8 = .ok (.iload_n 0, 1) := dk_26 (dk_at dksX8_courtBy_0 8 rfl rfl)
theorem dX8_courtBy_9 : decode cX8_courtBy 9 = .ok (.ishl, 1) := dk_120 (dk_at dksX8_courtBy_0 9 rfl rfl)
theorem dX8_courtBy_10 : decode cX8_courtBy 10 = .ok (.if_icmp .ge 74, 3) := dk_162 0 74 (dk_at dksX8_courtBy_0 10 rfl rfl)
theorem dX8_courtBy_13 : decode cX8_courtBy 13 = .ok (.iconst 0, 1) := dk_3 (dk_at dksX8_courtBy_0 13 rfl rfl)
theorem dX8_courtBy_14 : decode cX8_courtBy 14 = .ok (.istore 5, 2) := dk_54 5 (dk_at dksX8_courtBy_0 14 rfl rfl)
theorem dX8_courtBy_16 : decode cX8_courtBy 16 = .ok (.iconst 0, 1) := dk_3 (dk_at dksX8_courtBy_0 16 rfl rfl)
theorem dX8_courtBy_17 : decode cX8_courtBy 17 = .ok (.istore 6, 2) := dk_54 6 (dk_at dksX8_courtBy_0 17 rfl rfl)
theorem dX8_courtBy_19 : decode cX8_courtBy 19 = .ok (.iload 6, 2) := dk_21 6 (dk_at dksX8_courtBy_0 19 rfl rfl)
theorem dX8_courtBy_21 : decode cX8_courtBy 21 = .ok (.iload_n 0, 1) := dk_26 (dk_at dksX8_courtBy_0 21 rfl rfl)
theorem dX8_courtBy_22 : decode cX8_courtBy 22 = .ok (.if_icmp .ge 21, 3) := dk_162 0 21 (dk_at dksX8_courtBy_1 0 rfl rfl)
theorem dX8_courtBy_25 : decode cX8_courtBy 25 = .ok (.iload 5, 2) := dk_21 5 (dk_at dksX8_courtBy_1 3 rfl rfl)
theorem dX8_courtBy_27 : decode cX8_courtBy 27 = .ok (.iload 4, 2) := dk_21 4 (dk_at dksX8_courtBy_1 5 rfl rfl)
theorem dX8_courtBy_29 : decode cX8_courtBy 29 = .ok (.iload 6, 2) := dk_21 6 (dk_at dksX8_courtBy_1 7 rfl rfl)
theorem dX8_courtBy_31 : decode cX8_courtBy 31 = .ok (.ishr, 1) := dk_122 (dk_at dksX8_courtBy_1 9 rfl rfl)
theorem dX8_courtBy_32 : decode cX8_courtBy 32 = .ok (.iconst 1, 1) := dk_4 (dk_at dksX8_courtBy_1 10 rfl rfl)
theorem dX8_courtBy_33 : decode cX8_courtBy 33 = .ok (.iand, 1) := dk_126 (dk_at dksX8_courtBy_1 11 rfl rfl)
theorem dX8_courtBy_34 : decode cX8_courtBy 34 = .ok (.iadd, 1) := dk_96 (dk_at dksX8_courtBy_1 12 rfl rfl)
theorem dX8_courtBy_35 : decode cX8_courtBy 35 = .ok (.istore 5, 2) := dk_54 5 (dk_at dksX8_courtBy_1 13 rfl rfl)
theorem dX8_courtBy_37 : decode cX8_courtBy 37 = .ok (.iinc 6 1, 3) := dk_132 6 1 (dk_at dksX8_courtBy_1 15 rfl rfl)
theorem dX8_courtBy_40 : decode cX8_courtBy 40 = .ok (.goto (-21), 3) := dk_167 255 235 (dk_at dksX8_courtBy_1 18 rfl rfl)
theorem dX8_courtBy_43 : decode cX8_courtBy 43 = .ok (.lload_n 2, 1) := dk_32 (dk_at dksX8_courtBy_1 21 rfl rfl)
theorem dX8_courtBy_44 : decode cX8_courtBy 44 = .ok (.iconst 2, 1) := dk_5 (dk_at dksX8_courtBy_1 22 rfl rfl)
theorem dX8_courtBy_45 : decode cX8_courtBy 45 = .ok (.iload 5, 2) := dk_21 5 (dk_at dksX8_courtBy_2 0 rfl rfl)
theorem dX8_courtBy_47 : decode cX8_courtBy 47 = .ok (.imul, 1) := dk_104 (dk_at dksX8_courtBy_2 2 rfl rfl)
theorem dX8_courtBy_48 : decode cX8_courtBy 48 = .ok (.iload_n 0, 1) := dk_26 (dk_at dksX8_courtBy_2 3 rfl rfl)
theorem dX8_courtBy_49 : decode cX8_courtBy 49 = .ok (.if_icmp .le 26, 3) := dk_164 0 26 (dk_at dksX8_courtBy_2 4 rfl rfl)
theorem dX8_courtBy_52 : decode cX8_courtBy 52 = .ok (.iload_n 1, 1) := dk_27 (dk_at dksX8_courtBy_2 7 rfl rfl)
theorem dX8_courtBy_53 : decode cX8_courtBy 53 = .ok (.i2l, 1) := dk_133 (dk_at dksX8_courtBy_2 8 rfl rfl)
theorem dX8_courtBy_54 : decode cX8_courtBy 54 = .ok (.iload 5, 2) := dk_21 5 (dk_at dksX8_courtBy_2 9 rfl rfl)
theorem dX8_courtBy_56 : decode cX8_courtBy 56 = .ok (.invokestatic 440, 3) := dk_184 1 184 (dk_at dksX8_courtBy_2 11 rfl rfl)
theorem dX8_courtBy_59 : decode cX8_courtBy 59 = .ok (.bipush 16, 2) := dk_16 16 (dk_at dksX8_courtBy_2 14 rfl rfl)
theorem dX8_courtBy_61 : decode cX8_courtBy 61 = .ok (.iload_n 1, 1) := dk_27 (dk_at dksX8_courtBy_2 16 rfl rfl)
theorem dX8_courtBy_62 : decode cX8_courtBy 62 = .ok (.isub, 1) := dk_100 (dk_at dksX8_courtBy_2 17 rfl rfl)
theorem dX8_courtBy_63 : decode cX8_courtBy 63 = .ok (.i2l, 1) := dk_133 (dk_at dksX8_courtBy_2 18 rfl rfl)
theorem dX8_courtBy_64 : decode cX8_courtBy 64 = .ok (.iload_n 0, 1) := dk_26 (dk_at dksX8_courtBy_2 19 rfl rfl)
theorem dX8_courtBy_65 : decode cX8_courtBy 65 = .ok (.iload 5, 2) := dk_21 5 (dk_at dksX8_courtBy_2 20 rfl rfl)
theorem dX8_courtBy_67 : decode cX8_courtBy 67 = .ok (.isub, 1) := dk_100 (dk_at dksX8_courtBy_2 22 rfl rfl)
theorem dX8_courtBy_68 : decode cX8_courtBy 68 = .ok (.invokestatic 440, 3) := dk_184 1 184 (dk_at dksX8_courtBy_3 0 rfl rfl)
theorem dX8_courtBy_71 : decode cX8_courtBy 71 = .ok (.lmul, 1) := dk_105 (dk_at dksX8_courtBy_3 3 rfl rfl)
theorem dX8_courtBy_72 : decode cX8_courtBy 72 = .ok (.goto 4, 3) := dk_167 0 4 (dk_at dksX8_courtBy_3 4 rfl rfl)
theorem dX8_courtBy_75 : decode cX8_courtBy 75 = .ok (.lconst 0, 1) := dk_9 (dk_at dksX8_courtBy_3 7 rfl rfl)
theorem dX8_courtBy_76 : decode cX8_courtBy 76 = .ok (.ladd, 1) := dk_97 (dk_at dksX8_courtBy_3 8 rfl rfl)
theorem dX8_courtBy_77 : decode cX8_courtBy 77 = .ok (.lstore_n 2, 1) := dk_65 (dk_at dksX8_courtBy_3 9 rfl rfl)
theorem dX8_courtBy_78 : decode cX8_courtBy 78 = .ok (.iinc 4 1, 3) := dk_132 4 1 (dk_at dksX8_courtBy_3 10 rfl rfl)
theorem dX8_courtBy_81 : decode cX8_courtBy 81 = .ok (.goto (-76), 3) := dk_167 255 180 (dk_at dksX8_courtBy_3 13 rfl rfl)
theorem dX8_courtBy_84 : decode cX8_courtBy 84 = .ok (.lload_n 2, 1) := dk_32 (dk_at dksX8_courtBy_3 16 rfl rfl)
theorem dX8_courtBy_85 : decode cX8_courtBy 85 = .ok (.lreturn, 1) := dk_173 (dk_at dksX8_courtBy_3 17 rfl rfl)
abbrev cX8_power : ByteArray := prog_26_method_96_code
def yX8_power : MethodName := ⟨RX8, "power", "(JI)J"⟩
def dkwX8_power_0 : List UInt8 := [10, 66, 3, 54, 5, 21, 5, 28, 162, 0, 13, 33, 30, 105, 66, 132, 5, 1, 167, 255, 243, 33, 173]
abbrev dktX8_power_0 : List UInt8 := dkwX8_power_0 ++ []
theorem dksX8_power_0 : cX8_power.data.toList.drop 0 = dktX8_power_0 := by decide +kernel
theorem dX8_power_0 : decode cX8_power 0 = .ok (.lconst 1, 1) := dk_10 (dk_at dksX8_power_0 0 rfl rfl)
theorem dX8_power_1 : decode cX8_power 1 = .ok (.lstore_n 3, 1) := dk_66 (dk_at dksX8_power_0 1 rfl rfl)
theorem dX8_power_2 : decode cX8_power 2 = .ok (.iconst 0, 1) := dk_3 (dk_at dksX8_power_0 2 rfl rfl)
theorem dX8_power_3 : decode cX8_power 3 = .ok (.istore 5, 2) := dk_54 5 (dk_at dksX8_power_0 3 rfl rfl)
theorem dX8_power_5 : decode cX8_power 5 = .ok (.iload 5, 2) := dk_21 5 (dk_at dksX8_power_0 5 rfl rfl)
theorem dX8_power_7 : decode cX8_power 7 = .ok (.iload_n 2, 1) := dk_28 (dk_at dksX8_power_0 7 rfl rfl)
theorem dX8_power_8 : decode cX8_power 8 = .ok (.if_icmp .ge 13, 3) := dk_162 0 13 (dk_at dksX8_power_0 8 rfl rfl)
theorem dX8_power_11 : decode cX8_power 11 = .ok (.lload_n 3, 1) := dk_33 (dk_at dksX8_power_0 11 rfl rfl)
theorem dX8_power_12 : decode cX8_power 12 = .ok (.lload_n 0, 1) := dk_30 (dk_at dksX8_power_0 12 rfl rfl)
theorem dX8_power_13 : decode cX8_power 13 = .ok (.lmul, 1) := dk_105 (dk_at dksX8_power_0 13 rfl rfl)
theorem dX8_power_14 : decode cX8_power 14 = .ok (.lstore_n 3, 1) := dk_66 (dk_at dksX8_power_0 14 rfl rfl)
theorem dX8_power_15 : decode cX8_power 15 = .ok (.iinc 5 1, 3) := dk_132 5 1 (dk_at dksX8_power_0 15 rfl rfl)
theorem dX8_power_18 : decode cX8_power 18 = .ok (.goto (-13), 3) := dk_167 255 243 (dk_at dksX8_power_0 18 rfl rfl)
theorem dX8_power_21 : decode cX8_power 21 = .ok (.lload_n 3, 1) := dk_33 (dk_at dksX8_power_0 21 rfl rfl)
theorem dX8_power_22 : decode cX8_power 22 = .ok (.lreturn, 1) := dk_173 (dk_at dksX8_power_0 22 rfl rfl)
abbrev cX8_least : ByteArray := prog_26_method_95_code
def yX8_least : MethodName := ⟨RX8, "least", "(JJI)J"⟩
def dkwX8_least_1 : List UInt8 := [22, 9, 55, 7, 167, 255, 234, 21, 4, 154, 0, 7, 30, 167, 0, 4, 32, 22, 5, 109, 173]
abbrev dktX8_least_1 : List UInt8 := dkwX8_least_1 ++ []
def dkwX8_least_0 : List UInt8 := [30, 55, 5, 32, 55, 7, 22, 7, 9, 148, 153, 0, 21, 22, 5, 22, 7, 113, 55, 9, 22, 7, 55, 5]
abbrev dktX8_least_0 : List UInt8 := dkwX8_least_0 ++ dktX8_least_1
theorem dksX8_least_0 : cX8_least.data.toList.drop 0 = dktX8_least_0 := by decide +kernel
theorem dksX8_least_1 : cX8_least.data.toList.drop 24 = dktX8_least_1 := dk_seg dksX8_least_0 24 rfl rfl
theorem dX8_least_0 : decode cX8_least 0 = .ok (.lload_n 0, 1) := dk_30 (dk_at dksX8_least_0 0 rfl rfl)
theorem dX8_least_1 : decode cX8_least 1 = .ok (.lstore 5, 2) := dk_55 5 (dk_at dksX8_least_0 1 rfl rfl)
theorem dX8_least_3 : decode cX8_least 3 = .ok (.lload_n 2, 1) := dk_32 (dk_at dksX8_least_0 3 rfl rfl)
theorem dX8_least_4 : decode cX8_least 4 = .ok (.lstore 7, 2) := dk_55 7 (dk_at dksX8_least_0 4 rfl rfl)
theorem dX8_least_6 : decode cX8_least 6 = .ok (.lload 7, 2) := dk_22 7 (dk_at dksX8_least_0 6 rfl rfl)
theorem dX8_least_8 : decode cX8_least 8 = .ok (.lconst 0, 1) := dk_9 (dk_at dksX8_least_0 8 rfl rfl)
theorem dX8_least_9 : decode cX8_least 9 = .ok (.lcmp, 1) := dk_148 (dk_at dksX8_least_0 9 rfl rfl)
theorem dX8_least_10 : decode cX8_least 10 = .ok (.ifCond .eq 21, 3) := dk_153 0 21 (dk_at dksX8_least_0 10 rfl rfl)
theorem dX8_least_13 : decode cX8_least 13 = .ok (.lload 5, 2) := dk_22 5 (dk_at dksX8_least_0 13 rfl rfl)
theorem dX8_least_15 : decode cX8_least 15 = .ok (.lload 7, 2) := dk_22 7 (dk_at dksX8_least_0 15 rfl rfl)
theorem dX8_least_17 : decode cX8_least 17 = .ok (.lrem, 1) := dk_113 (dk_at dksX8_least_0 17 rfl rfl)
theorem dX8_least_18 : decode cX8_least 18 = .ok (.lstore 9, 2) := dk_55 9 (dk_at dksX8_least_0 18 rfl rfl)
theorem dX8_least_20 : decode cX8_least 20 = .ok (.lload 7, 2) := dk_22 7 (dk_at dksX8_least_0 20 rfl rfl)
theorem dX8_least_22 : decode cX8_least 22 = .ok (.lstore 5, 2) := dk_55 5 (dk_at dksX8_least_0 22 rfl rfl)
theorem dX8_least_24 : decode cX8_least 24 = .ok (.lload 9, 2) := dk_22 9 (dk_at dksX8_least_1 0 rfl rfl)
theorem dX8_least_26 : decode cX8_least 26 = .ok (.lstore 7, 2) := dk_55 7 (dk_at dksX8_least_1 2 rfl rfl)
theorem dX8_least_28 : decode cX8_least 28 = .ok (.goto (-22), 3) := dk_167 255 234 (dk_at dksX8_least_1 4 rfl rfl)
theorem dX8_least_31 : decode cX8_least 31 = .ok (.iload 4, 2) := dk_21 4 (dk_at dksX8_least_1 7 rfl rfl)
theorem dX8_least_33 : decode cX8_least 33 = .ok (.ifCond .ne 7, 3) := dk_154 0 7 (dk_at dksX8_least_1 9 rfl rfl)
theorem dX8_least_36 : decode cX8_least 36 = .ok (.lload_n 0, 1) := dk_30 (dk_at dksX8_least_1 12 rfl rfl)
theorem dX8_least_37 : decode cX8_least 37 = .ok (.goto 4, 3) := dk_167 0 4 (dk_at dksX8_least_1 13 rfl rfl)
theorem dX8_least_40 : decode cX8_least 40 = .ok (.lload_n 2, 1) := dk_32 (dk_at dksX8_least_1 16 rfl rfl)
theorem dX8_least_41 : decode cX8_least 41 = .ok (.lload 5, 2) := dk_22 5 (dk_at dksX8_least_1 17 rfl rfl)
theorem dX8_least_43 : decode cX8_least 43 = .ok (.ldiv, 1) := dk_109 (dk_at dksX8_least_1 19 rfl rfl)
theorem dX8_least_44 : decode cX8_least 44 = .ok (.lreturn, 1) := dk_173 (dk_at dksX8_least_1 20 rfl rfl)
abbrev cX8_witnesses : ByteArray := prog_26_method_99_code
def yX8_witnesses : MethodName := ⟨RX8, "witnesses", "(II)I"⟩
def dkwX8_witnesses_3 : List UInt8 := [155, 0, 5, 29, 172, 132, 3, 2, 167, 255, 222, 2, 172]
abbrev dktX8_witnesses_3 : List UInt8 := dkwX8_witnesses_3 ++ []
def dkwX8_witnesses_2 : List UInt8 := [163, 0, 34, 20, 1, 192, 29, 27, 184, 1, 188, 105, 28, 133, 20, 1, 192, 29, 184, 1, 184, 105, 148]
abbrev dktX8_witnesses_2 : List UInt8 := dkwX8_witnesses_2 ++ dktX8_witnesses_3
def dkwX8_witnesses_1 : List UInt8 := [153, 0, 7, 4, 167, 0, 4, 3, 4, 4, 182, 0, 207, 154, 0, 5, 3, 172, 4, 62, 29, 16, 9]
abbrev dktX8_witnesses_1 : List UInt8 := dkwX8_witnesses_1 ++ dktX8_witnesses_2
def dkwX8_witnesses_0 : List UInt8 := [42, 3, 181, 0, 3, 42, 27, 3, 16, 16, 184, 1, 34, 153, 0, 17, 28, 3, 16, 16, 184, 1, 34]
abbrev dktX8_witnesses_0 : List UInt8 := dkwX8_witnesses_0 ++ dktX8_witnesses_1
theorem dksX8_witnesses_0 : cX8_witnesses.data.toList.drop 0 = dktX8_witnesses_0 := by decide +kernel
theorem dksX8_witnesses_1 : cX8_witnesses.data.toList.drop 23 = dktX8_witnesses_1 := dk_seg dksX8_witnesses_0 23 rfl rfl
theorem dksX8_witnesses_2 : cX8_witnesses.data.toList.drop 46 = dktX8_witnesses_2 := dk_seg dksX8_witnesses_1 23 rfl rfl
theorem dksX8_witnesses_3 : cX8_witnesses.data.toList.drop 69 = dktX8_witnesses_3 := dk_seg dksX8_witnesses_2 23 rfl rfl
theorem dX8_witnesses_0 : decode cX8_witnesses 0 = .ok (.aload_n 0, 1) := dk_42 (dk_at dksX8_witnesses_0 0 rfl rfl)
theorem dX8_witnesses_1 : decode cX8_witnesses 1 = .ok (.iconst 0, 1) := dk_3 (dk_at dksX8_witnesses_0 1 rfl rfl)
theorem dX8_witnesses_2 : decode cX8_witnesses 2 = .ok (.putfield 3, 3) := dk_181 0 3 (dk_at dksX8_witnesses_0 2 rfl rfl)
theorem dX8_witnesses_5 : decode cX8_witnesses 5 = .ok (.aload_n 0, 1) := dk_42 (dk_at dksX8_witnesses_0 5 rfl rfl)
theorem dX8_witnesses_6 : decode cX8_witnesses 6 = .ok (.iload_n 1, 1) := dk_27 (dk_at dksX8_witnesses_0 6 rfl rfl)
theorem dX8_witnesses_7 : decode cX8_witnesses 7 = .ok (.iconst 0, 1) := dk_3 (dk_at dksX8_witnesses_0 7 rfl rfl)
theorem dX8_witnesses_8 : decode cX8_witnesses 8 = .ok (.bipush 16, 2) := dk_16 16 (dk_at dksX8_witnesses_0 8 rfl rfl)
theorem dX8_witnesses_10 : decode cX8_witnesses 10 = .ok (.invokestatic 290, 3) := dk_184 1 34 (dk_at dksX8_witnesses_0 10 rfl rfl)
theorem dX8_witnesses_13 : decode cX8_witnesses 13 = .ok (.ifCond .eq 17, 3) := dk_153 0 17 (dk_at dksX8_witnesses_0 13 rfl rfl)
theorem dX8_witnesses_16 : decode cX8_witnesses 16 = .ok (.iload_n 2, 1) := dk_28 (dk_at dksX8_witnesses_0 16 rfl rfl)
theorem dX8_witnesses_17 : decode cX8_witnesses 17 = .ok (.iconst 0, 1) := dk_3 (dk_at dksX8_witnesses_0 17 rfl rfl)
theorem dX8_witnesses_18 : decode cX8_witnesses 18 = .ok (.bipush 16, 2) := dk_16 16 (dk_at dksX8_witnesses_0 18 rfl rfl)
theorem dX8_witnesses_20 : decode cX8_witnesses 20 = .ok (.invokestatic 290, 3) := dk_184 1 34 (dk_at dksX8_witnesses_0 20 rfl rfl)
theorem dX8_witnesses_23 : decode cX8_witnesses 23 = .ok (.ifCond .eq 7, 3) := dk_153 0 7 (dk_at dksX8_witnesses_1 0 rfl rfl)
theorem dX8_witnesses_26 : decode cX8_witnesses 26 = .ok (.iconst 1, 1) := dk_4 (dk_at dksX8_witnesses_1 3 rfl rfl)
theorem dX8_witnesses_27 : decode cX8_witnesses 27 = .ok (.goto 4, 3) := dk_167 0 4 (dk_at dksX8_witnesses_1 4 rfl rfl)
theorem dX8_witnesses_30 : decode cX8_witnesses 30 = .ok (.iconst 0, 1) := dk_3 (dk_at dksX8_witnesses_1 7 rfl rfl)
theorem dX8_witnesses_31 : decode cX8_witnesses 31 = .ok (.iconst 1, 1) := dk_4 (dk_at dksX8_witnesses_1 8 rfl rfl)
theorem dX8_witnesses_32 : decode cX8_witnesses 32 = .ok (.iconst 1, 1) := dk_4 (dk_at dksX8_witnesses_1 9 rfl rfl)
theorem dX8_witnesses_33 : decode cX8_witnesses 33 = .ok (.invokevirtual 207, 3) := dk_182 0 207 (dk_at dksX8_witnesses_1 10 rfl rfl)
theorem dX8_witnesses_36 : decode cX8_witnesses 36 = .ok (.ifCond .ne 5, 3) := dk_154 0 5 (dk_at dksX8_witnesses_1 13 rfl rfl)
theorem dX8_witnesses_39 : decode cX8_witnesses 39 = .ok (.iconst 0, 1) := dk_3 (dk_at dksX8_witnesses_1 16 rfl rfl)
theorem dX8_witnesses_40 : decode cX8_witnesses 40 = .ok (.ireturn, 1) := dk_172 (dk_at dksX8_witnesses_1 17 rfl rfl)
theorem dX8_witnesses_41 : decode cX8_witnesses 41 = .ok (.iconst 1, 1) := dk_4 (dk_at dksX8_witnesses_1 18 rfl rfl)
theorem dX8_witnesses_42 : decode cX8_witnesses 42 = .ok (.istore_n 3, 1) := dk_62 (dk_at dksX8_witnesses_1 19 rfl rfl)
theorem dX8_witnesses_43 : decode cX8_witnesses 43 = .ok (.iload_n 3, 1) := dk_29 (dk_at dksX8_witnesses_1 20 rfl rfl)
theorem dX8_witnesses_44 : decode cX8_witnesses 44 = .ok (.bipush 9, 2) := dk_16 9 (dk_at dksX8_witnesses_1 21 rfl rfl)
theorem dX8_witnesses_46 : decode cX8_witnesses 46 = .ok (.if_icmp .gt 34, 3) := dk_163 0 34 (dk_at dksX8_witnesses_2 0 rfl rfl)
theorem dX8_witnesses_49 : decode cX8_witnesses 49 = .ok (.ldc2_w 448, 3) := dk_20 1 192 (dk_at dksX8_witnesses_2 3 rfl rfl)
theorem dX8_witnesses_52 : decode cX8_witnesses 52 = .ok (.iload_n 3, 1) := dk_29 (dk_at dksX8_witnesses_2 6 rfl rfl)
theorem dX8_witnesses_53 : decode cX8_witnesses 53 = .ok (.iload_n 1, 1) := dk_27 (dk_at dksX8_witnesses_2 7 rfl rfl)
theorem dX8_witnesses_54 : decode cX8_witnesses 54 = .ok (.invokestatic 444, 3) := dk_184 1 188 (dk_at dksX8_witnesses_2 8 rfl rfl)
theorem dX8_witnesses_57 : decode cX8_witnesses 57 = .ok (.lmul, 1) := dk_105 (dk_at dksX8_witnesses_2 11 rfl rfl)
theorem dX8_witnesses_58 : decode cX8_witnesses 58 = .ok (.iload_n 2, 1) := dk_28 (dk_at dksX8_witnesses_2 12 rfl rfl)
theorem dX8_witnesses_59 : decode cX8_witnesses 59 = .ok (.i2l, 1) := dk_133 (dk_at dksX8_witnesses_2 13 rfl rfl)
theorem dX8_witnesses_60 : decode cX8_witnesses 60 = .ok (.ldc2_w 448, 3) := dk_20 1 192 (dk_at dksX8_witnesses_2 14 rfl rfl)
theorem dX8_witnesses_63 : decode cX8_witnesses 63 = .ok (.iload_n 3, 1) := dk_29 (dk_at dksX8_witnesses_2 17 rfl rfl)
theorem dX8_witnesses_64 : decode cX8_witnesses 64 = .ok (.invokestatic 440, 3) := dk_184 1 184 (dk_at dksX8_witnesses_2 18 rfl rfl)
theorem dX8_witnesses_67 : decode cX8_witnesses 67 = .ok (.lmul, 1) := dk_105 (dk_at dksX8_witnesses_2 21 rfl rfl)
theorem dX8_witnesses_68 : decode cX8_witnesses 68 = .ok (.lcmp, 1) := dk_148 (dk_at dksX8_witnesses_2 22 rfl rfl)
theorem dX8_witnesses_69 : decode cX8_witnesses 69 = .ok (.ifCond .lt 5, 3) := dk_155 0 5 (dk_at dksX8_witnesses_3 0 rfl rfl)
theorem dX8_witnesses_72 : decode cX8_witnesses 72 = .ok (.iload_n 3, 1) := dk_29 (dk_at dksX8_witnesses_3 3 rfl rfl)
theorem dX8_witnesses_73 : decode cX8_witnesses 73 = .ok (.ireturn, 1) := dk_172 (dk_at dksX8_witnesses_3 4 rfl rfl)
theorem dX8_witnesses_74 : decode cX8_witnesses 74 = .ok (.iinc 3 2, 3) := dk_132 3 2 (dk_at dksX8_witnesses_3 5 rfl rfl)
theorem dX8_witnesses_77 : decode cX8_witnesses 77 = .ok (.goto (-34), 3) := dk_167 255 222 (dk_at dksX8_witnesses_3 8 rfl rfl)
theorem dX8_witnesses_80 : decode cX8_witnesses 80 = .ok (.iconst (-1), 1) := dk_2 (dk_at dksX8_witnesses_3 11 rfl rfl)
theorem dX8_witnesses_81 : decode cX8_witnesses 81 = .ok (.ireturn, 1) := dk_172 (dk_at dksX8_witnesses_3 12 rfl rfl)
abbrev cX8_loan : ByteArray := prog_26_method_100_code
def yX8_loan : MethodName := ⟨RX8, "loan", "(III)I"⟩
def dkwX8_loan_4 : List UInt8 := [133, 105, 20, 1, 199, 109, 97, 55, 4, 22, 4, 28, 133, 101, 55, 4, 132, 6, 1, 167, 255, 205, 2, 172]
abbrev dktX8_loan_4 : List UInt8 := dkwX8_loan_4 ++ []
def dkwX8_loan_3 : List UInt8 := [22, 4, 20, 1, 197, 148, 156, 0, 40, 22, 4, 9, 148, 157, 0, 6, 21, 6, 172, 22, 4, 22, 4, 29]
abbrev dktX8_loan_3 : List UInt8 := dkwX8_loan_3 ++ dktX8_loan_4
def dkwX8_loan_2 : List UInt8 := [182, 0, 207, 154, 0, 5, 3, 172, 27, 133, 55, 4, 3, 54, 6, 21, 6, 17, 2, 88, 163, 0, 49]
abbrev dktX8_loan_2 : List UInt8 := dkwX8_loan_2 ++ dktX8_loan_3
def dkwX8_loan_1 : List UInt8 := [184, 1, 34, 153, 0, 17, 29, 3, 16, 100, 184, 1, 34, 153, 0, 7, 4, 167, 0, 4, 3, 4, 4]
abbrev dktX8_loan_1 : List UInt8 := dkwX8_loan_1 ++ dktX8_loan_2
def dkwX8_loan_0 : List UInt8 := [42, 3, 181, 0, 3, 42, 27, 3, 17, 39, 15, 184, 1, 34, 153, 0, 28, 28, 3, 17, 3, 231]
abbrev dktX8_loan_0 : List UInt8 := dkwX8_loan_0 ++ dktX8_loan_1
theorem dksX8_loan_0 : cX8_loan.data.toList.drop 0 = dktX8_loan_0 := by decide +kernel
theorem dksX8_loan_1 : cX8_loan.data.toList.drop 22 = dktX8_loan_1 := dk_seg dksX8_loan_0 22 rfl rfl
theorem dksX8_loan_2 : cX8_loan.data.toList.drop 45 = dktX8_loan_2 := dk_seg dksX8_loan_1 23 rfl rfl
theorem dksX8_loan_3 : cX8_loan.data.toList.drop 68 = dktX8_loan_3 := dk_seg dksX8_loan_2 23 rfl rfl
theorem dksX8_loan_4 : cX8_loan.data.toList.drop 92 = dktX8_loan_4 := dk_seg dksX8_loan_3 24 rfl rfl
theorem dX8_loan_0 : decode cX8_loan 0 = .ok (.aload_n 0, 1) := dk_42 (dk_at dksX8_loan_0 0 rfl rfl)
theorem dX8_loan_1 : decode cX8_loan 1 = .ok (.iconst 0, 1) := dk_3 (dk_at dksX8_loan_0 1 rfl rfl)
theorem dX8_loan_2 : decode cX8_loan 2 = .ok (.putfield 3, 3) := dk_181 0 3 (dk_at dksX8_loan_0 2 rfl rfl)
theorem dX8_loan_5 : decode cX8_loan 5 = .ok (.aload_n 0, 1) := dk_42 (dk_at dksX8_loan_0 5 rfl rfl)
theorem dX8_loan_6 : decode cX8_loan 6 = .ok (.iload_n 1, 1) := dk_27 (dk_at dksX8_loan_0 6 rfl rfl)
theorem dX8_loan_7 : decode cX8_loan 7 = .ok (.iconst 0, 1) := dk_3 (dk_at dksX8_loan_0 7 rfl rfl)
theorem dX8_loan_8 : decode cX8_loan 8 = .ok (.sipush 9999, 3) := dk_17 39 15 (dk_at dksX8_loan_0 8 rfl rfl)
theorem dX8_loan_11 : decode cX8_loan 11 = .ok (.invokestatic 290, 3) := dk_184 1 34 (dk_at dksX8_loan_0 11 rfl rfl)
theorem dX8_loan_14 : decode cX8_loan 14 = .ok (.ifCond .eq 28, 3) := dk_153 0 28 (dk_at dksX8_loan_0 14 rfl rfl)
theorem dX8_loan_17 : decode cX8_loan 17 = .ok (.iload_n 2, 1) := dk_28 (dk_at dksX8_loan_0 17 rfl rfl)
theorem dX8_loan_18 : decode cX8_loan 18 = .ok (.iconst 0, 1) := dk_3 (dk_at dksX8_loan_0 18 rfl rfl)
theorem dX8_loan_19 : decode cX8_loan 19 = .ok (.sipush 999, 3) := dk_17 3 231 (dk_at dksX8_loan_0 19 rfl rfl)
theorem dX8_loan_22 : decode cX8_loan 22 = .ok (.invokestatic 290, 3) := dk_184 1 34 (dk_at dksX8_loan_1 0 rfl rfl)
theorem dX8_loan_25 : decode cX8_loan 25 = .ok (.ifCond .eq 17, 3) := dk_153 0 17 (dk_at dksX8_loan_1 3 rfl rfl)
theorem dX8_loan_28 : decode cX8_loan 28 = .ok (.iload_n 3, 1) := dk_29 (dk_at dksX8_loan_1 6 rfl rfl)
theorem dX8_loan_29 : decode cX8_loan 29 = .ok (.iconst 0, 1) := dk_3 (dk_at dksX8_loan_1 7 rfl rfl)
theorem dX8_loan_30 : decode cX8_loan 30 = .ok (.bipush 100, 2) := dk_16 100 (dk_at dksX8_loan_1 8 rfl rfl)
theorem dX8_loan_32 : decode cX8_loan 32 = .ok (.invokestatic 290, 3) := dk_184 1 34 (dk_at dksX8_loan_1 10 rfl rfl)
theorem dX8_loan_35 : decode cX8_loan 35 = .ok (.ifCond .eq 7, 3) := dk_153 0 7 (dk_at dksX8_loan_1 13 rfl rfl)
theorem dX8_loan_38 : decode cX8_loan 38 = .ok (.iconst 1, 1) := dk_4 (dk_at dksX8_loan_1 16 rfl rfl)
theorem dX8_loan_39 : decode cX8_loan 39 = .ok (.goto 4, 3) := dk_167 0 4 (dk_at dksX8_loan_1 17 rfl rfl)
theorem dX8_loan_42 : decode cX8_loan 42 = .ok (.iconst 0, 1) := dk_3 (dk_at dksX8_loan_1 20 rfl rfl)
theorem dX8_loan_43 : decode cX8_loan 43 = .ok (.iconst 1, 1) := dk_4 (dk_at dksX8_loan_1 21 rfl rfl)
theorem dX8_loan_44 : decode cX8_loan 44 = .ok (.iconst 1, 1) := dk_4 (dk_at dksX8_loan_1 22 rfl rfl)
theorem dX8_loan_45 : decode cX8_loan 45 = .ok (.invokevirtual 207, 3) := dk_182 0 207 (dk_at dksX8_loan_2 0 rfl rfl)
theorem dX8_loan_48 : decode cX8_loan 48 = .ok (.ifCond .ne 5, 3) := dk_154 0 5 (dk_at dksX8_loan_2 3 rfl rfl)
theorem dX8_loan_51 : decode cX8_loan 51 = .ok (.iconst 0, 1) := dk_3 (dk_at dksX8_loan_2 6 rfl rfl)
theorem dX8_loan_52 : decode cX8_loan 52 = .ok (.ireturn, 1) := dk_172 (dk_at dksX8_loan_2 7 rfl rfl)
theorem dX8_loan_53 : decode cX8_loan 53 = .ok (.iload_n 1, 1) := dk_27 (dk_at dksX8_loan_2 8 rfl rfl)
theorem dX8_loan_54 : decode cX8_loan 54 = .ok (.i2l, 1) := dk_133 (dk_at dksX8_loan_2 9 rfl rfl)
theorem dX8_loan_55 : decode cX8_loan 55 = .ok (.lstore 4, 2) := dk_55 4 (dk_at dksX8_loan_2 10 rfl rfl)
theorem dX8_loan_57 : decode cX8_loan 57 = .ok (.iconst 0, 1) := dk_3 (dk_at dksX8_loan_2 12 rfl rfl)
theorem dX8_loan_58 : decode cX8_loan 58 = .ok (.istore 6, 2) := dk_54 6 (dk_at dksX8_loan_2 13 rfl rfl)
theorem dX8_loan_60 : decode cX8_loan 60 = .ok (.iload 6, 2) := dk_21 6 (dk_at dksX8_loan_2 15 rfl rfl)
theorem dX8_loan_62 : decode cX8_loan 62 = .ok (.sipush 600, 3) := dk_17 2 88 (dk_at dksX8_loan_2 17 rfl rfl)
theorem dX8_loan_65 : decode cX8_loan 65 = .ok (.if_icmp .gt 49, 3) := dk_163 0 49 (dk_at dksX8_loan_2 20 rfl rfl)
theorem dX8_loan_68 : decode cX8_loan 68 = .ok (.lload 4, 2) := dk_22 4 (dk_at dksX8_loan_3 0 rfl rfl)
theorem dX8_loan_70 : decode cX8_loan 70 = .ok (.ldc2_w 453, 3) := dk_20 1 197 (dk_at dksX8_loan_3 2 rfl rfl)
theorem dX8_loan_73 : decode cX8_loan 73 = .ok (.lcmp, 1) := dk_148 (dk_at dksX8_loan_3 5 rfl rfl)
theorem dX8_loan_74 : decode cX8_loan 74 = .ok (.ifCond .ge 40, 3) := dk_156 0 40 (dk_at dksX8_loan_3 6 rfl rfl)
theorem dX8_loan_77 : decode cX8_loan 77 = .ok (.lload 4, 2) := dk_22 4 (dk_at dksX8_loan_3 9 rfl rfl)
theorem dX8_loan_79 : decode cX8_loan 79 = .ok (.lconst 0, 1) := dk_9 (dk_at dksX8_loan_3 11 rfl rfl)
theorem dX8_loan_80 : decode cX8_loan 80 = .ok (.lcmp, 1) := dk_148 (dk_at dksX8_loan_3 12 rfl rfl)
theorem dX8_loan_81 : decode cX8_loan 81 = .ok (.ifCond .gt 6, 3) := dk_157 0 6 (dk_at dksX8_loan_3 13 rfl rfl)
theorem dX8_loan_84 : decode cX8_loan 84 = .ok (.iload 6, 2) := dk_21 6 (dk_at dksX8_loan_3 16 rfl rfl)
theorem dX8_loan_86 : decode cX8_loan 86 = .ok (.ireturn, 1) := dk_172 (dk_at dksX8_loan_3 18 rfl rfl)
theorem dX8_loan_87 : decode cX8_loan 87 = .ok (.lload 4, 2) := dk_22 4 (dk_at dksX8_loan_3 19 rfl rfl)
theorem dX8_loan_89 : decode cX8_loan 89 = .ok (.lload 4, 2) := dk_22 4 (dk_at dksX8_loan_3 21 rfl rfl)
theorem dX8_loan_91 : decode cX8_loan 91 = .ok (.iload_n 3, 1) := dk_29 (dk_at dksX8_loan_3 23 rfl rfl)
theorem dX8_loan_92 : decode cX8_loan 92 = .ok (.i2l, 1) := dk_133 (dk_at dksX8_loan_4 0 rfl rfl)
theorem dX8_loan_93 : decode cX8_loan 93 = .ok (.lmul, 1) := dk_105 (dk_at dksX8_loan_4 1 rfl rfl)
theorem dX8_loan_94 : decode cX8_loan 94 = .ok (.ldc2_w 455, 3) := dk_20 1 199 (dk_at dksX8_loan_4 2 rfl rfl)
theorem dX8_loan_97 : decode cX8_loan 97 = .ok (.ldiv, 1) := dk_109 (dk_at dksX8_loan_4 5 rfl rfl)
theorem dX8_loan_98 : decode cX8_loan 98 = .ok (.ladd, 1) := dk_97 (dk_at dksX8_loan_4 6 rfl rfl)
theorem dX8_loan_99 : decode cX8_loan 99 = .ok (.lstore 4, 2) := dk_55 4 (dk_at dksX8_loan_4 7 rfl rfl)
theorem dX8_loan_101 : decode cX8_loan 101 = .ok (.lload 4, 2) := dk_22 4 (dk_at dksX8_loan_4 9 rfl rfl)
theorem dX8_loan_103 : decode cX8_loan 103 = .ok (.iload_n 2, 1) := dk_28 (dk_at dksX8_loan_4 11 rfl rfl)
theorem dX8_loan_104 : decode cX8_loan 104 = .ok (.i2l, 1) := dk_133 (dk_at dksX8_loan_4 12 rfl rfl)
theorem dX8_loan_105 : decode cX8_loan 105 = .ok (.lsub, 1) := dk_101 (dk_at dksX8_loan_4 13 rfl rfl)
theorem dX8_loan_106 : decode cX8_loan 106 = .ok (.lstore 4, 2) := dk_55 4 (dk_at dksX8_loan_4 14 rfl rfl)
theorem dX8_loan_108 : decode cX8_loan 108 = .ok (.iinc 6 1, 3) := dk_132 6 1 (dk_at dksX8_loan_4 16 rfl rfl)
theorem dX8_loan_111 : decode cX8_loan 111 = .ok (.goto (-51), 3) := dk_167 255 205 (dk_at dksX8_loan_4 19 rfl rfl)
theorem dX8_loan_114 : decode cX8_loan 114 = .ok (.iconst (-1), 1) := dk_2 (dk_at dksX8_loan_4 22 rfl rfl)
theorem dX8_loan_115 : decode cX8_loan 115 = .ok (.ireturn, 1) := dk_172 (dk_at dksX8_loan_4 23 rfl rfl)
abbrev cX8_land : ByteArray := prog_26_method_101_code
def yX8_land : MethodName := ⟨RX8, "land", "(II)I"⟩
def dkwX8_land_6 : List UInt8 := [42, 180, 0, 99, 21, 4, 92, 46, 4, 96, 79, 132, 3, 1, 167, 255, 156, 42, 180, 0, 99, 27, 46, 172]
abbrev dktX8_land_6 : List UInt8 := dkwX8_land_6 ++ []
def dkwX8_land_5 : List UInt8 := [21, 5, 46, 96, 104, 164, 0, 7, 21, 5, 54, 4, 132, 5, 1, 167, 255, 190, 21, 4, 2, 159, 0, 14]
abbrev dktX8_land_5 : List UInt8 := dkwX8_land_5 ++ dktX8_land_6
def dkwX8_land_4 : List UInt8 := [182, 1, 121, 4, 42, 180, 0, 99, 21, 4, 46, 96, 104, 42, 21, 4, 182, 1, 121, 4, 42, 180, 0, 99]
abbrev dktX8_land_4 : List UInt8 := dkwX8_land_4 ++ dktX8_land_5
def dkwX8_land_3 : List UInt8 := [180, 0, 172, 162, 0, 63, 42, 21, 5, 182, 1, 121, 158, 0, 48, 21, 4, 2, 159, 0, 38, 42, 21, 5]
abbrev dktX8_land_3 : List UInt8 := dkwX8_land_3 ++ dktX8_land_4
def dkwX8_land_2 : List UInt8 := [3, 79, 132, 3, 1, 167, 255, 241, 3, 62, 29, 28, 162, 0, 101, 2, 54, 4, 3, 54, 5, 21, 5, 42]
abbrev dktX8_land_2 : List UInt8 := dkwX8_land_2 ++ dktX8_land_3
def dkwX8_land_1 : List UInt8 := [182, 0, 207, 154, 0, 5, 3, 172, 42, 182, 1, 74, 3, 62, 29, 8, 162, 0, 16, 42, 180, 0, 99, 29]
abbrev dktX8_land_1 : List UInt8 := dkwX8_land_1 ++ dktX8_land_2
def dkwX8_land_0 : List UInt8 := [42, 3, 181, 0, 3, 42, 27, 4, 182, 1, 151, 153, 0, 19, 42, 28, 3, 16, 99, 184, 1, 34, 5, 4]
abbrev dktX8_land_0 : List UInt8 := dkwX8_land_0 ++ dktX8_land_1
theorem dksX8_land_0 : cX8_land.data.toList.drop 0 = dktX8_land_0 := by decide +kernel
theorem dksX8_land_1 : cX8_land.data.toList.drop 24 = dktX8_land_1 := dk_seg dksX8_land_0 24 rfl rfl
theorem dksX8_land_2 : cX8_land.data.toList.drop 48 = dktX8_land_2 := dk_seg dksX8_land_1 24 rfl rfl
theorem dksX8_land_3 : cX8_land.data.toList.drop 72 = dktX8_land_3 := dk_seg dksX8_land_2 24 rfl rfl
theorem dksX8_land_4 : cX8_land.data.toList.drop 96 = dktX8_land_4 := dk_seg dksX8_land_3 24 rfl rfl
theorem dksX8_land_5 : cX8_land.data.toList.drop 120 = dktX8_land_5 := dk_seg dksX8_land_4 24 rfl rfl
theorem dksX8_land_6 : cX8_land.data.toList.drop 144 = dktX8_land_6 := dk_seg dksX8_land_5 24 rfl rfl
theorem dX8_land_0 : decode cX8_land 0 = .ok (.aload_n 0, 1) := dk_42 (dk_at dksX8_land_0 0 rfl rfl)
theorem dX8_land_1 : decode cX8_land 1 = .ok (.iconst 0, 1) := dk_3 (dk_at dksX8_land_0 1 rfl rfl)
theorem dX8_land_2 : decode cX8_land 2 = .ok (.putfield 3, 3) := dk_181 0 3 (dk_at dksX8_land_0 2 rfl rfl)
theorem dX8_land_5 : decode cX8_land 5 = .ok (.aload_n 0, 1) := dk_42 (dk_at dksX8_land_0 5 rfl rfl)
theorem dX8_land_6 : decode cX8_land 6 = .ok (.iload_n 1, 1) := dk_27 (dk_at dksX8_land_0 6 rfl rfl)
theorem dX8_land_7 : decode cX8_land 7 = .ok (.iconst 1, 1) := dk_4 (dk_at dksX8_land_0 7 rfl rfl)
theorem dX8_land_8 : decode cX8_land 8 = .ok (.invokevirtual 407, 3) := dk_182 1 151 (dk_at dksX8_land_0 8 rfl rfl)
theorem dX8_land_11 : decode cX8_land 11 = .ok (.ifCond .eq 19, 3) := dk_153 0 19 (dk_at dksX8_land_0 11 rfl rfl)
theorem dX8_land_14 : decode cX8_land 14 = .ok (.aload_n 0, 1) := dk_42 (dk_at dksX8_land_0 14 rfl rfl)
theorem dX8_land_15 : decode cX8_land 15 = .ok (.iload_n 2, 1) := dk_28 (dk_at dksX8_land_0 15 rfl rfl)
theorem dX8_land_16 : decode cX8_land 16 = .ok (.iconst 0, 1) := dk_3 (dk_at dksX8_land_0 16 rfl rfl)
theorem dX8_land_17 : decode cX8_land 17 = .ok (.bipush 99, 2) := dk_16 99 (dk_at dksX8_land_0 17 rfl rfl)
theorem dX8_land_19 : decode cX8_land 19 = .ok (.invokestatic 290, 3) := dk_184 1 34 (dk_at dksX8_land_0 19 rfl rfl)
theorem dX8_land_22 : decode cX8_land 22 = .ok (.iconst 2, 1) := dk_5 (dk_at dksX8_land_0 22 rfl rfl)
theorem dX8_land_23 : decode cX8_land 23 = .ok (.iconst 1, 1) := dk_4 (dk_at dksX8_land_0 23 rfl rfl)
theorem dX8_land_24 : decode cX8_land 24 = .ok (.invokevirtual 207, 3) := dk_182 0 207 (dk_at dksX8_land_1 0 rfl rfl)
theorem dX8_land_27 : decode cX8_land 27 = .ok (.ifCond .ne 5, 3) := dk_154 0 5 (dk_at dksX8_land_1 3 rfl rfl)
theorem dX8_land_30 : decode cX8_land 30 = .ok (.iconst 0, 1) := dk_3 (dk_at dksX8_land_1 6 rfl rfl)
theorem dX8_land_31 : decode cX8_land 31 = .ok (.ireturn, 1) := dk_172 (dk_at dksX8_land_1 7 rfl rfl)
theorem dX8_land_32 : decode cX8_land 32 = .ok (.aload_n 0, 1) := dk_42 (dk_at dksX8_land_1 8 rfl rfl)
theorem dX8_land_33 : decode cX8_land 33 = .ok (.invokevirtual 330, 3) := dk_182 1 74 (dk_at dksX8_land_1 9 rfl rfl)
theorem dX8_land_36 : decode cX8_land 36 = .ok (.iconst 0, 1) := dk_3 (dk_at dksX8_land_1 12 rfl rfl)
theorem dX8_land_37 : decode cX8_land 37 = .ok (.istore_n 3, 1) := dk_62 (dk_at dksX8_land_1 13 rfl rfl)
theorem dX8_land_38 : decode cX8_land 38 = .ok (.iload_n 3, 1) := dk_29 (dk_at dksX8_land_1 14 rfl rfl)
theorem dX8_land_39 : decode cX8_land 39 = .ok (.iconst 5, 1) := dk_8 (dk_at dksX8_land_1 15 rfl rfl)
theorem dX8_land_40 : decode cX8_land 40 = .ok (.if_icmp .ge 16, 3) := dk_162 0 16 (dk_at dksX8_land_1 16 rfl rfl)
theorem dX8_land_43 : decode cX8_land 43 = .ok (.aload_n 0, 1) := dk_42 (dk_at dksX8_land_1 19 rfl rfl)
theorem dX8_land_44 : decode cX8_land 44 = .ok (.getfield 99, 3) := dk_180 0 99 (dk_at dksX8_land_1 20 rfl rfl)
theorem dX8_land_47 : decode cX8_land 47 = .ok (.iload_n 3, 1) := dk_29 (dk_at dksX8_land_1 23 rfl rfl)
theorem dX8_land_48 : decode cX8_land 48 = .ok (.iconst 0, 1) := dk_3 (dk_at dksX8_land_2 0 rfl rfl)
theorem dX8_land_49 : decode cX8_land 49 = .ok (.iastore, 1) := dk_79 (dk_at dksX8_land_2 1 rfl rfl)
theorem dX8_land_50 : decode cX8_land 50 = .ok (.iinc 3 1, 3) := dk_132 3 1 (dk_at dksX8_land_2 2 rfl rfl)
theorem dX8_land_53 : decode cX8_land 53 = .ok (.goto (-15), 3) := dk_167 255 241 (dk_at dksX8_land_2 5 rfl rfl)
theorem dX8_land_56 : decode cX8_land 56 = .ok (.iconst 0, 1) := dk_3 (dk_at dksX8_land_2 8 rfl rfl)
theorem dX8_land_57 : decode cX8_land 57 = .ok (.istore_n 3, 1) := dk_62 (dk_at dksX8_land_2 9 rfl rfl)
theorem dX8_land_58 : decode cX8_land 58 = .ok (.iload_n 3, 1) := dk_29 (dk_at dksX8_land_2 10 rfl rfl)
theorem dX8_land_59 : decode cX8_land 59 = .ok (.iload_n 2, 1) := dk_28 (dk_at dksX8_land_2 11 rfl rfl)
theorem dX8_land_60 : decode cX8_land 60 = .ok (.if_icmp .ge 101, 3) := dk_162 0 101 (dk_at dksX8_land_2 12 rfl rfl)
theorem dX8_land_63 : decode cX8_land 63 = .ok (.iconst (-1), 1) := dk_2 (dk_at dksX8_land_2 15 rfl rfl)
theorem dX8_land_64 : decode cX8_land 64 = .ok (.istore 4, 2) := dk_54 4 (dk_at dksX8_land_2 16 rfl rfl)
theorem dX8_land_66 : decode cX8_land 66 = .ok (.iconst 0, 1) := dk_3 (dk_at dksX8_land_2 18 rfl rfl)
theorem dX8_land_67 : decode cX8_land 67 = .ok (.istore 5, 2) := dk_54 5 (dk_at dksX8_land_2 19 rfl rfl)
theorem dX8_land_69 : decode cX8_land 69 = .ok (.iload 5, 2) := dk_21 5 (dk_at dksX8_land_2 21 rfl rfl)
theorem dX8_land_71 : decode cX8_land 71 = .ok (.aload_n 0, 1) := dk_42 (dk_at dksX8_land_2 23 rfl rfl)
theorem dX8_land_72 : decode cX8_land 72 = .ok (.getfield 172, 3) := dk_180 0 172 (dk_at dksX8_land_3 0 rfl rfl)
theorem dX8_land_75 : decode cX8_land 75 = .ok (.if_icmp .ge 63, 3) := dk_162 0 63 (dk_at dksX8_land_3 3 rfl rfl)
theorem dX8_land_78 : decode cX8_land 78 = .ok (.aload_n 0, 1) := dk_42 (dk_at dksX8_land_3 6 rfl rfl)
theorem dX8_land_79 : decode cX8_land 79 = .ok (.iload 5, 2) := dk_21 5 (dk_at dksX8_land_3 7 rfl rfl)
theorem dX8_land_81 : decode cX8_land 81 = .ok (.invokevirtual 377, 3) := dk_182 1 121 (dk_at dksX8_land_3 9 rfl rfl)
theorem dX8_land_84 : decode cX8_land 84 = .ok (.ifCond .le 48, 3) := dk_158 0 48 (dk_at dksX8_land_3 12 rfl rfl)
theorem dX8_land_87 : decode cX8_land 87 = .ok (.iload 4, 2) := dk_21 4 (dk_at dksX8_land_3 15 rfl rfl)
theorem dX8_land_89 : decode cX8_land 89 = .ok (.iconst (-1), 1) := dk_2 (dk_at dksX8_land_3 17 rfl rfl)
theorem dX8_land_90 : decode cX8_land 90 = .ok (.if_icmp .eq 38, 3) := dk_159 0 38 (dk_at dksX8_land_3 18 rfl rfl)
theorem dX8_land_93 : decode cX8_land 93 = .ok (.aload_n 0, 1) := dk_42 (dk_at dksX8_land_3 21 rfl rfl)
theorem dX8_land_94 : decode cX8_land 94 = .ok (.iload 5, 2) := dk_21 5 (dk_at dksX8_land_3 22 rfl rfl)
theorem dX8_land_96 : decode cX8_land 96 = .ok (.invokevirtual 377, 3) := dk_182 1 121 (dk_at dksX8_land_4 0 rfl rfl)
theorem dX8_land_99 : decode cX8_land 99 = .ok (.iconst 1, 1) := dk_4 (dk_at dksX8_land_4 3 rfl rfl)
theorem dX8_land_100 : decode cX8_land 100 = .ok (.aload_n 0, 1) := dk_42 (dk_at dksX8_land_4 4 rfl rfl)
theorem dX8_land_101 : decode cX8_land 101 = .ok (.getfield 99, 3) := dk_180 0 99 (dk_at dksX8_land_4 5 rfl rfl)
theorem dX8_land_104 : decode cX8_land 104 = .ok (.iload 4, 2) := dk_21 4 (dk_at dksX8_land_4 8 rfl rfl)
theorem dX8_land_106 : decode cX8_land 106 = .ok (.iaload, 1) := dk_46 (dk_at dksX8_land_4 10 rfl rfl)
theorem dX8_land_107 : decode cX8_land 107 = .ok (.iadd, 1) := dk_96 (dk_at dksX8_land_4 11 rfl rfl)
theorem dX8_land_108 : decode cX8_land 108 = .ok (.imul, 1) := dk_104 (dk_at dksX8_land_4 12 rfl rfl)
theorem dX8_land_109 : decode cX8_land 109 = .ok (.aload_n 0, 1) := dk_42 (dk_at dksX8_land_4 13 rfl rfl)
theorem dX8_land_110 : decode cX8_land 110 = .ok (.iload 4, 2) := dk_21 4 (dk_at dksX8_land_4 14 rfl rfl)
theorem dX8_land_112 : decode cX8_land 112 = .ok (.invokevirtual 377, 3) := dk_182 1 121 (dk_at dksX8_land_4 16 rfl rfl)
theorem dX8_land_115 : decode cX8_land 115 = .ok (.iconst 1, 1) := dk_4 (dk_at dksX8_land_4 19 rfl rfl)
theorem dX8_land_116 : decode cX8_land 116 = .ok (.aload_n 0, 1) := dk_42 (dk_at dksX8_land_4 20 rfl rfl)
theorem dX8_land_117 : decode cX8_land 117 = .ok (.getfield 99, 3) := dk_180 0 99 (dk_at dksX8_land_4 21 rfl rfl)
theorem dX8_land_120 : decode cX8_land 120 = .ok (.iload 5, 2) := dk_21 5 (dk_at dksX8_land_5 0 rfl rfl)
theorem dX8_land_122 : decode cX8_land 122 = .ok (.iaload, 1) := dk_46 (dk_at dksX8_land_5 2 rfl rfl)
theorem dX8_land_123 : decode cX8_land 123 = .ok (.iadd, 1) := dk_96 (dk_at dksX8_land_5 3 rfl rfl)
theorem dX8_land_124 : decode cX8_land 124 = .ok (.imul, 1) := dk_104 (dk_at dksX8_land_5 4 rfl rfl)
theorem dX8_land_125 : decode cX8_land 125 = .ok (.if_icmp .le 7, 3) := dk_164 0 7 (dk_at dksX8_land_5 5 rfl rfl)
theorem dX8_land_128 : decode cX8_land 128 = .ok (.iload 5, 2) := dk_21 5 (dk_at dksX8_land_5 8 rfl rfl)
theorem dX8_land_130 : decode cX8_land 130 = .ok (.istore 4, 2) := dk_54 4 (dk_at dksX8_land_5 10 rfl rfl)
theorem dX8_land_132 : decode cX8_land 132 = .ok (.iinc 5 1, 3) := dk_132 5 1 (dk_at dksX8_land_5 12 rfl rfl)
theorem dX8_land_135 : decode cX8_land 135 = .ok (.goto (-66), 3) := dk_167 255 190 (dk_at dksX8_land_5 15 rfl rfl)
theorem dX8_land_138 : decode cX8_land 138 = .ok (.iload 4, 2) := dk_21 4 (dk_at dksX8_land_5 18 rfl rfl)
theorem dX8_land_140 : decode cX8_land 140 = .ok (.iconst (-1), 1) := dk_2 (dk_at dksX8_land_5 20 rfl rfl)
theorem dX8_land_141 : decode cX8_land 141 = .ok (.if_icmp .eq 14, 3) := dk_159 0 14 (dk_at dksX8_land_5 21 rfl rfl)
theorem dX8_land_144 : decode cX8_land 144 = .ok (.aload_n 0, 1) := dk_42 (dk_at dksX8_land_6 0 rfl rfl)
theorem dX8_land_145 : decode cX8_land 145 = .ok (.getfield 99, 3) := dk_180 0 99 (dk_at dksX8_land_6 1 rfl rfl)
theorem dX8_land_148 : decode cX8_land 148 = .ok (.iload 4, 2) := dk_21 4 (dk_at dksX8_land_6 4 rfl rfl)
theorem dX8_land_150 : decode cX8_land 150 = .ok (.dup2, 1) := dk_92 (dk_at dksX8_land_6 6 rfl rfl)
theorem dX8_land_151 : decode cX8_land 151 = .ok (.iaload, 1) := dk_46 (dk_at dksX8_land_6 7 rfl rfl)
theorem dX8_land_152 : decode cX8_land 152 = .ok (.iconst 1, 1) := dk_4 (dk_at dksX8_land_6 8 rfl rfl)
theorem dX8_land_153 : decode cX8_land 153 = .ok (.iadd, 1) := dk_96 (dk_at dksX8_land_6 9 rfl rfl)
theorem dX8_land_154 : decode cX8_land 154 = .ok (.iastore, 1) := dk_79 (dk_at dksX8_land_6 10 rfl rfl)
theorem dX8_land_155 : decode cX8_land 155 = .ok (.iinc 3 1, 3) := dk_132 3 1 (dk_at dksX8_land_6 11 rfl rfl)
theorem dX8_land_158 : decode cX8_land 158 = .ok (.goto (-100), 3) := dk_167 255 156 (dk_at dksX8_land_6 14 rfl rfl)
theorem dX8_land_161 : decode cX8_land 161 = .ok (.aload_n 0, 1) := dk_42 (dk_at dksX8_land_6 17 rfl rfl)
theorem dX8_land_162 : decode cX8_land 162 = .ok (.getfield 99, 3) := dk_180 0 99 (dk_at dksX8_land_6 18 rfl rfl)
theorem dX8_land_165 : decode cX8_land 165 = .ok (.iload_n 1, 1) := dk_27 (dk_at dksX8_land_6 21 rfl rfl)
theorem dX8_land_166 : decode cX8_land 166 = .ok (.iaload, 1) := dk_46 (dk_at dksX8_land_6 22 rfl rfl)
theorem dX8_land_167 : decode cX8_land 167 = .ok (.ireturn, 1) := dk_172 (dk_at dksX8_land_6 23 rfl rfl)
abbrev cX8_bids : ByteArray := prog_26_method_104_code
def yX8_bids : MethodName := ⟨RX8, "bids", "(IIII)I"⟩
def dkwX8_bids_8 : List UInt8 := [21, 6, 16, 100, 112, 21, 6, 16, 100, 108, 29, 184, 1, 201, 96, 172]
abbrev dktX8_bids_8 : List UInt8 := dkwX8_bids_8 ++ []
def dkwX8_bids_7 : List UInt8 := [21, 6, 2, 160, 0, 7, 3, 167, 0, 32, 21, 6, 16, 100, 108, 21, 6, 16, 100, 112, 28, 184, 1, 201]
abbrev dktX8_bids_7 : List UInt8 := dkwX8_bids_7 ++ dktX8_bids_8
def dkwX8_bids_6 : List UInt8 := [167, 255, 185, 21, 4, 154, 0, 8, 21, 5, 167, 0, 53, 21, 4, 4, 160, 0, 8, 21, 6, 167, 0, 42]
abbrev dktX8_bids_6 : List UInt8 := dkwX8_bids_6 ++ dktX8_bids_7
def dkwX8_bids_5 : List UInt8 := [21, 7, 27, 4, 96, 108, 104, 21, 7, 27, 4, 96, 112, 96, 167, 0, 5, 21, 6, 54, 6, 132, 7, 1]
abbrev dktX8_bids_5 : List UInt8 := dkwX8_bids_5 ++ dktX8_bids_6
def dkwX8_bids_4 : List UInt8 := [27, 28, 29, 184, 1, 204, 154, 0, 6, 167, 0, 35, 132, 5, 1, 21, 6, 2, 160, 0, 22, 16, 100]
abbrev dktX8_bids_4 : List UInt8 := dkwX8_bids_4 ++ dktX8_bids_5
def dkwX8_bids_3 : List UInt8 := [21, 7, 27, 4, 96, 27, 4, 96, 104, 162, 0, 65, 21, 7, 27, 4, 96, 108, 21, 7, 27, 4, 96, 112]
abbrev dktX8_bids_3 : List UInt8 := dkwX8_bids_3 ++ dktX8_bids_4
def dkwX8_bids_2 : List UInt8 := [167, 0, 4, 3, 4, 4, 182, 0, 207, 154, 0, 5, 3, 172, 3, 54, 5, 2, 54, 6, 3, 54, 7]
abbrev dktX8_bids_2 : List UInt8 := dkwX8_bids_2 ++ dktX8_bids_3
def dkwX8_bids_1 : List UInt8 := [153, 0, 27, 29, 3, 16, 99, 184, 1, 34, 153, 0, 17, 21, 4, 3, 5, 184, 1, 34, 153, 0, 7, 4]
abbrev dktX8_bids_1 : List UInt8 := dkwX8_bids_1 ++ dktX8_bids_2
def dkwX8_bids_0 : List UInt8 := [42, 3, 181, 0, 3, 42, 27, 3, 16, 20, 184, 1, 34, 153, 0, 37, 28, 3, 16, 99, 184, 1, 34]
abbrev dktX8_bids_0 : List UInt8 := dkwX8_bids_0 ++ dktX8_bids_1
theorem dksX8_bids_0 : cX8_bids.data.toList.drop 0 = dktX8_bids_0 := by decide +kernel
theorem dksX8_bids_1 : cX8_bids.data.toList.drop 23 = dktX8_bids_1 := dk_seg dksX8_bids_0 23 rfl rfl
theorem dksX8_bids_2 : cX8_bids.data.toList.drop 47 = dktX8_bids_2 := dk_seg dksX8_bids_1 24 rfl rfl
theorem dksX8_bids_3 : cX8_bids.data.toList.drop 70 = dktX8_bids_3 := dk_seg dksX8_bids_2 23 rfl rfl
theorem dksX8_bids_4 : cX8_bids.data.toList.drop 94 = dktX8_bids_4 := dk_seg dksX8_bids_3 24 rfl rfl
theorem dksX8_bids_5 : cX8_bids.data.toList.drop 117 = dktX8_bids_5 := dk_seg dksX8_bids_4 23 rfl rfl
theorem dksX8_bids_6 : cX8_bids.data.toList.drop 141 = dktX8_bids_6 := dk_seg dksX8_bids_5 24 rfl rfl
theorem dksX8_bids_7 : cX8_bids.data.toList.drop 165 = dktX8_bids_7 := dk_seg dksX8_bids_6 24 rfl rfl
theorem dksX8_bids_8 : cX8_bids.data.toList.drop 189 = dktX8_bids_8 := dk_seg dksX8_bids_7 24 rfl rfl
theorem dX8_bids_0 : decode cX8_bids 0 = .ok (.aload_n 0, 1) := dk_42 (dk_at dksX8_bids_0 0 rfl rfl)
theorem dX8_bids_1 : decode cX8_bids 1 = .ok (.iconst 0, 1) := dk_3 (dk_at dksX8_bids_0 1 rfl rfl)
theorem dX8_bids_2 : decode cX8_bids 2 = .ok (.putfield 3, 3) := dk_181 0 3 (dk_at dksX8_bids_0 2 rfl rfl)
theorem dX8_bids_5 : decode cX8_bids 5 = .ok (.aload_n 0, 1) := dk_42 (dk_at dksX8_bids_0 5 rfl rfl)
theorem dX8_bids_6 : decode cX8_bids 6 = .ok (.iload_n 1, 1) := dk_27 (dk_at dksX8_bids_0 6 rfl rfl)
theorem dX8_bids_7 : decode cX8_bids 7 = .ok (.iconst 0, 1) := dk_3 (dk_at dksX8_bids_0 7 rfl rfl)
theorem dX8_bids_8 : decode cX8_bids 8 = .ok (.bipush 20, 2) := dk_16 20 (dk_at dksX8_bids_0 8 rfl rfl)
theorem dX8_bids_10 : decode cX8_bids 10 = .ok (.invokestatic 290, 3) := dk_184 1 34 (dk_at dksX8_bids_0 10 rfl rfl)
theorem dX8_bids_13 : decode cX8_bids 13 = .ok (.ifCond .eq 37, 3) := dk_153 0 37 (dk_at dksX8_bids_0 13 rfl rfl)
theorem dX8_bids_16 : decode cX8_bids 16 = .ok (.iload_n 2, 1) := dk_28 (dk_at dksX8_bids_0 16 rfl rfl)
theorem dX8_bids_17 : decode cX8_bids 17 = .ok (.iconst 0, 1) := dk_3 (dk_at dksX8_bids_0 17 rfl rfl)
theorem dX8_bids_18 : decode cX8_bids 18 = .ok (.bipush 99, 2) := dk_16 99 (dk_at dksX8_bids_0 18 rfl rfl)
theorem dX8_bids_20 : decode cX8_bids 20 = .ok (.invokestatic 290, 3) := dk_184 1 34 (dk_at dksX8_bids_0 20 rfl rfl)
theorem dX8_bids_23 : decode cX8_bids 23 = .ok (.ifCond .eq 27, 3) := dk_153 0 27 (dk_at dksX8_bids_1 0 rfl rfl)
theorem dX8_bids_26 : decode cX8_bids 26 = .ok (.iload_n 3, 1) := dk_29 (dk_at dksX8_bids_1 3 rfl rfl)
theorem dX8_bids_27 : decode cX8_bids 27 = .ok (.iconst 0, 1) := dk_3 (dk_at dksX8_bids_1 4 rfl rfl)
theorem dX8_bids_28 : decode cX8_bids 28 = .ok (.bipush 99, 2) := dk_16 99 (dk_at dksX8_bids_1 5 rfl rfl)
theorem dX8_bids_30 : decode cX8_bids 30 = .ok (.invokestatic 290, 3) := dk_184 1 34 (dk_at dksX8_bids_1 7 rfl rfl)
theorem dX8_bids_33 : decode cX8_bids 33 = .ok (.ifCond .eq 17, 3) := dk_153 0 17 (dk_at dksX8_bids_1 10 rfl rfl)
theorem dX8_bids_36 : decode cX8_bids 36 = .ok (.iload 4, 2) := dk_21 4 (dk_at dksX8_bids_1 13 rfl rfl)
theorem dX8_bids_38 : decode cX8_bids 38 = .ok (.iconst 0, 1) := dk_3 (dk_at dksX8_bids_1 15 rfl rfl)
theorem dX8_bids_39 : decode cX8_bids 39 = .ok (.iconst 2, 1) := dk_5 (dk_at dksX8_bids_1 16 rfl rfl)
theorem dX8_bids_40 : decode cX8_bids 40 = .ok (.invokestatic 290, 3) := dk_184 1 34 (dk_at dksX8_bids_1 17 rfl rfl)
theorem dX8_bids_43 : decode cX8_bids 43 = .ok (.ifCond .eq 7, 3) := dk_153 0 7 (dk_at dksX8_bids_1 20 rfl rfl)
theorem dX8_bids_46 : decode cX8_bids 46 = .ok (.iconst 1, 1) := dk_4 (dk_at dksX8_bids_1 23 rfl rfl)
theorem dX8_bids_47 : decode cX8_bids 47 = .ok (.goto 4, 3) := dk_167 0 4 (dk_at dksX8_bids_2 0 rfl rfl)
theorem dX8_bids_50 : decode cX8_bids 50 = .ok (.iconst 0, 1) := dk_3 (dk_at dksX8_bids_2 3 rfl rfl)
theorem dX8_bids_51 : decode cX8_bids 51 = .ok (.iconst 1, 1) := dk_4 (dk_at dksX8_bids_2 4 rfl rfl)
theorem dX8_bids_52 : decode cX8_bids 52 = .ok (.iconst 1, 1) := dk_4 (dk_at dksX8_bids_2 5 rfl rfl)
theorem dX8_bids_53 : decode cX8_bids 53 = .ok (.invokevirtual 207, 3) := dk_182 0 207 (dk_at dksX8_bids_2 6 rfl rfl)
theorem dX8_bids_56 : decode cX8_bids 56 = .ok (.ifCond .ne 5, 3) := dk_154 0 5 (dk_at dksX8_bids_2 9 rfl rfl)
theorem dX8_bids_59 : decode cX8_bids 59 = .ok (.iconst 0, 1) := dk_3 (dk_at dksX8_bids_2 12 rfl rfl)
theorem dX8_bids_60 : decode cX8_bids 60 = .ok (.ireturn, 1) := dk_172 (dk_at dksX8_bids_2 13 rfl rfl)
theorem dX8_bids_61 : decode cX8_bids 61 = .ok (.iconst 0, 1) := dk_3 (dk_at dksX8_bids_2 14 rfl rfl)
theorem dX8_bids_62 : decode cX8_bids 62 = .ok (.istore 5, 2) := dk_54 5 (dk_at dksX8_bids_2 15 rfl rfl)
theorem dX8_bids_64 : decode cX8_bids 64 = .ok (.iconst (-1), 1) := dk_2 (dk_at dksX8_bids_2 17 rfl rfl)
theorem dX8_bids_65 : decode cX8_bids 65 = .ok (.istore 6, 2) := dk_54 6 (dk_at dksX8_bids_2 18 rfl rfl)
theorem dX8_bids_67 : decode cX8_bids 67 = .ok (.iconst 0, 1) := dk_3 (dk_at dksX8_bids_2 20 rfl rfl)
theorem dX8_bids_68 : decode cX8_bids 68 = .ok (.istore 7, 2) := dk_54 7 (dk_at dksX8_bids_2 21 rfl rfl)
theorem dX8_bids_70 : decode cX8_bids 70 = .ok (.iload 7, 2) := dk_21 7 (dk_at dksX8_bids_3 0 rfl rfl)
theorem dX8_bids_72 : decode cX8_bids 72 = .ok (.iload_n 1, 1) := dk_27 (dk_at dksX8_bids_3 2 rfl rfl)
theorem dX8_bids_73 : decode cX8_bids 73 = .ok (.iconst 1, 1) := dk_4 (dk_at dksX8_bids_3 3 rfl rfl)
theorem dX8_bids_74 : decode cX8_bids 74 = .ok (.iadd, 1) := dk_96 (dk_at dksX8_bids_3 4 rfl rfl)
theorem dX8_bids_75 : decode cX8_bids 75 = .ok (.iload_n 1, 1) := dk_27 (dk_at dksX8_bids_3 5 rfl rfl)
theorem dX8_bids_76 : decode cX8_bids 76 = .ok (.iconst 1, 1) := dk_4 (dk_at dksX8_bids_3 6 rfl rfl)
theorem dX8_bids_77 : decode cX8_bids 77 = .ok (.iadd, 1) := dk_96 (dk_at dksX8_bids_3 7 rfl rfl)
theorem dX8_bids_78 : decode cX8_bids 78 = .ok (.imul, 1) := dk_104 (dk_at dksX8_bids_3 8 rfl rfl)
theorem dX8_bids_79 : decode cX8_bids 79 = .ok (.if_icmp .ge 65, 3) := dk_162 0 65 (dk_at dksX8_bids_3 9 rfl rfl)
theorem dX8_bids_82 : decode cX8_bids 82 = .ok (.iload 7, 2) := dk_21 7 (dk_at dksX8_bids_3 12 rfl rfl)
theorem dX8_bids_84 : decode cX8_bids 84 = .ok (.iload_n 1, 1) := dk_27 (dk_at dksX8_bids_3 14 rfl rfl)
theorem dX8_bids_85 : decode cX8_bids 85 = .ok (.iconst 1, 1) := dk_4 (dk_at dksX8_bids_3 15 rfl rfl)
theorem dX8_bids_86 : decode cX8_bids 86 = .ok (.iadd, 1) := dk_96 (dk_at dksX8_bids_3 16 rfl rfl)
theorem dX8_bids_87 : decode cX8_bids 87 = .ok (.idiv, 1) := dk_108 (dk_at dksX8_bids_3 17 rfl rfl)
theorem dX8_bids_88 : decode cX8_bids 88 = .ok (.iload 7, 2) := dk_21 7 (dk_at dksX8_bids_3 18 rfl rfl)
theorem dX8_bids_90 : decode cX8_bids 90 = .ok (.iload_n 1, 1) := dk_27 (dk_at dksX8_bids_3 20 rfl rfl)
theorem dX8_bids_91 : decode cX8_bids 91 = .ok (.iconst 1, 1) := dk_4 (dk_at dksX8_bids_3 21 rfl rfl)
theorem dX8_bids_92 : decode cX8_bids 92 = .ok (.iadd, 1) := dk_96 (dk_at dksX8_bids_3 22 rfl rfl)
theorem dX8_bids_93 : decode cX8_bids 93 = .ok (.irem, 1) := dk_112 (dk_at dksX8_bids_3 23 rfl rfl)
theorem dX8_bids_94 : decode cX8_bids 94 = .ok (.iload_n 1, 1) := dk_27 (dk_at dksX8_bids_4 0 rfl rfl)
theorem dX8_bids_95 : decode cX8_bids 95 = .ok (.iload_n 2, 1) := dk_28 (dk_at dksX8_bids_4 1 rfl rfl)
theorem dX8_bids_96 : decode cX8_bids 96 = .ok (.iload_n 3, 1) := dk_29 (dk_at dksX8_bids_4 2 rfl rfl)
theorem dX8_bids_97 : decode cX8_bids 97 = .ok (.invokestatic 460, 3) := dk_184 1 204 (dk_at dksX8_bids_4 3 rfl rfl)
theorem dX8_bids_100 : decode cX8_bids 100 = .ok (.ifCond .ne 6, 3) := dk_154 0 6 (dk_at dksX8_bids_4 6 rfl rfl)
theorem dX8_bids_103 : decode cX8_bids 103 = .ok (.goto 35, 3) := dk_167 0 35 (dk_at dksX8_bids_4 9 rfl rfl)
theorem dX8_bids_106 : decode cX8_bids 106 = .ok (.iinc 5 1, 3) := dk_132 5 1 (dk_at dksX8_bids_4 12 rfl rfl)
theorem dX8_bids_109 : decode cX8_bids 109 = .ok (.iload 6, 2) := dk_21 6 (dk_at dksX8_bids_4 15 rfl rfl)
theorem dX8_bids_111 : decode cX8_bids 111 = .ok (.iconst (-1), 1) := dk_2 (dk_at dksX8_bids_4 17 rfl rfl)
theorem dX8_bids_112 : decode cX8_bids 112 = .ok (.if_icmp .ne 22, 3) := dk_160 0 22 (dk_at dksX8_bids_4 18 rfl rfl)
theorem dX8_bids_115 : decode cX8_bids 115 = .ok (.bipush 100, 2) := dk_16 100 (dk_at dksX8_bids_4 21 rfl rfl)
theorem dX8_bids_117 : decode cX8_bids 117 = .ok (.iload 7, 2) := dk_21 7 (dk_at dksX8_bids_5 0 rfl rfl)
theorem dX8_bids_119 : decode cX8_bids 119 = .ok (.iload_n 1, 1) := dk_27 (dk_at dksX8_bids_5 2 rfl rfl)
theorem dX8_bids_120 : decode cX8_bids 120 = .ok (.iconst 1, 1) := dk_4 (dk_at dksX8_bids_5 3 rfl rfl)
theorem dX8_bids_121 : decode cX8_bids 121 = .ok (.iadd, 1) := dk_96 (dk_at dksX8_bids_5 4 rfl rfl)
theorem dX8_bids_122 : decode cX8_bids 122 = .ok (.idiv, 1) := dk_108 (dk_at dksX8_bids_5 5 rfl rfl)
theorem dX8_bids_123 : decode cX8_bids 123 = .ok (.imul, 1) := dk_104 (dk_at dksX8_bids_5 6 rfl rfl)
theorem dX8_bids_124 : decode cX8_bids 124 = .ok (.iload 7, 2) := dk_21 7 (dk_at dksX8_bids_5 7 rfl rfl)
theorem dX8_bids_126 : decode cX8_bids 126 = .ok (.iload_n 1, 1) := dk_27 (dk_at dksX8_bids_5 9 rfl rfl)
theorem dX8_bids_127 : decode cX8_bids 127 = .ok (.iconst 1, 1) := dk_4 (dk_at dksX8_bids_5 10 rfl rfl)
theorem dX8_bids_128 : decode cX8_bids 128 = .ok (.iadd, 1) := dk_96 (dk_at dksX8_bids_5 11 rfl rfl)
theorem dX8_bids_129 : decode cX8_bids 129 = .ok (.irem, 1) := dk_112 (dk_at dksX8_bids_5 12 rfl rfl)
theorem dX8_bids_130 : decode cX8_bids 130 = .ok (.iadd, 1) := dk_96 (dk_at dksX8_bids_5 13 rfl rfl)
theorem dX8_bids_131 : decode cX8_bids 131 = .ok (.goto 5, 3) := dk_167 0 5 (dk_at dksX8_bids_5 14 rfl rfl)
theorem dX8_bids_134 : decode cX8_bids 134 = .ok (.iload 6, 2) := dk_21 6 (dk_at dksX8_bids_5 17 rfl rfl)
theorem dX8_bids_136 : decode cX8_bids 136 = .ok (.istore 6, 2) := dk_54 6 (dk_at dksX8_bids_5 19 rfl rfl)
theorem dX8_bids_138 : decode cX8_bids 138 = .ok (.iinc 7 1, 3) := dk_132 7 1 (dk_at dksX8_bids_5 21 rfl rfl)
theorem dX8_bids_141 : decode cX8_bids 141 = .ok (.goto (-71), 3) := dk_167 255 185 (dk_at dksX8_bids_6 0 rfl rfl)
theorem dX8_bids_144 : decode cX8_bids 144 = .ok (.iload 4, 2) := dk_21 4 (dk_at dksX8_bids_6 3 rfl rfl)
theorem dX8_bids_146 : decode cX8_bids 146 = .ok (.ifCond .ne 8, 3) := dk_154 0 8 (dk_at dksX8_bids_6 5 rfl rfl)
theorem dX8_bids_149 : decode cX8_bids 149 = .ok (.iload 5, 2) := dk_21 5 (dk_at dksX8_bids_6 8 rfl rfl)
theorem dX8_bids_151 : decode cX8_bids 151 = .ok (.goto 53, 3) := dk_167 0 53 (dk_at dksX8_bids_6 10 rfl rfl)
theorem dX8_bids_154 : decode cX8_bids 154 = .ok (.iload 4, 2) := dk_21 4 (dk_at dksX8_bids_6 13 rfl rfl)
theorem dX8_bids_156 : decode cX8_bids 156 = .ok (.iconst 1, 1) := dk_4 (dk_at dksX8_bids_6 15 rfl rfl)
theorem dX8_bids_157 : decode cX8_bids 157 = .ok (.if_icmp .ne 8, 3) := dk_160 0 8 (dk_at dksX8_bids_6 16 rfl rfl)
theorem dX8_bids_160 : decode cX8_bids 160 = .ok (.iload 6, 2) := dk_21 6 (dk_at dksX8_bids_6 19 rfl rfl)
theorem dX8_bids_162 : decode cX8_bids 162 = .ok (.goto 42, 3) := dk_167 0 42 (dk_at dksX8_bids_6 21 rfl rfl)
theorem dX8_bids_165 : decode cX8_bids 165 = .ok (.iload 6, 2) := dk_21 6 (dk_at dksX8_bids_7 0 rfl rfl)
theorem dX8_bids_167 : decode cX8_bids 167 = .ok (.iconst (-1), 1) := dk_2 (dk_at dksX8_bids_7 2 rfl rfl)
theorem dX8_bids_168 : decode cX8_bids 168 = .ok (.if_icmp .ne 7, 3) := dk_160 0 7 (dk_at dksX8_bids_7 3 rfl rfl)
theorem dX8_bids_171 : decode cX8_bids 171 = .ok (.iconst 0, 1) := dk_3 (dk_at dksX8_bids_7 6 rfl rfl)
theorem dX8_bids_172 : decode cX8_bids 172 = .ok (.goto 32, 3) := dk_167 0 32 (dk_at dksX8_bids_7 7 rfl rfl)
theorem dX8_bids_175 : decode cX8_bids 175 = .ok (.iload 6, 2) := dk_21 6 (dk_at dksX8_bids_7 10 rfl rfl)
theorem dX8_bids_177 : decode cX8_bids 177 = .ok (.bipush 100, 2) := dk_16 100 (dk_at dksX8_bids_7 12 rfl rfl)
theorem dX8_bids_179 : decode cX8_bids 179 = .ok (.idiv, 1) := dk_108 (dk_at dksX8_bids_7 14 rfl rfl)
theorem dX8_bids_180 : decode cX8_bids 180 = .ok (.iload 6, 2) := dk_21 6 (dk_at dksX8_bids_7 15 rfl rfl)
theorem dX8_bids_182 : decode cX8_bids 182 = .ok (.bipush 100, 2) := dk_16 100 (dk_at dksX8_bids_7 17 rfl rfl)
theorem dX8_bids_184 : decode cX8_bids 184 = .ok (.irem, 1) := dk_112 (dk_at dksX8_bids_7 19 rfl rfl)
theorem dX8_bids_185 : decode cX8_bids 185 = .ok (.iload_n 2, 1) := dk_28 (dk_at dksX8_bids_7 20 rfl rfl)
theorem dX8_bids_186 : decode cX8_bids 186 = .ok (.invokestatic 457, 3) := dk_184 1 201 (dk_at dksX8_bids_7 21 rfl rfl)
theorem dX8_bids_189 : decode cX8_bids 189 = .ok (.iload 6, 2) := dk_21 6 (dk_at dksX8_bids_8 0 rfl rfl)
theorem dX8_bids_191 : decode cX8_bids 191 = .ok (.bipush 100, 2) := dk_16 100 (dk_at dksX8_bids_8 2 rfl rfl)
theorem dX8_bids_193 : decode cX8_bids 193 = .ok (.irem, 1) := dk_112 (dk_at dksX8_bids_8 4 rfl rfl)
theorem dX8_bids_194 : decode cX8_bids 194 = .ok (.iload 6, 2) := dk_21 6 (dk_at dksX8_bids_8 5 rfl rfl)
theorem dX8_bids_196 : decode cX8_bids 196 = .ok (.bipush 100, 2) := dk_16 100 (dk_at dksX8_bids_8 7 rfl rfl)
theorem dX8_bids_198 : decode cX8_bids 198 = .ok (.idiv, 1) := dk_108 (dk_at dksX8_bids_8 9 rfl rfl)
theorem dX8_bids_199 : decode cX8_bids 199 = .ok (.iload_n 3, 1) := dk_29 (dk_at dksX8_bids_8 10 rfl rfl)
theorem dX8_bids_200 : decode cX8_bids 200 = .ok (.invokestatic 457, 3) := dk_184 1 201 (dk_at dksX8_bids_8 11 rfl rfl)
theorem dX8_bids_203 : decode cX8_bids 203 = .ok (.iadd, 1) := dk_96 (dk_at dksX8_bids_8 14 rfl rfl)
theorem dX8_bids_204 : decode cX8_bids 204 = .ok (.ireturn, 1) := dk_172 (dk_at dksX8_bids_8 15 rfl rfl)
abbrev cX8_isRest : ByteArray := prog_26_method_103_code
def yX8_isRest : MethodName := ⟨RX8, "isRest", "(IIIII)Z"⟩
def dkwX8_isRest_2 : List UInt8 := [132, 5, 1, 167, 255, 211, 4, 172]
abbrev dktX8_isRest_2 : List UInt8 := dkwX8_isRest_2 ++ []
def dkwX8_isRest_1 : List UInt8 := [163, 0, 21, 21, 5, 26, 21, 4, 184, 1, 201, 27, 26, 21, 4, 184, 1, 201, 164, 0, 5, 3, 172]
abbrev dktX8_isRest_1 : List UInt8 := dkwX8_isRest_1 ++ dktX8_isRest_2
def dkwX8_isRest_0 : List UInt8 := [3, 54, 5, 21, 5, 28, 163, 0, 45, 21, 5, 27, 29, 184, 1, 201, 26, 27, 29, 184, 1, 201]
abbrev dktX8_isRest_0 : List UInt8 := dkwX8_isRest_0 ++ dktX8_isRest_1
theorem dksX8_isRest_0 : cX8_isRest.data.toList.drop 0 = dktX8_isRest_0 := by decide +kernel
theorem dksX8_isRest_1 : cX8_isRest.data.toList.drop 22 = dktX8_isRest_1 := dk_seg dksX8_isRest_0 22 rfl rfl
theorem dksX8_isRest_2 : cX8_isRest.data.toList.drop 45 = dktX8_isRest_2 := dk_seg dksX8_isRest_1 23 rfl rfl
theorem dX8_isRest_0 : decode cX8_isRest 0 = .ok (.iconst 0, 1) := dk_3 (dk_at dksX8_isRest_0 0 rfl rfl)
theorem dX8_isRest_1 : decode cX8_isRest 1 = .ok (.istore 5, 2) := dk_54 5 (dk_at dksX8_isRest_0 1 rfl rfl)
theorem dX8_isRest_3 : decode cX8_isRest 3 = .ok (.iload 5, 2) := dk_21 5 (dk_at dksX8_isRest_0 3 rfl rfl)
theorem dX8_isRest_5 : decode cX8_isRest 5 = .ok (.iload_n 2, 1) := dk_28 (dk_at dksX8_isRest_0 5 rfl rfl)
theorem dX8_isRest_6 : decode cX8_isRest 6 = .ok (.if_icmp .gt 45, 3) := dk_163 0 45 (dk_at dksX8_isRest_0 6 rfl rfl)
theorem dX8_isRest_9 : decode cX8_isRest 9 = .ok (.iload 5, 2) := dk_21 5 (dk_at dksX8_isRest_0 9 rfl rfl)
theorem dX8_isRest_11 : decode cX8_isRest 11 = .ok (.iload_n 1, 1) := dk_27 (dk_at dksX8_isRest_0 11 rfl rfl)
theorem dX8_isRest_12 : decode cX8_isRest 12 = .ok (.iload_n 3, 1) := dk_29 (dk_at dksX8_isRest_0 12 rfl rfl)
theorem dX8_isRest_13 : decode cX8_isRest 13 = .ok (.invokestatic 457, 3) := dk_184 1 201 (dk_at dksX8_isRest_0 13 rfl rfl)
theorem dX8_isRest_16 : decode cX8_isRest 16 = .ok (.iload_n 0, 1) := dk_26 (dk_at dksX8_isRest_0 16 rfl rfl)
theorem dX8_isRest_17 : decode cX8_isRest 17 = .ok (.iload_n 1, 1) := dk_27 (dk_at dksX8_isRest_0 17 rfl rfl)
theorem dX8_isRest_18 : decode cX8_isRest 18 = .ok (.iload_n 3, 1) := dk_29 (dk_at dksX8_isRest_0 18 rfl rfl)
theorem dX8_isRest_19 : decode cX8_isRest 19 = .ok (.invokestatic 457, 3) := dk_184 1 201 (dk_at dksX8_isRest_0 19 rfl rfl)
theorem dX8_isRest_22 : decode cX8_isRest 22 = .ok (.if_icmp .gt 21, 3) := dk_163 0 21 (dk_at dksX8_isRest_1 0 rfl rfl)
theorem dX8_isRest_25 : decode cX8_isRest 25 = .ok (.iload 5, 2) := dk_21 5 (dk_at dksX8_isRest_1 3 rfl rfl)
theorem dX8_isRest_27 : decode cX8_isRest 27 = .ok (.iload_n 0, 1) := dk_26 (dk_at dksX8_isRest_1 5 rfl rfl)
theorem dX8_isRest_28 : decode cX8_isRest 28 = .ok (.iload 4, 2) := dk_21 4 (dk_at dksX8_isRest_1 6 rfl rfl)
theorem dX8_isRest_30 : decode cX8_isRest 30 = .ok (.invokestatic 457, 3) := dk_184 1 201 (dk_at dksX8_isRest_1 8 rfl rfl)
theorem dX8_isRest_33 : decode cX8_isRest 33 = .ok (.iload_n 1, 1) := dk_27 (dk_at dksX8_isRest_1 11 rfl rfl)
theorem dX8_isRest_34 : decode cX8_isRest 34 = .ok (.iload_n 0, 1) := dk_26 (dk_at dksX8_isRest_1 12 rfl rfl)
theorem dX8_isRest_35 : decode cX8_isRest 35 = .ok (.iload 4, 2) := dk_21 4 (dk_at dksX8_isRest_1 13 rfl rfl)
theorem dX8_isRest_37 : decode cX8_isRest 37 = .ok (.invokestatic 457, 3) := dk_184 1 201 (dk_at dksX8_isRest_1 15 rfl rfl)
theorem dX8_isRest_40 : decode cX8_isRest 40 = .ok (.if_icmp .le 5, 3) := dk_164 0 5 (dk_at dksX8_isRest_1 18 rfl rfl)
theorem dX8_isRest_43 : decode cX8_isRest 43 = .ok (.iconst 0, 1) := dk_3 (dk_at dksX8_isRest_1 21 rfl rfl)
theorem dX8_isRest_44 : decode cX8_isRest 44 = .ok (.ireturn, 1) := dk_172 (dk_at dksX8_isRest_1 22 rfl rfl)
theorem dX8_isRest_45 : decode cX8_isRest 45 = .ok (.iinc 5 1, 3) := dk_132 5 1 (dk_at dksX8_isRest_2 0 rfl rfl)
theorem dX8_isRest_48 : decode cX8_isRest 48 = .ok (.goto (-45), 3) := dk_167 255 211 (dk_at dksX8_isRest_2 3 rfl rfl)
theorem dX8_isRest_51 : decode cX8_isRest 51 = .ok (.iconst 1, 1) := dk_4 (dk_at dksX8_isRest_2 6 rfl rfl)
theorem dX8_isRest_52 : decode cX8_isRest 52 = .ok (.ireturn, 1) := dk_172 (dk_at dksX8_isRest_2 7 rfl rfl)
abbrev cX8_hasBy : ByteArray := prog_26_method_102_code
def yX8_hasBy : MethodName := ⟨RX8, "hasBy", "(III)I"⟩
def dkwX8_hasBy_1 : List UInt8 := [3, 172]
abbrev dktX8_hasBy_1 : List UInt8 := dkwX8_hasBy_1 ++ []
def dkwX8_hasBy_0 : List UInt8 := [26, 27, 164, 0, 9, 28, 26, 100, 167, 0, 17, 26, 27, 160, 0, 11, 28, 26, 100, 5, 108, 167, 0, 4]
abbrev dktX8_hasBy_0 : List UInt8 := dkwX8_hasBy_0 ++ dktX8_hasBy_1
theorem dksX8_hasBy_0 : cX8_hasBy.data.toList.drop 0 = dktX8_hasBy_0 := by decide +kernel
theorem dksX8_hasBy_1 : cX8_hasBy.data.toList.drop 24 = dktX8_hasBy_1 := dk_seg dksX8_hasBy_0 24 rfl rfl
theorem dX8_hasBy_0 : decode cX8_hasBy 0 = .ok (.iload_n 0, 1) := dk_26 (dk_at dksX8_hasBy_0 0 rfl rfl)
theorem dX8_hasBy_1 : decode cX8_hasBy 1 = .ok (.iload_n 1, 1) := dk_27 (dk_at dksX8_hasBy_0 1 rfl rfl)
theorem dX8_hasBy_2 : decode cX8_hasBy 2 = .ok (.if_icmp .le 9, 3) := dk_164 0 9 (dk_at dksX8_hasBy_0 2 rfl rfl)
theorem dX8_hasBy_5 : decode cX8_hasBy 5 = .ok (.iload_n 2, 1) := dk_28 (dk_at dksX8_hasBy_0 5 rfl rfl)
theorem dX8_hasBy_6 : decode cX8_hasBy 6 = .ok (.iload_n 0, 1) := dk_26 (dk_at dksX8_hasBy_0 6 rfl rfl)
theorem dX8_hasBy_7 : decode cX8_hasBy 7 = .ok (.isub, 1) := dk_100 (dk_at dksX8_hasBy_0 7 rfl rfl)
theorem dX8_hasBy_8 : decode cX8_hasBy 8 = .ok (.goto 17, 3) := dk_167 0 17 (dk_at dksX8_hasBy_0 8 rfl rfl)
theorem dX8_hasBy_11 : decode cX8_hasBy 11 = .ok (.iload_n 0, 1) := dk_26 (dk_at dksX8_hasBy_0 11 rfl rfl)
theorem dX8_hasBy_12 : decode cX8_hasBy 12 = .ok (.iload_n 1, 1) := dk_27 (dk_at dksX8_hasBy_0 12 rfl rfl)
theorem dX8_hasBy_13 : decode cX8_hasBy 13 = .ok (.if_icmp .ne 11, 3) := dk_160 0 11 (dk_at dksX8_hasBy_0 13 rfl rfl)
theorem dX8_hasBy_16 : decode cX8_hasBy 16 = .ok (.iload_n 2, 1) := dk_28 (dk_at dksX8_hasBy_0 16 rfl rfl)
theorem dX8_hasBy_17 : decode cX8_hasBy 17 = .ok (.iload_n 0, 1) := dk_26 (dk_at dksX8_hasBy_0 17 rfl rfl)
theorem dX8_hasBy_18 : decode cX8_hasBy 18 = .ok (.isub, 1) := dk_100 (dk_at dksX8_hasBy_0 18 rfl rfl)
theorem dX8_hasBy_19 : decode cX8_hasBy 19 = .ok (.iconst 2, 1) := dk_5 (dk_at dksX8_hasBy_0 19 rfl rfl)
theorem dX8_hasBy_20 : decode cX8_hasBy 20 = .ok (.idiv, 1) := dk_108 (dk_at dksX8_hasBy_0 20 rfl rfl)
theorem dX8_hasBy_21 : decode cX8_hasBy 21 = .ok (.goto 4, 3) := dk_167 0 4 (dk_at dksX8_hasBy_0 21 rfl rfl)
theorem dX8_hasBy_24 : decode cX8_hasBy 24 = .ok (.iconst 0, 1) := dk_3 (dk_at dksX8_hasBy_1 0 rfl rfl)
theorem dX8_hasBy_25 : decode cX8_hasBy 25 = .ok (.ireturn, 1) := dk_172 (dk_at dksX8_hasBy_1 1 rfl rfl)
abbrev cX8_has : ByteArray := prog_26_method_105_code
def yX8_has : MethodName := ⟨RX8, "has", "(III)I"⟩
def dkwX8_has_2 : List UInt8 := [154, 0, 5, 3, 172, 27, 28, 29, 184, 1, 201, 172]
abbrev dktX8_has_2 : List UInt8 := dkwX8_has_2 ++ []
def dkwX8_has_1 : List UInt8 := [153, 0, 17, 29, 3, 16, 99, 184, 1, 34, 153, 0, 7, 4, 167, 0, 4, 3, 4, 4, 182, 0, 207]
abbrev dktX8_has_1 : List UInt8 := dkwX8_has_1 ++ dktX8_has_2
def dkwX8_has_0 : List UInt8 := [42, 3, 181, 0, 3, 42, 27, 3, 16, 99, 184, 1, 34, 153, 0, 27, 28, 3, 16, 99, 184, 1, 34]
abbrev dktX8_has_0 : List UInt8 := dkwX8_has_0 ++ dktX8_has_1
theorem dksX8_has_0 : cX8_has.data.toList.drop 0 = dktX8_has_0 := by decide +kernel
theorem dksX8_has_1 : cX8_has.data.toList.drop 23 = dktX8_has_1 := dk_seg dksX8_has_0 23 rfl rfl
theorem dksX8_has_2 : cX8_has.data.toList.drop 46 = dktX8_has_2 := dk_seg dksX8_has_1 23 rfl rfl
theorem dX8_has_0 : decode cX8_has 0 = .ok (.aload_n 0, 1) := dk_42 (dk_at dksX8_has_0 0 rfl rfl)
theorem dX8_has_1 : decode cX8_has 1 = .ok (.iconst 0, 1) := dk_3 (dk_at dksX8_has_0 1 rfl rfl)
theorem dX8_has_2 : decode cX8_has 2 = .ok (.putfield 3, 3) := dk_181 0 3 (dk_at dksX8_has_0 2 rfl rfl)
theorem dX8_has_5 : decode cX8_has 5 = .ok (.aload_n 0, 1) := dk_42 (dk_at dksX8_has_0 5 rfl rfl)
theorem dX8_has_6 : decode cX8_has 6 = .ok (.iload_n 1, 1) := dk_27 (dk_at dksX8_has_0 6 rfl rfl)
theorem dX8_has_7 : decode cX8_has 7 = .ok (.iconst 0, 1) := dk_3 (dk_at dksX8_has_0 7 rfl rfl)
theorem dX8_has_8 : decode cX8_has 8 = .ok (.bipush 99, 2) := dk_16 99 (dk_at dksX8_has_0 8 rfl rfl)
theorem dX8_has_10 : decode cX8_has 10 = .ok (.invokestatic 290, 3) := dk_184 1 34 (dk_at dksX8_has_0 10 rfl rfl)
theorem dX8_has_13 : decode cX8_has 13 = .ok (.ifCond .eq 27, 3) := dk_153 0 27 (dk_at dksX8_has_0 13 rfl rfl)
theorem dX8_has_16 : decode cX8_has 16 = .ok (.iload_n 2, 1) := dk_28 (dk_at dksX8_has_0 16 rfl rfl)
theorem dX8_has_17 : decode cX8_has 17 = .ok (.iconst 0, 1) := dk_3 (dk_at dksX8_has_0 17 rfl rfl)
theorem dX8_has_18 : decode cX8_has 18 = .ok (.bipush 99, 2) := dk_16 99 (dk_at dksX8_has_0 18 rfl rfl)
theorem dX8_has_20 : decode cX8_has 20 = .ok (.invokestatic 290, 3) := dk_184 1 34 (dk_at dksX8_has_0 20 rfl rfl)
theorem dX8_has_23 : decode cX8_has 23 = .ok (.ifCond .eq 17, 3) := dk_153 0 17 (dk_at dksX8_has_1 0 rfl rfl)
theorem dX8_has_26 : decode cX8_has 26 = .ok (.iload_n 3, 1) := dk_29 (dk_at dksX8_has_1 3 rfl rfl)
theorem dX8_has_27 : decode cX8_has 27 = .ok (.iconst 0, 1) := dk_3 (dk_at dksX8_has_1 4 rfl rfl)
theorem dX8_has_28 : decode cX8_has 28 = .ok (.bipush 99, 2) := dk_16 99 (dk_at dksX8_has_1 5 rfl rfl)
theorem dX8_has_30 : decode cX8_has 30 = .ok (.invokestatic 290, 3) := dk_184 1 34 (dk_at dksX8_has_1 7 rfl rfl)
theorem dX8_has_33 : decode cX8_has 33 = .ok (.ifCond .eq 7, 3) := dk_153 0 7 (dk_at dksX8_has_1 10 rfl rfl)
theorem dX8_has_36 : decode cX8_has 36 = .ok (.iconst 1, 1) := dk_4 (dk_at dksX8_has_1 13 rfl rfl)
theorem dX8_has_37 : decode cX8_has 37 = .ok (.goto 4, 3) := dk_167 0 4 (dk_at dksX8_has_1 14 rfl rfl)
theorem dX8_has_40 : decode cX8_has 40 = .ok (.iconst 0, 1) := dk_3 (dk_at dksX8_has_1 17 rfl rfl)
theorem dX8_has_41 : decode cX8_has 41 = .ok (.iconst 1, 1) := dk_4 (dk_at dksX8_has_1 18 rfl rfl)
theorem dX8_has_42 : decode cX8_has 42 = .ok (.iconst 1, 1) := dk_4 (dk_at dksX8_has_1 19 rfl rfl)
theorem dX8_has_43 : decode cX8_has 43 = .ok (.invokevirtual 207, 3) := dk_182 0 207 (dk_at dksX8_has_1 20 rfl rfl)
theorem dX8_has_46 : decode cX8_has 46 = .ok (.ifCond .ne 5, 3) := dk_154 0 5 (dk_at dksX8_has_2 0 rfl rfl)
theorem dX8_has_49 : decode cX8_has 49 = .ok (.iconst 0, 1) := dk_3 (dk_at dksX8_has_2 3 rfl rfl)
theorem dX8_has_50 : decode cX8_has 50 = .ok (.ireturn, 1) := dk_172 (dk_at dksX8_has_2 4 rfl rfl)
theorem dX8_has_51 : decode cX8_has 51 = .ok (.iload_n 1, 1) := dk_27 (dk_at dksX8_has_2 5 rfl rfl)
theorem dX8_has_52 : decode cX8_has 52 = .ok (.iload_n 2, 1) := dk_28 (dk_at dksX8_has_2 6 rfl rfl)
theorem dX8_has_53 : decode cX8_has 53 = .ok (.iload_n 3, 1) := dk_29 (dk_at dksX8_has_2 7 rfl rfl)
theorem dX8_has_54 : decode cX8_has 54 = .ok (.invokestatic 457, 3) := dk_184 1 201 (dk_at dksX8_has_2 8 rfl rfl)
theorem dX8_has_57 : decode cX8_has 57 = .ok (.ireturn, 1) := dk_172 (dk_at dksX8_has_2 11 rfl rfl)
abbrev cX8_voyage : ByteArray := prog_26_method_109_code
def yX8_voyage : MethodName := ⟨RX8, "voyage", "(IIIII)I"⟩
def dkwX8_voyage_4 : List UInt8 := [182, 1, 118, 172]
abbrev dktX8_voyage_4 : List UInt8 := dkwX8_voyage_4 ++ []
def dkwX8_voyage_3 : List UInt8 := [180, 0, 65, 16, 65, 46, 167, 0, 21, 21, 5, 5, 160, 0, 10, 42, 180, 1, 212, 167, 0, 8, 42, 6]
abbrev dktX8_voyage_3 : List UInt8 := dkwX8_voyage_3 ++ dktX8_voyage_4
def dkwX8_voyage_2 : List UInt8 := [182, 1, 221, 21, 5, 154, 0, 10, 42, 180, 1, 95, 167, 0, 37, 21, 5, 4, 160, 0, 13, 42]
abbrev dktX8_voyage_2 : List UInt8 := dkwX8_voyage_2 ++ dktX8_voyage_3
def dkwX8_voyage_1 : List UInt8 := [153, 0, 7, 4, 167, 0, 4, 3, 4, 4, 182, 0, 207, 154, 0, 5, 3, 172, 42, 27, 28, 29, 21, 4]
abbrev dktX8_voyage_1 : List UInt8 := dkwX8_voyage_1 ++ dktX8_voyage_2
def dkwX8_voyage_0 : List UInt8 := [42, 3, 181, 0, 3, 42, 28, 29, 21, 4, 184, 1, 218, 153, 0, 17, 21, 5, 3, 6, 184, 1, 34]
abbrev dktX8_voyage_0 : List UInt8 := dkwX8_voyage_0 ++ dktX8_voyage_1
theorem dksX8_voyage_0 : cX8_voyage.data.toList.drop 0 = dktX8_voyage_0 := by decide +kernel
theorem dksX8_voyage_1 : cX8_voyage.data.toList.drop 23 = dktX8_voyage_1 := dk_seg dksX8_voyage_0 23 rfl rfl
theorem dksX8_voyage_2 : cX8_voyage.data.toList.drop 47 = dktX8_voyage_2 := dk_seg dksX8_voyage_1 24 rfl rfl
theorem dksX8_voyage_3 : cX8_voyage.data.toList.drop 69 = dktX8_voyage_3 := dk_seg dksX8_voyage_2 22 rfl rfl
theorem dksX8_voyage_4 : cX8_voyage.data.toList.drop 93 = dktX8_voyage_4 := dk_seg dksX8_voyage_3 24 rfl rfl
theorem dX8_voyage_0 : decode cX8_voyage 0 = .ok (.aload_n 0, 1) := dk_42 (dk_at dksX8_voyage_0 0 rfl rfl)
theorem dX8_voyage_1 : decode cX8_voyage 1 = .ok (.iconst 0, 1) := dk_3 (dk_at dksX8_voyage_0 1 rfl rfl)
theorem dX8_voyage_2 : decode cX8_voyage 2 = .ok (.putfield 3, 3) := dk_181 0 3 (dk_at dksX8_voyage_0 2 rfl rfl)
theorem dX8_voyage_5 : decode cX8_voyage 5 = .ok (.aload_n 0, 1) := dk_42 (dk_at dksX8_voyage_0 5 rfl rfl)
theorem dX8_voyage_6 : decode cX8_voyage 6 = .ok (.iload_n 2, 1) := dk_28 (dk_at dksX8_voyage_0 6 rfl rfl)
theorem dX8_voyage_7 : decode cX8_voyage 7 = .ok (.iload_n 3, 1) := dk_29 (dk_at dksX8_voyage_0 7 rfl rfl)
theorem dX8_voyage_8 : decode cX8_voyage 8 = .ok (.iload 4, 2) := dk_21 4 (dk_at dksX8_voyage_0 8 rfl rfl)
theorem dX8_voyage_10 : decode cX8_voyage 10 = .ok (.invokestatic 474, 3) := dk_184 1 218 (dk_at dksX8_voyage_0 10 rfl rfl)
theorem dX8_voyage_13 : decode cX8_voyage 13 = .ok (.ifCond .eq 17, 3) := dk_153 0 17 (dk_at dksX8_voyage_0 13 rfl rfl)
theorem dX8_voyage_16 : decode cX8_voyage 16 = .ok (.iload 5, 2) := dk_21 5 (dk_at dksX8_voyage_0 16 rfl rfl)
theorem dX8_voyage_18 : decode cX8_voyage 18 = .ok (.iconst 0, 1) := dk_3 (dk_at dksX8_voyage_0 18 rfl rfl)
theorem dX8_voyage_19 : decode cX8_voyage 19 = .ok (.iconst 3, 1) := dk_6 (dk_at dksX8_voyage_0 19 rfl rfl)
theorem dX8_voyage_20 : decode cX8_voyage 20 = .ok (.invokestatic 290, 3) := dk_184 1 34 (dk_at dksX8_voyage_0 20 rfl rfl)
theorem dX8_voyage_23 : decode cX8_voyage 23 = .ok (.ifCond .eq 7, 3) := dk_153 0 7 (dk_at dksX8_voyage_1 0 rfl rfl)
theorem dX8_voyage_26 : decode cX8_voyage 26 = .ok (.iconst 1, 1) := dk_4 (dk_at dksX8_voyage_1 3 rfl rfl)
theorem dX8_voyage_27 : decode cX8_voyage 27 = .ok (.goto 4, 3) := dk_167 0 4 (dk_at dksX8_voyage_1 4 rfl rfl)
theorem dX8_voyage_30 : decode cX8_voyage 30 = .ok (.iconst 0, 1) := dk_3 (dk_at dksX8_voyage_1 7 rfl rfl)
theorem dX8_voyage_31 : decode cX8_voyage 31 = .ok (.iconst 1, 1) := dk_4 (dk_at dksX8_voyage_1 8 rfl rfl)
theorem dX8_voyage_32 : decode cX8_voyage 32 = .ok (.iconst 1, 1) := dk_4 (dk_at dksX8_voyage_1 9 rfl rfl)
theorem dX8_voyage_33 : decode cX8_voyage 33 = .ok (.invokevirtual 207, 3) := dk_182 0 207 (dk_at dksX8_voyage_1 10 rfl rfl)
theorem dX8_voyage_36 : decode cX8_voyage 36 = .ok (.ifCond .ne 5, 3) := dk_154 0 5 (dk_at dksX8_voyage_1 13 rfl rfl)
theorem dX8_voyage_39 : decode cX8_voyage 39 = .ok (.iconst 0, 1) := dk_3 (dk_at dksX8_voyage_1 16 rfl rfl)
theorem dX8_voyage_40 : decode cX8_voyage 40 = .ok (.ireturn, 1) := dk_172 (dk_at dksX8_voyage_1 17 rfl rfl)
theorem dX8_voyage_41 : decode cX8_voyage 41 = .ok (.aload_n 0, 1) := dk_42 (dk_at dksX8_voyage_1 18 rfl rfl)
theorem dX8_voyage_42 : decode cX8_voyage 42 = .ok (.iload_n 1, 1) := dk_27 (dk_at dksX8_voyage_1 19 rfl rfl)
theorem dX8_voyage_43 : decode cX8_voyage 43 = .ok (.iload_n 2, 1) := dk_28 (dk_at dksX8_voyage_1 20 rfl rfl)
theorem dX8_voyage_44 : decode cX8_voyage 44 = .ok (.iload_n 3, 1) := dk_29 (dk_at dksX8_voyage_1 21 rfl rfl)
theorem dX8_voyage_45 : decode cX8_voyage 45 = .ok (.iload 4, 2) := dk_21 4 (dk_at dksX8_voyage_1 22 rfl rfl)
theorem dX8_voyage_47 : decode cX8_voyage 47 = .ok (.invokevirtual 477, 3) := dk_182 1 221 (dk_at dksX8_voyage_2 0 rfl rfl)
theorem dX8_voyage_50 : decode cX8_voyage 50 = .ok (.iload 5, 2) := dk_21 5 (dk_at dksX8_voyage_2 3 rfl rfl)
theorem dX8_voyage_52 : decode cX8_voyage 52 = .ok (.ifCond .ne 10, 3) := dk_154 0 10 (dk_at dksX8_voyage_2 5 rfl rfl)
theorem dX8_voyage_55 : decode cX8_voyage 55 = .ok (.aload_n 0, 1) := dk_42 (dk_at dksX8_voyage_2 8 rfl rfl)
theorem dX8_voyage_56 : decode cX8_voyage 56 = .ok (.getfield 351, 3) := dk_180 1 95 (dk_at dksX8_voyage_2 9 rfl rfl)
theorem dX8_voyage_59 : decode cX8_voyage 59 = .ok (.goto 37, 3) := dk_167 0 37 (dk_at dksX8_voyage_2 12 rfl rfl)
theorem dX8_voyage_62 : decode cX8_voyage 62 = .ok (.iload 5, 2) := dk_21 5 (dk_at dksX8_voyage_2 15 rfl rfl)
theorem dX8_voyage_64 : decode cX8_voyage 64 = .ok (.iconst 1, 1) := dk_4 (dk_at dksX8_voyage_2 17 rfl rfl)
theorem dX8_voyage_65 : decode cX8_voyage 65 = .ok (.if_icmp .ne 13, 3) := dk_160 0 13 (dk_at dksX8_voyage_2 18 rfl rfl)
theorem dX8_voyage_68 : decode cX8_voyage 68 = .ok (.aload_n 0, 1) := dk_42 (dk_at dksX8_voyage_2 21 rfl rfl)
theorem dX8_voyage_69 : decode cX8_voyage 69 = .ok (.getfield 65, 3) := dk_180 0 65 (dk_at dksX8_voyage_3 0 rfl rfl)
theorem dX8_voyage_72 : decode cX8_voyage 72 = .ok (.bipush 65, 2) := dk_16 65 (dk_at dksX8_voyage_3 3 rfl rfl)
theorem dX8_voyage_74 : decode cX8_voyage 74 = .ok (.iaload, 1) := dk_46 (dk_at dksX8_voyage_3 5 rfl rfl)
theorem dX8_voyage_75 : decode cX8_voyage 75 = .ok (.goto 21, 3) := dk_167 0 21 (dk_at dksX8_voyage_3 6 rfl rfl)
theorem dX8_voyage_78 : decode cX8_voyage 78 = .ok (.iload 5, 2) := dk_21 5 (dk_at dksX8_voyage_3 9 rfl rfl)
theorem dX8_voyage_80 : decode cX8_voyage 80 = .ok (.iconst 2, 1) := dk_5 (dk_at dksX8_voyage_3 11 rfl rfl)
theorem dX8_voyage_81 : decode cX8_voyage 81 = .ok (.if_icmp .ne 10, 3) := dk_160 0 10 (dk_at dksX8_voyage_3 12 rfl rfl)
theorem dX8_voyage_84 : decode cX8_voyage 84 = .ok (.aload_n 0, 1) := dk_42 (dk_at dksX8_voyage_3 15 rfl rfl)
theorem dX8_voyage_85 : decode cX8_voyage 85 = .ok (.getfield 468, 3) := dk_180 1 212 (dk_at dksX8_voyage_3 16 rfl rfl)
theorem dX8_voyage_88 : decode cX8_voyage 88 = .ok (.goto 8, 3) := dk_167 0 8 (dk_at dksX8_voyage_3 19 rfl rfl)
theorem dX8_voyage_91 : decode cX8_voyage 91 = .ok (.aload_n 0, 1) := dk_42 (dk_at dksX8_voyage_3 22 rfl rfl)
theorem dX8_voyage_92 : decode cX8_voyage 92 = .ok (.iconst 3, 1) := dk_6 (dk_at dksX8_voyage_3 23 rfl rfl)
theorem dX8_voyage_93 : decode cX8_voyage 93 = .ok (.invokevirtual 374, 3) := dk_182 1 118 (dk_at dksX8_voyage_4 0 rfl rfl)
theorem dX8_voyage_96 : decode cX8_voyage 96 = .ok (.ireturn, 1) := dk_172 (dk_at dksX8_voyage_4 3 rfl rfl)
abbrev cX8_isVoyage : ByteArray := prog_26_method_108_code
def yX8_isVoyage : MethodName := ⟨RX8, "isVoyage", "(III)Z"⟩
def dkwX8_isVoyage_1 : List UInt8 := [161, 0, 13, 28, 16, 99, 163, 0, 7, 4, 167, 0, 4, 3, 172]
abbrev dktX8_isVoyage_1 : List UInt8 := dkwX8_isVoyage_1 ++ []
def dkwX8_isVoyage_0 : List UInt8 := [26, 155, 0, 34, 26, 16, 16, 163, 0, 28, 27, 155, 0, 24, 27, 16, 40, 163, 0, 18, 28, 4]
abbrev dktX8_isVoyage_0 : List UInt8 := dkwX8_isVoyage_0 ++ dktX8_isVoyage_1
theorem dksX8_isVoyage_0 : cX8_isVoyage.data.toList.drop 0 = dktX8_isVoyage_0 := by decide +kernel
theorem dksX8_isVoyage_1 : cX8_isVoyage.data.toList.drop 22 = dktX8_isVoyage_1 := dk_seg dksX8_isVoyage_0 22 rfl rfl
theorem dX8_isVoyage_0 : decode cX8_isVoyage 0 = .ok (.iload_n 0, 1) := dk_26 (dk_at dksX8_isVoyage_0 0 rfl rfl)
theorem dX8_isVoyage_1 : decode cX8_isVoyage 1 = .ok (.ifCond .lt 34, 3) := dk_155 0 34 (dk_at dksX8_isVoyage_0 1 rfl rfl)
theorem dX8_isVoyage_4 : decode cX8_isVoyage 4 = .ok (.iload_n 0, 1) := dk_26 (dk_at dksX8_isVoyage_0 4 rfl rfl)
theorem dX8_isVoyage_5 : decode cX8_isVoyage 5 = .ok (.bipush 16, 2) := dk_16 16 (dk_at dksX8_isVoyage_0 5 rfl rfl)
theorem dX8_isVoyage_7 : decode cX8_isVoyage 7 = .ok (.if_icmp .gt 28, 3) := dk_163 0 28 (dk_at dksX8_isVoyage_0 7 rfl rfl)
theorem dX8_isVoyage_10 : decode cX8_isVoyage 10 = .ok (.iload_n 1, 1) := dk_27 (dk_at dksX8_isVoyage_0 10 rfl rfl)
theorem dX8_isVoyage_11 : decode cX8_isVoyage 11 = .ok (.ifCond .lt 24, 3) := dk_155 0 24 (dk_at dksX8_isVoyage_0 11 rfl rfl)
theorem dX8_isVoyage_14 : decode cX8_isVoyage 14 = .ok (.iload_n 1, 1) := dk_27 (dk_at dksX8_isVoyage_0 14 rfl rfl)
theorem dX8_isVoyage_15 : decode cX8_isVoyage 15 = .ok (.bipush 40, 2) := dk_16 40 (dk_at dksX8_isVoyage_0 15 rfl rfl)
theorem dX8_isVoyage_17 : decode cX8_isVoyage 17 = .ok (.if_icmp .gt 18, 3) := dk_163 0 18 (dk_at dksX8_isVoyage_0 17 rfl rfl)
theorem dX8_isVoyage_20 : decode cX8_isVoyage 20 = .ok (.iload_n 2, 1) := dk_28 (dk_at dksX8_isVoyage_0 20 rfl rfl)
theorem dX8_isVoyage_21 : decode cX8_isVoyage 21 = .ok (.iconst 1, 1) := dk_4 (dk_at dksX8_isVoyage_0 21 rfl rfl)
theorem dX8_isVoyage_22 : decode cX8_isVoyage 22 = .ok (.if_icmp .lt 13, 3) := dk_161 0 13 (dk_at dksX8_isVoyage_1 0 rfl rfl)
theorem dX8_isVoyage_25 : decode cX8_isVoyage 25 = .ok (.iload_n 2, 1) := dk_28 (dk_at dksX8_isVoyage_1 3 rfl rfl)
theorem dX8_isVoyage_26 : decode cX8_isVoyage 26 = .ok (.bipush 99, 2) := dk_16 99 (dk_at dksX8_isVoyage_1 4 rfl rfl)
theorem dX8_isVoyage_28 : decode cX8_isVoyage 28 = .ok (.if_icmp .gt 7, 3) := dk_163 0 7 (dk_at dksX8_isVoyage_1 6 rfl rfl)
theorem dX8_isVoyage_31 : decode cX8_isVoyage 31 = .ok (.iconst 1, 1) := dk_4 (dk_at dksX8_isVoyage_1 9 rfl rfl)
theorem dX8_isVoyage_32 : decode cX8_isVoyage 32 = .ok (.goto 4, 3) := dk_167 0 4 (dk_at dksX8_isVoyage_1 10 rfl rfl)
theorem dX8_isVoyage_35 : decode cX8_isVoyage 35 = .ok (.iconst 0, 1) := dk_3 (dk_at dksX8_isVoyage_1 13 rfl rfl)
theorem dX8_isVoyage_36 : decode cX8_isVoyage 36 = .ok (.ireturn, 1) := dk_172 (dk_at dksX8_isVoyage_1 14 rfl rfl)
abbrev cX8_sails : ByteArray := prog_26_method_107_code
def yX8_sails : MethodName := ⟨RX8, "sails", "(IIII)V"⟩
def dkwX8_sails_3 : List UInt8 := [79, 42, 182, 1, 145, 132, 5, 1, 167, 255, 193, 177]
abbrev dktX8_sails_3 : List UInt8 := dkwX8_sails_3 ++ []
def dkwX8_sails_2 : List UInt8 := [42, 180, 0, 65, 16, 65, 46, 29, 164, 0, 15, 42, 180, 0, 65, 16, 65, 46, 29, 100, 167, 0, 4, 3]
abbrev dktX8_sails_2 : List UInt8 := dkwX8_sails_2 ++ dktX8_sails_3
def dkwX8_sails_1 : List UInt8 := [42, 182, 1, 215, 28, 162, 0, 44, 42, 89, 180, 1, 212, 4, 96, 181, 1, 212, 42, 180, 0, 65, 16, 65]
abbrev dktX8_sails_1 : List UInt8 := dkwX8_sails_1 ++ dktX8_sails_2
def dkwX8_sails_0 : List UInt8 := [42, 182, 1, 74, 42, 27, 181, 1, 208, 42, 3, 181, 1, 212, 3, 54, 5, 21, 5, 21, 4, 162, 0, 62]
abbrev dktX8_sails_0 : List UInt8 := dkwX8_sails_0 ++ dktX8_sails_1
theorem dksX8_sails_0 : cX8_sails.data.toList.drop 0 = dktX8_sails_0 := by decide +kernel
theorem dksX8_sails_1 : cX8_sails.data.toList.drop 24 = dktX8_sails_1 := dk_seg dksX8_sails_0 24 rfl rfl
theorem dksX8_sails_2 : cX8_sails.data.toList.drop 48 = dktX8_sails_2 := dk_seg dksX8_sails_1 24 rfl rfl
theorem dksX8_sails_3 : cX8_sails.data.toList.drop 72 = dktX8_sails_3 := dk_seg dksX8_sails_2 24 rfl rfl
theorem dX8_sails_0 : decode cX8_sails 0 = .ok (.aload_n 0, 1) := dk_42 (dk_at dksX8_sails_0 0 rfl rfl)
theorem dX8_sails_1 : decode cX8_sails 1 = .ok (.invokevirtual 330, 3) := dk_182 1 74 (dk_at dksX8_sails_0 1 rfl rfl)
theorem dX8_sails_4 : decode cX8_sails 4 = .ok (.aload_n 0, 1) := dk_42 (dk_at dksX8_sails_0 4 rfl rfl)
theorem dX8_sails_5 : decode cX8_sails 5 = .ok (.iload_n 1, 1) := dk_27 (dk_at dksX8_sails_0 5 rfl rfl)
theorem dX8_sails_6 : decode cX8_sails 6 = .ok (.putfield 464, 3) := dk_181 1 208 (dk_at dksX8_sails_0 6 rfl rfl)
theorem dX8_sails_9 : decode cX8_sails 9 = .ok (.aload_n 0, 1) := dk_42 (dk_at dksX8_sails_0 9 rfl rfl)
theorem dX8_sails_10 : decode cX8_sails 10 = .ok (.iconst 0, 1) := dk_3 (dk_at dksX8_sails_0 10 rfl rfl)
theorem dX8_sails_11 : decode cX8_sails 11 = .ok (.putfield 468, 3) := dk_181 1 212 (dk_at dksX8_sails_0 11 rfl rfl)
theorem dX8_sails_14 : decode cX8_sails 14 = .ok (.iconst 0, 1) := dk_3 (dk_at dksX8_sails_0 14 rfl rfl)
theorem dX8_sails_15 : decode cX8_sails 15 = .ok (.istore 5, 2) := dk_54 5 (dk_at dksX8_sails_0 15 rfl rfl)
theorem dX8_sails_17 : decode cX8_sails 17 = .ok (.iload 5, 2) := dk_21 5 (dk_at dksX8_sails_0 17 rfl rfl)
theorem dX8_sails_19 : decode cX8_sails 19 = .ok (.iload 4, 2) := dk_21 4 (dk_at dksX8_sails_0 19 rfl rfl)
theorem dX8_sails_21 : decode cX8_sails 21 = .ok (.if_icmp .ge 62, 3) := dk_162 0 62 (dk_at dksX8_sails_0 21 rfl rfl)
theorem dX8_sails_24 : decode cX8_sails 24 = .ok (.aload_n 0, 1) := dk_42 (dk_at dksX8_sails_1 0 rfl rfl)
theorem dX8_sails_25 : decode cX8_sails 25 = .ok (.invokevirtual 471, 3) := dk_182 1 215 (dk_at dksX8_sails_1 1 rfl rfl)
theorem dX8_sails_28 : decode cX8_sails 28 = .ok (.iload_n 2, 1) := dk_28 (dk_at dksX8_sails_1 4 rfl rfl)
theorem dX8_sails_29 : decode cX8_sails 29 = .ok (.if_icmp .ge 44, 3) := dk_162 0 44 (dk_at dksX8_sails_1 5 rfl rfl)
theorem dX8_sails_32 : decode cX8_sails 32 = .ok (.aload_n 0, 1) := dk_42 (dk_at dksX8_sails_1 8 rfl rfl)
theorem dX8_sails_33 : decode cX8_sails 33 = .ok (.dup, 1) := dk_89 (dk_at dksX8_sails_1 9 rfl rfl)
theorem dX8_sails_34 : decode cX8_sails 34 = .ok (.getfield 468, 3) := dk_180 1 212 (dk_at dksX8_sails_1 10 rfl rfl)
theorem dX8_sails_37 : decode cX8_sails 37 = .ok (.iconst 1, 1) := dk_4 (dk_at dksX8_sails_1 13 rfl rfl)
theorem dX8_sails_38 : decode cX8_sails 38 = .ok (.iadd, 1) := dk_96 (dk_at dksX8_sails_1 14 rfl rfl)
theorem dX8_sails_39 : decode cX8_sails 39 = .ok (.putfield 468, 3) := dk_181 1 212 (dk_at dksX8_sails_1 15 rfl rfl)
theorem dX8_sails_42 : decode cX8_sails 42 = .ok (.aload_n 0, 1) := dk_42 (dk_at dksX8_sails_1 18 rfl rfl)
theorem dX8_sails_43 : decode cX8_sails 43 = .ok (.getfield 65, 3) := dk_180 0 65 (dk_at dksX8_sails_1 19 rfl rfl)
theorem dX8_sails_46 : decode cX8_sails 46 = .ok (.bipush 65, 2) := dk_16 65 (dk_at dksX8_sails_1 22 rfl rfl)
theorem dX8_sails_48 : decode cX8_sails 48 = .ok (.aload_n 0, 1) := dk_42 (dk_at dksX8_sails_2 0 rfl rfl)
theorem dX8_sails_49 : decode cX8_sails 49 = .ok (.getfield 65, 3) := dk_180 0 65 (dk_at dksX8_sails_2 1 rfl rfl)
theorem dX8_sails_52 : decode cX8_sails 52 = .ok (.bipush 65, 2) := dk_16 65 (dk_at dksX8_sails_2 4 rfl rfl)
theorem dX8_sails_54 : decode cX8_sails 54 = .ok (.iaload, 1) := dk_46 (dk_at dksX8_sails_2 6 rfl rfl)
theorem dX8_sails_55 : decode cX8_sails 55 = .ok (.iload_n 3, 1) := dk_29 (dk_at dksX8_sails_2 7 rfl rfl)
theorem dX8_sails_56 : decode cX8_sails 56 = .ok (.if_icmp .le 15, 3) := dk_164 0 15 (dk_at dksX8_sails_2 8 rfl rfl)
theorem dX8_sails_59 : decode cX8_sails 59 = .ok (.aload_n 0, 1) := dk_42 (dk_at dksX8_sails_2 11 rfl rfl)
theorem dX8_sails_60 : decode cX8_sails 60 = .ok (.getfield 65, 3) := dk_180 0 65 (dk_at dksX8_sails_2 12 rfl rfl)
theorem dX8_sails_63 : decode cX8_sails 63 = .ok (.bipush 65, 2) := dk_16 65 (dk_at dksX8_sails_2 15 rfl rfl)
theorem dX8_sails_65 : decode cX8_sails 65 = .ok (.iaload, 1) := dk_46 (dk_at dksX8_sails_2 17 rfl rfl)
theorem dX8_sails_66 : decode cX8_sails 66 = .ok (.iload_n 3, 1) := dk_29 (dk_at dksX8_sails_2 18 rfl rfl)
theorem dX8_sails_67 : decode cX8_sails 67 = .ok (.isub, 1) := dk_100 (dk_at dksX8_sails_2 19 rfl rfl)
theorem dX8_sails_68 : decode cX8_sails 68 = .ok (.goto 4, 3) := dk_167 0 4 (dk_at dksX8_sails_2 20 rfl rfl)
theorem dX8_sails_71 : decode cX8_sails 71 = .ok (.iconst 0, 1) := dk_3 (dk_at dksX8_sails_2 23 rfl rfl)
theorem dX8_sails_72 : decode cX8_sails 72 = .ok (.iastore, 1) := dk_79 (dk_at dksX8_sails_3 0 rfl rfl)
theorem dX8_sails_73 : decode cX8_sails 73 = .ok (.aload_n 0, 1) := dk_42 (dk_at dksX8_sails_3 1 rfl rfl)
theorem dX8_sails_74 : decode cX8_sails 74 = .ok (.invokevirtual 401, 3) := dk_182 1 145 (dk_at dksX8_sails_3 2 rfl rfl)
theorem dX8_sails_77 : decode cX8_sails 77 = .ok (.iinc 5 1, 3) := dk_132 5 1 (dk_at dksX8_sails_3 5 rfl rfl)
theorem dX8_sails_80 : decode cX8_sails 80 = .ok (.goto (-63), 3) := dk_167 255 193 (dk_at dksX8_sails_3 8 rfl rfl)
theorem dX8_sails_83 : decode cX8_sails 83 = .ok (.return_, 1) := dk_177 (dk_at dksX8_sails_3 11 rfl rfl)
abbrev cX8_draws : ByteArray := prog_26_method_106_code
def yX8_draws : MethodName := ⟨RX8, "draws", "()I"⟩
def dkwX8_draws_1 : List UInt8 := [17, 127, 255, 126, 16, 16, 112, 172]
abbrev dktX8_draws_1 : List UInt8 := dkwX8_draws_1 ++ []
def dkwX8_draws_0 : List UInt8 := [42, 42, 180, 1, 208, 19, 1, 211, 104, 17, 48, 57, 96, 181, 1, 208, 42, 180, 1, 208, 16, 16, 122]
abbrev dktX8_draws_0 : List UInt8 := dkwX8_draws_0 ++ dktX8_draws_1
theorem dksX8_draws_0 : cX8_draws.data.toList.drop 0 = dktX8_draws_0 := by decide +kernel
theorem dksX8_draws_1 : cX8_draws.data.toList.drop 23 = dktX8_draws_1 := dk_seg dksX8_draws_0 23 rfl rfl
theorem dX8_draws_0 : decode cX8_draws 0 = .ok (.aload_n 0, 1) := dk_42 (dk_at dksX8_draws_0 0 rfl rfl)
theorem dX8_draws_1 : decode cX8_draws 1 = .ok (.aload_n 0, 1) := dk_42 (dk_at dksX8_draws_0 1 rfl rfl)
theorem dX8_draws_2 : decode cX8_draws 2 = .ok (.getfield 464, 3) := dk_180 1 208 (dk_at dksX8_draws_0 2 rfl rfl)
theorem dX8_draws_5 : decode cX8_draws 5 = .ok (.ldc_w 467, 3) := dk_19 1 211 (dk_at dksX8_draws_0 5 rfl rfl)
theorem dX8_draws_8 : decode cX8_draws 8 = .ok (.imul, 1) := dk_104 (dk_at dksX8_draws_0 8 rfl rfl)
theorem dX8_draws_9 : decode cX8_draws 9 = .ok (.sipush 12345, 3) := dk_17 48 57 (dk_at dksX8_draws_0 9 rfl rfl)
theorem dX8_draws_12 : decode cX8_draws 12 = .ok (.iadd, 1) := dk_96 (dk_at dksX8_draws_0 12 rfl rfl)
theorem dX8_draws_13 : decode cX8_draws 13 = .ok (.putfield 464, 3) := dk_181 1 208 (dk_at dksX8_draws_0 13 rfl rfl)
theorem dX8_draws_16 : decode cX8_draws 16 = .ok (.aload_n 0, 1) := dk_42 (dk_at dksX8_draws_0 16 rfl rfl)
theorem dX8_draws_17 : decode cX8_draws 17 = .ok (.getfield 464, 3) := dk_180 1 208 (dk_at dksX8_draws_0 17 rfl rfl)
theorem dX8_draws_20 : decode cX8_draws 20 = .ok (.bipush 16, 2) := dk_16 16 (dk_at dksX8_draws_0 20 rfl rfl)
theorem dX8_draws_22 : decode cX8_draws 22 = .ok (.ishr, 1) := dk_122 (dk_at dksX8_draws_0 22 rfl rfl)
theorem dX8_draws_23 : decode cX8_draws 23 = .ok (.sipush 32767, 3) := dk_17 127 255 (dk_at dksX8_draws_1 0 rfl rfl)
theorem dX8_draws_26 : decode cX8_draws 26 = .ok (.iand, 1) := dk_126 (dk_at dksX8_draws_1 3 rfl rfl)
theorem dX8_draws_27 : decode cX8_draws 27 = .ok (.bipush 16, 2) := dk_16 16 (dk_at dksX8_draws_1 4 rfl rfl)
theorem dX8_draws_29 : decode cX8_draws 29 = .ok (.irem, 1) := dk_112 (dk_at dksX8_draws_1 6 rfl rfl)
theorem dX8_draws_30 : decode cX8_draws 30 = .ok (.ireturn, 1) := dk_172 (dk_at dksX8_draws_1 7 rfl rfl)
abbrev cX8_span : ByteArray := prog_26_method_110_code
def yX8_span : MethodName := ⟨RX8, "span", "(IIIIII)I"⟩
def dkwX8_span_7 : List UInt8 := [160, 0, 8, 21, 8, 167, 0, 5, 21, 9, 172]
abbrev dktX8_span_7 : List UInt8 := dkwX8_span_7 ++ []
def dkwX8_span_6 : List UInt8 := [96, 54, 9, 132, 10, 1, 167, 255, 171, 21, 6, 154, 0, 8, 21, 7, 167, 0, 16, 21, 6, 4]
abbrev dktX8_span_6 : List UInt8 := dkwX8_span_6 ++ dktX8_span_7
def dkwX8_span_5 : List UInt8 := [180, 1, 95, 167, 0, 5, 21, 8, 54, 8, 21, 9, 42, 180, 1, 95, 154, 0, 7, 4, 167, 0, 4, 3]
abbrev dktX8_span_5 : List UInt8 := dkwX8_span_5 ++ dktX8_span_6
def dkwX8_span_4 : List UInt8 := [162, 0, 10, 42, 180, 1, 95, 167, 0, 5, 21, 7, 54, 7, 42, 180, 1, 95, 21, 8, 164, 0, 10, 42]
abbrev dktX8_span_4 : List UInt8 := dkwX8_span_4 ++ dktX8_span_5
def dkwX8_span_3 : List UInt8 := [27, 21, 10, 96, 29, 21, 4, 21, 5, 182, 1, 221, 21, 7, 2, 159, 0, 12, 42, 180, 1, 95, 21, 7]
abbrev dktX8_span_3 : List UInt8 := dkwX8_span_3 ++ dktX8_span_4
def dkwX8_span_2 : List UInt8 := [154, 0, 5, 3, 172, 2, 54, 7, 3, 54, 8, 3, 54, 9, 3, 54, 10, 21, 10, 28, 162, 0, 85, 42]
abbrev dktX8_span_2 : List UInt8 := dkwX8_span_2 ++ dktX8_span_3
def dkwX8_span_1 : List UInt8 := [153, 0, 17, 21, 6, 3, 5, 184, 1, 34, 153, 0, 7, 4, 167, 0, 4, 3, 4, 4, 182, 0, 207]
abbrev dktX8_span_1 : List UInt8 := dkwX8_span_1 ++ dktX8_span_2
def dkwX8_span_0 : List UInt8 := [42, 3, 181, 0, 3, 42, 28, 4, 16, 20, 184, 1, 34, 153, 0, 28, 29, 21, 4, 21, 5, 184, 1, 218]
abbrev dktX8_span_0 : List UInt8 := dkwX8_span_0 ++ dktX8_span_1
theorem dksX8_span_0 : cX8_span.data.toList.drop 0 = dktX8_span_0 := by decide +kernel
theorem dksX8_span_1 : cX8_span.data.toList.drop 24 = dktX8_span_1 := dk_seg dksX8_span_0 24 rfl rfl
theorem dksX8_span_2 : cX8_span.data.toList.drop 47 = dktX8_span_2 := dk_seg dksX8_span_1 23 rfl rfl
theorem dksX8_span_3 : cX8_span.data.toList.drop 71 = dktX8_span_3 := dk_seg dksX8_span_2 24 rfl rfl
theorem dksX8_span_4 : cX8_span.data.toList.drop 95 = dktX8_span_4 := dk_seg dksX8_span_3 24 rfl rfl
theorem dksX8_span_5 : cX8_span.data.toList.drop 119 = dktX8_span_5 := dk_seg dksX8_span_4 24 rfl rfl
theorem dksX8_span_6 : cX8_span.data.toList.drop 143 = dktX8_span_6 := dk_seg dksX8_span_5 24 rfl rfl
theorem dksX8_span_7 : cX8_span.data.toList.drop 165 = dktX8_span_7 := dk_seg dksX8_span_6 22 rfl rfl
theorem dX8_span_0 : decode cX8_span 0 = .ok (.aload_n 0, 1) := dk_42 (dk_at dksX8_span_0 0 rfl rfl)
theorem dX8_span_1 : decode cX8_span 1 = .ok (.iconst 0, 1) := dk_3 (dk_at dksX8_span_0 1 rfl rfl)
theorem dX8_span_2 : decode cX8_span 2 = .ok (.putfield 3, 3) := dk_181 0 3 (dk_at dksX8_span_0 2 rfl rfl)
theorem dX8_span_5 : decode cX8_span 5 = .ok (.aload_n 0, 1) := dk_42 (dk_at dksX8_span_0 5 rfl rfl)
theorem dX8_span_6 : decode cX8_span 6 = .ok (.iload_n 2, 1) := dk_28 (dk_at dksX8_span_0 6 rfl rfl)
theorem dX8_span_7 : decode cX8_span 7 = .ok (.iconst 1, 1) := dk_4 (dk_at dksX8_span_0 7 rfl rfl)
theorem dX8_span_8 : decode cX8_span 8 = .ok (.bipush 20, 2) := dk_16 20 (dk_at dksX8_span_0 8 rfl rfl)
theorem dX8_span_10 : decode cX8_span 10 = .ok (.invokestatic 290, 3) := dk_184 1 34 (dk_at dksX8_span_0 10 rfl rfl)
theorem dX8_span_13 : decode cX8_span 13 = .ok (.ifCond .eq 28, 3) := dk_153 0 28 (dk_at dksX8_span_0 13 rfl rfl)
theorem dX8_span_16 : decode cX8_span 16 = .ok (.iload_n 3, 1) := dk_29 (dk_at dksX8_span_0 16 rfl rfl)
theorem dX8_span_17 : decode cX8_span 17 = .ok (.iload 4, 2) := dk_21 4 (dk_at dksX8_span_0 17 rfl rfl)
theorem dX8_span_19 : decode cX8_span 19 = .ok (.iload 5, 2) := dk_21 5 (dk_at dksX8_span_0 19 rfl rfl)
theorem dX8_span_21 : decode cX8_span 21 = .ok (.invokestatic 474, 3) := dk_184 1 218 (dk_at dksX8_span_0 21 rfl rfl)
theorem dX8_span_24 : decode cX8_span 24 = .ok (.ifCond .eq 17, 3) := dk_153 0 17 (dk_at dksX8_span_1 0 rfl rfl)
theorem dX8_span_27 : decode cX8_span 27 = .ok (.iload 6, 2) := dk_21 6 (dk_at dksX8_span_1 3 rfl rfl)
theorem dX8_span_29 : decode cX8_span 29 = .ok (.iconst 0, 1) := dk_3 (dk_at dksX8_span_1 5 rfl rfl)
theorem dX8_span_30 : decode cX8_span 30 = .ok (.iconst 2, 1) := dk_5 (dk_at dksX8_span_1 6 rfl rfl)
theorem dX8_span_31 : decode cX8_span 31 = .ok (.invokestatic 290, 3) := dk_184 1 34 (dk_at dksX8_span_1 7 rfl rfl)
theorem dX8_span_34 : decode cX8_span 34 = .ok (.ifCond .eq 7, 3) := dk_153 0 7 (dk_at dksX8_span_1 10 rfl rfl)
theorem dX8_span_37 : decode cX8_span 37 = .ok (.iconst 1, 1) := dk_4 (dk_at dksX8_span_1 13 rfl rfl)
theorem dX8_span_38 : decode cX8_span 38 = .ok (.goto 4, 3) := dk_167 0 4 (dk_at dksX8_span_1 14 rfl rfl)
theorem dX8_span_41 : decode cX8_span 41 = .ok (.iconst 0, 1) := dk_3 (dk_at dksX8_span_1 17 rfl rfl)
theorem dX8_span_42 : decode cX8_span 42 = .ok (.iconst 1, 1) := dk_4 (dk_at dksX8_span_1 18 rfl rfl)
theorem dX8_span_43 : decode cX8_span 43 = .ok (.iconst 1, 1) := dk_4 (dk_at dksX8_span_1 19 rfl rfl)
theorem dX8_span_44 : decode cX8_span 44 = .ok (.invokevirtual 207, 3) := dk_182 0 207 (dk_at dksX8_span_1 20 rfl rfl)
theorem dX8_span_47 : decode cX8_span 47 = .ok (.ifCond .ne 5, 3) := dk_154 0 5 (dk_at dksX8_span_2 0 rfl rfl)
theorem dX8_span_50 : decode cX8_span 50 = .ok (.iconst 0, 1) := dk_3 (dk_at dksX8_span_2 3 rfl rfl)
theorem dX8_span_51 : decode cX8_span 51 = .ok (.ireturn, 1) := dk_172 (dk_at dksX8_span_2 4 rfl rfl)
theorem dX8_span_52 : decode cX8_span 52 = .ok (.iconst (-1), 1) := dk_2 (dk_at dksX8_span_2 5 rfl rfl)
theorem dX8_span_53 : decode cX8_span 53 = .ok (.istore 7, 2) := dk_54 7 (dk_at dksX8_span_2 6 rfl rfl)
theorem dX8_span_55 : decode cX8_span 55 = .ok (.iconst 0, 1) := dk_3 (dk_at dksX8_span_2 8 rfl rfl)
theorem dX8_span_56 : decode cX8_span 56 = .ok (.istore 8, 2) := dk_54 8 (dk_at dksX8_span_2 9 rfl rfl)
theorem dX8_span_58 : decode cX8_span 58 = .ok (.iconst 0, 1) := dk_3 (dk_at dksX8_span_2 11 rfl rfl)
theorem dX8_span_59 : decode cX8_span 59 = .ok (.istore 9, 2) := dk_54 9 (dk_at dksX8_span_2 12 rfl rfl)
theorem dX8_span_61 : decode cX8_span 61 = .ok (.iconst 0, 1) := dk_3 (dk_at dksX8_span_2 14 rfl rfl)
theorem dX8_span_62 : decode cX8_span 62 = .ok (.istore 10, 2) := dk_54 10 (dk_at dksX8_span_2 15 rfl rfl)
theorem dX8_span_64 : decode cX8_span 64 = .ok (.iload 10, 2) := dk_21 10 (dk_at dksX8_span_2 17 rfl rfl)
theorem dX8_span_66 : decode cX8_span 66 = .ok (.iload_n 2, 1) := dk_28 (dk_at dksX8_span_2 19 rfl rfl)
theorem dX8_span_67 : decode cX8_span 67 = .ok (.if_icmp .ge 85, 3) := dk_162 0 85 (dk_at dksX8_span_2 20 rfl rfl)
theorem dX8_span_70 : decode cX8_span 70 = .ok (.aload_n 0, 1) := dk_42 (dk_at dksX8_span_2 23 rfl rfl)
theorem dX8_span_71 : decode cX8_span 71 = .ok (.iload_n 1, 1) := dk_27 (dk_at dksX8_span_3 0 rfl rfl)
theorem dX8_span_72 : decode cX8_span 72 = .ok (.iload 10, 2) := dk_21 10 (dk_at dksX8_span_3 1 rfl rfl)
theorem dX8_span_74 : decode cX8_span 74 = .ok (.iadd, 1) := dk_96 (dk_at dksX8_span_3 3 rfl rfl)
theorem dX8_span_75 : decode cX8_span 75 = .ok (.iload_n 3, 1) := dk_29 (dk_at dksX8_span_3 4 rfl rfl)
theorem dX8_span_76 : decode cX8_span 76 = .ok (.iload 4, 2) := dk_21 4 (dk_at dksX8_span_3 5 rfl rfl)
theorem dX8_span_78 : decode cX8_span 78 = .ok (.iload 5, 2) := dk_21 5 (dk_at dksX8_span_3 7 rfl rfl)
theorem dX8_span_80 : decode cX8_span 80 = .ok (.invokevirtual 477, 3) := dk_182 1 221 (dk_at dksX8_span_3 9 rfl rfl)
theorem dX8_span_83 : decode cX8_span 83 = .ok (.iload 7, 2) := dk_21 7 (dk_at dksX8_span_3 12 rfl rfl)
theorem dX8_span_85 : decode cX8_span 85 = .ok (.iconst (-1), 1) := dk_2 (dk_at dksX8_span_3 14 rfl rfl)
theorem dX8_span_86 : decode cX8_span 86 = .ok (.if_icmp .eq 12, 3) := dk_159 0 12 (dk_at dksX8_span_3 15 rfl rfl)
theorem dX8_span_89 : decode cX8_span 89 = .ok (.aload_n 0, 1) := dk_42 (dk_at dksX8_span_3 18 rfl rfl)
theorem dX8_span_90 : decode cX8_span 90 = .ok (.getfield 351, 3) := dk_180 1 95 (dk_at dksX8_span_3 19 rfl rfl)
theorem dX8_span_93 : decode cX8_span 93 = .ok (.iload 7, 2) := dk_21 7 (dk_at dksX8_span_3 22 rfl rfl)
theorem dX8_span_95 : decode cX8_span 95 = .ok (.if_icmp .ge 10, 3) := dk_162 0 10 (dk_at dksX8_span_4 0 rfl rfl)
theorem dX8_span_98 : decode cX8_span 98 = .ok (.aload_n 0, 1) := dk_42 (dk_at dksX8_span_4 3 rfl rfl)
theorem dX8_span_99 : decode cX8_span 99 = .ok (.getfield 351, 3) := dk_180 1 95 (dk_at dksX8_span_4 4 rfl rfl)
theorem dX8_span_102 : decode cX8_span 102 = .ok (.goto 5, 3) := dk_167 0 5 (dk_at dksX8_span_4 7 rfl rfl)
theorem dX8_span_105 : decode cX8_span 105 = .ok (.iload 7, 2) := dk_21 7 (dk_at dksX8_span_4 10 rfl rfl)
theorem dX8_span_107 : decode cX8_span 107 = .ok (.istore 7, 2) := dk_54 7 (dk_at dksX8_span_4 12 rfl rfl)
theorem dX8_span_109 : decode cX8_span 109 = .ok (.aload_n 0, 1) := dk_42 (dk_at dksX8_span_4 14 rfl rfl)
theorem dX8_span_110 : decode cX8_span 110 = .ok (.getfield 351, 3) := dk_180 1 95 (dk_at dksX8_span_4 15 rfl rfl)
theorem dX8_span_113 : decode cX8_span 113 = .ok (.iload 8, 2) := dk_21 8 (dk_at dksX8_span_4 18 rfl rfl)
theorem dX8_span_115 : decode cX8_span 115 = .ok (.if_icmp .le 10, 3) := dk_164 0 10 (dk_at dksX8_span_4 20 rfl rfl)
theorem dX8_span_118 : decode cX8_span 118 = .ok (.aload_n 0, 1) := dk_42 (dk_at dksX8_span_4 23 rfl rfl)
theorem dX8_span_119 : decode cX8_span 119 = .ok (.getfield 351, 3) := dk_180 1 95 (dk_at dksX8_span_5 0 rfl rfl)
theorem dX8_span_122 : decode cX8_span 122 = .ok (.goto 5, 3) := dk_167 0 5 (dk_at dksX8_span_5 3 rfl rfl)
theorem dX8_span_125 : decode cX8_span 125 = .ok (.iload 8, 2) := dk_21 8 (dk_at dksX8_span_5 6 rfl rfl)
theorem dX8_span_127 : decode cX8_span 127 = .ok (.istore 8, 2) := dk_54 8 (dk_at dksX8_span_5 8 rfl rfl)
theorem dX8_span_129 : decode cX8_span 129 = .ok (.iload 9, 2) := dk_21 9 (dk_at dksX8_span_5 10 rfl rfl)
theorem dX8_span_131 : decode cX8_span 131 = .ok (.aload_n 0, 1) := dk_42 (dk_at dksX8_span_5 12 rfl rfl)
theorem dX8_span_132 : decode cX8_span 132 = .ok (.getfield 351, 3) := dk_180 1 95 (dk_at dksX8_span_5 13 rfl rfl)
theorem dX8_span_135 : decode cX8_span 135 = .ok (.ifCond .ne 7, 3) := dk_154 0 7 (dk_at dksX8_span_5 16 rfl rfl)
theorem dX8_span_138 : decode cX8_span 138 = .ok (.iconst 1, 1) := dk_4 (dk_at dksX8_span_5 19 rfl rfl)
theorem dX8_span_139 : decode cX8_span 139 = .ok (.goto 4, 3) := dk_167 0 4 (dk_at dksX8_span_5 20 rfl rfl)
theorem dX8_span_142 : decode cX8_span 142 = .ok (.iconst 0, 1) := dk_3 (dk_at dksX8_span_5 23 rfl rfl)
theorem dX8_span_143 : decode cX8_span 143 = .ok (.iadd, 1) := dk_96 (dk_at dksX8_span_6 0 rfl rfl)
theorem dX8_span_144 : decode cX8_span 144 = .ok (.istore 9, 2) := dk_54 9 (dk_at dksX8_span_6 1 rfl rfl)
theorem dX8_span_146 : decode cX8_span 146 = .ok (.iinc 10 1, 3) := dk_132 10 1 (dk_at dksX8_span_6 3 rfl rfl)
theorem dX8_span_149 : decode cX8_span 149 = .ok (.goto (-85), 3) := dk_167 255 171 (dk_at dksX8_span_6 6 rfl rfl)
theorem dX8_span_152 : decode cX8_span 152 = .ok (.iload 6, 2) := dk_21 6 (dk_at dksX8_span_6 9 rfl rfl)
theorem dX8_span_154 : decode cX8_span 154 = .ok (.ifCond .ne 8, 3) := dk_154 0 8 (dk_at dksX8_span_6 11 rfl rfl)
theorem dX8_span_157 : decode cX8_span 157 = .ok (.iload 7, 2) := dk_21 7 (dk_at dksX8_span_6 14 rfl rfl)
theorem dX8_span_159 : decode cX8_span 159 = .ok (.goto 16, 3) := dk_167 0 16 (dk_at dksX8_span_6 16 rfl rfl)
theorem dX8_span_162 : decode cX8_span 162 = .ok (.iload 6, 2) := dk_21 6 (dk_at dksX8_span_6 19 rfl rfl)
theorem dX8_span_164 : decode cX8_span 164 = .ok (.iconst 1, 1) := dk_4 (dk_at dksX8_span_6 21 rfl rfl)
theorem dX8_span_165 : decode cX8_span 165 = .ok (.if_icmp .ne 8, 3) := dk_160 0 8 (dk_at dksX8_span_7 0 rfl rfl)
theorem dX8_span_168 : decode cX8_span 168 = .ok (.iload 8, 2) := dk_21 8 (dk_at dksX8_span_7 3 rfl rfl)
theorem dX8_span_170 : decode cX8_span 170 = .ok (.goto 5, 3) := dk_167 0 5 (dk_at dksX8_span_7 5 rfl rfl)
theorem dX8_span_173 : decode cX8_span 173 = .ok (.iload 9, 2) := dk_21 9 (dk_at dksX8_span_7 8 rfl rfl)
theorem dX8_span_175 : decode cX8_span 175 = .ok (.ireturn, 1) := dk_172 (dk_at dksX8_span_7 10 rfl rfl)
abbrev cX8_image : ByteArray := prog_26_method_113_code
def yX8_image : MethodName := ⟨RX8, "image", "()I"⟩
def dkwX8_image_1 : List UInt8 := [42, 89, 180, 0, 188, 4, 96, 181, 0, 188, 42, 180, 0, 188, 172]
abbrev dktX8_image_1 : List UInt8 := dkwX8_image_1 ++ []
def dkwX8_image_0 : List UInt8 := [42, 3, 181, 0, 3, 42, 180, 0, 188, 6, 160, 0, 5, 2, 172, 42, 42, 180, 0, 188, 4, 182, 1, 229]
abbrev dktX8_image_0 : List UInt8 := dkwX8_image_0 ++ dktX8_image_1
theorem dksX8_image_0 : cX8_image.data.toList.drop 0 = dktX8_image_0 := by decide +kernel
theorem dksX8_image_1 : cX8_image.data.toList.drop 24 = dktX8_image_1 := dk_seg dksX8_image_0 24 rfl rfl
theorem dX8_image_0 : decode cX8_image 0 = .ok (.aload_n 0, 1) := dk_42 (dk_at dksX8_image_0 0 rfl rfl)
theorem dX8_image_1 : decode cX8_image 1 = .ok (.iconst 0, 1) := dk_3 (dk_at dksX8_image_0 1 rfl rfl)
theorem dX8_image_2 : decode cX8_image 2 = .ok (.putfield 3, 3) := dk_181 0 3 (dk_at dksX8_image_0 2 rfl rfl)
theorem dX8_image_5 : decode cX8_image 5 = .ok (.aload_n 0, 1) := dk_42 (dk_at dksX8_image_0 5 rfl rfl)
theorem dX8_image_6 : decode cX8_image 6 = .ok (.getfield 188, 3) := dk_180 0 188 (dk_at dksX8_image_0 6 rfl rfl)
theorem dX8_image_9 : decode cX8_image 9 = .ok (.iconst 3, 1) := dk_6 (dk_at dksX8_image_0 9 rfl rfl)
theorem dX8_image_10 : decode cX8_image 10 = .ok (.if_icmp .ne 5, 3) := dk_160 0 5 (dk_at dksX8_image_0 10 rfl rfl)
theorem dX8_image_13 : decode cX8_image 13 = .ok (.iconst (-1), 1) := dk_2 (dk_at dksX8_image_0 13 rfl rfl)
theorem dX8_image_14 : decode cX8_image 14 = .ok (.ireturn, 1) := dk_172 (dk_at dksX8_image_0 14 rfl rfl)
theorem dX8_image_15 : decode cX8_image 15 = .ok (.aload_n 0, 1) := dk_42 (dk_at dksX8_image_0 15 rfl rfl)
theorem dX8_image_16 : decode cX8_image 16 = .ok (.aload_n 0, 1) := dk_42 (dk_at dksX8_image_0 16 rfl rfl)
theorem dX8_image_17 : decode cX8_image 17 = .ok (.getfield 188, 3) := dk_180 0 188 (dk_at dksX8_image_0 17 rfl rfl)
theorem dX8_image_20 : decode cX8_image 20 = .ok (.iconst 1, 1) := dk_4 (dk_at dksX8_image_0 20 rfl rfl)
theorem dX8_image_21 : decode cX8_image 21 = .ok (.invokevirtual 485, 3) := dk_182 1 229 (dk_at dksX8_image_0 21 rfl rfl)
theorem dX8_image_24 : decode cX8_image 24 = .ok (.aload_n 0, 1) := dk_42 (dk_at dksX8_image_1 0 rfl rfl)
theorem dX8_image_25 : decode cX8_image 25 = .ok (.dup, 1) := dk_89 (dk_at dksX8_image_1 1 rfl rfl)
theorem dX8_image_26 : decode cX8_image 26 = .ok (.getfield 188, 3) := dk_180 0 188 (dk_at dksX8_image_1 2 rfl rfl)
theorem dX8_image_29 : decode cX8_image 29 = .ok (.iconst 1, 1) := dk_4 (dk_at dksX8_image_1 5 rfl rfl)
theorem dX8_image_30 : decode cX8_image 30 = .ok (.iadd, 1) := dk_96 (dk_at dksX8_image_1 6 rfl rfl)
theorem dX8_image_31 : decode cX8_image 31 = .ok (.putfield 188, 3) := dk_181 0 188 (dk_at dksX8_image_1 7 rfl rfl)
theorem dX8_image_34 : decode cX8_image 34 = .ok (.aload_n 0, 1) := dk_42 (dk_at dksX8_image_1 10 rfl rfl)
theorem dX8_image_35 : decode cX8_image 35 = .ok (.getfield 188, 3) := dk_180 0 188 (dk_at dksX8_image_1 11 rfl rfl)
theorem dX8_image_38 : decode cX8_image 38 = .ok (.ireturn, 1) := dk_172 (dk_at dksX8_image_1 14 rfl rfl)
abbrev cX8_keepsAll : ByteArray := prog_26_method_112_code
def yX8_keepsAll : MethodName := ⟨RX8, "keepsAll", "(IZ)V"⟩
def dkwX8_keepsAll_2 : List UInt8 := [167, 0, 13, 42, 42, 180, 0, 102, 29, 46, 181, 0, 185, 177]
abbrev dktX8_keepsAll_2 : List UInt8 := dkwX8_keepsAll_2 ++ []
def dkwX8_keepsAll_1 : List UInt8 := [17, 4, 32, 28, 182, 1, 225, 62, 28, 153, 0, 16, 42, 180, 0, 102, 29, 42, 180, 0, 185, 79]
abbrev dktX8_keepsAll_1 : List UInt8 := dkwX8_keepsAll_1 ++ dktX8_keepsAll_2
def dkwX8_keepsAll_0 : List UInt8 := [42, 17, 4, 99, 27, 104, 42, 180, 0, 62, 16, 66, 28, 182, 1, 225, 62, 42, 29, 42, 180, 0, 68]
abbrev dktX8_keepsAll_0 : List UInt8 := dkwX8_keepsAll_0 ++ dktX8_keepsAll_1
theorem dksX8_keepsAll_0 : cX8_keepsAll.data.toList.drop 0 = dktX8_keepsAll_0 := by decide +kernel
theorem dksX8_keepsAll_1 : cX8_keepsAll.data.toList.drop 23 = dktX8_keepsAll_1 := dk_seg dksX8_keepsAll_0 23 rfl rfl
theorem dksX8_keepsAll_2 : cX8_keepsAll.data.toList.drop 45 = dktX8_keepsAll_2 := dk_seg dksX8_keepsAll_1 22 rfl rfl
theorem dX8_keepsAll_0 : decode cX8_keepsAll 0 = .ok (.aload_n 0, 1) := dk_42 (dk_at dksX8_keepsAll_0 0 rfl rfl)
theorem dX8_keepsAll_1 : decode cX8_keepsAll 1 = .ok (.sipush 1123, 3) := dk_17 4 99 (dk_at dksX8_keepsAll_0 1 rfl rfl)
theorem dX8_keepsAll_4 : decode cX8_keepsAll 4 = .ok (.iload_n 1, 1) := dk_27 (dk_at dksX8_keepsAll_0 4 rfl rfl)
theorem dX8_keepsAll_5 : decode cX8_keepsAll 5 = .ok (.imul, 1) := dk_104 (dk_at dksX8_keepsAll_0 5 rfl rfl)
theorem dX8_keepsAll_6 : decode cX8_keepsAll 6 = .ok (.aload_n 0, 1) := dk_42 (dk_at dksX8_keepsAll_0 6 rfl rfl)
theorem dX8_keepsAll_7 : decode cX8_keepsAll 7 = .ok (.getfield 62, 3) := dk_180 0 62 (dk_at dksX8_keepsAll_0 7 rfl rfl)
theorem dX8_keepsAll_10 : decode cX8_keepsAll 10 = .ok (.bipush 66, 2) := dk_16 66 (dk_at dksX8_keepsAll_0 10 rfl rfl)
theorem dX8_keepsAll_12 : decode cX8_keepsAll 12 = .ok (.iload_n 2, 1) := dk_28 (dk_at dksX8_keepsAll_0 12 rfl rfl)
theorem dX8_keepsAll_13 : decode cX8_keepsAll 13 = .ok (.invokevirtual 481, 3) := dk_182 1 225 (dk_at dksX8_keepsAll_0 13 rfl rfl)
theorem dX8_keepsAll_16 : decode cX8_keepsAll 16 = .ok (.istore_n 3, 1) := dk_62 (dk_at dksX8_keepsAll_0 16 rfl rfl)
theorem dX8_keepsAll_17 : decode cX8_keepsAll 17 = .ok (.aload_n 0, 1) := dk_42 (dk_at dksX8_keepsAll_0 17 rfl rfl)
theorem dX8_keepsAll_18 : decode cX8_keepsAll 18 = .ok (.iload_n 3, 1) := dk_29 (dk_at dksX8_keepsAll_0 18 rfl rfl)
theorem dX8_keepsAll_19 : decode cX8_keepsAll 19 = .ok (.aload_n 0, 1) := dk_42 (dk_at dksX8_keepsAll_0 19 rfl rfl)
theorem dX8_keepsAll_20 : decode cX8_keepsAll 20 = .ok (.getfield 68, 3) := dk_180 0 68 (dk_at dksX8_keepsAll_0 20 rfl rfl)
theorem dX8_keepsAll_23 : decode cX8_keepsAll 23 = .ok (.sipush 1056, 3) := dk_17 4 32 (dk_at dksX8_keepsAll_1 0 rfl rfl)
theorem dX8_keepsAll_26 : decode cX8_keepsAll 26 = .ok (.iload_n 2, 1) := dk_28 (dk_at dksX8_keepsAll_1 3 rfl rfl)
theorem dX8_keepsAll_27 : decode cX8_keepsAll 27 = .ok (.invokevirtual 481, 3) := dk_182 1 225 (dk_at dksX8_keepsAll_1 4 rfl rfl)
theorem dX8_keepsAll_30 : decode cX8_keepsAll 30 = .ok (.istore_n 3, 1) := dk_62 (dk_at dksX8_keepsAll_1 7 rfl rfl)
theorem dX8_keepsAll_31 : decode cX8_keepsAll 31 = .ok (.iload_n 2, 1) := dk_28 (dk_at dksX8_keepsAll_1 8 rfl rfl)
theorem dX8_keepsAll_32 : decode cX8_keepsAll 32 = .ok (.ifCond .eq 16, 3) := dk_153 0 16 (dk_at dksX8_keepsAll_1 9 rfl rfl)
theorem dX8_keepsAll_35 : decode cX8_keepsAll 35 = .ok (.aload_n 0, 1) := dk_42 (dk_at dksX8_keepsAll_1 12 rfl rfl)
theorem dX8_keepsAll_36 : decode cX8_keepsAll 36 = .ok (.getfield 102, 3) := dk_180 0 102 (dk_at dksX8_keepsAll_1 13 rfl rfl)
theorem dX8_keepsAll_39 : decode cX8_keepsAll 39 = .ok (.iload_n 3, 1) := dk_29 (dk_at dksX8_keepsAll_1 16 rfl rfl)
theorem dX8_keepsAll_40 : decode cX8_keepsAll 40 = .ok (.aload_n 0, 1) := dk_42 (dk_at dksX8_keepsAll_1 17 rfl rfl)
theorem dX8_keepsAll_41 : decode cX8_keepsAll 41 = .ok (.getfield 185, 3) := dk_180 0 185 (dk_at dksX8_keepsAll_1 18 rfl rfl)
theorem dX8_keepsAll_44 : decode cX8_keepsAll 44 = .ok (.iastore, 1) := dk_79 (dk_at dksX8_keepsAll_1 21 rfl rfl)
theorem dX8_keepsAll_45 : decode cX8_keepsAll 45 = .ok (.goto 13, 3) := dk_167 0 13 (dk_at dksX8_keepsAll_2 0 rfl rfl)
theorem dX8_keepsAll_48 : decode cX8_keepsAll 48 = .ok (.aload_n 0, 1) := dk_42 (dk_at dksX8_keepsAll_2 3 rfl rfl)
theorem dX8_keepsAll_49 : decode cX8_keepsAll 49 = .ok (.aload_n 0, 1) := dk_42 (dk_at dksX8_keepsAll_2 4 rfl rfl)
theorem dX8_keepsAll_50 : decode cX8_keepsAll 50 = .ok (.getfield 102, 3) := dk_180 0 102 (dk_at dksX8_keepsAll_2 5 rfl rfl)
theorem dX8_keepsAll_53 : decode cX8_keepsAll 53 = .ok (.iload_n 3, 1) := dk_29 (dk_at dksX8_keepsAll_2 8 rfl rfl)
theorem dX8_keepsAll_54 : decode cX8_keepsAll 54 = .ok (.iaload, 1) := dk_46 (dk_at dksX8_keepsAll_2 9 rfl rfl)
theorem dX8_keepsAll_55 : decode cX8_keepsAll 55 = .ok (.putfield 185, 3) := dk_181 0 185 (dk_at dksX8_keepsAll_2 10 rfl rfl)
theorem dX8_keepsAll_58 : decode cX8_keepsAll 58 = .ok (.return_, 1) := dk_177 (dk_at dksX8_keepsAll_2 13 rfl rfl)
abbrev cX8_keepsRow : ByteArray := prog_26_method_111_code
def yX8_keepsRow : MethodName := ⟨RX8, "keepsRow", "(I[IIZ)I"⟩
def dkwX8_keepsRow_2 : List UInt8 := [167, 255, 213, 27, 29, 96, 172]
abbrev dktX8_keepsRow_2 : List UInt8 := dkwX8_keepsRow_2 ++ []
def dkwX8_keepsRow_1 : List UInt8 := [21, 5, 46, 79, 167, 0, 16, 44, 21, 5, 42, 180, 0, 102, 27, 21, 5, 96, 46, 79, 132, 5, 1]
abbrev dktX8_keepsRow_1 : List UInt8 := dkwX8_keepsRow_1 ++ dktX8_keepsRow_2
def dkwX8_keepsRow_0 : List UInt8 := [3, 54, 5, 21, 5, 29, 162, 0, 43, 21, 4, 153, 0, 19, 42, 180, 0, 102, 27, 21, 5, 96, 44]
abbrev dktX8_keepsRow_0 : List UInt8 := dkwX8_keepsRow_0 ++ dktX8_keepsRow_1
theorem dksX8_keepsRow_0 : cX8_keepsRow.data.toList.drop 0 = dktX8_keepsRow_0 := by decide +kernel
theorem dksX8_keepsRow_1 : cX8_keepsRow.data.toList.drop 23 = dktX8_keepsRow_1 := dk_seg dksX8_keepsRow_0 23 rfl rfl
theorem dksX8_keepsRow_2 : cX8_keepsRow.data.toList.drop 46 = dktX8_keepsRow_2 := dk_seg dksX8_keepsRow_1 23 rfl rfl
theorem dX8_keepsRow_0 : decode cX8_keepsRow 0 = .ok (.iconst 0, 1) := dk_3 (dk_at dksX8_keepsRow_0 0 rfl rfl)
theorem dX8_keepsRow_1 : decode cX8_keepsRow 1 = .ok (.istore 5, 2) := dk_54 5 (dk_at dksX8_keepsRow_0 1 rfl rfl)
theorem dX8_keepsRow_3 : decode cX8_keepsRow 3 = .ok (.iload 5, 2) := dk_21 5 (dk_at dksX8_keepsRow_0 3 rfl rfl)
theorem dX8_keepsRow_5 : decode cX8_keepsRow 5 = .ok (.iload_n 3, 1) := dk_29 (dk_at dksX8_keepsRow_0 5 rfl rfl)
theorem dX8_keepsRow_6 : decode cX8_keepsRow 6 = .ok (.if_icmp .ge 43, 3) := dk_162 0 43 (dk_at dksX8_keepsRow_0 6 rfl rfl)
theorem dX8_keepsRow_9 : decode cX8_keepsRow 9 = .ok (.iload 4, 2) := dk_21 4 (dk_at dksX8_keepsRow_0 9 rfl rfl)
theorem dX8_keepsRow_11 : decode cX8_keepsRow 11 = .ok (.ifCond .eq 19, 3) := dk_153 0 19 (dk_at dksX8_keepsRow_0 11 rfl rfl)
theorem dX8_keepsRow_14 : decode cX8_keepsRow 14 = .ok (.aload_n 0, 1) := dk_42 (dk_at dksX8_keepsRow_0 14 rfl rfl)
theorem dX8_keepsRow_15 : decode cX8_keepsRow 15 = .ok (.getfield 102, 3) := dk_180 0 102 (dk_at dksX8_keepsRow_0 15 rfl rfl)
theorem dX8_keepsRow_18 : decode cX8_keepsRow 18 = .ok (.iload_n 1, 1) := dk_27 (dk_at dksX8_keepsRow_0 18 rfl rfl)
theorem dX8_keepsRow_19 : decode cX8_keepsRow 19 = .ok (.iload 5, 2) := dk_21 5 (dk_at dksX8_keepsRow_0 19 rfl rfl)
theorem dX8_keepsRow_21 : decode cX8_keepsRow 21 = .ok (.iadd, 1) := dk_96 (dk_at dksX8_keepsRow_0 21 rfl rfl)
theorem dX8_keepsRow_22 : decode cX8_keepsRow 22 = .ok (.aload_n 2, 1) := dk_44 (dk_at dksX8_keepsRow_0 22 rfl rfl)
theorem dX8_keepsRow_23 : decode cX8_keepsRow 23 = .ok (.iload 5, 2) := dk_21 5 (dk_at dksX8_keepsRow_1 0 rfl rfl)
theorem dX8_keepsRow_25 : decode cX8_keepsRow 25 = .ok (.iaload, 1) := dk_46 (dk_at dksX8_keepsRow_1 2 rfl rfl)
theorem dX8_keepsRow_26 : decode cX8_keepsRow 26 = .ok (.iastore, 1) := dk_79 (dk_at dksX8_keepsRow_1 3 rfl rfl)
theorem dX8_keepsRow_27 : decode cX8_keepsRow 27 = .ok (.goto 16, 3) := dk_167 0 16 (dk_at dksX8_keepsRow_1 4 rfl rfl)
theorem dX8_keepsRow_30 : decode cX8_keepsRow 30 = .ok (.aload_n 2, 1) := dk_44 (dk_at dksX8_keepsRow_1 7 rfl rfl)
theorem dX8_keepsRow_31 : decode cX8_keepsRow 31 = .ok (.iload 5, 2) := dk_21 5 (dk_at dksX8_keepsRow_1 8 rfl rfl)
theorem dX8_keepsRow_33 : decode cX8_keepsRow 33 = .ok (.aload_n 0, 1) := dk_42 (dk_at dksX8_keepsRow_1 10 rfl rfl)
theorem dX8_keepsRow_34 : decode cX8_keepsRow 34 = .ok (.getfield 102, 3) := dk_180 0 102 (dk_at dksX8_keepsRow_1 11 rfl rfl)
theorem dX8_keepsRow_37 : decode cX8_keepsRow 37 = .ok (.iload_n 1, 1) := dk_27 (dk_at dksX8_keepsRow_1 14 rfl rfl)
theorem dX8_keepsRow_38 : decode cX8_keepsRow 38 = .ok (.iload 5, 2) := dk_21 5 (dk_at dksX8_keepsRow_1 15 rfl rfl)
theorem dX8_keepsRow_40 : decode cX8_keepsRow 40 = .ok (.iadd, 1) := dk_96 (dk_at dksX8_keepsRow_1 17 rfl rfl)
theorem dX8_keepsRow_41 : decode cX8_keepsRow 41 = .ok (.iaload, 1) := dk_46 (dk_at dksX8_keepsRow_1 18 rfl rfl)
theorem dX8_keepsRow_42 : decode cX8_keepsRow 42 = .ok (.iastore, 1) := dk_79 (dk_at dksX8_keepsRow_1 19 rfl rfl)
theorem dX8_keepsRow_43 : decode cX8_keepsRow 43 = .ok (.iinc 5 1, 3) := dk_132 5 1 (dk_at dksX8_keepsRow_1 20 rfl rfl)
theorem dX8_keepsRow_46 : decode cX8_keepsRow 46 = .ok (.goto (-43), 3) := dk_167 255 213 (dk_at dksX8_keepsRow_2 0 rfl rfl)
theorem dX8_keepsRow_49 : decode cX8_keepsRow 49 = .ok (.iload_n 1, 1) := dk_27 (dk_at dksX8_keepsRow_2 3 rfl rfl)
theorem dX8_keepsRow_50 : decode cX8_keepsRow 50 = .ok (.iload_n 3, 1) := dk_29 (dk_at dksX8_keepsRow_2 4 rfl rfl)
theorem dX8_keepsRow_51 : decode cX8_keepsRow 51 = .ok (.iadd, 1) := dk_96 (dk_at dksX8_keepsRow_2 5 rfl rfl)
theorem dX8_keepsRow_52 : decode cX8_keepsRow 52 = .ok (.ireturn, 1) := dk_172 (dk_at dksX8_keepsRow_2 6 rfl rfl)
abbrev cX8_restore : ByteArray := prog_26_method_114_code
def yX8_restore : MethodName := ⟨RX8, "restore", "()I"⟩
def dkwX8_restore_1 : List UInt8 := [42, 42, 180, 0, 188, 3, 182, 1, 229, 42, 3, 181, 0, 191, 42, 180, 0, 188, 172]
abbrev dktX8_restore_1 : List UInt8 := dkwX8_restore_1 ++ []
def dkwX8_restore_0 : List UInt8 := [42, 3, 181, 0, 3, 42, 180, 0, 188, 154, 0, 5, 2, 172, 42, 89, 180, 0, 188, 4, 100, 181, 0, 188]
abbrev dktX8_restore_0 : List UInt8 := dkwX8_restore_0 ++ dktX8_restore_1
theorem dksX8_restore_0 : cX8_restore.data.toList.drop 0 = dktX8_restore_0 := by decide +kernel
theorem dksX8_restore_1 : cX8_restore.data.toList.drop 24 = dktX8_restore_1 := dk_seg dksX8_restore_0 24 rfl rfl
theorem dX8_restore_0 : decode cX8_restore 0 = .ok (.aload_n 0, 1) := dk_42 (dk_at dksX8_restore_0 0 rfl rfl)
theorem dX8_restore_1 : decode cX8_restore 1 = .ok (.iconst 0, 1) := dk_3 (dk_at dksX8_restore_0 1 rfl rfl)
theorem dX8_restore_2 : decode cX8_restore 2 = .ok (.putfield 3, 3) := dk_181 0 3 (dk_at dksX8_restore_0 2 rfl rfl)
theorem dX8_restore_5 : decode cX8_restore 5 = .ok (.aload_n 0, 1) := dk_42 (dk_at dksX8_restore_0 5 rfl rfl)
theorem dX8_restore_6 : decode cX8_restore 6 = .ok (.getfield 188, 3) := dk_180 0 188 (dk_at dksX8_restore_0 6 rfl rfl)
theorem dX8_restore_9 : decode cX8_restore 9 = .ok (.ifCond .ne 5, 3) := dk_154 0 5 (dk_at dksX8_restore_0 9 rfl rfl)
theorem dX8_restore_12 : decode cX8_restore 12 = .ok (.iconst (-1), 1) := dk_2 (dk_at dksX8_restore_0 12 rfl rfl)
theorem dX8_restore_13 : decode cX8_restore 13 = .ok (.ireturn, 1) := dk_172 (dk_at dksX8_restore_0 13 rfl rfl)
theorem dX8_restore_14 : decode cX8_restore 14 = .ok (.aload_n 0, 1) := dk_42 (dk_at dksX8_restore_0 14 rfl rfl)
theorem dX8_restore_15 : decode cX8_restore 15 = .ok (.dup, 1) := dk_89 (dk_at dksX8_restore_0 15 rfl rfl)
theorem dX8_restore_16 : decode cX8_restore 16 = .ok (.getfield 188, 3) := dk_180 0 188 (dk_at dksX8_restore_0 16 rfl rfl)
theorem dX8_restore_19 : decode cX8_restore 19 = .ok (.iconst 1, 1) := dk_4 (dk_at dksX8_restore_0 19 rfl rfl)
theorem dX8_restore_20 : decode cX8_restore 20 = .ok (.isub, 1) := dk_100 (dk_at dksX8_restore_0 20 rfl rfl)
theorem dX8_restore_21 : decode cX8_restore 21 = .ok (.putfield 188, 3) := dk_181 0 188 (dk_at dksX8_restore_0 21 rfl rfl)
theorem dX8_restore_24 : decode cX8_restore 24 = .ok (.aload_n 0, 1) := dk_42 (dk_at dksX8_restore_1 0 rfl rfl)
theorem dX8_restore_25 : decode cX8_restore 25 = .ok (.aload_n 0, 1) := dk_42 (dk_at dksX8_restore_1 1 rfl rfl)
theorem dX8_restore_26 : decode cX8_restore 26 = .ok (.getfield 188, 3) := dk_180 0 188 (dk_at dksX8_restore_1 2 rfl rfl)
theorem dX8_restore_29 : decode cX8_restore 29 = .ok (.iconst 0, 1) := dk_3 (dk_at dksX8_restore_1 5 rfl rfl)
theorem dX8_restore_30 : decode cX8_restore 30 = .ok (.invokevirtual 485, 3) := dk_182 1 229 (dk_at dksX8_restore_1 6 rfl rfl)
theorem dX8_restore_33 : decode cX8_restore 33 = .ok (.aload_n 0, 1) := dk_42 (dk_at dksX8_restore_1 9 rfl rfl)
theorem dX8_restore_34 : decode cX8_restore 34 = .ok (.iconst 0, 1) := dk_3 (dk_at dksX8_restore_1 10 rfl rfl)
theorem dX8_restore_35 : decode cX8_restore 35 = .ok (.putfield 191, 3) := dk_181 0 191 (dk_at dksX8_restore_1 11 rfl rfl)
theorem dX8_restore_38 : decode cX8_restore 38 = .ok (.aload_n 0, 1) := dk_42 (dk_at dksX8_restore_1 14 rfl rfl)
theorem dX8_restore_39 : decode cX8_restore 39 = .ok (.getfield 188, 3) := dk_180 0 188 (dk_at dksX8_restore_1 15 rfl rfl)
theorem dX8_restore_42 : decode cX8_restore 42 = .ok (.ireturn, 1) := dk_172 (dk_at dksX8_restore_1 18 rfl rfl)
abbrev cX8_status : ByteArray := prog_26_method_115_code
def yX8_status : MethodName := ⟨RX8, "status", "(I)I"⟩
def dkwX8_status_1 : List UInt8 := [172]
abbrev dktX8_status_1 : List UInt8 := dkwX8_status_1 ++ []
def dkwX8_status_0 : List UInt8 := [42, 3, 181, 0, 3, 27, 3, 4, 184, 1, 34, 153, 0, 12, 42, 180, 0, 7, 27, 46, 167, 0, 4, 2]
abbrev dktX8_status_0 : List UInt8 := dkwX8_status_0 ++ dktX8_status_1
theorem dksX8_status_0 : cX8_status.data.toList.drop 0 = dktX8_status_0 := by decide +kernel
theorem dksX8_status_1 : cX8_status.data.toList.drop 24 = dktX8_status_1 := dk_seg dksX8_status_0 24 rfl rfl
theorem dX8_status_0 : decode cX8_status 0 = .ok (.aload_n 0, 1) := dk_42 (dk_at dksX8_status_0 0 rfl rfl)
theorem dX8_status_1 : decode cX8_status 1 = .ok (.iconst 0, 1) := dk_3 (dk_at dksX8_status_0 1 rfl rfl)
theorem dX8_status_2 : decode cX8_status 2 = .ok (.putfield 3, 3) := dk_181 0 3 (dk_at dksX8_status_0 2 rfl rfl)
theorem dX8_status_5 : decode cX8_status 5 = .ok (.iload_n 1, 1) := dk_27 (dk_at dksX8_status_0 5 rfl rfl)
theorem dX8_status_6 : decode cX8_status 6 = .ok (.iconst 0, 1) := dk_3 (dk_at dksX8_status_0 6 rfl rfl)
theorem dX8_status_7 : decode cX8_status 7 = .ok (.iconst 1, 1) := dk_4 (dk_at dksX8_status_0 7 rfl rfl)
theorem dX8_status_8 : decode cX8_status 8 = .ok (.invokestatic 290, 3) := dk_184 1 34 (dk_at dksX8_status_0 8 rfl rfl)
theorem dX8_status_11 : decode cX8_status 11 = .ok (.ifCond .eq 12, 3) := dk_153 0 12 (dk_at dksX8_status_0 11 rfl rfl)
theorem dX8_status_14 : decode cX8_status 14 = .ok (.aload_n 0, 1) := dk_42 (dk_at dksX8_status_0 14 rfl rfl)
theorem dX8_status_15 : decode cX8_status 15 = .ok (.getfield 7, 3) := dk_180 0 7 (dk_at dksX8_status_0 15 rfl rfl)
theorem dX8_status_18 : decode cX8_status 18 = .ok (.iload_n 1, 1) := dk_27 (dk_at dksX8_status_0 18 rfl rfl)
theorem dX8_status_19 : decode cX8_status 19 = .ok (.iaload, 1) := dk_46 (dk_at dksX8_status_0 19 rfl rfl)
theorem dX8_status_20 : decode cX8_status 20 = .ok (.goto 4, 3) := dk_167 0 4 (dk_at dksX8_status_0 20 rfl rfl)
theorem dX8_status_23 : decode cX8_status 23 = .ok (.iconst (-1), 1) := dk_2 (dk_at dksX8_status_0 23 rfl rfl)
theorem dX8_status_24 : decode cX8_status 24 = .ok (.ireturn, 1) := dk_172 (dk_at dksX8_status_1 0 rfl rfl)
abbrev cX8_count : ByteArray := prog_26_method_116_code
def yX8_count : MethodName := ⟨RX8, "count", "(I)I"⟩
def dkwX8_count_1 : List UInt8 := [180, 0, 111, 167, 0, 16, 27, 5, 160, 0, 10, 42, 180, 0, 185, 167, 0, 4, 2, 172]
abbrev dktX8_count_1 : List UInt8 := dkwX8_count_1 ++ []
def dkwX8_count_0 : List UInt8 := [42, 3, 181, 0, 3, 27, 154, 0, 10, 42, 180, 0, 188, 167, 0, 28, 27, 4, 160, 0, 10, 42]
abbrev dktX8_count_0 : List UInt8 := dkwX8_count_0 ++ dktX8_count_1
theorem dksX8_count_0 : cX8_count.data.toList.drop 0 = dktX8_count_0 := by decide +kernel
theorem dksX8_count_1 : cX8_count.data.toList.drop 22 = dktX8_count_1 := dk_seg dksX8_count_0 22 rfl rfl
theorem dX8_count_0 : decode cX8_count 0 = .ok (.aload_n 0, 1) := dk_42 (dk_at dksX8_count_0 0 rfl rfl)
theorem dX8_count_1 : decode cX8_count 1 = .ok (.iconst 0, 1) := dk_3 (dk_at dksX8_count_0 1 rfl rfl)
theorem dX8_count_2 : decode cX8_count 2 = .ok (.putfield 3, 3) := dk_181 0 3 (dk_at dksX8_count_0 2 rfl rfl)
theorem dX8_count_5 : decode cX8_count 5 = .ok (.iload_n 1, 1) := dk_27 (dk_at dksX8_count_0 5 rfl rfl)
theorem dX8_count_6 : decode cX8_count 6 = .ok (.ifCond .ne 10, 3) := dk_154 0 10 (dk_at dksX8_count_0 6 rfl rfl)
theorem dX8_count_9 : decode cX8_count 9 = .ok (.aload_n 0, 1) := dk_42 (dk_at dksX8_count_0 9 rfl rfl)
theorem dX8_count_10 : decode cX8_count 10 = .ok (.getfield 188, 3) := dk_180 0 188 (dk_at dksX8_count_0 10 rfl rfl)
theorem dX8_count_13 : decode cX8_count 13 = .ok (.goto 28, 3) := dk_167 0 28 (dk_at dksX8_count_0 13 rfl rfl)
theorem dX8_count_16 : decode cX8_count 16 = .ok (.iload_n 1, 1) := dk_27 (dk_at dksX8_count_0 16 rfl rfl)
theorem dX8_count_17 : decode cX8_count 17 = .ok (.iconst 1, 1) := dk_4 (dk_at dksX8_count_0 17 rfl rfl)
theorem dX8_count_18 : decode cX8_count 18 = .ok (.if_icmp .ne 10, 3) := dk_160 0 10 (dk_at dksX8_count_0 18 rfl rfl)
theorem dX8_count_21 : decode cX8_count 21 = .ok (.aload_n 0, 1) := dk_42 (dk_at dksX8_count_0 21 rfl rfl)
theorem dX8_count_22 : decode cX8_count 22 = .ok (.getfield 111, 3) := dk_180 0 111 (dk_at dksX8_count_1 0 rfl rfl)
theorem dX8_count_25 : decode cX8_count 25 = .ok (.goto 16, 3) := dk_167 0 16 (dk_at dksX8_count_1 3 rfl rfl)
theorem dX8_count_28 : decode cX8_count 28 = .ok (.iload_n 1, 1) := dk_27 (dk_at dksX8_count_1 6 rfl rfl)
theorem dX8_count_29 : decode cX8_count 29 = .ok (.iconst 2, 1) := dk_5 (dk_at dksX8_count_1 7 rfl rfl)
theorem dX8_count_30 : decode cX8_count 30 = .ok (.if_icmp .ne 10, 3) := dk_160 0 10 (dk_at dksX8_count_1 8 rfl rfl)
theorem dX8_count_33 : decode cX8_count 33 = .ok (.aload_n 0, 1) := dk_42 (dk_at dksX8_count_1 11 rfl rfl)
theorem dX8_count_34 : decode cX8_count 34 = .ok (.getfield 185, 3) := dk_180 0 185 (dk_at dksX8_count_1 12 rfl rfl)
theorem dX8_count_37 : decode cX8_count 37 = .ok (.goto 4, 3) := dk_167 0 4 (dk_at dksX8_count_1 15 rfl rfl)
theorem dX8_count_40 : decode cX8_count 40 = .ok (.iconst (-1), 1) := dk_2 (dk_at dksX8_count_1 18 rfl rfl)
theorem dX8_count_41 : decode cX8_count 41 = .ok (.ireturn, 1) := dk_172 (dk_at dksX8_count_1 19 rfl rfl)
theorem q97 : (Jvm.Cond.initialized "PassagePapersModel") ∈ lw_all := lw_g (lw_at lw_m1 8 rfl) rfl
theorem q1533 : (Jvm.Cond.instanceMethod ({ cls := "PassagePapersModel", name := "thrown", desc := "()I" } : Jvm.MethodName)) ∈ lw_all := lw_g (lw_at lw_m7 4 rfl) rfl
theorem q1534 : (Jvm.Cond.selects "PassagePapersModel" ({ cls := "PassagePapersModel", name := "thrown", desc := "()I" } : Jvm.MethodName) ({ cls := "PassagePapersModel", name := "thrown", desc := "()I" } : Jvm.MethodName)) ∈ lw_all := lw_g (lw_at lw_m7 5 rfl) rfl
theorem q1535 : (Jvm.Cond.code ({ cls := "PassagePapersModel", name := "thrown", desc := "()I" } : Jvm.MethodName) prog_26_method_1_code (1 : Nat) (Option.some Jvm.ClassFile.FieldType.int)) ∈ lw_all := lw_g (lw_at lw_m7 6 rfl) rfl
theorem q1537 : (Jvm.Cond.instantiable "PassagePapersModel" (59 : Nat)) ∈ lw_all := lw_g (lw_at lw_m7 8 rfl) rfl
theorem q1539 : (Jvm.Cond.instanceMethod ({ cls := "PassagePapersModel", name := "<init>", desc := "()V" } : Jvm.MethodName)) ∈ lw_all := lw_g (lw_at lw_m7 10 rfl) rfl
theorem q1540 : (Jvm.Cond.code ({ cls := "PassagePapersModel", name := "<init>", desc := "()V" } : Jvm.MethodName) prog_26_method_4_code (1 : Nat) (Option.none : Option Jvm.ClassFile.FieldType)) ∈ lw_all := lw_g (lw_at lw_m7 11 rfl) rfl
theorem q1541 : (Jvm.Cond.methodLink "PassagePapersModel" (11 : Nat) ({ cls := "java/lang/Object", name := "<init>", desc := "()V" } : Jvm.MethodName)) ∈ lw_all := lw_g (lw_at lw_m7 12 rfl) rfl
theorem q1542 : (Jvm.Cond.methodLink "PassagePapersModel" (105 : Nat) ({ cls := "PassagePapersModel", name := "clears", desc := "()V" } : Jvm.MethodName)) ∈ lw_all := lw_g (lw_at lw_m7 13 rfl) rfl
theorem q1543 : (Jvm.Cond.privateMethod ({ cls := "PassagePapersModel", name := "clears", desc := "()V" } : Jvm.MethodName)) ∈ lw_tbl := lw_at lw_m7 14 rfl
theorem q1544 : (Jvm.Cond.instanceMethod ({ cls := "PassagePapersModel", name := "clears", desc := "()V" } : Jvm.MethodName)) ∈ lw_all := lw_g (lw_at lw_m7 15 rfl) rfl
theorem q1545 : (Jvm.Cond.code ({ cls := "PassagePapersModel", name := "clears", desc := "()V" } : Jvm.MethodName) prog_26_method_20_code (1 : Nat) (Option.none : Option Jvm.ClassFile.FieldType)) ∈ lw_all := lw_g (lw_at lw_m7 16 rfl) rfl
theorem q1546 : (Jvm.Cond.methodLink "PassagePapersModel" (108 : Nat) ({ cls := "PassagePapersModel", name := "sets", desc := "()V" } : Jvm.MethodName)) ∈ lw_all := lw_g (lw_at lw_m7 17 rfl) rfl
theorem q1547 : (Jvm.Cond.privateMethod ({ cls := "PassagePapersModel", name := "sets", desc := "()V" } : Jvm.MethodName)) ∈ lw_tbl := lw_at lw_m7 18 rfl
theorem q1548 : (Jvm.Cond.instanceMethod ({ cls := "PassagePapersModel", name := "sets", desc := "()V" } : Jvm.MethodName)) ∈ lw_all := lw_g (lw_at lw_m7 19 rfl) rfl
theorem q1549 : (Jvm.Cond.code ({ cls := "PassagePapersModel", name := "sets", desc := "()V" } : Jvm.MethodName) prog_26_method_22_code (2 : Nat) (Option.none : Option Jvm.ClassFile.FieldType)) ∈ lw_all := lw_g (lw_at lw_m7 20 rfl) rfl
theorem q1550 : (Jvm.Cond.methodLink "PassagePapersModel" (178 : Nat) ({ cls := "PassagePapersModel", name := "copies", desc := "([I[II)V" } : Jvm.MethodName)) ∈ lw_all := lw_g (lw_at lw_m7 21 rfl) rfl
theorem q1551 : (Jvm.Cond.privateMethod ({ cls := "PassagePapersModel", name := "copies", desc := "([I[II)V" } : Jvm.MethodName)) ∈ lw_tbl := lw_at lw_m7 22 rfl
theorem q1552 : (Jvm.Cond.instanceMethod ({ cls := "PassagePapersModel", name := "copies", desc := "([I[II)V" } : Jvm.MethodName)) ∈ lw_all := lw_g (lw_at lw_m7 23 rfl) rfl
theorem q1553 : (Jvm.Cond.code ({ cls := "PassagePapersModel", name := "copies", desc := "([I[II)V" } : Jvm.MethodName) prog_26_method_21_code (5 : Nat) (Option.none : Option Jvm.ClassFile.FieldType)) ∈ lw_all := lw_g (lw_at lw_m7 24 rfl) rfl
theorem q1554 : (Jvm.Cond.fieldLink "PassagePapersModel" (3 : Nat) "PassagePapersModel" "thrown" "I") ∈ lw_all := lw_g (lw_at lw_m7 25 rfl) rfl
theorem q1555 : (Jvm.Cond.fieldLink "PassagePapersModel" (7 : Nat) "PassagePapersModel" "refused" "[I") ∈ lw_all := lw_g (lw_at lw_m7 26 rfl) rfl
theorem q1556 : (Jvm.Cond.fieldLink "PassagePapersModel" (111 : Nat) "PassagePapersModel" "taped" "I") ∈ lw_all := lw_g (lw_at lw_m7 27 rfl) rfl
theorem q1557 : (Jvm.Cond.fieldLink "PassagePapersModel" (123 : Nat) "PassagePapersModel" "size" "I") ∈ lw_all := lw_g (lw_at lw_m7 28 rfl) rfl
theorem q1558 : (Jvm.Cond.fieldLink "PassagePapersModel" (120 : Nat) "PassagePapersModel" "at" "I") ∈ lw_all := lw_g (lw_at lw_m7 29 rfl) rfl
theorem q1559 : (Jvm.Cond.fieldLink "PassagePapersModel" (114 : Nat) "PassagePapersModel" "bad" "I") ∈ lw_all := lw_g (lw_at lw_m7 30 rfl) rfl
theorem q1560 : (Jvm.Cond.fieldLink "PassagePapersModel" (117 : Nat) "PassagePapersModel" "badKind" "I") ∈ lw_all := lw_g (lw_at lw_m7 31 rfl) rfl
theorem q1561 : (Jvm.Cond.fieldLink "PassagePapersModel" (154 : Nat) "PassagePapersModel" "opens" "I") ∈ lw_all := lw_g (lw_at lw_m7 32 rfl) rfl
theorem q1562 : (Jvm.Cond.fieldLink "PassagePapersModel" (17 : Nat) "PassagePapersModel" "faultAt" "I") ∈ lw_all := lw_g (lw_at lw_m7 33 rfl) rfl
theorem q1563 : (Jvm.Cond.fieldLink "PassagePapersModel" (20 : Nat) "PassagePapersModel" "tape" "[I") ∈ lw_all := lw_g (lw_at lw_m7 34 rfl) rfl
theorem q1564 : (Jvm.Cond.fieldLink "PassagePapersModel" (23 : Nat) "PassagePapersModel" "newSigner" "[I") ∈ lw_all := lw_g (lw_at lw_m7 35 rfl) rfl
theorem q1565 : (Jvm.Cond.fieldLink "PassagePapersModel" (26 : Nat) "PassagePapersModel" "newTaker" "[I") ∈ lw_all := lw_g (lw_at lw_m7 36 rfl) rfl
theorem q1566 : (Jvm.Cond.fieldLink "PassagePapersModel" (29 : Nat) "PassagePapersModel" "signer" "[I") ∈ lw_all := lw_g (lw_at lw_m7 37 rfl) rfl
theorem q1567 : (Jvm.Cond.fieldLink "PassagePapersModel" (32 : Nat) "PassagePapersModel" "taker" "[I") ∈ lw_all := lw_g (lw_at lw_m7 38 rfl) rfl
theorem q1568 : (Jvm.Cond.fieldLink "PassagePapersModel" (157 : Nat) "PassagePapersModel" "newSigners" "I") ∈ lw_all := lw_g (lw_at lw_m7 39 rfl) rfl
theorem q1569 : (Jvm.Cond.fieldLink "PassagePapersModel" (160 : Nat) "PassagePapersModel" "newTakers" "I") ∈ lw_all := lw_g (lw_at lw_m7 40 rfl) rfl
theorem q1570 : (Jvm.Cond.fieldLink "PassagePapersModel" (163 : Nat) "PassagePapersModel" "newStores" "I") ∈ lw_all := lw_g (lw_at lw_m7 41 rfl) rfl
theorem q1571 : (Jvm.Cond.fieldLink "PassagePapersModel" (166 : Nat) "PassagePapersModel" "newVoyage" "I") ∈ lw_all := lw_g (lw_at lw_m7 42 rfl) rfl
theorem q1572 : (Jvm.Cond.fieldLink "PassagePapersModel" (169 : Nat) "PassagePapersModel" "signers" "I") ∈ lw_all := lw_g (lw_at lw_m7 43 rfl) rfl
theorem q1573 : (Jvm.Cond.fieldLink "PassagePapersModel" (172 : Nat) "PassagePapersModel" "takers" "I") ∈ lw_all := lw_g (lw_at lw_m7 44 rfl) rfl
theorem q1574 : (Jvm.Cond.fieldLink "PassagePapersModel" (175 : Nat) "PassagePapersModel" "voyage" "I") ∈ lw_all := lw_g (lw_at lw_m7 45 rfl) rfl
theorem q1575 : (Jvm.Cond.fieldLink "PassagePapersModel" (35 : Nat) "PassagePapersModel" "newCode" "[I") ∈ lw_all := lw_g (lw_at lw_m7 46 rfl) rfl
theorem q1576 : (Jvm.Cond.fieldLink "PassagePapersModel" (38 : Nat) "PassagePapersModel" "newOf" "[I") ∈ lw_all := lw_g (lw_at lw_m7 47 rfl) rfl
theorem q1577 : (Jvm.Cond.fieldLink "PassagePapersModel" (41 : Nat) "PassagePapersModel" "code" "[I") ∈ lw_all := lw_g (lw_at lw_m7 48 rfl) rfl
theorem q1578 : (Jvm.Cond.fieldLink "PassagePapersModel" (44 : Nat) "PassagePapersModel" "ofCode" "[I") ∈ lw_all := lw_g (lw_at lw_m7 49 rfl) rfl
theorem q1579 : (Jvm.Cond.fieldLink "PassagePapersModel" (47 : Nat) "PassagePapersModel" "codes" "[I") ∈ lw_all := lw_g (lw_at lw_m7 50 rfl) rfl
theorem q1580 : (Jvm.Cond.fieldLink "PassagePapersModel" (50 : Nat) "PassagePapersModel" "stack" "[I") ∈ lw_all := lw_g (lw_at lw_m7 51 rfl) rfl
theorem q1581 : (Jvm.Cond.fieldLink "PassagePapersModel" (246 : Nat) "PassagePapersModel" "newCodes" "I") ∈ lw_all := lw_g (lw_at lw_m7 52 rfl) rfl
theorem q1582 : (Jvm.Cond.fieldLink "PassagePapersModel" (53 : Nat) "PassagePapersModel" "facts" "[I") ∈ lw_all := lw_g (lw_at lw_m7 53 rfl) rfl
theorem q1583 : (Jvm.Cond.fieldLink "PassagePapersModel" (56 : Nat) "PassagePapersModel" "newStep" "[I") ∈ lw_all := lw_g (lw_at lw_m7 54 rfl) rfl
theorem q1584 : (Jvm.Cond.fieldLink "PassagePapersModel" (59 : Nat) "PassagePapersModel" "step" "[I") ∈ lw_all := lw_g (lw_at lw_m7 55 rfl) rfl
theorem q1585 : (Jvm.Cond.fieldLink "PassagePapersModel" (301 : Nat) "PassagePapersModel" "newSteps" "I") ∈ lw_all := lw_g (lw_at lw_m7 56 rfl) rfl
theorem q1586 : (Jvm.Cond.fieldLink "PassagePapersModel" (185 : Nat) "PassagePapersModel" "works" "I") ∈ lw_all := lw_g (lw_at lw_m7 57 rfl) rfl
theorem q1587 : (Jvm.Cond.fieldLink "PassagePapersModel" (191 : Nat) "PassagePapersModel" "refusedSteps" "I") ∈ lw_all := lw_g (lw_at lw_m7 58 rfl) rfl
theorem q1588 : (Jvm.Cond.fieldLink "PassagePapersModel" (333 : Nat) "PassagePapersModel" "begun" "I") ∈ lw_all := lw_g (lw_at lw_m7 59 rfl) rfl
theorem q1589 : (Jvm.Cond.fieldLink "PassagePapersModel" (336 : Nat) "PassagePapersModel" "done" "I") ∈ lw_all := lw_g (lw_at lw_m7 60 rfl) rfl
theorem q1590 : (Jvm.Cond.fieldLink "PassagePapersModel" (339 : Nat) "PassagePapersModel" "refusedNow" "I") ∈ lw_all := lw_g (lw_at lw_m7 61 rfl) rfl
theorem q1591 : (Jvm.Cond.fieldLink "PassagePapersModel" (62 : Nat) "PassagePapersModel" "now" "[I") ∈ lw_all := lw_g (lw_at lw_m7 62 rfl) rfl
theorem q1592 : (Jvm.Cond.fieldLink "PassagePapersModel" (65 : Nat) "PassagePapersModel" "s" "[I") ∈ lw_all := lw_g (lw_at lw_m7 63 rfl) rfl
theorem q1593 : (Jvm.Cond.fieldLink "PassagePapersModel" (68 : Nat) "PassagePapersModel" "past" "[I") ∈ lw_all := lw_g (lw_at lw_m7 64 rfl) rfl
theorem q1594 : (Jvm.Cond.fieldLink "PassagePapersModel" (348 : Nat) "PassagePapersModel" "ruling" "I") ∈ lw_all := lw_g (lw_at lw_m7 65 rfl) rfl
theorem q1595 : (Jvm.Cond.fieldLink "PassagePapersModel" (351 : Nat) "PassagePapersModel" "hungers" "I") ∈ lw_all := lw_g (lw_at lw_m7 66 rfl) rfl
theorem q1596 : (Jvm.Cond.fieldLink "PassagePapersModel" (354 : Nat) "PassagePapersModel" "servedNow" "I") ∈ lw_all := lw_g (lw_at lw_m7 67 rfl) rfl
theorem q1597 : (Jvm.Cond.fieldLink "PassagePapersModel" (71 : Nat) "PassagePapersModel" "newBook" "[I") ∈ lw_all := lw_g (lw_at lw_m7 68 rfl) rfl
theorem q1598 : (Jvm.Cond.fieldLink "PassagePapersModel" (74 : Nat) "PassagePapersModel" "book" "[I") ∈ lw_all := lw_g (lw_at lw_m7 69 rfl) rfl
theorem q1599 : (Jvm.Cond.fieldLink "PassagePapersModel" (182 : Nat) "PassagePapersModel" "books" "I") ∈ lw_all := lw_g (lw_at lw_m7 70 rfl) rfl
theorem q1600 : (Jvm.Cond.fieldLink "PassagePapersModel" (77 : Nat) "PassagePapersModel" "giving" "[I") ∈ lw_all := lw_g (lw_at lw_m7 71 rfl) rfl
theorem q1601 : (Jvm.Cond.fieldLink "PassagePapersModel" (80 : Nat) "PassagePapersModel" "room" "[I") ∈ lw_all := lw_g (lw_at lw_m7 72 rfl) rfl
theorem q1602 : (Jvm.Cond.fieldLink "PassagePapersModel" (83 : Nat) "PassagePapersModel" "way" "[I") ∈ lw_all := lw_g (lw_at lw_m7 73 rfl) rfl
theorem q1603 : (Jvm.Cond.fieldLink "PassagePapersModel" (86 : Nat) "PassagePapersModel" "bestWay" "[I") ∈ lw_all := lw_g (lw_at lw_m7 74 rfl) rfl
theorem q1604 : (Jvm.Cond.fieldLink "PassagePapersModel" (416 : Nat) "PassagePapersModel" "bestGives" "I") ∈ lw_all := lw_g (lw_at lw_m7 75 rfl) rfl
theorem q1605 : (Jvm.Cond.fieldLink "PassagePapersModel" (89 : Nat) "PassagePapersModel" "isTerm" "[Z") ∈ lw_all := lw_g (lw_at lw_m7 76 rfl) rfl
theorem q1606 : (Jvm.Cond.fieldLink "PassagePapersModel" (93 : Nat) "PassagePapersModel" "asksTerm" "[I") ∈ lw_all := lw_g (lw_at lw_m7 77 rfl) rfl
theorem q1607 : (Jvm.Cond.fieldLink "PassagePapersModel" (96 : Nat) "PassagePapersModel" "saidBy" "[I") ∈ lw_all := lw_g (lw_at lw_m7 78 rfl) rfl
theorem q1608 : (Jvm.Cond.fieldLink "PassagePapersModel" (99 : Nat) "PassagePapersModel" "fields" "[I") ∈ lw_all := lw_g (lw_at lw_m7 79 rfl) rfl
theorem q1609 : (Jvm.Cond.fieldLink "PassagePapersModel" (464 : Nat) "PassagePapersModel" "seedNow" "I") ∈ lw_all := lw_g (lw_at lw_m7 80 rfl) rfl
theorem q1610 : (Jvm.Cond.fieldLink "PassagePapersModel" (468 : Nat) "PassagePapersModel" "spoils" "I") ∈ lw_all := lw_g (lw_at lw_m7 81 rfl) rfl
theorem q1611 : (Jvm.Cond.fieldLink "PassagePapersModel" (102 : Nat) "PassagePapersModel" "image" "[I") ∈ lw_all := lw_g (lw_at lw_m7 82 rfl) rfl
theorem q1612 : (Jvm.Cond.fieldLink "PassagePapersModel" (188 : Nat) "PassagePapersModel" "images" "I") ∈ lw_all := lw_g (lw_at lw_m7 83 rfl) rfl
theorem q1613 : (Jvm.Cond.lays "PassagePapersModel" "PassagePapersModel" "thrown" "I") ∈ lw_all := lw_g (lw_at lw_m7 84 rfl) rfl
theorem q1614 : (Jvm.Cond.soleField "PassagePapersModel" "thrown") ∈ lw_all := lw_g (lw_at lw_m7 85 rfl) rfl
theorem q1615 : (Jvm.Cond.laysFinal "PassagePapersModel" "PassagePapersModel" "refused" "[I") ∈ lw_all := lw_g (lw_at lw_m7 86 rfl) rfl
theorem q1616 : (Jvm.Cond.soleField "PassagePapersModel" "refused") ∈ lw_all := lw_g (lw_at lw_m7 87 rfl) rfl
theorem q1617 : (Jvm.Cond.lays "PassagePapersModel" "PassagePapersModel" "taped" "I") ∈ lw_all := lw_g (lw_at lw_m7 88 rfl) rfl
theorem q1618 : (Jvm.Cond.soleField "PassagePapersModel" "taped") ∈ lw_all := lw_g (lw_at lw_m7 89 rfl) rfl
theorem q1619 : (Jvm.Cond.lays "PassagePapersModel" "PassagePapersModel" "size" "I") ∈ lw_all := lw_g (lw_at lw_m7 90 rfl) rfl
theorem q1620 : (Jvm.Cond.soleField "PassagePapersModel" "size") ∈ lw_all := lw_g (lw_at lw_m7 91 rfl) rfl
theorem q1621 : (Jvm.Cond.lays "PassagePapersModel" "PassagePapersModel" "at" "I") ∈ lw_all := lw_g (lw_at lw_m7 92 rfl) rfl
theorem q1622 : (Jvm.Cond.soleField "PassagePapersModel" "at") ∈ lw_all := lw_g (lw_at lw_m7 93 rfl) rfl
theorem q1623 : (Jvm.Cond.lays "PassagePapersModel" "PassagePapersModel" "bad" "I") ∈ lw_all := lw_g (lw_at lw_m7 94 rfl) rfl
theorem q1624 : (Jvm.Cond.soleField "PassagePapersModel" "bad") ∈ lw_all := lw_g (lw_at lw_m7 95 rfl) rfl
theorem q1625 : (Jvm.Cond.lays "PassagePapersModel" "PassagePapersModel" "badKind" "I") ∈ lw_all := lw_g (lw_at lw_m7 96 rfl) rfl
theorem q1626 : (Jvm.Cond.soleField "PassagePapersModel" "badKind") ∈ lw_all := lw_g (lw_at lw_m7 97 rfl) rfl
theorem q1627 : (Jvm.Cond.lays "PassagePapersModel" "PassagePapersModel" "opens" "I") ∈ lw_all := lw_g (lw_at lw_m7 98 rfl) rfl
theorem q1628 : (Jvm.Cond.soleField "PassagePapersModel" "opens") ∈ lw_all := lw_g (lw_at lw_m7 99 rfl) rfl
theorem q1629 : (Jvm.Cond.lays "PassagePapersModel" "PassagePapersModel" "faultAt" "I") ∈ lw_all := lw_g (lw_at lw_m7 100 rfl) rfl
theorem q1630 : (Jvm.Cond.soleField "PassagePapersModel" "faultAt") ∈ lw_all := lw_g (lw_at lw_m7 101 rfl) rfl
theorem q1631 : (Jvm.Cond.laysFinal "PassagePapersModel" "PassagePapersModel" "tape" "[I") ∈ lw_all := lw_g (lw_at lw_m7 102 rfl) rfl
theorem q1632 : (Jvm.Cond.soleField "PassagePapersModel" "tape") ∈ lw_all := lw_g (lw_at lw_m7 103 rfl) rfl
theorem q1633 : (Jvm.Cond.laysFinal "PassagePapersModel" "PassagePapersModel" "newSigner" "[I") ∈ lw_all := lw_g (lw_at lw_m7 104 rfl) rfl
theorem q1634 : (Jvm.Cond.soleField "PassagePapersModel" "newSigner") ∈ lw_all := lw_g (lw_at lw_m7 105 rfl) rfl
theorem q1635 : (Jvm.Cond.laysFinal "PassagePapersModel" "PassagePapersModel" "newTaker" "[I") ∈ lw_all := lw_g (lw_at lw_m7 106 rfl) rfl
theorem q1636 : (Jvm.Cond.soleField "PassagePapersModel" "newTaker") ∈ lw_all := lw_g (lw_at lw_m7 107 rfl) rfl
theorem q1637 : (Jvm.Cond.laysFinal "PassagePapersModel" "PassagePapersModel" "signer" "[I") ∈ lw_all := lw_g (lw_at lw_m7 108 rfl) rfl
theorem q1638 : (Jvm.Cond.soleField "PassagePapersModel" "signer") ∈ lw_all := lw_g (lw_at lw_m7 109 rfl) rfl
theorem q1639 : (Jvm.Cond.laysFinal "PassagePapersModel" "PassagePapersModel" "taker" "[I") ∈ lw_all := lw_g (lw_at lw_m7 110 rfl) rfl
theorem q1640 : (Jvm.Cond.soleField "PassagePapersModel" "taker") ∈ lw_all := lw_g (lw_at lw_m7 111 rfl) rfl
theorem q1641 : (Jvm.Cond.lays "PassagePapersModel" "PassagePapersModel" "newSigners" "I") ∈ lw_all := lw_g (lw_at lw_m7 112 rfl) rfl
theorem q1642 : (Jvm.Cond.soleField "PassagePapersModel" "newSigners") ∈ lw_all := lw_g (lw_at lw_m7 113 rfl) rfl
theorem q1643 : (Jvm.Cond.lays "PassagePapersModel" "PassagePapersModel" "newTakers" "I") ∈ lw_all := lw_g (lw_at lw_m7 114 rfl) rfl
theorem q1644 : (Jvm.Cond.soleField "PassagePapersModel" "newTakers") ∈ lw_all := lw_g (lw_at lw_m7 115 rfl) rfl
theorem q1645 : (Jvm.Cond.lays "PassagePapersModel" "PassagePapersModel" "newStores" "I") ∈ lw_all := lw_g (lw_at lw_m7 116 rfl) rfl
theorem q1646 : (Jvm.Cond.soleField "PassagePapersModel" "newStores") ∈ lw_all := lw_g (lw_at lw_m7 117 rfl) rfl
theorem q1647 : (Jvm.Cond.lays "PassagePapersModel" "PassagePapersModel" "newVoyage" "I") ∈ lw_all := lw_g (lw_at lw_m7 118 rfl) rfl
theorem q1648 : (Jvm.Cond.soleField "PassagePapersModel" "newVoyage") ∈ lw_all := lw_g (lw_at lw_m7 119 rfl) rfl
theorem q1649 : (Jvm.Cond.lays "PassagePapersModel" "PassagePapersModel" "signers" "I") ∈ lw_all := lw_g (lw_at lw_m7 120 rfl) rfl
theorem q1650 : (Jvm.Cond.soleField "PassagePapersModel" "signers") ∈ lw_all := lw_g (lw_at lw_m7 121 rfl) rfl
theorem q1651 : (Jvm.Cond.lays "PassagePapersModel" "PassagePapersModel" "takers" "I") ∈ lw_all := lw_g (lw_at lw_m7 122 rfl) rfl
theorem q1652 : (Jvm.Cond.soleField "PassagePapersModel" "takers") ∈ lw_all := lw_g (lw_at lw_m7 123 rfl) rfl
theorem q1653 : (Jvm.Cond.lays "PassagePapersModel" "PassagePapersModel" "voyage" "I") ∈ lw_all := lw_g (lw_at lw_m7 124 rfl) rfl
theorem q1654 : (Jvm.Cond.soleField "PassagePapersModel" "voyage") ∈ lw_all := lw_g (lw_at lw_m7 125 rfl) rfl
theorem q1655 : (Jvm.Cond.laysFinal "PassagePapersModel" "PassagePapersModel" "newCode" "[I") ∈ lw_all := lw_g (lw_at lw_m7 126 rfl) rfl
theorem q1656 : (Jvm.Cond.soleField "PassagePapersModel" "newCode") ∈ lw_all := lw_g (lw_at lw_m7 127 rfl) rfl
theorem q1657 : (Jvm.Cond.laysFinal "PassagePapersModel" "PassagePapersModel" "newOf" "[I") ∈ lw_all := lw_g (lw_at lw_m7 128 rfl) rfl
theorem q1658 : (Jvm.Cond.soleField "PassagePapersModel" "newOf") ∈ lw_all := lw_g (lw_at lw_m7 129 rfl) rfl
theorem q1659 : (Jvm.Cond.laysFinal "PassagePapersModel" "PassagePapersModel" "code" "[I") ∈ lw_all := lw_g (lw_at lw_m7 130 rfl) rfl
theorem q1660 : (Jvm.Cond.soleField "PassagePapersModel" "code") ∈ lw_all := lw_g (lw_at lw_m7 131 rfl) rfl
theorem q1661 : (Jvm.Cond.laysFinal "PassagePapersModel" "PassagePapersModel" "ofCode" "[I") ∈ lw_all := lw_g (lw_at lw_m7 132 rfl) rfl
theorem q1662 : (Jvm.Cond.soleField "PassagePapersModel" "ofCode") ∈ lw_all := lw_g (lw_at lw_m7 133 rfl) rfl
theorem q1663 : (Jvm.Cond.laysFinal "PassagePapersModel" "PassagePapersModel" "codes" "[I") ∈ lw_all := lw_g (lw_at lw_m7 134 rfl) rfl
theorem q1664 : (Jvm.Cond.soleField "PassagePapersModel" "codes") ∈ lw_all := lw_g (lw_at lw_m7 135 rfl) rfl
theorem q1665 : (Jvm.Cond.laysFinal "PassagePapersModel" "PassagePapersModel" "stack" "[I") ∈ lw_all := lw_g (lw_at lw_m7 136 rfl) rfl
theorem q1666 : (Jvm.Cond.soleField "PassagePapersModel" "stack") ∈ lw_all := lw_g (lw_at lw_m7 137 rfl) rfl
theorem q1667 : (Jvm.Cond.lays "PassagePapersModel" "PassagePapersModel" "newCodes" "I") ∈ lw_all := lw_g (lw_at lw_m7 138 rfl) rfl
theorem q1668 : (Jvm.Cond.soleField "PassagePapersModel" "newCodes") ∈ lw_all := lw_g (lw_at lw_m7 139 rfl) rfl
theorem q1669 : (Jvm.Cond.laysFinal "PassagePapersModel" "PassagePapersModel" "facts" "[I") ∈ lw_all := lw_g (lw_at lw_m7 140 rfl) rfl
theorem q1670 : (Jvm.Cond.soleField "PassagePapersModel" "facts") ∈ lw_all := lw_g (lw_at lw_m7 141 rfl) rfl
theorem q1671 : (Jvm.Cond.laysFinal "PassagePapersModel" "PassagePapersModel" "newStep" "[I") ∈ lw_all := lw_g (lw_at lw_m7 142 rfl) rfl
theorem q1672 : (Jvm.Cond.soleField "PassagePapersModel" "newStep") ∈ lw_all := lw_g (lw_at lw_m7 143 rfl) rfl
theorem q1673 : (Jvm.Cond.laysFinal "PassagePapersModel" "PassagePapersModel" "step" "[I") ∈ lw_all := lw_g (lw_at lw_m7 144 rfl) rfl
theorem q1674 : (Jvm.Cond.soleField "PassagePapersModel" "step") ∈ lw_all := lw_g (lw_at lw_m7 145 rfl) rfl
theorem q1675 : (Jvm.Cond.lays "PassagePapersModel" "PassagePapersModel" "newSteps" "I") ∈ lw_all := lw_g (lw_at lw_m7 146 rfl) rfl
theorem q1676 : (Jvm.Cond.soleField "PassagePapersModel" "newSteps") ∈ lw_all := lw_g (lw_at lw_m7 147 rfl) rfl
theorem q1677 : (Jvm.Cond.lays "PassagePapersModel" "PassagePapersModel" "works" "I") ∈ lw_all := lw_g (lw_at lw_m7 148 rfl) rfl
theorem q1678 : (Jvm.Cond.soleField "PassagePapersModel" "works") ∈ lw_all := lw_g (lw_at lw_m7 149 rfl) rfl
theorem q1679 : (Jvm.Cond.lays "PassagePapersModel" "PassagePapersModel" "refusedSteps" "I") ∈ lw_all := lw_g (lw_at lw_m7 150 rfl) rfl
theorem q1680 : (Jvm.Cond.soleField "PassagePapersModel" "refusedSteps") ∈ lw_all := lw_g (lw_at lw_m7 151 rfl) rfl
theorem q1681 : (Jvm.Cond.lays "PassagePapersModel" "PassagePapersModel" "begun" "I") ∈ lw_all := lw_g (lw_at lw_m7 152 rfl) rfl
theorem q1682 : (Jvm.Cond.soleField "PassagePapersModel" "begun") ∈ lw_all := lw_g (lw_at lw_m7 153 rfl) rfl
theorem q1683 : (Jvm.Cond.lays "PassagePapersModel" "PassagePapersModel" "done" "I") ∈ lw_all := lw_g (lw_at lw_m7 154 rfl) rfl
theorem q1684 : (Jvm.Cond.soleField "PassagePapersModel" "done") ∈ lw_all := lw_g (lw_at lw_m7 155 rfl) rfl
theorem q1685 : (Jvm.Cond.lays "PassagePapersModel" "PassagePapersModel" "refusedNow" "I") ∈ lw_all := lw_g (lw_at lw_m7 156 rfl) rfl
theorem q1686 : (Jvm.Cond.soleField "PassagePapersModel" "refusedNow") ∈ lw_all := lw_g (lw_at lw_m7 157 rfl) rfl
theorem q1687 : (Jvm.Cond.laysFinal "PassagePapersModel" "PassagePapersModel" "now" "[I") ∈ lw_all := lw_g (lw_at lw_m7 158 rfl) rfl
theorem q1688 : (Jvm.Cond.soleField "PassagePapersModel" "now") ∈ lw_all := lw_g (lw_at lw_m7 159 rfl) rfl
theorem q1689 : (Jvm.Cond.laysFinal "PassagePapersModel" "PassagePapersModel" "s" "[I") ∈ lw_all := lw_g (lw_at lw_m7 160 rfl) rfl
theorem q1690 : (Jvm.Cond.soleField "PassagePapersModel" "s") ∈ lw_all := lw_g (lw_at lw_m7 161 rfl) rfl
theorem q1691 : (Jvm.Cond.laysFinal "PassagePapersModel" "PassagePapersModel" "past" "[I") ∈ lw_all := lw_g (lw_at lw_m7 162 rfl) rfl
theorem q1692 : (Jvm.Cond.soleField "PassagePapersModel" "past") ∈ lw_all := lw_g (lw_at lw_m7 163 rfl) rfl
theorem q1693 : (Jvm.Cond.lays "PassagePapersModel" "PassagePapersModel" "ruling" "I") ∈ lw_all := lw_g (lw_at lw_m7 164 rfl) rfl
theorem q1694 : (Jvm.Cond.soleField "PassagePapersModel" "ruling") ∈ lw_all := lw_g (lw_at lw_m7 165 rfl) rfl
theorem q1695 : (Jvm.Cond.lays "PassagePapersModel" "PassagePapersModel" "hungers" "I") ∈ lw_all := lw_g (lw_at lw_m7 166 rfl) rfl
theorem q1696 : (Jvm.Cond.soleField "PassagePapersModel" "hungers") ∈ lw_all := lw_g (lw_at lw_m7 167 rfl) rfl
theorem q1697 : (Jvm.Cond.lays "PassagePapersModel" "PassagePapersModel" "servedNow" "I") ∈ lw_all := lw_g (lw_at lw_m7 168 rfl) rfl
theorem q1698 : (Jvm.Cond.soleField "PassagePapersModel" "servedNow") ∈ lw_all := lw_g (lw_at lw_m7 169 rfl) rfl
theorem q1699 : (Jvm.Cond.laysFinal "PassagePapersModel" "PassagePapersModel" "newBook" "[I") ∈ lw_all := lw_g (lw_at lw_m7 170 rfl) rfl
theorem q1700 : (Jvm.Cond.soleField "PassagePapersModel" "newBook") ∈ lw_all := lw_g (lw_at lw_m7 171 rfl) rfl
theorem q1701 : (Jvm.Cond.laysFinal "PassagePapersModel" "PassagePapersModel" "book" "[I") ∈ lw_all := lw_g (lw_at lw_m7 172 rfl) rfl
theorem q1702 : (Jvm.Cond.soleField "PassagePapersModel" "book") ∈ lw_all := lw_g (lw_at lw_m7 173 rfl) rfl
theorem q1703 : (Jvm.Cond.lays "PassagePapersModel" "PassagePapersModel" "books" "I") ∈ lw_all := lw_g (lw_at lw_m7 174 rfl) rfl
theorem q1704 : (Jvm.Cond.soleField "PassagePapersModel" "books") ∈ lw_all := lw_g (lw_at lw_m7 175 rfl) rfl
theorem q1705 : (Jvm.Cond.laysFinal "PassagePapersModel" "PassagePapersModel" "giving" "[I") ∈ lw_all := lw_g (lw_at lw_m7 176 rfl) rfl
theorem q1706 : (Jvm.Cond.soleField "PassagePapersModel" "giving") ∈ lw_all := lw_g (lw_at lw_m7 177 rfl) rfl
theorem q1707 : (Jvm.Cond.laysFinal "PassagePapersModel" "PassagePapersModel" "room" "[I") ∈ lw_all := lw_g (lw_at lw_m7 178 rfl) rfl
theorem q1708 : (Jvm.Cond.soleField "PassagePapersModel" "room") ∈ lw_all := lw_g (lw_at lw_m7 179 rfl) rfl
theorem q1709 : (Jvm.Cond.laysFinal "PassagePapersModel" "PassagePapersModel" "way" "[I") ∈ lw_all := lw_g (lw_at lw_m7 180 rfl) rfl
theorem q1710 : (Jvm.Cond.soleField "PassagePapersModel" "way") ∈ lw_all := lw_g (lw_at lw_m7 181 rfl) rfl
theorem q1711 : (Jvm.Cond.laysFinal "PassagePapersModel" "PassagePapersModel" "bestWay" "[I") ∈ lw_all := lw_g (lw_at lw_m7 182 rfl) rfl
theorem q1712 : (Jvm.Cond.soleField "PassagePapersModel" "bestWay") ∈ lw_all := lw_g (lw_at lw_m7 183 rfl) rfl
theorem q1713 : (Jvm.Cond.lays "PassagePapersModel" "PassagePapersModel" "bestGives" "I") ∈ lw_all := lw_g (lw_at lw_m7 184 rfl) rfl
theorem q1714 : (Jvm.Cond.soleField "PassagePapersModel" "bestGives") ∈ lw_all := lw_g (lw_at lw_m7 185 rfl) rfl
theorem q1715 : (Jvm.Cond.laysFinal "PassagePapersModel" "PassagePapersModel" "isTerm" "[Z") ∈ lw_all := lw_g (lw_at lw_m7 186 rfl) rfl
theorem q1716 : (Jvm.Cond.soleField "PassagePapersModel" "isTerm") ∈ lw_all := lw_g (lw_at lw_m7 187 rfl) rfl
theorem q1717 : (Jvm.Cond.laysFinal "PassagePapersModel" "PassagePapersModel" "asksTerm" "[I") ∈ lw_all := lw_g (lw_at lw_m7 188 rfl) rfl
theorem q1718 : (Jvm.Cond.soleField "PassagePapersModel" "asksTerm") ∈ lw_all := lw_g (lw_at lw_m7 189 rfl) rfl
theorem q1719 : (Jvm.Cond.laysFinal "PassagePapersModel" "PassagePapersModel" "saidBy" "[I") ∈ lw_all := lw_g (lw_at lw_m7 190 rfl) rfl
theorem q1720 : (Jvm.Cond.soleField "PassagePapersModel" "saidBy") ∈ lw_all := lw_g (lw_at lw_m7 191 rfl) rfl
theorem q1721 : (Jvm.Cond.laysFinal "PassagePapersModel" "PassagePapersModel" "fields" "[I") ∈ lw_all := lw_g (lw_at lw_m7 192 rfl) rfl
theorem q1722 : (Jvm.Cond.soleField "PassagePapersModel" "fields") ∈ lw_all := lw_g (lw_at lw_m7 193 rfl) rfl
theorem q1723 : (Jvm.Cond.lays "PassagePapersModel" "PassagePapersModel" "seedNow" "I") ∈ lw_all := lw_g (lw_at lw_m7 194 rfl) rfl
theorem q1724 : (Jvm.Cond.soleField "PassagePapersModel" "seedNow") ∈ lw_all := lw_g (lw_at lw_m7 195 rfl) rfl
theorem q1725 : (Jvm.Cond.lays "PassagePapersModel" "PassagePapersModel" "spoils" "I") ∈ lw_all := lw_g (lw_at lw_m7 196 rfl) rfl
theorem q1726 : (Jvm.Cond.soleField "PassagePapersModel" "spoils") ∈ lw_all := lw_g (lw_at lw_m7 197 rfl) rfl
theorem q1727 : (Jvm.Cond.laysFinal "PassagePapersModel" "PassagePapersModel" "image" "[I") ∈ lw_all := lw_g (lw_at lw_m7 198 rfl) rfl
theorem q1728 : (Jvm.Cond.soleField "PassagePapersModel" "image") ∈ lw_all := lw_g (lw_at lw_m7 199 rfl) rfl
theorem q1729 : (Jvm.Cond.lays "PassagePapersModel" "PassagePapersModel" "images" "I") ∈ lw_all := lw_g (lw_at lw_m7 200 rfl) rfl
theorem q1730 : (Jvm.Cond.soleField "PassagePapersModel" "images") ∈ lw_all := lw_g (lw_at lw_m7 201 rfl) rfl
theorem q1731 : (Jvm.Cond.superclass "PassagePapersModel" "java/lang/Object") ∈ lw_all := lw_g (lw_at lw_m7 202 rfl) rfl
theorem q1733 : (Jvm.Cond.instanceMethod ({ cls := "PassagePapersModel", name := "feed", desc := "(IIIII)I" } : Jvm.MethodName)) ∈ lw_all := lw_g (lw_at lw_m7 204 rfl) rfl
theorem q1734 : (Jvm.Cond.selects "PassagePapersModel" ({ cls := "PassagePapersModel", name := "feed", desc := "(IIIII)I" } : Jvm.MethodName) ({ cls := "PassagePapersModel", name := "feed", desc := "(IIIII)I" } : Jvm.MethodName)) ∈ lw_all := lw_g (lw_at lw_m7 205 rfl) rfl
theorem q1735 : (Jvm.Cond.code ({ cls := "PassagePapersModel", name := "feed", desc := "(IIIII)I" } : Jvm.MethodName) prog_26_method_5_code (8 : Nat) (Option.some Jvm.ClassFile.FieldType.int)) ∈ lw_all := lw_g (lw_at lw_m7 206 rfl) rfl
theorem q1737 : (Jvm.Cond.instanceMethod ({ cls := "PassagePapersModel", name := "fault", desc := "()I" } : Jvm.MethodName)) ∈ lw_all := lw_g (lw_at lw_m7 208 rfl) rfl
theorem q1738 : (Jvm.Cond.selects "PassagePapersModel" ({ cls := "PassagePapersModel", name := "fault", desc := "()I" } : Jvm.MethodName) ({ cls := "PassagePapersModel", name := "fault", desc := "()I" } : Jvm.MethodName)) ∈ lw_all := lw_g (lw_at lw_m7 209 rfl) rfl
theorem q1739 : (Jvm.Cond.code ({ cls := "PassagePapersModel", name := "fault", desc := "()I" } : Jvm.MethodName) prog_26_method_19_code (1 : Nat) (Option.some Jvm.ClassFile.FieldType.int)) ∈ lw_all := lw_g (lw_at lw_m7 210 rfl) rfl
theorem q1741 : (Jvm.Cond.instanceMethod ({ cls := "PassagePapersModel", name := "register", desc := "(I)I" } : Jvm.MethodName)) ∈ lw_all := lw_g (lw_at lw_m7 212 rfl) rfl
theorem q1742 : (Jvm.Cond.selects "PassagePapersModel" ({ cls := "PassagePapersModel", name := "register", desc := "(I)I" } : Jvm.MethodName) ({ cls := "PassagePapersModel", name := "register", desc := "(I)I" } : Jvm.MethodName)) ∈ lw_all := lw_g (lw_at lw_m7 213 rfl) rfl
theorem q1743 : (Jvm.Cond.code ({ cls := "PassagePapersModel", name := "register", desc := "(I)I" } : Jvm.MethodName) prog_26_method_27_code (5 : Nat) (Option.some Jvm.ClassFile.FieldType.int)) ∈ lw_all := lw_g (lw_at lw_m7 214 rfl) rfl
theorem q1744 : (Jvm.Cond.methodLink "PassagePapersModel" (207 : Nat) ({ cls := "PassagePapersModel", name := "may", desc := "(ZII)Z" } : Jvm.MethodName)) ∈ lw_all := lw_g (lw_at lw_m7 215 rfl) rfl
theorem q1745 : (Jvm.Cond.privateMethod ({ cls := "PassagePapersModel", name := "may", desc := "(ZII)Z" } : Jvm.MethodName)) ∈ lw_tbl := lw_at lw_m7 216 rfl
theorem q1746 : (Jvm.Cond.instanceMethod ({ cls := "PassagePapersModel", name := "may", desc := "(ZII)Z" } : Jvm.MethodName)) ∈ lw_all := lw_g (lw_at lw_m7 217 rfl) rfl
theorem q1747 : (Jvm.Cond.code ({ cls := "PassagePapersModel", name := "may", desc := "(ZII)Z" } : Jvm.MethodName) prog_26_method_2_code (4 : Nat) (Option.some Jvm.ClassFile.FieldType.boolean)) ∈ lw_all := lw_g (lw_at lw_m7 218 rfl) rfl
theorem q1748 : (Jvm.Cond.methodLink "PassagePapersModel" (211 : Nat) ({ cls := "PassagePapersModel", name := "begins", desc := "(I)V" } : Jvm.MethodName)) ∈ lw_all := lw_g (lw_at lw_m7 219 rfl) rfl
theorem q1749 : (Jvm.Cond.privateMethod ({ cls := "PassagePapersModel", name := "begins", desc := "(I)V" } : Jvm.MethodName)) ∈ lw_tbl := lw_at lw_m7 220 rfl
theorem q1750 : (Jvm.Cond.instanceMethod ({ cls := "PassagePapersModel", name := "begins", desc := "(I)V" } : Jvm.MethodName)) ∈ lw_all := lw_g (lw_at lw_m7 221 rfl) rfl
theorem q1751 : (Jvm.Cond.code ({ cls := "PassagePapersModel", name := "begins", desc := "(I)V" } : Jvm.MethodName) prog_26_method_17_code (2 : Nat) (Option.none : Option Jvm.ClassFile.FieldType)) ∈ lw_all := lw_g (lw_at lw_m7 222 rfl) rfl
theorem q1752 : (Jvm.Cond.methodLink "PassagePapersModel" (143 : Nat) ({ cls := "PassagePapersModel", name := "fine", desc := "()Z" } : Jvm.MethodName)) ∈ lw_all := lw_g (lw_at lw_m7 223 rfl) rfl
theorem q1753 : (Jvm.Cond.privateMethod ({ cls := "PassagePapersModel", name := "fine", desc := "()Z" } : Jvm.MethodName)) ∈ lw_tbl := lw_at lw_m7 224 rfl
theorem q1754 : (Jvm.Cond.instanceMethod ({ cls := "PassagePapersModel", name := "fine", desc := "()Z" } : Jvm.MethodName)) ∈ lw_all := lw_g (lw_at lw_m7 225 rfl) rfl
theorem q1755 : (Jvm.Cond.code ({ cls := "PassagePapersModel", name := "fine", desc := "()Z" } : Jvm.MethodName) prog_26_method_6_code (1 : Nat) (Option.some Jvm.ClassFile.FieldType.boolean)) ∈ lw_all := lw_g (lw_at lw_m7 226 rfl) rfl
theorem q1756 : (Jvm.Cond.methodLink "PassagePapersModel" (215 : Nat) ({ cls := "PassagePapersModel", name := "isMore", desc := "()Z" } : Jvm.MethodName)) ∈ lw_all := lw_g (lw_at lw_m7 227 rfl) rfl
theorem q1757 : (Jvm.Cond.privateMethod ({ cls := "PassagePapersModel", name := "isMore", desc := "()Z" } : Jvm.MethodName)) ∈ lw_tbl := lw_at lw_m7 228 rfl
theorem q1758 : (Jvm.Cond.instanceMethod ({ cls := "PassagePapersModel", name := "isMore", desc := "()Z" } : Jvm.MethodName)) ∈ lw_all := lw_g (lw_at lw_m7 229 rfl) rfl
theorem q1759 : (Jvm.Cond.code ({ cls := "PassagePapersModel", name := "isMore", desc := "()Z" } : Jvm.MethodName) prog_26_method_16_code (1 : Nat) (Option.some Jvm.ClassFile.FieldType.boolean)) ∈ lw_all := lw_g (lw_at lw_m7 230 rfl) rfl
theorem q1760 : (Jvm.Cond.methodLink "PassagePapersModel" (126 : Nat) ({ cls := "PassagePapersModel", name := "here", desc := "()I" } : Jvm.MethodName)) ∈ lw_all := lw_g (lw_at lw_m7 231 rfl) rfl
theorem q1761 : (Jvm.Cond.privateMethod ({ cls := "PassagePapersModel", name := "here", desc := "()I" } : Jvm.MethodName)) ∈ lw_tbl := lw_at lw_m7 232 rfl
theorem q1762 : (Jvm.Cond.instanceMethod ({ cls := "PassagePapersModel", name := "here", desc := "()I" } : Jvm.MethodName)) ∈ lw_all := lw_g (lw_at lw_m7 233 rfl) rfl
theorem q1763 : (Jvm.Cond.code ({ cls := "PassagePapersModel", name := "here", desc := "()I" } : Jvm.MethodName) prog_26_method_8_code (1 : Nat) (Option.some Jvm.ClassFile.FieldType.int)) ∈ lw_all := lw_g (lw_at lw_m7 234 rfl) rfl
theorem q1764 : (Jvm.Cond.stringRef "PassagePapersModel" (218 : Nat) "kinsman") ∈ lw_tbl := lw_at lw_m7 235 rfl
theorem q1765 : (Jvm.Cond.methodLink "PassagePapersModel" (220 : Nat) ({ cls := "PassagePapersModel", name := "standsHere", desc := "(Ljava/lang/String;)Z" } : Jvm.MethodName)) ∈ lw_all := lw_g (lw_at lw_m7 236 rfl) rfl
theorem q1766 : (Jvm.Cond.privateMethod ({ cls := "PassagePapersModel", name := "standsHere", desc := "(Ljava/lang/String;)Z" } : Jvm.MethodName)) ∈ lw_tbl := lw_at lw_m7 237 rfl
theorem q1767 : (Jvm.Cond.instanceMethod ({ cls := "PassagePapersModel", name := "standsHere", desc := "(Ljava/lang/String;)Z" } : Jvm.MethodName)) ∈ lw_all := lw_g (lw_at lw_m7 238 rfl) rfl
theorem q1768 : (Jvm.Cond.code ({ cls := "PassagePapersModel", name := "standsHere", desc := "(Ljava/lang/String;)Z" } : Jvm.MethodName) prog_26_method_25_code (3 : Nat) (Option.some Jvm.ClassFile.FieldType.boolean)) ∈ lw_all := lw_g (lw_at lw_m7 239 rfl) rfl
theorem q1769 : (Jvm.Cond.methodLink "PassagePapersModel" (134 : Nat) ({ cls := "java/lang/String", name := "length", desc := "()I" } : Jvm.MethodName)) ∈ lw_all := lw_g (lw_at lw_m8 0 rfl) rfl
theorem q1770 : (Jvm.Cond.methodLink "PassagePapersModel" (139 : Nat) ({ cls := "java/lang/String", name := "charAt", desc := "(I)C" } : Jvm.MethodName)) ∈ lw_all := lw_g (lw_at lw_m8 1 rfl) rfl
theorem q1771 : (Jvm.Cond.methodLink "PassagePapersModel" (130 : Nat) ({ cls := "PassagePapersModel", name := "isSmall", desc := "(I)Z" } : Jvm.MethodName)) ∈ lw_all := lw_g (lw_at lw_m8 2 rfl) rfl
theorem q1772 : (Jvm.Cond.static ({ cls := "PassagePapersModel", name := "isSmall", desc := "(I)Z" } : Jvm.MethodName)) ∈ lw_all := lw_g (lw_at lw_m8 3 rfl) rfl
theorem q1773 : (Jvm.Cond.code ({ cls := "PassagePapersModel", name := "isSmall", desc := "(I)Z" } : Jvm.MethodName) prog_26_method_9_code (1 : Nat) (Option.some Jvm.ClassFile.FieldType.boolean)) ∈ lw_all := lw_g (lw_at lw_m8 4 rfl) rfl
theorem q1774 : (Jvm.Cond.methodLink "PassagePapersModel" (224 : Nat) ({ cls := "PassagePapersModel", name := "word", desc := "()I" } : Jvm.MethodName)) ∈ lw_all := lw_g (lw_at lw_m8 5 rfl) rfl
theorem q1775 : (Jvm.Cond.privateMethod ({ cls := "PassagePapersModel", name := "word", desc := "()I" } : Jvm.MethodName)) ∈ lw_tbl := lw_at lw_m8 6 rfl
theorem q1776 : (Jvm.Cond.instanceMethod ({ cls := "PassagePapersModel", name := "word", desc := "()I" } : Jvm.MethodName)) ∈ lw_all := lw_g (lw_at lw_m8 7 rfl) rfl
theorem q1777 : (Jvm.Cond.code ({ cls := "PassagePapersModel", name := "word", desc := "()I" } : Jvm.MethodName) prog_26_method_11_code (4 : Nat) (Option.some Jvm.ClassFile.FieldType.int)) ∈ lw_all := lw_g (lw_at lw_m8 8 rfl) rfl
theorem q1778 : (Jvm.Cond.methodLink "PassagePapersModel" (227 : Nat) ({ cls := "PassagePapersModel", name := "isRow", desc := "(I)Z" } : Jvm.MethodName)) ∈ lw_all := lw_g (lw_at lw_m8 9 rfl) rfl
theorem q1779 : (Jvm.Cond.static ({ cls := "PassagePapersModel", name := "isRow", desc := "(I)Z" } : Jvm.MethodName)) ∈ lw_all := lw_g (lw_at lw_m8 10 rfl) rfl
theorem q1780 : (Jvm.Cond.code ({ cls := "PassagePapersModel", name := "isRow", desc := "(I)Z" } : Jvm.MethodName) prog_26_method_26_code (1 : Nat) (Option.some Jvm.ClassFile.FieldType.boolean)) ∈ lw_all := lw_g (lw_at lw_m8 11 rfl) rfl
theorem q1781 : (Jvm.Cond.stringRef "PassagePapersModel" (194 : Nat) "signer") ∈ lw_tbl := lw_at lw_m8 12 rfl
theorem q1782 : (Jvm.Cond.methodLink "PassagePapersModel" (195 : Nat) ({ cls := "PassagePapersModel", name := "of", desc := "(Ljava/lang/String;)I" } : Jvm.MethodName)) ∈ lw_all := lw_g (lw_at lw_m8 13 rfl) rfl
theorem q1783 : (Jvm.Cond.static ({ cls := "PassagePapersModel", name := "of", desc := "(Ljava/lang/String;)I" } : Jvm.MethodName)) ∈ lw_all := lw_g (lw_at lw_m8 14 rfl) rfl
theorem q1784 : (Jvm.Cond.code ({ cls := "PassagePapersModel", name := "of", desc := "(Ljava/lang/String;)I" } : Jvm.MethodName) prog_26_method_12_code (3 : Nat) (Option.some Jvm.ClassFile.FieldType.int)) ∈ lw_all := lw_g (lw_at lw_m8 15 rfl) rfl
theorem q1785 : (Jvm.Cond.stringRef "PassagePapersModel" (203 : Nat) "taker") ∈ lw_tbl := lw_at lw_m8 16 rfl
theorem q1786 : (Jvm.Cond.stringRef "PassagePapersModel" (204 : Nat) "stores") ∈ lw_tbl := lw_at lw_m8 17 rfl
theorem q1787 : (Jvm.Cond.stringRef "PassagePapersModel" (206 : Nat) "voyage") ∈ lw_tbl := lw_at lw_m8 18 rfl
theorem q1788 : (Jvm.Cond.methodLink "PassagePapersModel" (150 : Nat) ({ cls := "PassagePapersModel", name := "wrong", desc := "(II)V" } : Jvm.MethodName)) ∈ lw_all := lw_g (lw_at lw_m8 19 rfl) rfl
theorem q1789 : (Jvm.Cond.privateMethod ({ cls := "PassagePapersModel", name := "wrong", desc := "(II)V" } : Jvm.MethodName)) ∈ lw_tbl := lw_at lw_m8 20 rfl
theorem q1790 : (Jvm.Cond.instanceMethod ({ cls := "PassagePapersModel", name := "wrong", desc := "(II)V" } : Jvm.MethodName)) ∈ lw_all := lw_g (lw_at lw_m8 21 rfl) rfl
theorem q1791 : (Jvm.Cond.code ({ cls := "PassagePapersModel", name := "wrong", desc := "(II)V" } : Jvm.MethodName) prog_26_method_7_code (3 : Nat) (Option.none : Option Jvm.ClassFile.FieldType)) ∈ lw_all := lw_g (lw_at lw_m8 22 rfl) rfl
theorem q1792 : (Jvm.Cond.methodLink "PassagePapersModel" (230 : Nat) ({ cls := "PassagePapersModel", name := "pass", desc := "()V" } : Jvm.MethodName)) ∈ lw_all := lw_g (lw_at lw_m8 23 rfl) rfl
theorem q1793 : (Jvm.Cond.privateMethod ({ cls := "PassagePapersModel", name := "pass", desc := "()V" } : Jvm.MethodName)) ∈ lw_tbl := lw_at lw_m8 24 rfl
theorem q1794 : (Jvm.Cond.instanceMethod ({ cls := "PassagePapersModel", name := "pass", desc := "()V" } : Jvm.MethodName)) ∈ lw_all := lw_g (lw_at lw_m8 25 rfl) rfl
theorem q1795 : (Jvm.Cond.code ({ cls := "PassagePapersModel", name := "pass", desc := "()V" } : Jvm.MethodName) prog_26_method_13_code (1 : Nat) (Option.none : Option Jvm.ClassFile.FieldType)) ∈ lw_all := lw_g (lw_at lw_m8 26 rfl) rfl
theorem q1796 : (Jvm.Cond.methodLink "PassagePapersModel" (233 : Nat) ({ cls := "PassagePapersModel", name := "readKinsman", desc := "()V" } : Jvm.MethodName)) ∈ lw_all := lw_g (lw_at lw_m8 27 rfl) rfl
theorem q1797 : (Jvm.Cond.privateMethod ({ cls := "PassagePapersModel", name := "readKinsman", desc := "()V" } : Jvm.MethodName)) ∈ lw_tbl := lw_at lw_m8 28 rfl
theorem q1798 : (Jvm.Cond.instanceMethod ({ cls := "PassagePapersModel", name := "readKinsman", desc := "()V" } : Jvm.MethodName)) ∈ lw_all := lw_g (lw_at lw_m8 29 rfl) rfl
theorem q1799 : (Jvm.Cond.code ({ cls := "PassagePapersModel", name := "readKinsman", desc := "()V" } : Jvm.MethodName) prog_26_method_24_code (3 : Nat) (Option.none : Option Jvm.ClassFile.FieldType)) ∈ lw_all := lw_g (lw_at lw_m8 30 rfl) rfl
theorem q1800 : (Jvm.Cond.methodLink "PassagePapersModel" (199 : Nat) ({ cls := "PassagePapersModel", name := "readNumber", desc := "(II)I" } : Jvm.MethodName)) ∈ lw_all := lw_g (lw_at lw_m8 31 rfl) rfl
theorem q1801 : (Jvm.Cond.privateMethod ({ cls := "PassagePapersModel", name := "readNumber", desc := "(II)I" } : Jvm.MethodName)) ∈ lw_tbl := lw_at lw_m8 32 rfl
theorem q1802 : (Jvm.Cond.instanceMethod ({ cls := "PassagePapersModel", name := "readNumber", desc := "(II)I" } : Jvm.MethodName)) ∈ lw_all := lw_g (lw_at lw_m8 33 rfl) rfl
theorem q1803 : (Jvm.Cond.code ({ cls := "PassagePapersModel", name := "readNumber", desc := "(II)I" } : Jvm.MethodName) prog_26_method_14_code (6 : Nat) (Option.some Jvm.ClassFile.FieldType.int)) ∈ lw_all := lw_g (lw_at lw_m8 34 rfl) rfl
theorem q1804 : (Jvm.Cond.methodLink "PassagePapersModel" (147 : Nat) ({ cls := "PassagePapersModel", name := "isDigit", desc := "(I)Z" } : Jvm.MethodName)) ∈ lw_all := lw_g (lw_at lw_m8 35 rfl) rfl
theorem q1805 : (Jvm.Cond.static ({ cls := "PassagePapersModel", name := "isDigit", desc := "(I)Z" } : Jvm.MethodName)) ∈ lw_all := lw_g (lw_at lw_m8 36 rfl) rfl
theorem q1806 : (Jvm.Cond.code ({ cls := "PassagePapersModel", name := "isDigit", desc := "(I)Z" } : Jvm.MethodName) prog_26_method_10_code (1 : Nat) (Option.some Jvm.ClassFile.FieldType.boolean)) ∈ lw_all := lw_g (lw_at lw_m8 37 rfl) rfl
theorem q1807 : (Jvm.Cond.methodLink "PassagePapersModel" (236 : Nat) ({ cls := "PassagePapersModel", name := "readRow", desc := "(I)V" } : Jvm.MethodName)) ∈ lw_all := lw_g (lw_at lw_m8 38 rfl) rfl
theorem q1808 : (Jvm.Cond.privateMethod ({ cls := "PassagePapersModel", name := "readRow", desc := "(I)V" } : Jvm.MethodName)) ∈ lw_tbl := lw_at lw_m8 39 rfl
theorem q1809 : (Jvm.Cond.instanceMethod ({ cls := "PassagePapersModel", name := "readRow", desc := "(I)V" } : Jvm.MethodName)) ∈ lw_all := lw_g (lw_at lw_m8 40 rfl) rfl
theorem q1810 : (Jvm.Cond.code ({ cls := "PassagePapersModel", name := "readRow", desc := "(I)V" } : Jvm.MethodName) prog_26_method_23_code (3 : Nat) (Option.none : Option Jvm.ClassFile.FieldType)) ∈ lw_all := lw_g (lw_at lw_m8 41 rfl) rfl
theorem q1811 : (Jvm.Cond.methodLink "PassagePapersModel" (239 : Nat) ({ cls := "PassagePapersModel", name := "sign", desc := "(I)V" } : Jvm.MethodName)) ∈ lw_all := lw_g (lw_at lw_m8 42 rfl) rfl
theorem q1812 : (Jvm.Cond.privateMethod ({ cls := "PassagePapersModel", name := "sign", desc := "(I)V" } : Jvm.MethodName)) ∈ lw_tbl := lw_at lw_m8 43 rfl
theorem q1813 : (Jvm.Cond.instanceMethod ({ cls := "PassagePapersModel", name := "sign", desc := "(I)V" } : Jvm.MethodName)) ∈ lw_all := lw_g (lw_at lw_m8 44 rfl) rfl
theorem q1814 : (Jvm.Cond.code ({ cls := "PassagePapersModel", name := "sign", desc := "(I)V" } : Jvm.MethodName) prog_26_method_15_code (2 : Nat) (Option.none : Option Jvm.ClassFile.FieldType)) ∈ lw_all := lw_g (lw_at lw_m8 45 rfl) rfl
theorem q1815 : (Jvm.Cond.methodLink "PassagePapersModel" (242 : Nat) ({ cls := "PassagePapersModel", name := "result", desc := "(I)I" } : Jvm.MethodName)) ∈ lw_all := lw_g (lw_at lw_m8 46 rfl) rfl
theorem q1816 : (Jvm.Cond.privateMethod ({ cls := "PassagePapersModel", name := "result", desc := "(I)I" } : Jvm.MethodName)) ∈ lw_tbl := lw_at lw_m8 47 rfl
theorem q1817 : (Jvm.Cond.instanceMethod ({ cls := "PassagePapersModel", name := "result", desc := "(I)I" } : Jvm.MethodName)) ∈ lw_all := lw_g (lw_at lw_m8 48 rfl) rfl
theorem q1818 : (Jvm.Cond.code ({ cls := "PassagePapersModel", name := "result", desc := "(I)I" } : Jvm.MethodName) prog_26_method_18_code (2 : Nat) (Option.some Jvm.ClassFile.FieldType.int)) ∈ lw_all := lw_g (lw_at lw_m8 49 rfl) rfl
theorem q1820 : (Jvm.Cond.instanceMethod ({ cls := "PassagePapersModel", name := "law", desc := "(II)I" } : Jvm.MethodName)) ∈ lw_all := lw_g (lw_at lw_m8 51 rfl) rfl
theorem q1821 : (Jvm.Cond.selects "PassagePapersModel" ({ cls := "PassagePapersModel", name := "law", desc := "(II)I" } : Jvm.MethodName) ({ cls := "PassagePapersModel", name := "law", desc := "(II)I" } : Jvm.MethodName)) ∈ lw_all := lw_g (lw_at lw_m8 52 rfl) rfl
theorem q1822 : (Jvm.Cond.code ({ cls := "PassagePapersModel", name := "law", desc := "(II)I" } : Jvm.MethodName) prog_26_method_35_code (5 : Nat) (Option.some Jvm.ClassFile.FieldType.int)) ∈ lw_all := lw_g (lw_at lw_m8 53 rfl) rfl
theorem q1823 : (Jvm.Cond.methodLink "PassagePapersModel" (290 : Nat) ({ cls := "PassagePapersModel", name := "within", desc := "(III)Z" } : Jvm.MethodName)) ∈ lw_all := lw_g (lw_at lw_m8 54 rfl) rfl
theorem q1824 : (Jvm.Cond.static ({ cls := "PassagePapersModel", name := "within", desc := "(III)Z" } : Jvm.MethodName)) ∈ lw_all := lw_g (lw_at lw_m8 55 rfl) rfl
theorem q1825 : (Jvm.Cond.code ({ cls := "PassagePapersModel", name := "within", desc := "(III)Z" } : Jvm.MethodName) prog_26_method_3_code (3 : Nat) (Option.some Jvm.ClassFile.FieldType.boolean)) ∈ lw_all := lw_g (lw_at lw_m8 56 rfl) rfl
theorem q1826 : (Jvm.Cond.methodLink "PassagePapersModel" (261 : Nat) ({ cls := "PassagePapersModel", name := "readSum", desc := "()V" } : Jvm.MethodName)) ∈ lw_all := lw_g (lw_at lw_m8 57 rfl) rfl
theorem q1827 : (Jvm.Cond.privateMethod ({ cls := "PassagePapersModel", name := "readSum", desc := "()V" } : Jvm.MethodName)) ∈ lw_tbl := lw_at lw_m8 58 rfl
theorem q1828 : (Jvm.Cond.instanceMethod ({ cls := "PassagePapersModel", name := "readSum", desc := "()V" } : Jvm.MethodName)) ∈ lw_all := lw_g (lw_at lw_m8 59 rfl) rfl
theorem q1829 : (Jvm.Cond.code ({ cls := "PassagePapersModel", name := "readSum", desc := "()V" } : Jvm.MethodName) prog_26_method_30_code (2 : Nat) (Option.none : Option Jvm.ClassFile.FieldType)) ∈ lw_all := lw_g (lw_at lw_m8 60 rfl) rfl
theorem q1830 : (Jvm.Cond.methodLink "PassagePapersModel" (249 : Nat) ({ cls := "PassagePapersModel", name := "readProduct", desc := "()V" } : Jvm.MethodName)) ∈ lw_all := lw_g (lw_at lw_m8 61 rfl) rfl
theorem q1831 : (Jvm.Cond.privateMethod ({ cls := "PassagePapersModel", name := "readProduct", desc := "()V" } : Jvm.MethodName)) ∈ lw_tbl := lw_at lw_m8 62 rfl
theorem q1832 : (Jvm.Cond.instanceMethod ({ cls := "PassagePapersModel", name := "readProduct", desc := "()V" } : Jvm.MethodName)) ∈ lw_all := lw_g (lw_at lw_m8 63 rfl) rfl
theorem q1833 : (Jvm.Cond.code ({ cls := "PassagePapersModel", name := "readProduct", desc := "()V" } : Jvm.MethodName) prog_26_method_31_code (2 : Nat) (Option.none : Option Jvm.ClassFile.FieldType)) ∈ lw_all := lw_g (lw_at lw_m8 64 rfl) rfl
theorem q1834 : (Jvm.Cond.methodLink "PassagePapersModel" (255 : Nat) ({ cls := "PassagePapersModel", name := "readUnit", desc := "()V" } : Jvm.MethodName)) ∈ lw_all := lw_g (lw_at lw_m8 65 rfl) rfl
theorem q1835 : (Jvm.Cond.privateMethod ({ cls := "PassagePapersModel", name := "readUnit", desc := "()V" } : Jvm.MethodName)) ∈ lw_tbl := lw_at lw_m8 66 rfl
theorem q1836 : (Jvm.Cond.instanceMethod ({ cls := "PassagePapersModel", name := "readUnit", desc := "()V" } : Jvm.MethodName)) ∈ lw_all := lw_g (lw_at lw_m8 67 rfl) rfl
theorem q1837 : (Jvm.Cond.code ({ cls := "PassagePapersModel", name := "readUnit", desc := "()V" } : Jvm.MethodName) prog_26_method_34_code (2 : Nat) (Option.none : Option Jvm.ClassFile.FieldType)) ∈ lw_all := lw_g (lw_at lw_m8 68 rfl) rfl
theorem q1838 : (Jvm.Cond.methodLink "PassagePapersModel" (258 : Nat) ({ cls := "PassagePapersModel", name := "opensOne", desc := "(I)V" } : Jvm.MethodName)) ∈ lw_all := lw_g (lw_at lw_m8 69 rfl) rfl
theorem q1839 : (Jvm.Cond.privateMethod ({ cls := "PassagePapersModel", name := "opensOne", desc := "(I)V" } : Jvm.MethodName)) ∈ lw_tbl := lw_at lw_m8 70 rfl
theorem q1840 : (Jvm.Cond.instanceMethod ({ cls := "PassagePapersModel", name := "opensOne", desc := "(I)V" } : Jvm.MethodName)) ∈ lw_all := lw_g (lw_at lw_m8 71 rfl) rfl
theorem q1841 : (Jvm.Cond.code ({ cls := "PassagePapersModel", name := "opensOne", desc := "(I)V" } : Jvm.MethodName) prog_26_method_29_code (2 : Nat) (Option.none : Option Jvm.ClassFile.FieldType)) ∈ lw_all := lw_g (lw_at lw_m8 72 rfl) rfl
theorem q1842 : (Jvm.Cond.methodLink "PassagePapersModel" (252 : Nat) ({ cls := "PassagePapersModel", name := "emit", desc := "(II)V" } : Jvm.MethodName)) ∈ lw_all := lw_g (lw_at lw_m8 73 rfl) rfl
theorem q1843 : (Jvm.Cond.privateMethod ({ cls := "PassagePapersModel", name := "emit", desc := "(II)V" } : Jvm.MethodName)) ∈ lw_tbl := lw_at lw_m8 74 rfl
theorem q1844 : (Jvm.Cond.instanceMethod ({ cls := "PassagePapersModel", name := "emit", desc := "(II)V" } : Jvm.MethodName)) ∈ lw_all := lw_g (lw_at lw_m8 75 rfl) rfl
theorem q1845 : (Jvm.Cond.code ({ cls := "PassagePapersModel", name := "emit", desc := "(II)V" } : Jvm.MethodName) prog_26_method_28_code (3 : Nat) (Option.none : Option Jvm.ClassFile.FieldType)) ∈ lw_all := lw_g (lw_at lw_m8 76 rfl) rfl
theorem q1846 : (Jvm.Cond.stringRef "PassagePapersModel" (280 : Nat) "least") ∈ lw_tbl := lw_at lw_m8 77 rfl
theorem q1847 : (Jvm.Cond.methodLink "PassagePapersModel" (282 : Nat) ({ cls := "PassagePapersModel", name := "readTwo", desc := "(II)V" } : Jvm.MethodName)) ∈ lw_all := lw_g (lw_at lw_m8 78 rfl) rfl
theorem q1848 : (Jvm.Cond.privateMethod ({ cls := "PassagePapersModel", name := "readTwo", desc := "(II)V" } : Jvm.MethodName)) ∈ lw_tbl := lw_at lw_m8 79 rfl
theorem q1849 : (Jvm.Cond.instanceMethod ({ cls := "PassagePapersModel", name := "readTwo", desc := "(II)V" } : Jvm.MethodName)) ∈ lw_all := lw_g (lw_at lw_m8 80 rfl) rfl
theorem q1850 : (Jvm.Cond.code ({ cls := "PassagePapersModel", name := "readTwo", desc := "(II)V" } : Jvm.MethodName) prog_26_method_32_code (3 : Nat) (Option.none : Option Jvm.ClassFile.FieldType)) ∈ lw_all := lw_g (lw_at lw_m8 81 rfl) rfl
theorem q1851 : (Jvm.Cond.stringRef "PassagePapersModel" (285 : Nat) "most") ∈ lw_tbl := lw_at lw_m8 82 rfl
theorem q1852 : (Jvm.Cond.methodLink "PassagePapersModel" (287 : Nat) ({ cls := "PassagePapersModel", name := "factHere", desc := "()I" } : Jvm.MethodName)) ∈ lw_all := lw_g (lw_at lw_m8 83 rfl) rfl
theorem q1853 : (Jvm.Cond.privateMethod ({ cls := "PassagePapersModel", name := "factHere", desc := "()I" } : Jvm.MethodName)) ∈ lw_tbl := lw_at lw_m8 84 rfl
theorem q1854 : (Jvm.Cond.instanceMethod ({ cls := "PassagePapersModel", name := "factHere", desc := "()I" } : Jvm.MethodName)) ∈ lw_all := lw_g (lw_at lw_m8 85 rfl) rfl
theorem q1855 : (Jvm.Cond.code ({ cls := "PassagePapersModel", name := "factHere", desc := "()I" } : Jvm.MethodName) prog_26_method_33_code (2 : Nat) (Option.some Jvm.ClassFile.FieldType.int)) ∈ lw_all := lw_g (lw_at lw_m8 86 rfl) rfl
theorem q1856 : (Jvm.Cond.stringRef "PassagePapersModel" (264 : Nat) "years") ∈ lw_tbl := lw_at lw_m8 87 rfl
theorem q1857 : (Jvm.Cond.stringRef "PassagePapersModel" (266 : Nat) "added") ∈ lw_tbl := lw_at lw_m8 88 rfl
theorem q1858 : (Jvm.Cond.stringRef "PassagePapersModel" (268 : Nat) "trade") ∈ lw_tbl := lw_at lw_m8 89 rfl
theorem q1859 : (Jvm.Cond.stringRef "PassagePapersModel" (270 : Nat) "hungry") ∈ lw_tbl := lw_at lw_m8 90 rfl
theorem q1860 : (Jvm.Cond.stringRef "PassagePapersModel" (272 : Nat) "kin") ∈ lw_tbl := lw_at lw_m8 91 rfl
theorem q1861 : (Jvm.Cond.stringRef "PassagePapersModel" (274 : Nat) "lost") ∈ lw_tbl := lw_at lw_m8 92 rfl
theorem q1862 : (Jvm.Cond.stringRef "PassagePapersModel" (276 : Nat) "placed") ∈ lw_tbl := lw_at lw_m8 93 rfl
theorem q1863 : (Jvm.Cond.stringRef "PassagePapersModel" (278 : Nat) "week") ∈ lw_tbl := lw_at lw_m8 94 rfl
theorem q1865 : (Jvm.Cond.instanceMethod ({ cls := "PassagePapersModel", name := "work", desc := "(I)I" } : Jvm.MethodName)) ∈ lw_all := lw_g (lw_at lw_m8 96 rfl) rfl
theorem q1866 : (Jvm.Cond.selects "PassagePapersModel" ({ cls := "PassagePapersModel", name := "work", desc := "(I)I" } : Jvm.MethodName) ({ cls := "PassagePapersModel", name := "work", desc := "(I)I" } : Jvm.MethodName)) ∈ lw_all := lw_g (lw_at lw_m8 97 rfl) rfl
theorem q1867 : (Jvm.Cond.code ({ cls := "PassagePapersModel", name := "work", desc := "(I)I" } : Jvm.MethodName) prog_26_method_42_code (4 : Nat) (Option.some Jvm.ClassFile.FieldType.int)) ∈ lw_all := lw_g (lw_at lw_m8 98 rfl) rfl
theorem q1868 : (Jvm.Cond.methodLink "PassagePapersModel" (327 : Nat) ({ cls := "PassagePapersModel", name := "readStep", desc := "()V" } : Jvm.MethodName)) ∈ lw_all := lw_g (lw_at lw_m8 99 rfl) rfl
theorem q1869 : (Jvm.Cond.privateMethod ({ cls := "PassagePapersModel", name := "readStep", desc := "()V" } : Jvm.MethodName)) ∈ lw_tbl := lw_at lw_m8 100 rfl
theorem q1870 : (Jvm.Cond.instanceMethod ({ cls := "PassagePapersModel", name := "readStep", desc := "()V" } : Jvm.MethodName)) ∈ lw_all := lw_g (lw_at lw_m8 101 rfl) rfl
theorem q1871 : (Jvm.Cond.code ({ cls := "PassagePapersModel", name := "readStep", desc := "()V" } : Jvm.MethodName) prog_26_method_41_code (4 : Nat) (Option.none : Option Jvm.ClassFile.FieldType)) ∈ lw_all := lw_g (lw_at lw_m8 102 rfl) rfl
theorem q1872 : (Jvm.Cond.stringRef "PassagePapersModel" (304 : Nat) "land") ∈ lw_tbl := lw_at lw_m8 103 rfl
theorem q1873 : (Jvm.Cond.methodLink "PassagePapersModel" (306 : Nat) ({ cls := "PassagePapersModel", name := "tellsStep", desc := "(III)V" } : Jvm.MethodName)) ∈ lw_all := lw_g (lw_at lw_m8 104 rfl) rfl
theorem q1874 : (Jvm.Cond.privateMethod ({ cls := "PassagePapersModel", name := "tellsStep", desc := "(III)V" } : Jvm.MethodName)) ∈ lw_tbl := lw_at lw_m8 105 rfl
theorem q1875 : (Jvm.Cond.instanceMethod ({ cls := "PassagePapersModel", name := "tellsStep", desc := "(III)V" } : Jvm.MethodName)) ∈ lw_all := lw_g (lw_at lw_m8 106 rfl) rfl
theorem q1876 : (Jvm.Cond.code ({ cls := "PassagePapersModel", name := "tellsStep", desc := "(III)V" } : Jvm.MethodName) prog_26_method_39_code (4 : Nat) (Option.none : Option Jvm.ClassFile.FieldType)) ∈ lw_all := lw_g (lw_at lw_m8 107 rfl) rfl
theorem q1877 : (Jvm.Cond.stringRef "PassagePapersModel" (310 : Nat) "place") ∈ lw_tbl := lw_at lw_m8 108 rfl
theorem q1878 : (Jvm.Cond.methodLink "PassagePapersModel" (312 : Nat) ({ cls := "PassagePapersModel", name := "readOne", desc := "()I" } : Jvm.MethodName)) ∈ lw_all := lw_g (lw_at lw_m8 109 rfl) rfl
theorem q1879 : (Jvm.Cond.privateMethod ({ cls := "PassagePapersModel", name := "readOne", desc := "()I" } : Jvm.MethodName)) ∈ lw_tbl := lw_at lw_m8 110 rfl
theorem q1880 : (Jvm.Cond.instanceMethod ({ cls := "PassagePapersModel", name := "readOne", desc := "()I" } : Jvm.MethodName)) ∈ lw_all := lw_g (lw_at lw_m8 111 rfl) rfl
theorem q1881 : (Jvm.Cond.code ({ cls := "PassagePapersModel", name := "readOne", desc := "()I" } : Jvm.MethodName) prog_26_method_40_code (1 : Nat) (Option.some Jvm.ClassFile.FieldType.int)) ∈ lw_all := lw_g (lw_at lw_m8 112 rfl) rfl
theorem q1882 : (Jvm.Cond.stringRef "PassagePapersModel" (315 : Nat) "add") ∈ lw_tbl := lw_at lw_m8 113 rfl
theorem q1883 : (Jvm.Cond.stringRef "PassagePapersModel" (317 : Nat) "strike") ∈ lw_tbl := lw_at lw_m8 114 rfl
theorem q1884 : (Jvm.Cond.stringRef "PassagePapersModel" (319 : Nat) "lose") ∈ lw_tbl := lw_at lw_m8 115 rfl
theorem q1885 : (Jvm.Cond.stringRef "PassagePapersModel" (321 : Nat) "copy") ∈ lw_tbl := lw_at lw_m8 116 rfl
theorem q1886 : (Jvm.Cond.stringRef "PassagePapersModel" (323 : Nat) "pay") ∈ lw_tbl := lw_at lw_m8 117 rfl
theorem q1887 : (Jvm.Cond.stringRef "PassagePapersModel" (325 : Nat) "again") ∈ lw_tbl := lw_at lw_m8 118 rfl
theorem q1888 : (Jvm.Cond.methodLink "PassagePapersModel" (330 : Nat) ({ cls := "PassagePapersModel", name := "take", desc := "()V" } : Jvm.MethodName)) ∈ lw_all := lw_g (lw_at lw_m8 119 rfl) rfl
theorem q1889 : (Jvm.Cond.privateMethod ({ cls := "PassagePapersModel", name := "take", desc := "()V" } : Jvm.MethodName)) ∈ lw_tbl := lw_at lw_m8 120 rfl
theorem q1890 : (Jvm.Cond.instanceMethod ({ cls := "PassagePapersModel", name := "take", desc := "()V" } : Jvm.MethodName)) ∈ lw_all := lw_g (lw_at lw_m8 121 rfl) rfl
theorem q1891 : (Jvm.Cond.code ({ cls := "PassagePapersModel", name := "take", desc := "()V" } : Jvm.MethodName) prog_26_method_44_code (1 : Nat) (Option.none : Option Jvm.ClassFile.FieldType)) ∈ lw_all := lw_g (lw_at lw_m8 122 rfl) rfl
theorem q1892 : (Jvm.Cond.methodLink "PassagePapersModel" (342 : Nat) ({ cls := "PassagePapersModel", name := "goesSteps", desc := "(II)V" } : Jvm.MethodName)) ∈ lw_all := lw_g (lw_at lw_m8 123 rfl) rfl
theorem q1893 : (Jvm.Cond.privateMethod ({ cls := "PassagePapersModel", name := "goesSteps", desc := "(II)V" } : Jvm.MethodName)) ∈ lw_tbl := lw_at lw_m8 124 rfl
theorem q1894 : (Jvm.Cond.instanceMethod ({ cls := "PassagePapersModel", name := "goesSteps", desc := "(II)V" } : Jvm.MethodName)) ∈ lw_all := lw_g (lw_at lw_m8 125 rfl) rfl
theorem q1895 : (Jvm.Cond.code ({ cls := "PassagePapersModel", name := "goesSteps", desc := "(II)V" } : Jvm.MethodName) prog_26_method_43_code (6 : Nat) (Option.none : Option Jvm.ClassFile.FieldType)) ∈ lw_all := lw_g (lw_at lw_m8 126 rfl) rfl
theorem q1896 : (Jvm.Cond.methodLink "PassagePapersModel" (345 : Nat) ({ cls := "PassagePapersModel", name := "goes", desc := "(III)Z" } : Jvm.MethodName)) ∈ lw_all := lw_g (lw_at lw_m8 127 rfl) rfl
theorem q1897 : (Jvm.Cond.privateMethod ({ cls := "PassagePapersModel", name := "goes", desc := "(III)Z" } : Jvm.MethodName)) ∈ lw_tbl := lw_at lw_m8 128 rfl
theorem q1898 : (Jvm.Cond.instanceMethod ({ cls := "PassagePapersModel", name := "goes", desc := "(III)Z" } : Jvm.MethodName)) ∈ lw_all := lw_g (lw_at lw_m8 129 rfl) rfl
theorem q1899 : (Jvm.Cond.code ({ cls := "PassagePapersModel", name := "goes", desc := "(III)Z" } : Jvm.MethodName) prog_26_method_58_code (5 : Nat) (Option.some Jvm.ClassFile.FieldType.boolean)) ∈ lw_all := lw_g (lw_at lw_m8 130 rfl) rfl
theorem q1900 : (Jvm.Cond.methodLink "PassagePapersModel" (389 : Nat) ({ cls := "PassagePapersModel", name := "lands", desc := "()Z" } : Jvm.MethodName)) ∈ lw_all := lw_g (lw_at lw_m8 131 rfl) rfl
theorem q1901 : (Jvm.Cond.privateMethod ({ cls := "PassagePapersModel", name := "lands", desc := "()Z" } : Jvm.MethodName)) ∈ lw_tbl := lw_at lw_m8 132 rfl
theorem q1902 : (Jvm.Cond.instanceMethod ({ cls := "PassagePapersModel", name := "lands", desc := "()Z" } : Jvm.MethodName)) ∈ lw_all := lw_g (lw_at lw_m8 133 rfl) rfl
theorem q1903 : (Jvm.Cond.code ({ cls := "PassagePapersModel", name := "lands", desc := "()Z" } : Jvm.MethodName) prog_26_method_52_code (2 : Nat) (Option.some Jvm.ClassFile.FieldType.boolean)) ∈ lw_all := lw_g (lw_at lw_m8 134 rfl) rfl
theorem q1904 : (Jvm.Cond.methodLink "PassagePapersModel" (374 : Nat) ({ cls := "PassagePapersModel", name := "many", desc := "(I)I" } : Jvm.MethodName)) ∈ lw_all := lw_g (lw_at lw_m8 135 rfl) rfl
theorem q1905 : (Jvm.Cond.privateMethod ({ cls := "PassagePapersModel", name := "many", desc := "(I)I" } : Jvm.MethodName)) ∈ lw_tbl := lw_at lw_m8 136 rfl
theorem q1906 : (Jvm.Cond.instanceMethod ({ cls := "PassagePapersModel", name := "many", desc := "(I)I" } : Jvm.MethodName)) ∈ lw_all := lw_g (lw_at lw_m8 137 rfl) rfl
theorem q1907 : (Jvm.Cond.code ({ cls := "PassagePapersModel", name := "many", desc := "(I)I" } : Jvm.MethodName) prog_26_method_50_code (4 : Nat) (Option.some Jvm.ClassFile.FieldType.int)) ∈ lw_all := lw_g (lw_at lw_m8 138 rfl) rfl
theorem q1908 : (Jvm.Cond.methodLink "PassagePapersModel" (392 : Nat) ({ cls := "PassagePapersModel", name := "places", desc := "(II)Z" } : Jvm.MethodName)) ∈ lw_all := lw_g (lw_at lw_m8 139 rfl) rfl
theorem q1909 : (Jvm.Cond.privateMethod ({ cls := "PassagePapersModel", name := "places", desc := "(II)Z" } : Jvm.MethodName)) ∈ lw_tbl := lw_at lw_m8 140 rfl
theorem q1910 : (Jvm.Cond.instanceMethod ({ cls := "PassagePapersModel", name := "places", desc := "(II)Z" } : Jvm.MethodName)) ∈ lw_all := lw_g (lw_at lw_m8 141 rfl) rfl
theorem q1911 : (Jvm.Cond.code ({ cls := "PassagePapersModel", name := "places", desc := "(II)Z" } : Jvm.MethodName) prog_26_method_53_code (3 : Nat) (Option.some Jvm.ClassFile.FieldType.boolean)) ∈ lw_all := lw_g (lw_at lw_m8 142 rfl) rfl
theorem q1912 : (Jvm.Cond.methodLink "PassagePapersModel" (377 : Nat) ({ cls := "PassagePapersModel", name := "boundTo", desc := "(I)I" } : Jvm.MethodName)) ∈ lw_all := lw_g (lw_at lw_m8 143 rfl) rfl
theorem q1913 : (Jvm.Cond.privateMethod ({ cls := "PassagePapersModel", name := "boundTo", desc := "(I)I" } : Jvm.MethodName)) ∈ lw_tbl := lw_at lw_m8 144 rfl
theorem q1914 : (Jvm.Cond.instanceMethod ({ cls := "PassagePapersModel", name := "boundTo", desc := "(I)I" } : Jvm.MethodName)) ∈ lw_all := lw_g (lw_at lw_m8 145 rfl) rfl
theorem q1915 : (Jvm.Cond.code ({ cls := "PassagePapersModel", name := "boundTo", desc := "(I)I" } : Jvm.MethodName) prog_26_method_51_code (4 : Nat) (Option.some Jvm.ClassFile.FieldType.int)) ∈ lw_all := lw_g (lw_at lw_m8 146 rfl) rfl
theorem q1916 : (Jvm.Cond.methodLink "PassagePapersModel" (395 : Nat) ({ cls := "PassagePapersModel", name := "loses", desc := "(II)Z" } : Jvm.MethodName)) ∈ lw_all := lw_g (lw_at lw_m8 147 rfl) rfl
theorem q1917 : (Jvm.Cond.privateMethod ({ cls := "PassagePapersModel", name := "loses", desc := "(II)Z" } : Jvm.MethodName)) ∈ lw_tbl := lw_at lw_m8 148 rfl
theorem q1918 : (Jvm.Cond.instanceMethod ({ cls := "PassagePapersModel", name := "loses", desc := "(II)Z" } : Jvm.MethodName)) ∈ lw_all := lw_g (lw_at lw_m8 149 rfl) rfl
theorem q1919 : (Jvm.Cond.code ({ cls := "PassagePapersModel", name := "loses", desc := "(II)Z" } : Jvm.MethodName) prog_26_method_57_code (3 : Nat) (Option.some Jvm.ClassFile.FieldType.boolean)) ∈ lw_all := lw_g (lw_at lw_m8 150 rfl) rfl
theorem q1920 : (Jvm.Cond.methodLink "PassagePapersModel" (398 : Nat) ({ cls := "PassagePapersModel", name := "pays", desc := "(I)Z" } : Jvm.MethodName)) ∈ lw_all := lw_g (lw_at lw_m8 151 rfl) rfl
theorem q1921 : (Jvm.Cond.privateMethod ({ cls := "PassagePapersModel", name := "pays", desc := "(I)Z" } : Jvm.MethodName)) ∈ lw_tbl := lw_at lw_m8 152 rfl
theorem q1922 : (Jvm.Cond.instanceMethod ({ cls := "PassagePapersModel", name := "pays", desc := "(I)Z" } : Jvm.MethodName)) ∈ lw_all := lw_g (lw_at lw_m8 153 rfl) rfl
theorem q1923 : (Jvm.Cond.code ({ cls := "PassagePapersModel", name := "pays", desc := "(I)Z" } : Jvm.MethodName) prog_26_method_56_code (2 : Nat) (Option.some Jvm.ClassFile.FieldType.boolean)) ∈ lw_all := lw_g (lw_at lw_m8 154 rfl) rfl
theorem q1924 : (Jvm.Cond.methodLink "PassagePapersModel" (383 : Nat) ({ cls := "PassagePapersModel", name := "canPayNow", desc := "(I)Z" } : Jvm.MethodName)) ∈ lw_all := lw_g (lw_at lw_m8 155 rfl) rfl
theorem q1925 : (Jvm.Cond.privateMethod ({ cls := "PassagePapersModel", name := "canPayNow", desc := "(I)Z" } : Jvm.MethodName)) ∈ lw_tbl := lw_at lw_m8 156 rfl
theorem q1926 : (Jvm.Cond.instanceMethod ({ cls := "PassagePapersModel", name := "canPayNow", desc := "(I)Z" } : Jvm.MethodName)) ∈ lw_all := lw_g (lw_at lw_m8 157 rfl) rfl
theorem q1927 : (Jvm.Cond.code ({ cls := "PassagePapersModel", name := "canPayNow", desc := "(I)Z" } : Jvm.MethodName) prog_26_method_55_code (2 : Nat) (Option.some Jvm.ClassFile.FieldType.boolean)) ∈ lw_all := lw_g (lw_at lw_m8 158 rfl) rfl
theorem q1928 : (Jvm.Cond.methodLink "PassagePapersModel" (380 : Nat) ({ cls := "PassagePapersModel", name := "owesOf", desc := "(I)I" } : Jvm.MethodName)) ∈ lw_all := lw_g (lw_at lw_m8 159 rfl) rfl
theorem q1929 : (Jvm.Cond.privateMethod ({ cls := "PassagePapersModel", name := "owesOf", desc := "(I)I" } : Jvm.MethodName)) ∈ lw_tbl := lw_at lw_m8 160 rfl
theorem q1930 : (Jvm.Cond.instanceMethod ({ cls := "PassagePapersModel", name := "owesOf", desc := "(I)I" } : Jvm.MethodName)) ∈ lw_all := lw_g (lw_at lw_m8 161 rfl) rfl
theorem q1931 : (Jvm.Cond.code ({ cls := "PassagePapersModel", name := "owesOf", desc := "(I)I" } : Jvm.MethodName) prog_26_method_49_code (3 : Nat) (Option.some Jvm.ClassFile.FieldType.int)) ∈ lw_all := lw_g (lw_at lw_m8 162 rfl) rfl
theorem q1932 : (Jvm.Cond.methodLink "PassagePapersModel" (371 : Nat) ({ cls := "PassagePapersModel", name := "asksBy", desc := "(II)I" } : Jvm.MethodName)) ∈ lw_all := lw_g (lw_at lw_m8 163 rfl) rfl
theorem q1933 : (Jvm.Cond.privateMethod ({ cls := "PassagePapersModel", name := "asksBy", desc := "(II)I" } : Jvm.MethodName)) ∈ lw_tbl := lw_at lw_m8 164 rfl
theorem q1934 : (Jvm.Cond.instanceMethod ({ cls := "PassagePapersModel", name := "asksBy", desc := "(II)I" } : Jvm.MethodName)) ∈ lw_all := lw_g (lw_at lw_m8 165 rfl) rfl
theorem q1935 : (Jvm.Cond.code ({ cls := "PassagePapersModel", name := "asksBy", desc := "(II)I" } : Jvm.MethodName) prog_26_method_48_code (3 : Nat) (Option.some Jvm.ClassFile.FieldType.int)) ∈ lw_all := lw_g (lw_at lw_m8 166 rfl) rfl
theorem q1936 : (Jvm.Cond.methodLink "PassagePapersModel" (367 : Nat) ({ cls := "PassagePapersModel", name := "asksOf", desc := "(IIII)I" } : Jvm.MethodName)) ∈ lw_all := lw_g (lw_at lw_m8 167 rfl) rfl
theorem q1937 : (Jvm.Cond.privateMethod ({ cls := "PassagePapersModel", name := "asksOf", desc := "(IIII)I" } : Jvm.MethodName)) ∈ lw_tbl := lw_at lw_m8 168 rfl
theorem q1938 : (Jvm.Cond.instanceMethod ({ cls := "PassagePapersModel", name := "asksOf", desc := "(IIII)I" } : Jvm.MethodName)) ∈ lw_all := lw_g (lw_at lw_m8 169 rfl) rfl
theorem q1939 : (Jvm.Cond.code ({ cls := "PassagePapersModel", name := "asksOf", desc := "(IIII)I" } : Jvm.MethodName) prog_26_method_47_code (5 : Nat) (Option.some Jvm.ClassFile.FieldType.int)) ∈ lw_all := lw_g (lw_at lw_m8 170 rfl) rfl
theorem q1940 : (Jvm.Cond.methodLink "PassagePapersModel" (361 : Nat) ({ cls := "PassagePapersModel", name := "kinMany", desc := "(I)I" } : Jvm.MethodName)) ∈ lw_all := lw_g (lw_at lw_m8 171 rfl) rfl
theorem q1941 : (Jvm.Cond.privateMethod ({ cls := "PassagePapersModel", name := "kinMany", desc := "(I)I" } : Jvm.MethodName)) ∈ lw_tbl := lw_at lw_m8 172 rfl
theorem q1942 : (Jvm.Cond.instanceMethod ({ cls := "PassagePapersModel", name := "kinMany", desc := "(I)I" } : Jvm.MethodName)) ∈ lw_all := lw_g (lw_at lw_m8 173 rfl) rfl
theorem q1943 : (Jvm.Cond.code ({ cls := "PassagePapersModel", name := "kinMany", desc := "(I)I" } : Jvm.MethodName) prog_26_method_46_code (4 : Nat) (Option.some Jvm.ClassFile.FieldType.int)) ∈ lw_all := lw_g (lw_at lw_m8 174 rfl) rfl
theorem q1944 : (Jvm.Cond.methodLink "PassagePapersModel" (357 : Nat) ({ cls := "PassagePapersModel", name := "areKin", desc := "(II)Z" } : Jvm.MethodName)) ∈ lw_all := lw_g (lw_at lw_m8 175 rfl) rfl
theorem q1945 : (Jvm.Cond.privateMethod ({ cls := "PassagePapersModel", name := "areKin", desc := "(II)Z" } : Jvm.MethodName)) ∈ lw_tbl := lw_at lw_m8 176 rfl
theorem q1946 : (Jvm.Cond.instanceMethod ({ cls := "PassagePapersModel", name := "areKin", desc := "(II)Z" } : Jvm.MethodName)) ∈ lw_all := lw_g (lw_at lw_m8 177 rfl) rfl
theorem q1947 : (Jvm.Cond.code ({ cls := "PassagePapersModel", name := "areKin", desc := "(II)Z" } : Jvm.MethodName) prog_26_method_45_code (3 : Nat) (Option.some Jvm.ClassFile.FieldType.boolean)) ∈ lw_all := lw_g (lw_at lw_m8 178 rfl) rfl
theorem q1948 : (Jvm.Cond.methodLink "PassagePapersModel" (364 : Nat) ({ cls := "PassagePapersModel", name := "asksNow", desc := "(I)I" } : Jvm.MethodName)) ∈ lw_all := lw_g (lw_at lw_m8 179 rfl) rfl
theorem q1949 : (Jvm.Cond.privateMethod ({ cls := "PassagePapersModel", name := "asksNow", desc := "(I)I" } : Jvm.MethodName)) ∈ lw_tbl := lw_at lw_m8 180 rfl
theorem q1950 : (Jvm.Cond.instanceMethod ({ cls := "PassagePapersModel", name := "asksNow", desc := "(I)I" } : Jvm.MethodName)) ∈ lw_all := lw_g (lw_at lw_m8 181 rfl) rfl
theorem q1951 : (Jvm.Cond.code ({ cls := "PassagePapersModel", name := "asksNow", desc := "(I)I" } : Jvm.MethodName) prog_26_method_38_code (3 : Nat) (Option.some Jvm.ClassFile.FieldType.int)) ∈ lw_all := lw_g (lw_at lw_m8 182 rfl) rfl
theorem q1952 : (Jvm.Cond.methodLink "PassagePapersModel" (298 : Nat) ({ cls := "PassagePapersModel", name := "valueOf", desc := "(I)I" } : Jvm.MethodName)) ∈ lw_all := lw_g (lw_at lw_m8 183 rfl) rfl
theorem q1953 : (Jvm.Cond.privateMethod ({ cls := "PassagePapersModel", name := "valueOf", desc := "(I)I" } : Jvm.MethodName)) ∈ lw_tbl := lw_at lw_m8 184 rfl
theorem q1954 : (Jvm.Cond.instanceMethod ({ cls := "PassagePapersModel", name := "valueOf", desc := "(I)I" } : Jvm.MethodName)) ∈ lw_all := lw_g (lw_at lw_m8 185 rfl) rfl
theorem q1955 : (Jvm.Cond.code ({ cls := "PassagePapersModel", name := "valueOf", desc := "(I)I" } : Jvm.MethodName) prog_26_method_36_code (5 : Nat) (Option.some Jvm.ClassFile.FieldType.int)) ∈ lw_all := lw_g (lw_at lw_m8 186 rfl) rfl
theorem q1956 : (Jvm.Cond.methodLink "PassagePapersModel" (294 : Nat) ({ cls := "PassagePapersModel", name := "both", desc := "(III)I" } : Jvm.MethodName)) ∈ lw_all := lw_g (lw_at lw_m8 187 rfl) rfl
theorem q1957 : (Jvm.Cond.static ({ cls := "PassagePapersModel", name := "both", desc := "(III)I" } : Jvm.MethodName)) ∈ lw_all := lw_g (lw_at lw_m8 188 rfl) rfl
theorem q1958 : (Jvm.Cond.code ({ cls := "PassagePapersModel", name := "both", desc := "(III)I" } : Jvm.MethodName) prog_26_method_37_code (3 : Nat) (Option.some Jvm.ClassFile.FieldType.int)) ∈ lw_all := lw_g (lw_at lw_m8 189 rfl) rfl
theorem q1959 : (Jvm.Cond.methodLink "PassagePapersModel" (386 : Nat) ({ cls := "PassagePapersModel", name := "frees", desc := "(I)V" } : Jvm.MethodName)) ∈ lw_all := lw_g (lw_at lw_m8 190 rfl) rfl
theorem q1960 : (Jvm.Cond.privateMethod ({ cls := "PassagePapersModel", name := "frees", desc := "(I)V" } : Jvm.MethodName)) ∈ lw_tbl := lw_at lw_m8 191 rfl
theorem q1961 : (Jvm.Cond.instanceMethod ({ cls := "PassagePapersModel", name := "frees", desc := "(I)V" } : Jvm.MethodName)) ∈ lw_all := lw_g (lw_at lw_m8 192 rfl) rfl
theorem q1962 : (Jvm.Cond.code ({ cls := "PassagePapersModel", name := "frees", desc := "(I)V" } : Jvm.MethodName) prog_26_method_54_code (2 : Nat) (Option.none : Option Jvm.ClassFile.FieldType)) ∈ lw_all := lw_g (lw_at lw_m8 193 rfl) rfl
theorem q1963 : (Jvm.Cond.methodLink "PassagePapersModel" (401 : Nat) ({ cls := "PassagePapersModel", name := "passes", desc := "()V" } : Jvm.MethodName)) ∈ lw_all := lw_g (lw_at lw_m8 194 rfl) rfl
theorem q1964 : (Jvm.Cond.privateMethod ({ cls := "PassagePapersModel", name := "passes", desc := "()V" } : Jvm.MethodName)) ∈ lw_tbl := lw_at lw_m8 195 rfl
theorem q1965 : (Jvm.Cond.instanceMethod ({ cls := "PassagePapersModel", name := "passes", desc := "()V" } : Jvm.MethodName)) ∈ lw_all := lw_g (lw_at lw_m8 196 rfl) rfl
theorem q1966 : (Jvm.Cond.code ({ cls := "PassagePapersModel", name := "passes", desc := "()V" } : Jvm.MethodName) prog_26_method_59_code (2 : Nat) (Option.none : Option Jvm.ClassFile.FieldType)) ∈ lw_all := lw_g (lw_at lw_m8 197 rfl) rfl
theorem q1968 : (Jvm.Cond.instanceMethod ({ cls := "PassagePapersModel", name := "book", desc := "(I)I" } : Jvm.MethodName)) ∈ lw_all := lw_g (lw_at lw_m8 199 rfl) rfl
theorem q1969 : (Jvm.Cond.selects "PassagePapersModel" ({ cls := "PassagePapersModel", name := "book", desc := "(I)I" } : Jvm.MethodName) ({ cls := "PassagePapersModel", name := "book", desc := "(I)I" } : Jvm.MethodName)) ∈ lw_all := lw_g (lw_at lw_m8 200 rfl) rfl
theorem q1970 : (Jvm.Cond.code ({ cls := "PassagePapersModel", name := "book", desc := "(I)I" } : Jvm.MethodName) prog_26_method_60_code (6 : Nat) (Option.some Jvm.ClassFile.FieldType.int)) ∈ lw_all := lw_g (lw_at lw_m8 201 rfl) rfl
theorem q1972 : (Jvm.Cond.instanceMethod ({ cls := "PassagePapersModel", name := "undo", desc := "()I" } : Jvm.MethodName)) ∈ lw_all := lw_g (lw_at lw_m8 203 rfl) rfl
theorem q1973 : (Jvm.Cond.selects "PassagePapersModel" ({ cls := "PassagePapersModel", name := "undo", desc := "()I" } : Jvm.MethodName) ({ cls := "PassagePapersModel", name := "undo", desc := "()I" } : Jvm.MethodName)) ∈ lw_all := lw_g (lw_at lw_m8 204 rfl) rfl
theorem q1974 : (Jvm.Cond.code ({ cls := "PassagePapersModel", name := "undo", desc := "()I" } : Jvm.MethodName) prog_26_method_61_code (2 : Nat) (Option.some Jvm.ClassFile.FieldType.int)) ∈ lw_all := lw_g (lw_at lw_m8 205 rfl) rfl
theorem q1976 : (Jvm.Cond.instanceMethod ({ cls := "PassagePapersModel", name := "told", desc := "(I)I" } : Jvm.MethodName)) ∈ lw_all := lw_g (lw_at lw_m8 207 rfl) rfl
theorem q1977 : (Jvm.Cond.selects "PassagePapersModel" ({ cls := "PassagePapersModel", name := "told", desc := "(I)I" } : Jvm.MethodName) ({ cls := "PassagePapersModel", name := "told", desc := "(I)I" } : Jvm.MethodName)) ∈ lw_all := lw_g (lw_at lw_m8 208 rfl) rfl
theorem q1978 : (Jvm.Cond.code ({ cls := "PassagePapersModel", name := "told", desc := "(I)I" } : Jvm.MethodName) prog_26_method_62_code (2 : Nat) (Option.some Jvm.ClassFile.FieldType.int)) ∈ lw_all := lw_g (lw_at lw_m8 209 rfl) rfl
theorem q1980 : (Jvm.Cond.instanceMethod ({ cls := "PassagePapersModel", name := "signer", desc := "(II)I" } : Jvm.MethodName)) ∈ lw_all := lw_g (lw_at lw_m8 211 rfl) rfl
theorem q1981 : (Jvm.Cond.selects "PassagePapersModel" ({ cls := "PassagePapersModel", name := "signer", desc := "(II)I" } : Jvm.MethodName) ({ cls := "PassagePapersModel", name := "signer", desc := "(II)I" } : Jvm.MethodName)) ∈ lw_all := lw_g (lw_at lw_m8 212 rfl) rfl
theorem q1982 : (Jvm.Cond.code ({ cls := "PassagePapersModel", name := "signer", desc := "(II)I" } : Jvm.MethodName) prog_26_method_65_code (3 : Nat) (Option.some Jvm.ClassFile.FieldType.int)) ∈ lw_all := lw_g (lw_at lw_m8 213 rfl) rfl
theorem q1983 : (Jvm.Cond.methodLink "PassagePapersModel" (404 : Nat) ({ cls := "PassagePapersModel", name := "isSigner", desc := "(II)Z" } : Jvm.MethodName)) ∈ lw_all := lw_g (lw_at lw_m8 214 rfl) rfl
theorem q1984 : (Jvm.Cond.privateMethod ({ cls := "PassagePapersModel", name := "isSigner", desc := "(II)Z" } : Jvm.MethodName)) ∈ lw_tbl := lw_at lw_m8 215 rfl
theorem q1985 : (Jvm.Cond.instanceMethod ({ cls := "PassagePapersModel", name := "isSigner", desc := "(II)Z" } : Jvm.MethodName)) ∈ lw_all := lw_g (lw_at lw_m8 216 rfl) rfl
theorem q1986 : (Jvm.Cond.code ({ cls := "PassagePapersModel", name := "isSigner", desc := "(II)Z" } : Jvm.MethodName) prog_26_method_63_code (3 : Nat) (Option.some Jvm.ClassFile.FieldType.boolean)) ∈ lw_all := lw_g (lw_at lw_m8 217 rfl) rfl
theorem q1988 : (Jvm.Cond.instanceMethod ({ cls := "PassagePapersModel", name := "taker", desc := "(II)I" } : Jvm.MethodName)) ∈ lw_all := lw_g (lw_at lw_m8 219 rfl) rfl
theorem q1989 : (Jvm.Cond.selects "PassagePapersModel" ({ cls := "PassagePapersModel", name := "taker", desc := "(II)I" } : Jvm.MethodName) ({ cls := "PassagePapersModel", name := "taker", desc := "(II)I" } : Jvm.MethodName)) ∈ lw_all := lw_g (lw_at lw_m8 220 rfl) rfl
theorem q1990 : (Jvm.Cond.code ({ cls := "PassagePapersModel", name := "taker", desc := "(II)I" } : Jvm.MethodName) prog_26_method_66_code (3 : Nat) (Option.some Jvm.ClassFile.FieldType.int)) ∈ lw_all := lw_g (lw_at lw_m8 221 rfl) rfl
theorem q1991 : (Jvm.Cond.methodLink "PassagePapersModel" (407 : Nat) ({ cls := "PassagePapersModel", name := "isTaker", desc := "(II)Z" } : Jvm.MethodName)) ∈ lw_all := lw_g (lw_at lw_m8 222 rfl) rfl
theorem q1992 : (Jvm.Cond.privateMethod ({ cls := "PassagePapersModel", name := "isTaker", desc := "(II)Z" } : Jvm.MethodName)) ∈ lw_tbl := lw_at lw_m8 223 rfl
theorem q1993 : (Jvm.Cond.instanceMethod ({ cls := "PassagePapersModel", name := "isTaker", desc := "(II)Z" } : Jvm.MethodName)) ∈ lw_all := lw_g (lw_at lw_m8 224 rfl) rfl
theorem q1994 : (Jvm.Cond.code ({ cls := "PassagePapersModel", name := "isTaker", desc := "(II)Z" } : Jvm.MethodName) prog_26_method_64_code (3 : Nat) (Option.some Jvm.ClassFile.FieldType.boolean)) ∈ lw_all := lw_g (lw_at lw_m8 225 rfl) rfl
theorem q1996 : (Jvm.Cond.instanceMethod ({ cls := "PassagePapersModel", name := "asks", desc := "(II)I" } : Jvm.MethodName)) ∈ lw_all := lw_g (lw_at lw_m8 227 rfl) rfl
theorem q1997 : (Jvm.Cond.selects "PassagePapersModel" ({ cls := "PassagePapersModel", name := "asks", desc := "(II)I" } : Jvm.MethodName) ({ cls := "PassagePapersModel", name := "asks", desc := "(II)I" } : Jvm.MethodName)) ∈ lw_all := lw_g (lw_at lw_m8 228 rfl) rfl
theorem q1998 : (Jvm.Cond.code ({ cls := "PassagePapersModel", name := "asks", desc := "(II)I" } : Jvm.MethodName) prog_26_method_67_code (3 : Nat) (Option.some Jvm.ClassFile.FieldType.int)) ∈ lw_all := lw_g (lw_at lw_m8 229 rfl) rfl
theorem q2000 : (Jvm.Cond.instanceMethod ({ cls := "PassagePapersModel", name := "owes", desc := "(I)I" } : Jvm.MethodName)) ∈ lw_all := lw_g (lw_at lw_m8 231 rfl) rfl
theorem q2001 : (Jvm.Cond.selects "PassagePapersModel" ({ cls := "PassagePapersModel", name := "owes", desc := "(I)I" } : Jvm.MethodName) ({ cls := "PassagePapersModel", name := "owes", desc := "(I)I" } : Jvm.MethodName)) ∈ lw_all := lw_g (lw_at lw_m8 232 rfl) rfl
theorem q2002 : (Jvm.Cond.code ({ cls := "PassagePapersModel", name := "owes", desc := "(I)I" } : Jvm.MethodName) prog_26_method_68_code (2 : Nat) (Option.some Jvm.ClassFile.FieldType.int)) ∈ lw_all := lw_g (lw_at lw_m8 233 rfl) rfl
theorem q2004 : (Jvm.Cond.instanceMethod ({ cls := "PassagePapersModel", name := "would", desc := "(IIIIII)I" } : Jvm.MethodName)) ∈ lw_all := lw_g (lw_at lw_m8 235 rfl) rfl
theorem q2005 : (Jvm.Cond.selects "PassagePapersModel" ({ cls := "PassagePapersModel", name := "would", desc := "(IIIIII)I" } : Jvm.MethodName) ({ cls := "PassagePapersModel", name := "would", desc := "(IIIIII)I" } : Jvm.MethodName)) ∈ lw_all := lw_g (lw_at lw_m8 236 rfl) rfl
theorem q2006 : (Jvm.Cond.code ({ cls := "PassagePapersModel", name := "would", desc := "(IIIIII)I" } : Jvm.MethodName) prog_26_method_69_code (7 : Nat) (Option.some Jvm.ClassFile.FieldType.int)) ∈ lw_all := lw_g (lw_at lw_m8 237 rfl) rfl
theorem q2008 : (Jvm.Cond.instanceMethod ({ cls := "PassagePapersModel", name := "held", desc := "()I" } : Jvm.MethodName)) ∈ lw_all := lw_g (lw_at lw_m8 239 rfl) rfl
theorem q2009 : (Jvm.Cond.selects "PassagePapersModel" ({ cls := "PassagePapersModel", name := "held", desc := "()I" } : Jvm.MethodName) ({ cls := "PassagePapersModel", name := "held", desc := "()I" } : Jvm.MethodName)) ∈ lw_all := lw_g (lw_at lw_m9 0 rfl) rfl
theorem q2010 : (Jvm.Cond.code ({ cls := "PassagePapersModel", name := "held", desc := "()I" } : Jvm.MethodName) prog_26_method_70_code (3 : Nat) (Option.some Jvm.ClassFile.FieldType.int)) ∈ lw_all := lw_g (lw_at lw_m9 1 rfl) rfl
theorem q2012 : (Jvm.Cond.instanceMethod ({ cls := "PassagePapersModel", name := "freeIn", desc := "(I)I" } : Jvm.MethodName)) ∈ lw_all := lw_g (lw_at lw_m9 3 rfl) rfl
theorem q2013 : (Jvm.Cond.selects "PassagePapersModel" ({ cls := "PassagePapersModel", name := "freeIn", desc := "(I)I" } : Jvm.MethodName) ({ cls := "PassagePapersModel", name := "freeIn", desc := "(I)I" } : Jvm.MethodName)) ∈ lw_all := lw_g (lw_at lw_m9 4 rfl) rfl
theorem q2014 : (Jvm.Cond.code ({ cls := "PassagePapersModel", name := "freeIn", desc := "(I)I" } : Jvm.MethodName) prog_26_method_72_code (2 : Nat) (Option.some Jvm.ClassFile.FieldType.int)) ∈ lw_all := lw_g (lw_at lw_m9 5 rfl) rfl
theorem q2015 : (Jvm.Cond.methodLink "PassagePapersModel" (410 : Nat) ({ cls := "PassagePapersModel", name := "freeBy", desc := "(II)I" } : Jvm.MethodName)) ∈ lw_all := lw_g (lw_at lw_m9 6 rfl) rfl
theorem q2016 : (Jvm.Cond.privateMethod ({ cls := "PassagePapersModel", name := "freeBy", desc := "(II)I" } : Jvm.MethodName)) ∈ lw_tbl := lw_at lw_m9 7 rfl
theorem q2017 : (Jvm.Cond.instanceMethod ({ cls := "PassagePapersModel", name := "freeBy", desc := "(II)I" } : Jvm.MethodName)) ∈ lw_all := lw_g (lw_at lw_m9 8 rfl) rfl
theorem q2018 : (Jvm.Cond.code ({ cls := "PassagePapersModel", name := "freeBy", desc := "(II)I" } : Jvm.MethodName) prog_26_method_71_code (4 : Nat) (Option.some Jvm.ClassFile.FieldType.int)) ∈ lw_all := lw_g (lw_at lw_m9 9 rfl) rfl
theorem q2020 : (Jvm.Cond.instanceMethod ({ cls := "PassagePapersModel", name := "otherwise", desc := "(I)I" } : Jvm.MethodName)) ∈ lw_all := lw_g (lw_at lw_m9 11 rfl) rfl
theorem q2021 : (Jvm.Cond.selects "PassagePapersModel" ({ cls := "PassagePapersModel", name := "otherwise", desc := "(I)I" } : Jvm.MethodName) ({ cls := "PassagePapersModel", name := "otherwise", desc := "(I)I" } : Jvm.MethodName)) ∈ lw_all := lw_g (lw_at lw_m9 12 rfl) rfl
theorem q2022 : (Jvm.Cond.code ({ cls := "PassagePapersModel", name := "otherwise", desc := "(I)I" } : Jvm.MethodName) prog_26_method_73_code (2 : Nat) (Option.some Jvm.ClassFile.FieldType.int)) ∈ lw_all := lw_g (lw_at lw_m9 13 rfl) rfl
theorem q2024 : (Jvm.Cond.instanceMethod ({ cls := "PassagePapersModel", name := "ahead", desc := "(II)I" } : Jvm.MethodName)) ∈ lw_all := lw_g (lw_at lw_m9 15 rfl) rfl
theorem q2025 : (Jvm.Cond.selects "PassagePapersModel" ({ cls := "PassagePapersModel", name := "ahead", desc := "(II)I" } : Jvm.MethodName) ({ cls := "PassagePapersModel", name := "ahead", desc := "(II)I" } : Jvm.MethodName)) ∈ lw_all := lw_g (lw_at lw_m9 16 rfl) rfl
theorem q2026 : (Jvm.Cond.code ({ cls := "PassagePapersModel", name := "ahead", desc := "(II)I" } : Jvm.MethodName) prog_26_method_74_code (4 : Nat) (Option.some Jvm.ClassFile.FieldType.int)) ∈ lw_all := lw_g (lw_at lw_m9 17 rfl) rfl
theorem q2028 : (Jvm.Cond.instanceMethod ({ cls := "PassagePapersModel", name := "gives", desc := "(II)I" } : Jvm.MethodName)) ∈ lw_all := lw_g (lw_at lw_m9 19 rfl) rfl
theorem q2029 : (Jvm.Cond.selects "PassagePapersModel" ({ cls := "PassagePapersModel", name := "gives", desc := "(II)I" } : Jvm.MethodName) ({ cls := "PassagePapersModel", name := "gives", desc := "(II)I" } : Jvm.MethodName)) ∈ lw_all := lw_g (lw_at lw_m9 20 rfl) rfl
theorem q2030 : (Jvm.Cond.code ({ cls := "PassagePapersModel", name := "gives", desc := "(II)I" } : Jvm.MethodName) prog_26_method_76_code (3 : Nat) (Option.some Jvm.ClassFile.FieldType.int)) ∈ lw_all := lw_g (lw_at lw_m9 21 rfl) rfl
theorem q2031 : (Jvm.Cond.methodLink "PassagePapersModel" (413 : Nat) ({ cls := "PassagePapersModel", name := "givesFor", desc := "(II)I" } : Jvm.MethodName)) ∈ lw_all := lw_g (lw_at lw_m9 22 rfl) rfl
theorem q2032 : (Jvm.Cond.privateMethod ({ cls := "PassagePapersModel", name := "givesFor", desc := "(II)I" } : Jvm.MethodName)) ∈ lw_tbl := lw_at lw_m9 23 rfl
theorem q2033 : (Jvm.Cond.instanceMethod ({ cls := "PassagePapersModel", name := "givesFor", desc := "(II)I" } : Jvm.MethodName)) ∈ lw_all := lw_g (lw_at lw_m9 24 rfl) rfl
theorem q2034 : (Jvm.Cond.code ({ cls := "PassagePapersModel", name := "givesFor", desc := "(II)I" } : Jvm.MethodName) prog_26_method_75_code (4 : Nat) (Option.some Jvm.ClassFile.FieldType.int)) ∈ lw_all := lw_g (lw_at lw_m9 25 rfl) rfl
theorem q2036 : (Jvm.Cond.instanceMethod ({ cls := "PassagePapersModel", name := "best", desc := "(I)I" } : Jvm.MethodName)) ∈ lw_all := lw_g (lw_at lw_m9 27 rfl) rfl
theorem q2037 : (Jvm.Cond.selects "PassagePapersModel" ({ cls := "PassagePapersModel", name := "best", desc := "(I)I" } : Jvm.MethodName) ({ cls := "PassagePapersModel", name := "best", desc := "(I)I" } : Jvm.MethodName)) ∈ lw_all := lw_g (lw_at lw_m9 28 rfl) rfl
theorem q2038 : (Jvm.Cond.code ({ cls := "PassagePapersModel", name := "best", desc := "(I)I" } : Jvm.MethodName) prog_26_method_80_code (4 : Nat) (Option.some Jvm.ClassFile.FieldType.int)) ∈ lw_all := lw_g (lw_at lw_m9 29 rfl) rfl
theorem q2039 : (Jvm.Cond.methodLink "PassagePapersModel" (425 : Nat) ({ cls := "PassagePapersModel", name := "findBest", desc := "()V" } : Jvm.MethodName)) ∈ lw_all := lw_g (lw_at lw_m9 30 rfl) rfl
theorem q2040 : (Jvm.Cond.privateMethod ({ cls := "PassagePapersModel", name := "findBest", desc := "()V" } : Jvm.MethodName)) ∈ lw_tbl := lw_at lw_m9 31 rfl
theorem q2041 : (Jvm.Cond.instanceMethod ({ cls := "PassagePapersModel", name := "findBest", desc := "()V" } : Jvm.MethodName)) ∈ lw_all := lw_g (lw_at lw_m9 32 rfl) rfl
theorem q2042 : (Jvm.Cond.code ({ cls := "PassagePapersModel", name := "findBest", desc := "()V" } : Jvm.MethodName) prog_26_method_79_code (3 : Nat) (Option.none : Option Jvm.ClassFile.FieldType)) ∈ lw_all := lw_g (lw_at lw_m9 33 rfl) rfl
theorem q2043 : (Jvm.Cond.methodLink "PassagePapersModel" (419 : Nat) ({ cls := "PassagePapersModel", name := "waysOn", desc := "(II)V" } : Jvm.MethodName)) ∈ lw_all := lw_g (lw_at lw_m9 34 rfl) rfl
theorem q2044 : (Jvm.Cond.privateMethod ({ cls := "PassagePapersModel", name := "waysOn", desc := "(II)V" } : Jvm.MethodName)) ∈ lw_tbl := lw_at lw_m9 35 rfl
theorem q2045 : (Jvm.Cond.instanceMethod ({ cls := "PassagePapersModel", name := "waysOn", desc := "(II)V" } : Jvm.MethodName)) ∈ lw_all := lw_g (lw_at lw_m9 36 rfl) rfl
theorem q2046 : (Jvm.Cond.code ({ cls := "PassagePapersModel", name := "waysOn", desc := "(II)V" } : Jvm.MethodName) prog_26_method_78_code (4 : Nat) (Option.none : Option Jvm.ClassFile.FieldType)) ∈ lw_all := lw_g (lw_at lw_m9 37 rfl) rfl
theorem q2047 : (Jvm.Cond.methodLink "PassagePapersModel" (422 : Nat) ({ cls := "PassagePapersModel", name := "mayBeWith", desc := "(II)Z" } : Jvm.MethodName)) ∈ lw_all := lw_g (lw_at lw_m9 38 rfl) rfl
theorem q2048 : (Jvm.Cond.privateMethod ({ cls := "PassagePapersModel", name := "mayBeWith", desc := "(II)Z" } : Jvm.MethodName)) ∈ lw_tbl := lw_at lw_m9 39 rfl
theorem q2049 : (Jvm.Cond.instanceMethod ({ cls := "PassagePapersModel", name := "mayBeWith", desc := "(II)Z" } : Jvm.MethodName)) ∈ lw_all := lw_g (lw_at lw_m9 40 rfl) rfl
theorem q2050 : (Jvm.Cond.code ({ cls := "PassagePapersModel", name := "mayBeWith", desc := "(II)Z" } : Jvm.MethodName) prog_26_method_77_code (4 : Nat) (Option.some Jvm.ClassFile.FieldType.boolean)) ∈ lw_all := lw_g (lw_at lw_m9 41 rfl) rfl
theorem q2052 : (Jvm.Cond.instanceMethod ({ cls := "PassagePapersModel", name := "bestFor", desc := "(I)I" } : Jvm.MethodName)) ∈ lw_all := lw_g (lw_at lw_m9 43 rfl) rfl
theorem q2053 : (Jvm.Cond.selects "PassagePapersModel" ({ cls := "PassagePapersModel", name := "bestFor", desc := "(I)I" } : Jvm.MethodName) ({ cls := "PassagePapersModel", name := "bestFor", desc := "(I)I" } : Jvm.MethodName)) ∈ lw_all := lw_g (lw_at lw_m9 44 rfl) rfl
theorem q2054 : (Jvm.Cond.code ({ cls := "PassagePapersModel", name := "bestFor", desc := "(I)I" } : Jvm.MethodName) prog_26_method_81_code (2 : Nat) (Option.some Jvm.ClassFile.FieldType.int)) ∈ lw_all := lw_g (lw_at lw_m9 45 rfl) rfl
theorem q2056 : (Jvm.Cond.instanceMethod ({ cls := "PassagePapersModel", name := "parted", desc := "()I" } : Jvm.MethodName)) ∈ lw_all := lw_g (lw_at lw_m9 47 rfl) rfl
theorem q2057 : (Jvm.Cond.selects "PassagePapersModel" ({ cls := "PassagePapersModel", name := "parted", desc := "()I" } : Jvm.MethodName) ({ cls := "PassagePapersModel", name := "parted", desc := "()I" } : Jvm.MethodName)) ∈ lw_all := lw_g (lw_at lw_m9 48 rfl) rfl
theorem q2058 : (Jvm.Cond.code ({ cls := "PassagePapersModel", name := "parted", desc := "()I" } : Jvm.MethodName) prog_26_method_82_code (4 : Nat) (Option.some Jvm.ClassFile.FieldType.int)) ∈ lw_all := lw_g (lw_at lw_m9 49 rfl) rfl
theorem q2060 : (Jvm.Cond.instanceMethod ({ cls := "PassagePapersModel", name := "kin", desc := "(I)I" } : Jvm.MethodName)) ∈ lw_all := lw_g (lw_at lw_m9 51 rfl) rfl
theorem q2061 : (Jvm.Cond.selects "PassagePapersModel" ({ cls := "PassagePapersModel", name := "kin", desc := "(I)I" } : Jvm.MethodName) ({ cls := "PassagePapersModel", name := "kin", desc := "(I)I" } : Jvm.MethodName)) ∈ lw_all := lw_g (lw_at lw_m9 52 rfl) rfl
theorem q2062 : (Jvm.Cond.code ({ cls := "PassagePapersModel", name := "kin", desc := "(I)I" } : Jvm.MethodName) prog_26_method_83_code (4 : Nat) (Option.some Jvm.ClassFile.FieldType.int)) ∈ lw_all := lw_g (lw_at lw_m9 53 rfl) rfl
theorem q2064 : (Jvm.Cond.instanceMethod ({ cls := "PassagePapersModel", name := "fare", desc := "(I)I" } : Jvm.MethodName)) ∈ lw_all := lw_g (lw_at lw_m9 55 rfl) rfl
theorem q2065 : (Jvm.Cond.selects "PassagePapersModel" ({ cls := "PassagePapersModel", name := "fare", desc := "(I)I" } : Jvm.MethodName) ({ cls := "PassagePapersModel", name := "fare", desc := "(I)I" } : Jvm.MethodName)) ∈ lw_all := lw_g (lw_at lw_m9 56 rfl) rfl
theorem q2066 : (Jvm.Cond.code ({ cls := "PassagePapersModel", name := "fare", desc := "(I)I" } : Jvm.MethodName) prog_26_method_84_code (2 : Nat) (Option.some Jvm.ClassFile.FieldType.int)) ∈ lw_all := lw_g (lw_at lw_m9 57 rfl) rfl
theorem q2068 : (Jvm.Cond.instanceMethod ({ cls := "PassagePapersModel", name := "canPay", desc := "(I)Z" } : Jvm.MethodName)) ∈ lw_all := lw_g (lw_at lw_m9 59 rfl) rfl
theorem q2069 : (Jvm.Cond.selects "PassagePapersModel" ({ cls := "PassagePapersModel", name := "canPay", desc := "(I)Z" } : Jvm.MethodName) ({ cls := "PassagePapersModel", name := "canPay", desc := "(I)Z" } : Jvm.MethodName)) ∈ lw_all := lw_g (lw_at lw_m9 60 rfl) rfl
theorem q2070 : (Jvm.Cond.code ({ cls := "PassagePapersModel", name := "canPay", desc := "(I)Z" } : Jvm.MethodName) prog_26_method_85_code (2 : Nat) (Option.some Jvm.ClassFile.FieldType.boolean)) ∈ lw_all := lw_g (lw_at lw_m9 61 rfl) rfl
theorem q2072 : (Jvm.Cond.instanceMethod ({ cls := "PassagePapersModel", name := "enough", desc := "(I)I" } : Jvm.MethodName)) ∈ lw_all := lw_g (lw_at lw_m9 63 rfl) rfl
theorem q2073 : (Jvm.Cond.selects "PassagePapersModel" ({ cls := "PassagePapersModel", name := "enough", desc := "(I)I" } : Jvm.MethodName) ({ cls := "PassagePapersModel", name := "enough", desc := "(I)I" } : Jvm.MethodName)) ∈ lw_all := lw_g (lw_at lw_m9 64 rfl) rfl
theorem q2074 : (Jvm.Cond.code ({ cls := "PassagePapersModel", name := "enough", desc := "(I)I" } : Jvm.MethodName) prog_26_method_86_code (2 : Nat) (Option.some Jvm.ClassFile.FieldType.int)) ∈ lw_all := lw_g (lw_at lw_m9 65 rfl) rfl
theorem q2076 : (Jvm.Cond.instanceMethod ({ cls := "PassagePapersModel", name := "level", desc := "(I)I" } : Jvm.MethodName)) ∈ lw_all := lw_g (lw_at lw_m9 67 rfl) rfl
theorem q2077 : (Jvm.Cond.selects "PassagePapersModel" ({ cls := "PassagePapersModel", name := "level", desc := "(I)I" } : Jvm.MethodName) ({ cls := "PassagePapersModel", name := "level", desc := "(I)I" } : Jvm.MethodName)) ∈ lw_all := lw_g (lw_at lw_m9 68 rfl) rfl
theorem q2078 : (Jvm.Cond.code ({ cls := "PassagePapersModel", name := "level", desc := "(I)I" } : Jvm.MethodName) prog_26_method_87_code (3 : Nat) (Option.some Jvm.ClassFile.FieldType.int)) ∈ lw_all := lw_g (lw_at lw_m9 69 rfl) rfl
theorem q2080 : (Jvm.Cond.instanceMethod ({ cls := "PassagePapersModel", name := "hunger", desc := "()I" } : Jvm.MethodName)) ∈ lw_all := lw_g (lw_at lw_m9 71 rfl) rfl
theorem q2081 : (Jvm.Cond.selects "PassagePapersModel" ({ cls := "PassagePapersModel", name := "hunger", desc := "()I" } : Jvm.MethodName) ({ cls := "PassagePapersModel", name := "hunger", desc := "()I" } : Jvm.MethodName)) ∈ lw_all := lw_g (lw_at lw_m9 72 rfl) rfl
theorem q2082 : (Jvm.Cond.code ({ cls := "PassagePapersModel", name := "hunger", desc := "()I" } : Jvm.MethodName) prog_26_method_88_code (2 : Nat) (Option.some Jvm.ClassFile.FieldType.int)) ∈ lw_all := lw_g (lw_at lw_m9 73 rfl) rfl
theorem q2084 : (Jvm.Cond.instanceMethod ({ cls := "PassagePapersModel", name := "terms", desc := "(II)I" } : Jvm.MethodName)) ∈ lw_all := lw_g (lw_at lw_m9 75 rfl) rfl
theorem q2085 : (Jvm.Cond.selects "PassagePapersModel" ({ cls := "PassagePapersModel", name := "terms", desc := "(II)I" } : Jvm.MethodName) ({ cls := "PassagePapersModel", name := "terms", desc := "(II)I" } : Jvm.MethodName)) ∈ lw_all := lw_g (lw_at lw_m9 76 rfl) rfl
theorem q2086 : (Jvm.Cond.code ({ cls := "PassagePapersModel", name := "terms", desc := "(II)I" } : Jvm.MethodName) prog_26_method_91_code (8 : Nat) (Option.some Jvm.ClassFile.FieldType.int)) ∈ lw_all := lw_g (lw_at lw_m9 77 rfl) rfl
theorem q2087 : (Jvm.Cond.methodLink "PassagePapersModel" (431 : Nat) ({ cls := "PassagePapersModel", name := "findTerms", desc := "(I)V" } : Jvm.MethodName)) ∈ lw_all := lw_g (lw_at lw_m9 78 rfl) rfl
theorem q2088 : (Jvm.Cond.privateMethod ({ cls := "PassagePapersModel", name := "findTerms", desc := "(I)V" } : Jvm.MethodName)) ∈ lw_tbl := lw_at lw_m9 79 rfl
theorem q2089 : (Jvm.Cond.instanceMethod ({ cls := "PassagePapersModel", name := "findTerms", desc := "(I)V" } : Jvm.MethodName)) ∈ lw_all := lw_g (lw_at lw_m9 80 rfl) rfl
theorem q2090 : (Jvm.Cond.code ({ cls := "PassagePapersModel", name := "findTerms", desc := "(I)V" } : Jvm.MethodName) prog_26_method_90_code (4 : Nat) (Option.none : Option Jvm.ClassFile.FieldType)) ∈ lw_all := lw_g (lw_at lw_m9 81 rfl) rfl
theorem q2091 : (Jvm.Cond.methodLink "PassagePapersModel" (428 : Nat) ({ cls := "PassagePapersModel", name := "moreBy", desc := "(II)I" } : Jvm.MethodName)) ∈ lw_all := lw_g (lw_at lw_m9 82 rfl) rfl
theorem q2092 : (Jvm.Cond.static ({ cls := "PassagePapersModel", name := "moreBy", desc := "(II)I" } : Jvm.MethodName)) ∈ lw_all := lw_g (lw_at lw_m9 83 rfl) rfl
theorem q2093 : (Jvm.Cond.code ({ cls := "PassagePapersModel", name := "moreBy", desc := "(II)I" } : Jvm.MethodName) prog_26_method_89_code (2 : Nat) (Option.some Jvm.ClassFile.FieldType.int)) ∈ lw_all := lw_g (lw_at lw_m9 84 rfl) rfl
theorem q2095 : (Jvm.Cond.instanceMethod ({ cls := "PassagePapersModel", name := "ask", desc := "(II)I" } : Jvm.MethodName)) ∈ lw_all := lw_g (lw_at lw_m9 86 rfl) rfl
theorem q2096 : (Jvm.Cond.selects "PassagePapersModel" ({ cls := "PassagePapersModel", name := "ask", desc := "(II)I" } : Jvm.MethodName) ({ cls := "PassagePapersModel", name := "ask", desc := "(II)I" } : Jvm.MethodName)) ∈ lw_all := lw_g (lw_at lw_m9 87 rfl) rfl
theorem q2097 : (Jvm.Cond.code ({ cls := "PassagePapersModel", name := "ask", desc := "(II)I" } : Jvm.MethodName) prog_26_method_94_code (7 : Nat) (Option.some Jvm.ClassFile.FieldType.int)) ∈ lw_all := lw_g (lw_at lw_m9 88 rfl) rfl
theorem q2098 : (Jvm.Cond.methodLink "PassagePapersModel" (434 : Nat) ({ cls := "PassagePapersModel", name := "isTold", desc := "(I)Z" } : Jvm.MethodName)) ∈ lw_all := lw_g (lw_at lw_m9 89 rfl) rfl
theorem q2099 : (Jvm.Cond.privateMethod ({ cls := "PassagePapersModel", name := "isTold", desc := "(I)Z" } : Jvm.MethodName)) ∈ lw_tbl := lw_at lw_m9 90 rfl
theorem q2100 : (Jvm.Cond.instanceMethod ({ cls := "PassagePapersModel", name := "isTold", desc := "(I)Z" } : Jvm.MethodName)) ∈ lw_all := lw_g (lw_at lw_m9 91 rfl) rfl
theorem q2101 : (Jvm.Cond.code ({ cls := "PassagePapersModel", name := "isTold", desc := "(I)Z" } : Jvm.MethodName) prog_26_method_92_code (3 : Nat) (Option.some Jvm.ClassFile.FieldType.boolean)) ∈ lw_all := lw_g (lw_at lw_m9 92 rfl) rfl
theorem q2102 : (Jvm.Cond.methodLink "PassagePapersModel" (437 : Nat) ({ cls := "PassagePapersModel", name := "worstAt", desc := "(I)I" } : Jvm.MethodName)) ∈ lw_all := lw_g (lw_at lw_m9 93 rfl) rfl
theorem q2103 : (Jvm.Cond.privateMethod ({ cls := "PassagePapersModel", name := "worstAt", desc := "(I)I" } : Jvm.MethodName)) ∈ lw_tbl := lw_at lw_m9 94 rfl
theorem q2104 : (Jvm.Cond.instanceMethod ({ cls := "PassagePapersModel", name := "worstAt", desc := "(I)I" } : Jvm.MethodName)) ∈ lw_all := lw_g (lw_at lw_m9 95 rfl) rfl
theorem q2105 : (Jvm.Cond.code ({ cls := "PassagePapersModel", name := "worstAt", desc := "(I)I" } : Jvm.MethodName) prog_26_method_93_code (5 : Nat) (Option.some Jvm.ClassFile.FieldType.int)) ∈ lw_all := lw_g (lw_at lw_m9 96 rfl) rfl
theorem q2107 : (Jvm.Cond.instanceMethod ({ cls := "PassagePapersModel", name := "court", desc := "(III)J" } : Jvm.MethodName)) ∈ lw_all := lw_g (lw_at lw_m9 98 rfl) rfl
theorem q2108 : (Jvm.Cond.selects "PassagePapersModel" ({ cls := "PassagePapersModel", name := "court", desc := "(III)J" } : Jvm.MethodName) ({ cls := "PassagePapersModel", name := "court", desc := "(III)J" } : Jvm.MethodName)) ∈ lw_all := lw_g (lw_at lw_m9 99 rfl) rfl
theorem q2109 : (Jvm.Cond.code ({ cls := "PassagePapersModel", name := "court", desc := "(III)J" } : Jvm.MethodName) prog_26_method_98_code (4 : Nat) (Option.some Jvm.ClassFile.FieldType.long)) ∈ lw_all := lw_g (lw_at lw_m9 100 rfl) rfl
theorem q2110 : (Jvm.Cond.methodLink "PassagePapersModel" (444 : Nat) ({ cls := "PassagePapersModel", name := "courtBy", desc := "(II)J" } : Jvm.MethodName)) ∈ lw_all := lw_g (lw_at lw_m9 101 rfl) rfl
theorem q2111 : (Jvm.Cond.static ({ cls := "PassagePapersModel", name := "courtBy", desc := "(II)J" } : Jvm.MethodName)) ∈ lw_all := lw_g (lw_at lw_m9 102 rfl) rfl
theorem q2112 : (Jvm.Cond.code ({ cls := "PassagePapersModel", name := "courtBy", desc := "(II)J" } : Jvm.MethodName) prog_26_method_97_code (7 : Nat) (Option.some Jvm.ClassFile.FieldType.long)) ∈ lw_all := lw_g (lw_at lw_m9 103 rfl) rfl
theorem q2113 : (Jvm.Cond.methodLink "PassagePapersModel" (440 : Nat) ({ cls := "PassagePapersModel", name := "power", desc := "(JI)J" } : Jvm.MethodName)) ∈ lw_all := lw_g (lw_at lw_m9 104 rfl) rfl
theorem q2114 : (Jvm.Cond.static ({ cls := "PassagePapersModel", name := "power", desc := "(JI)J" } : Jvm.MethodName)) ∈ lw_all := lw_g (lw_at lw_m9 105 rfl) rfl
theorem q2115 : (Jvm.Cond.code ({ cls := "PassagePapersModel", name := "power", desc := "(JI)J" } : Jvm.MethodName) prog_26_method_96_code (6 : Nat) (Option.some Jvm.ClassFile.FieldType.long)) ∈ lw_all := lw_g (lw_at lw_m9 106 rfl) rfl
theorem q2116 : (Jvm.Cond.constantLong "PassagePapersModel" (448 : Nat) (16 : Int64)) ∈ lw_all := lw_g (lw_at lw_m9 107 rfl) rfl
theorem q2117 : (Jvm.Cond.methodLink "PassagePapersModel" (450 : Nat) ({ cls := "PassagePapersModel", name := "least", desc := "(JJI)J" } : Jvm.MethodName)) ∈ lw_all := lw_g (lw_at lw_m9 108 rfl) rfl
theorem q2118 : (Jvm.Cond.static ({ cls := "PassagePapersModel", name := "least", desc := "(JJI)J" } : Jvm.MethodName)) ∈ lw_all := lw_g (lw_at lw_m9 109 rfl) rfl
theorem q2119 : (Jvm.Cond.code ({ cls := "PassagePapersModel", name := "least", desc := "(JJI)J" } : Jvm.MethodName) prog_26_method_95_code (11 : Nat) (Option.some Jvm.ClassFile.FieldType.long)) ∈ lw_all := lw_g (lw_at lw_m9 110 rfl) rfl
theorem q2121 : (Jvm.Cond.instanceMethod ({ cls := "PassagePapersModel", name := "witnesses", desc := "(II)I" } : Jvm.MethodName)) ∈ lw_all := lw_g (lw_at lw_m9 112 rfl) rfl
theorem q2122 : (Jvm.Cond.selects "PassagePapersModel" ({ cls := "PassagePapersModel", name := "witnesses", desc := "(II)I" } : Jvm.MethodName) ({ cls := "PassagePapersModel", name := "witnesses", desc := "(II)I" } : Jvm.MethodName)) ∈ lw_all := lw_g (lw_at lw_m9 113 rfl) rfl
theorem q2123 : (Jvm.Cond.code ({ cls := "PassagePapersModel", name := "witnesses", desc := "(II)I" } : Jvm.MethodName) prog_26_method_99_code (4 : Nat) (Option.some Jvm.ClassFile.FieldType.int)) ∈ lw_all := lw_g (lw_at lw_m9 114 rfl) rfl
theorem q2125 : (Jvm.Cond.instanceMethod ({ cls := "PassagePapersModel", name := "loan", desc := "(III)I" } : Jvm.MethodName)) ∈ lw_all := lw_g (lw_at lw_m9 116 rfl) rfl
theorem q2126 : (Jvm.Cond.selects "PassagePapersModel" ({ cls := "PassagePapersModel", name := "loan", desc := "(III)I" } : Jvm.MethodName) ({ cls := "PassagePapersModel", name := "loan", desc := "(III)I" } : Jvm.MethodName)) ∈ lw_all := lw_g (lw_at lw_m9 117 rfl) rfl
theorem q2127 : (Jvm.Cond.code ({ cls := "PassagePapersModel", name := "loan", desc := "(III)I" } : Jvm.MethodName) prog_26_method_100_code (7 : Nat) (Option.some Jvm.ClassFile.FieldType.int)) ∈ lw_all := lw_g (lw_at lw_m9 118 rfl) rfl
theorem q2128 : (Jvm.Cond.constantLong "PassagePapersModel" (453 : Nat) (1000000000 : Int64)) ∈ lw_all := lw_g (lw_at lw_m9 119 rfl) rfl
theorem q2129 : (Jvm.Cond.constantLong "PassagePapersModel" (455 : Nat) (1000 : Int64)) ∈ lw_all := lw_g (lw_at lw_m9 120 rfl) rfl
theorem q2131 : (Jvm.Cond.instanceMethod ({ cls := "PassagePapersModel", name := "land", desc := "(II)I" } : Jvm.MethodName)) ∈ lw_all := lw_g (lw_at lw_m9 122 rfl) rfl
theorem q2132 : (Jvm.Cond.selects "PassagePapersModel" ({ cls := "PassagePapersModel", name := "land", desc := "(II)I" } : Jvm.MethodName) ({ cls := "PassagePapersModel", name := "land", desc := "(II)I" } : Jvm.MethodName)) ∈ lw_all := lw_g (lw_at lw_m9 123 rfl) rfl
theorem q2133 : (Jvm.Cond.code ({ cls := "PassagePapersModel", name := "land", desc := "(II)I" } : Jvm.MethodName) prog_26_method_101_code (6 : Nat) (Option.some Jvm.ClassFile.FieldType.int)) ∈ lw_all := lw_g (lw_at lw_m9 124 rfl) rfl
theorem q2135 : (Jvm.Cond.instanceMethod ({ cls := "PassagePapersModel", name := "bids", desc := "(IIII)I" } : Jvm.MethodName)) ∈ lw_all := lw_g (lw_at lw_m9 126 rfl) rfl
theorem q2136 : (Jvm.Cond.selects "PassagePapersModel" ({ cls := "PassagePapersModel", name := "bids", desc := "(IIII)I" } : Jvm.MethodName) ({ cls := "PassagePapersModel", name := "bids", desc := "(IIII)I" } : Jvm.MethodName)) ∈ lw_all := lw_g (lw_at lw_m9 127 rfl) rfl
theorem q2137 : (Jvm.Cond.code ({ cls := "PassagePapersModel", name := "bids", desc := "(IIII)I" } : Jvm.MethodName) prog_26_method_104_code (8 : Nat) (Option.some Jvm.ClassFile.FieldType.int)) ∈ lw_all := lw_g (lw_at lw_m9 128 rfl) rfl
theorem q2138 : (Jvm.Cond.methodLink "PassagePapersModel" (460 : Nat) ({ cls := "PassagePapersModel", name := "isRest", desc := "(IIIII)Z" } : Jvm.MethodName)) ∈ lw_all := lw_g (lw_at lw_m9 129 rfl) rfl
theorem q2139 : (Jvm.Cond.static ({ cls := "PassagePapersModel", name := "isRest", desc := "(IIIII)Z" } : Jvm.MethodName)) ∈ lw_all := lw_g (lw_at lw_m9 130 rfl) rfl
theorem q2140 : (Jvm.Cond.code ({ cls := "PassagePapersModel", name := "isRest", desc := "(IIIII)Z" } : Jvm.MethodName) prog_26_method_103_code (6 : Nat) (Option.some Jvm.ClassFile.FieldType.boolean)) ∈ lw_all := lw_g (lw_at lw_m9 131 rfl) rfl
theorem q2141 : (Jvm.Cond.methodLink "PassagePapersModel" (457 : Nat) ({ cls := "PassagePapersModel", name := "hasBy", desc := "(III)I" } : Jvm.MethodName)) ∈ lw_all := lw_g (lw_at lw_m9 132 rfl) rfl
theorem q2142 : (Jvm.Cond.static ({ cls := "PassagePapersModel", name := "hasBy", desc := "(III)I" } : Jvm.MethodName)) ∈ lw_all := lw_g (lw_at lw_m9 133 rfl) rfl
theorem q2143 : (Jvm.Cond.code ({ cls := "PassagePapersModel", name := "hasBy", desc := "(III)I" } : Jvm.MethodName) prog_26_method_102_code (3 : Nat) (Option.some Jvm.ClassFile.FieldType.int)) ∈ lw_all := lw_g (lw_at lw_m9 134 rfl) rfl
theorem q2145 : (Jvm.Cond.instanceMethod ({ cls := "PassagePapersModel", name := "has", desc := "(III)I" } : Jvm.MethodName)) ∈ lw_all := lw_g (lw_at lw_m9 136 rfl) rfl
theorem q2146 : (Jvm.Cond.selects "PassagePapersModel" ({ cls := "PassagePapersModel", name := "has", desc := "(III)I" } : Jvm.MethodName) ({ cls := "PassagePapersModel", name := "has", desc := "(III)I" } : Jvm.MethodName)) ∈ lw_all := lw_g (lw_at lw_m9 137 rfl) rfl
theorem q2147 : (Jvm.Cond.code ({ cls := "PassagePapersModel", name := "has", desc := "(III)I" } : Jvm.MethodName) prog_26_method_105_code (4 : Nat) (Option.some Jvm.ClassFile.FieldType.int)) ∈ lw_all := lw_g (lw_at lw_m9 138 rfl) rfl
theorem q2149 : (Jvm.Cond.instanceMethod ({ cls := "PassagePapersModel", name := "voyage", desc := "(IIIII)I" } : Jvm.MethodName)) ∈ lw_all := lw_g (lw_at lw_m9 140 rfl) rfl
theorem q2150 : (Jvm.Cond.selects "PassagePapersModel" ({ cls := "PassagePapersModel", name := "voyage", desc := "(IIIII)I" } : Jvm.MethodName) ({ cls := "PassagePapersModel", name := "voyage", desc := "(IIIII)I" } : Jvm.MethodName)) ∈ lw_all := lw_g (lw_at lw_m9 141 rfl) rfl
theorem q2151 : (Jvm.Cond.code ({ cls := "PassagePapersModel", name := "voyage", desc := "(IIIII)I" } : Jvm.MethodName) prog_26_method_109_code (6 : Nat) (Option.some Jvm.ClassFile.FieldType.int)) ∈ lw_all := lw_g (lw_at lw_m9 142 rfl) rfl
theorem q2152 : (Jvm.Cond.methodLink "PassagePapersModel" (474 : Nat) ({ cls := "PassagePapersModel", name := "isVoyage", desc := "(III)Z" } : Jvm.MethodName)) ∈ lw_all := lw_g (lw_at lw_m9 143 rfl) rfl
theorem q2153 : (Jvm.Cond.static ({ cls := "PassagePapersModel", name := "isVoyage", desc := "(III)Z" } : Jvm.MethodName)) ∈ lw_all := lw_g (lw_at lw_m9 144 rfl) rfl
theorem q2154 : (Jvm.Cond.code ({ cls := "PassagePapersModel", name := "isVoyage", desc := "(III)Z" } : Jvm.MethodName) prog_26_method_108_code (3 : Nat) (Option.some Jvm.ClassFile.FieldType.boolean)) ∈ lw_all := lw_g (lw_at lw_m9 145 rfl) rfl
theorem q2155 : (Jvm.Cond.methodLink "PassagePapersModel" (477 : Nat) ({ cls := "PassagePapersModel", name := "sails", desc := "(IIII)V" } : Jvm.MethodName)) ∈ lw_all := lw_g (lw_at lw_m9 146 rfl) rfl
theorem q2156 : (Jvm.Cond.privateMethod ({ cls := "PassagePapersModel", name := "sails", desc := "(IIII)V" } : Jvm.MethodName)) ∈ lw_tbl := lw_at lw_m9 147 rfl
theorem q2157 : (Jvm.Cond.instanceMethod ({ cls := "PassagePapersModel", name := "sails", desc := "(IIII)V" } : Jvm.MethodName)) ∈ lw_all := lw_g (lw_at lw_m9 148 rfl) rfl
theorem q2158 : (Jvm.Cond.code ({ cls := "PassagePapersModel", name := "sails", desc := "(IIII)V" } : Jvm.MethodName) prog_26_method_107_code (6 : Nat) (Option.none : Option Jvm.ClassFile.FieldType)) ∈ lw_all := lw_g (lw_at lw_m9 149 rfl) rfl
theorem q2159 : (Jvm.Cond.methodLink "PassagePapersModel" (471 : Nat) ({ cls := "PassagePapersModel", name := "draws", desc := "()I" } : Jvm.MethodName)) ∈ lw_all := lw_g (lw_at lw_m9 150 rfl) rfl
theorem q2160 : (Jvm.Cond.privateMethod ({ cls := "PassagePapersModel", name := "draws", desc := "()I" } : Jvm.MethodName)) ∈ lw_tbl := lw_at lw_m9 151 rfl
theorem q2161 : (Jvm.Cond.instanceMethod ({ cls := "PassagePapersModel", name := "draws", desc := "()I" } : Jvm.MethodName)) ∈ lw_all := lw_g (lw_at lw_m9 152 rfl) rfl
theorem q2162 : (Jvm.Cond.code ({ cls := "PassagePapersModel", name := "draws", desc := "()I" } : Jvm.MethodName) prog_26_method_106_code (1 : Nat) (Option.some Jvm.ClassFile.FieldType.int)) ∈ lw_all := lw_g (lw_at lw_m9 153 rfl) rfl
theorem q2163 : (Jvm.Cond.constant "PassagePapersModel" (467 : Nat) (1103515245 : Int32)) ∈ lw_all := lw_g (lw_at lw_m9 154 rfl) rfl
theorem q2165 : (Jvm.Cond.instanceMethod ({ cls := "PassagePapersModel", name := "span", desc := "(IIIIII)I" } : Jvm.MethodName)) ∈ lw_all := lw_g (lw_at lw_m9 156 rfl) rfl
theorem q2166 : (Jvm.Cond.selects "PassagePapersModel" ({ cls := "PassagePapersModel", name := "span", desc := "(IIIIII)I" } : Jvm.MethodName) ({ cls := "PassagePapersModel", name := "span", desc := "(IIIIII)I" } : Jvm.MethodName)) ∈ lw_all := lw_g (lw_at lw_m9 157 rfl) rfl
theorem q2167 : (Jvm.Cond.code ({ cls := "PassagePapersModel", name := "span", desc := "(IIIIII)I" } : Jvm.MethodName) prog_26_method_110_code (11 : Nat) (Option.some Jvm.ClassFile.FieldType.int)) ∈ lw_all := lw_g (lw_at lw_m9 158 rfl) rfl
theorem q2169 : (Jvm.Cond.instanceMethod ({ cls := "PassagePapersModel", name := "image", desc := "()I" } : Jvm.MethodName)) ∈ lw_all := lw_g (lw_at lw_m9 160 rfl) rfl
theorem q2170 : (Jvm.Cond.selects "PassagePapersModel" ({ cls := "PassagePapersModel", name := "image", desc := "()I" } : Jvm.MethodName) ({ cls := "PassagePapersModel", name := "image", desc := "()I" } : Jvm.MethodName)) ∈ lw_all := lw_g (lw_at lw_m9 161 rfl) rfl
theorem q2171 : (Jvm.Cond.code ({ cls := "PassagePapersModel", name := "image", desc := "()I" } : Jvm.MethodName) prog_26_method_113_code (1 : Nat) (Option.some Jvm.ClassFile.FieldType.int)) ∈ lw_all := lw_g (lw_at lw_m9 162 rfl) rfl
theorem q2172 : (Jvm.Cond.methodLink "PassagePapersModel" (485 : Nat) ({ cls := "PassagePapersModel", name := "keepsAll", desc := "(IZ)V" } : Jvm.MethodName)) ∈ lw_all := lw_g (lw_at lw_m9 163 rfl) rfl
theorem q2173 : (Jvm.Cond.privateMethod ({ cls := "PassagePapersModel", name := "keepsAll", desc := "(IZ)V" } : Jvm.MethodName)) ∈ lw_tbl := lw_at lw_m9 164 rfl
theorem q2174 : (Jvm.Cond.instanceMethod ({ cls := "PassagePapersModel", name := "keepsAll", desc := "(IZ)V" } : Jvm.MethodName)) ∈ lw_all := lw_g (lw_at lw_m9 165 rfl) rfl
theorem q2175 : (Jvm.Cond.code ({ cls := "PassagePapersModel", name := "keepsAll", desc := "(IZ)V" } : Jvm.MethodName) prog_26_method_112_code (4 : Nat) (Option.none : Option Jvm.ClassFile.FieldType)) ∈ lw_all := lw_g (lw_at lw_m9 166 rfl) rfl
theorem q2176 : (Jvm.Cond.methodLink "PassagePapersModel" (481 : Nat) ({ cls := "PassagePapersModel", name := "keepsRow", desc := "(I[IIZ)I" } : Jvm.MethodName)) ∈ lw_all := lw_g (lw_at lw_m9 167 rfl) rfl
theorem q2177 : (Jvm.Cond.privateMethod ({ cls := "PassagePapersModel", name := "keepsRow", desc := "(I[IIZ)I" } : Jvm.MethodName)) ∈ lw_tbl := lw_at lw_m9 168 rfl
theorem q2178 : (Jvm.Cond.instanceMethod ({ cls := "PassagePapersModel", name := "keepsRow", desc := "(I[IIZ)I" } : Jvm.MethodName)) ∈ lw_all := lw_g (lw_at lw_m9 169 rfl) rfl
theorem q2179 : (Jvm.Cond.code ({ cls := "PassagePapersModel", name := "keepsRow", desc := "(I[IIZ)I" } : Jvm.MethodName) prog_26_method_111_code (6 : Nat) (Option.some Jvm.ClassFile.FieldType.int)) ∈ lw_all := lw_g (lw_at lw_m9 170 rfl) rfl
theorem q2181 : (Jvm.Cond.instanceMethod ({ cls := "PassagePapersModel", name := "restore", desc := "()I" } : Jvm.MethodName)) ∈ lw_all := lw_g (lw_at lw_m9 172 rfl) rfl
theorem q2182 : (Jvm.Cond.selects "PassagePapersModel" ({ cls := "PassagePapersModel", name := "restore", desc := "()I" } : Jvm.MethodName) ({ cls := "PassagePapersModel", name := "restore", desc := "()I" } : Jvm.MethodName)) ∈ lw_all := lw_g (lw_at lw_m9 173 rfl) rfl
theorem q2183 : (Jvm.Cond.code ({ cls := "PassagePapersModel", name := "restore", desc := "()I" } : Jvm.MethodName) prog_26_method_114_code (1 : Nat) (Option.some Jvm.ClassFile.FieldType.int)) ∈ lw_all := lw_g (lw_at lw_m9 174 rfl) rfl
theorem q2185 : (Jvm.Cond.instanceMethod ({ cls := "PassagePapersModel", name := "status", desc := "(I)I" } : Jvm.MethodName)) ∈ lw_all := lw_g (lw_at lw_m9 176 rfl) rfl
theorem q2186 : (Jvm.Cond.selects "PassagePapersModel" ({ cls := "PassagePapersModel", name := "status", desc := "(I)I" } : Jvm.MethodName) ({ cls := "PassagePapersModel", name := "status", desc := "(I)I" } : Jvm.MethodName)) ∈ lw_all := lw_g (lw_at lw_m9 177 rfl) rfl
theorem q2187 : (Jvm.Cond.code ({ cls := "PassagePapersModel", name := "status", desc := "(I)I" } : Jvm.MethodName) prog_26_method_115_code (2 : Nat) (Option.some Jvm.ClassFile.FieldType.int)) ∈ lw_all := lw_g (lw_at lw_m9 178 rfl) rfl
theorem q2189 : (Jvm.Cond.instanceMethod ({ cls := "PassagePapersModel", name := "count", desc := "(I)I" } : Jvm.MethodName)) ∈ lw_all := lw_g (lw_at lw_m9 180 rfl) rfl
theorem q2190 : (Jvm.Cond.selects "PassagePapersModel" ({ cls := "PassagePapersModel", name := "count", desc := "(I)I" } : Jvm.MethodName) ({ cls := "PassagePapersModel", name := "count", desc := "(I)I" } : Jvm.MethodName)) ∈ lw_all := lw_g (lw_at lw_m9 181 rfl) rfl
theorem q2191 : (Jvm.Cond.code ({ cls := "PassagePapersModel", name := "count", desc := "(I)I" } : Jvm.MethodName) prog_26_method_116_code (2 : Nat) (Option.some Jvm.ClassFile.FieldType.int)) ∈ lw_all := lw_g (lw_at lw_m9 182 rfl) rfl
theorem q2201 : (Jvm.Cond.castable "PassagePapersModel" "java/lang/Object") ∈ lw_tbl := lw_at lw_m9 192 rfl
theorem in_X8 : ∀ w ∈ wsX80, w ∈ lw_all := lw_in wsX80 [1613, 1615, 1617, 1619, 1621, 1623, 1625, 1627, 1629, 1631, 1633, 1635, 1637, 1639, 1641, 1643, 1645, 1647, 1649, 1651, 1653, 1655, 1657, 1659, 1661, 1663, 1665, 1667, 1669, 1671, 1673, 1675, 1677, 1679, 1681, 1683, 1685, 1687, 1689, 1691, 1693, 1695, 1697, 1699, 1701, 1703, 1705, 1707, 1709, 1711, 1713, 1715, 1717, 1719, 1721, 1723, 1725, 1727, 1729] (by decide +kernel) (by decide +kernel)
