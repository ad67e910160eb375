/-! SlipWeeksModel -/
set_option maxRecDepth 100000
def RX5 : String := "SlipWeeksModel"
def TX5 : u_T := fun k => match k with
  | 0 => ("SlipWeeksModel", "s", "[I", true)
  | 1 => ("SlipWeeksModel", "kept", "[I", true)
  | 2 => ("SlipWeeksModel", "isKept", "Z", false)
  | 3 => ("SlipWeeksModel", "findings", "[I", true)
  | 4 => ("SlipWeeksModel", "rowAt", "[I", true)
  | 5 => ("SlipWeeksModel", "placeAt", "[I", true)
  | 6 => ("SlipWeeksModel", "bitsIn", "[I", true)
  | 7 => ("SlipWeeksModel", "factOf", "[I", true)
  | 8 => ("SlipWeeksModel", "tape", "[I", true)
  | 9 => ("SlipWeeksModel", "taped", "I", false)
  | 10 => ("SlipWeeksModel", "bitsOf", "[I", true)
  | 11 => ("SlipWeeksModel", "sizes", "[I", true)
  | 12 => ("SlipWeeksModel", "numbers", "[J", true)
  | 13 => ("SlipWeeksModel", "at", "I", false)
  | 14 => ("SlipWeeksModel", "open", "I", false)
  | 15 => ("SlipWeeksModel", "isBad", "Z", false)
  | 16 => ("SlipWeeksModel", "isTaped", "Z", false)
  | 17 => ("SlipWeeksModel", "placeRead", "I", false)
  | 18 => ("SlipWeeksModel", "isNew", "Z", false)
  | 19 => ("SlipWeeksModel", "isSaidNew", "Z", false)
  | 20 => ("SlipWeeksModel", "isWinnerNew", "Z", false)
  | 21 => ("SlipWeeksModel", "liked", "[I", true)
  | 22 => ("SlipWeeksModel", "all", "[I", true)
  | 23 => ("SlipWeeksModel", "likesOf", "[I", true)
  | 24 => ("SlipWeeksModel", "allCrossed", "I", false)
  | 25 => ("SlipWeeksModel", "winners", "[I", true)
  | 26 => ("SlipWeeksModel", "tried", "[I", true)
  | 27 => ("SlipWeeksModel", "isTaken", "[Z", true)
  | 28 => ("SlipWeeksModel", "bought", "[I", true)
  | _ => ("SlipWeeksModel", "own", "[I", true)
def tyX5 : Nat → FieldType := fun k => match k with
  | 0 => .array .int
  | 1 => .array .int
  | 2 => .boolean
  | 3 => .array .int
  | 4 => .array .int
  | 5 => .array .int
  | 6 => .array .int
  | 7 => .array .int
  | 8 => .array .int
  | 9 => .int
  | 10 => .array .int
  | 11 => .array .int
  | 12 => .array .long
  | 13 => .int
  | 14 => .int
  | 15 => .boolean
  | 16 => .boolean
  | 17 => .int
  | 18 => .boolean
  | 19 => .boolean
  | 20 => .boolean
  | 21 => .array .int
  | 22 => .array .int
  | 23 => .array .int
  | 24 => .int
  | 25 => .array .int
  | 26 => .array .int
  | 27 => .array .boolean
  | 28 => .array .int
  | _ => .array .int
abbrev wsX50 : List Cond := u_ws RX5 TX5 30
set_option maxRecDepth 100000 in
theorem nmX5 : ∀ a, a < 30 → ∀ b, b < 30 → a ≠ b → (TX5 a).2.1 ≠ (TX5 b).2.1 := by decide +kernel
set_option maxRecDepth 100000 in
theorem tyX5_ok : ∀ k, k < 30 → parseFieldDescriptor (TX5 k).2.2.1 = some (tyX5 k) := by decide +kernel
abbrev cX5_init : ByteArray := prog_24_method_1_code
def yX5_init : MethodName := ⟨RX5, "<init>", "()V"⟩
def dkwX5_init_14 : List UInt8 := [79, 42, 180, 0, 7, 16, 13, 16, 30, 79, 42, 180, 0, 7, 16, 14, 16, 10, 79, 177]
abbrev dktX5_init_14 : List UInt8 := dkwX5_init_14 ++ []
def dkwX5_init_13 : List UInt8 := [180, 0, 7, 16, 10, 4, 79, 42, 180, 0, 7, 16, 11, 16, 50, 79, 42, 180, 0, 7, 16, 12, 16, 60]
abbrev dktX5_init_13 : List UInt8 := dkwX5_init_13 ++ dktX5_init_14
def dkwX5_init_12 : List UInt8 := [132, 1, 1, 132, 2, 1, 167, 255, 177, 42, 180, 0, 22, 3, 2, 79, 42, 180, 0, 7, 5, 4, 79, 42]
abbrev dktX5_init_12 : List UInt8 := dkwX5_init_12 ++ dktX5_init_13
def dkwX5_init_11 : List UInt8 := [27, 167, 0, 4, 2, 79, 29, 153, 0, 19, 42, 180, 0, 19, 27, 28, 79, 42, 27, 28, 182, 0, 79]
abbrev dktX5_init_11 : List UInt8 := dkwX5_init_11 ++ dktX5_init_12
def dkwX5_init_10 : List UInt8 := [180, 0, 25, 28, 46, 7, 160, 0, 7, 4, 167, 0, 4, 3, 62, 42, 180, 0, 22, 28, 29, 153, 0, 7]
abbrev dktX5_init_10 : List UInt8 := dkwX5_init_10 ++ dktX5_init_11
def dkwX5_init_9 : List UInt8 := [162, 0, 78, 42, 180, 0, 25, 28, 42, 180, 0, 25, 28, 4, 122, 46, 28, 4, 126, 96, 79, 42]
abbrev dktX5_init_9 : List UInt8 := dkwX5_init_9 ++ dktX5_init_10
def dkwX5_init_8 : List UInt8 := [17, 1, 239, 188, 10, 181, 0, 73, 42, 8, 188, 10, 181, 0, 76, 3, 60, 4, 61, 28, 17, 16, 0]
abbrev dktX5_init_8 : List UInt8 := dkwX5_init_8 ++ dktX5_init_9
def dkwX5_init_7 : List UInt8 := [181, 0, 63, 42, 17, 1, 239, 188, 10, 181, 0, 66, 42, 17, 1, 239, 188, 4, 181, 0, 69, 42]
abbrev dktX5_init_7 : List UInt8 := dkwX5_init_7 ++ dktX5_init_8
def dkwX5_init_6 : List UInt8 := [17, 1, 239, 188, 10, 181, 0, 57, 42, 16, 12, 188, 10, 181, 0, 60, 42, 17, 5, 205, 188, 10]
abbrev dktX5_init_6 : List UInt8 := dkwX5_init_6 ++ dktX5_init_7
def dkwX5_init_5 : List UInt8 := [181, 0, 44, 42, 4, 181, 0, 48, 42, 4, 181, 0, 51, 42, 17, 1, 239, 188, 10, 181, 0, 54, 42]
abbrev dktX5_init_5 : List UInt8 := dkwX5_init_5 ++ dktX5_init_6
def dkwX5_init_4 : List UInt8 := [79, 181, 0, 34, 42, 7, 188, 10, 181, 0, 37, 42, 17, 0, 160, 188, 11, 181, 0, 40, 42, 4]
abbrev dktX5_init_4 : List UInt8 := dkwX5_init_4 ++ dktX5_init_5
def dkwX5_init_3 : List UInt8 := [188, 10, 181, 0, 31, 42, 7, 188, 10, 89, 3, 2, 79, 89, 4, 2, 79, 89, 5, 2, 79, 89, 6, 2]
abbrev dktX5_init_3 : List UInt8 := dkwX5_init_3 ++ dktX5_init_4
def dkwX5_init_2 : List UInt8 := [181, 0, 22, 42, 17, 16, 0, 188, 10, 181, 0, 25, 42, 17, 9, 171, 188, 10, 181, 0, 28, 42, 16, 60]
abbrev dktX5_init_2 : List UInt8 := dkwX5_init_2 ++ dktX5_init_3
def dkwX5_init_1 : List UInt8 := [16, 8, 188, 10, 181, 0, 16, 42, 17, 1, 239, 188, 10, 181, 0, 19, 42, 17, 16, 0, 188, 10]
abbrev dktX5_init_1 : List UInt8 := dkwX5_init_1 ++ dktX5_init_2
def dkwX5_init_0 : List UInt8 := [42, 183, 0, 1, 42, 17, 3, 151, 188, 10, 181, 0, 7, 42, 17, 3, 151, 188, 10, 181, 0, 13, 42]
abbrev dktX5_init_0 : List UInt8 := dkwX5_init_0 ++ dktX5_init_1
theorem dksX5_init_0 : cX5_init.data.toList.drop 0 = dktX5_init_0 := by decide +kernel
theorem dksX5_init_1 : cX5_init.data.toList.drop 23 = dktX5_init_1 := dk_seg dksX5_init_0 23 rfl rfl
theorem dksX5_init_2 : cX5_init.data.toList.drop 45 = dktX5_init_2 := dk_seg dksX5_init_1 22 rfl rfl
theorem dksX5_init_3 : cX5_init.data.toList.drop 69 = dktX5_init_3 := dk_seg dksX5_init_2 24 rfl rfl
theorem dksX5_init_4 : cX5_init.data.toList.drop 93 = dktX5_init_4 := dk_seg dksX5_init_3 24 rfl rfl
theorem dksX5_init_5 : cX5_init.data.toList.drop 115 = dktX5_init_5 := dk_seg dksX5_init_4 22 rfl rfl
theorem dksX5_init_6 : cX5_init.data.toList.drop 138 = dktX5_init_6 := dk_seg dksX5_init_5 23 rfl rfl
theorem dksX5_init_7 : cX5_init.data.toList.drop 160 = dktX5_init_7 := dk_seg dksX5_init_6 22 rfl rfl
theorem dksX5_init_8 : cX5_init.data.toList.drop 182 = dktX5_init_8 := dk_seg dksX5_init_7 22 rfl rfl
theorem dksX5_init_9 : cX5_init.data.toList.drop 205 = dktX5_init_9 := dk_seg dksX5_init_8 23 rfl rfl
theorem dksX5_init_10 : cX5_init.data.toList.drop 227 = dktX5_init_10 := dk_seg dksX5_init_9 22 rfl rfl
theorem dksX5_init_11 : cX5_init.data.toList.drop 251 = dktX5_init_11 := dk_seg dksX5_init_10 24 rfl rfl
theorem dksX5_init_12 : cX5_init.data.toList.drop 274 = dktX5_init_12 := dk_seg dksX5_init_11 23 rfl rfl
theorem dksX5_init_13 : cX5_init.data.toList.drop 298 = dktX5_init_13 := dk_seg dksX5_init_12 24 rfl rfl
theorem dksX5_init_14 : cX5_init.data.toList.drop 322 = dktX5_init_14 := dk_seg dksX5_init_13 24 rfl rfl
theorem dX5_init_0 : decode cX5_init 0 = .ok (.aload_n 0, 1) := dk_42 (dk_at dksX5_init_0 0 rfl rfl)
theorem dX5_init_1 : decode cX5_init 1 = .ok (.invokespecial 1, 3) := dk_183 0 1 (dk_at dksX5_init_0 1 rfl rfl)
theorem dX5_init_4 : decode cX5_init 4 = .ok (.aload_n 0, 1) := dk_42 (dk_at dksX5_init_0 4 rfl rfl)
theorem dX5_init_5 : decode cX5_init 5 = .ok (.sipush 919, 3) := dk_17 3 151 (dk_at dksX5_init_0 5 rfl rfl)
theorem dX5_init_8 : decode cX5_init 8 = .ok (.newarray .int, 2) := dk_188_10 (dk_at dksX5_init_0 8 rfl rfl)
theorem dX5_init_10 : decode cX5_init 10 = .ok (.putfield 7, 3) := dk_181 0 7 (dk_at dksX5_init_0 10 rfl rfl)
theorem dX5_init_13 : decode cX5_init 13 = .ok (.aload_n 0, 1) := dk_42 (dk_at dksX5_init_0 13 rfl rfl)
theorem dX5_init_14 : decode cX5_init 14 = .ok (.sipush 919, 3) := dk_17 3 151 (dk_at dksX5_init_0 14 rfl rfl)
theorem dX5_init_17 : decode cX5_init 17 = .ok (.newarray .int, 2) := dk_188_10 (dk_at dksX5_init_0 17 rfl rfl)
theorem dX5_init_19 : decode cX5_init 19 = .ok (.putfield 13, 3) := dk_181 0 13 (dk_at dksX5_init_0 19 rfl rfl)
theorem dX5_init_22 : decode cX5_init 22 = .ok (.aload_n 0, 1) := dk_42 (dk_at dksX5_init_0 22 rfl rfl)
theorem dX5_init_23 : decode cX5_init 23 = .ok (.bipush 8, 2) := dk_16 8 (dk_at dksX5_init_1 0 rfl rfl)
theorem dX5_init_25 : decode cX5_init 25 = .ok (.newarray .int, 2) := dk_188_10 (dk_at dksX5_init_1 2 rfl rfl)
theorem dX5_init_27 : decode cX5_init 27 = .ok (.putfield 16, 3) := dk_181 0 16 (dk_at dksX5_init_1 4 rfl rfl)
theorem dX5_init_30 : decode cX5_init 30 = .ok (.aload_n 0, 1) := dk_42 (dk_at dksX5_init_1 7 rfl rfl)
theorem dX5_init_31 : decode cX5_init 31 = .ok (.sipush 495, 3) := dk_17 1 239 (dk_at dksX5_init_1 8 rfl rfl)
theorem dX5_init_34 : decode cX5_init 34 = .ok (.newarray .int, 2) := dk_188_10 (dk_at dksX5_init_1 11 rfl rfl)
theorem dX5_init_36 : decode cX5_init 36 = .ok (.putfield 19, 3) := dk_181 0 19 (dk_at dksX5_init_1 13 rfl rfl)
theorem dX5_init_39 : decode cX5_init 39 = .ok (.aload_n 0, 1) := dk_42 (dk_at dksX5_init_1 16 rfl rfl)
theorem dX5_init_40 : decode cX5_init 40 = .ok (.sipush 4096, 3) := dk_17 16 0 (dk_at dksX5_init_1 17 rfl rfl)
theorem dX5_init_43 : decode cX5_init 43 = .ok (.newarray .int, 2) := dk_188_10 (dk_at dksX5_init_1 20 rfl rfl)
theorem dX5_init_45 : decode cX5_init 45 = .ok (.putfield 22, 3) := dk_181 0 22 (dk_at dksX5_init_2 0 rfl rfl)
theorem dX5_init_48 : decode cX5_init 48 = .ok (.aload_n 0, 1) := dk_42 (dk_at dksX5_init_2 3 rfl rfl)
theorem dX5_init_49 : decode cX5_init 49 = .ok (.sipush 4096, 3) := dk_17 16 0 (dk_at dksX5_init_2 4 rfl rfl)
theorem dX5_init_52 : decode cX5_init 52 = .ok (.newarray .int, 2) := dk_188_10 (dk_at dksX5_init_2 7 rfl rfl)
theorem dX5_init_54 : decode cX5_init 54 = .ok (.putfield 25, 3) := dk_181 0 25 (dk_at dksX5_init_2 9 rfl rfl)
theorem dX5_init_57 : decode cX5_init 57 = .ok (.aload_n 0, 1) := dk_42 (dk_at dksX5_init_2 12 rfl rfl)
theorem dX5_init_58 : decode cX5_init 58 = .ok (.sipush 2475, 3) := dk_17 9 171 (dk_at dksX5_init_2 13 rfl rfl)
theorem dX5_init_61 : decode cX5_init 61 = .ok (.newarray .int, 2) := dk_188_10 (dk_at dksX5_init_2 16 rfl rfl)
theorem dX5_init_63 : decode cX5_init 63 = .ok (.putfield 28, 3) := dk_181 0 28 (dk_at dksX5_init_2 18 rfl rfl)
theorem dX5_init_66 : decode cX5_init 66 = .ok (.aload_n 0, 1) := dk_42 (dk_at dksX5_init_2 21 rfl rfl)
theorem dX5_init_67 : decode cX5_init 67 = .ok (.bipush 60, 2) := dk_16 60 (dk_at dksX5_init_2 22 rfl rfl)
theorem dX5_init_69 : decode cX5_init 69 = .ok (.newarray .int, 2) := dk_188_10 (dk_at dksX5_init_3 0 rfl rfl)
theorem dX5_init_71 : decode cX5_init 71 = .ok (.putfield 31, 3) := dk_181 0 31 (dk_at dksX5_init_3 2 rfl rfl)
theorem dX5_init_74 : decode cX5_init 74 = .ok (.aload_n 0, 1) := dk_42 (dk_at dksX5_init_3 5 rfl rfl)
theorem dX5_init_75 : decode cX5_init 75 = .ok (.iconst 4, 1) := dk_7 (dk_at dksX5_init_3 6 rfl rfl)
theorem dX5_init_76 : decode cX5_init 76 = .ok (.newarray .int, 2) := dk_188_10 (dk_at dksX5_init_3 7 rfl rfl)
theorem dX5_init_78 : decode cX5_init 78 = .ok (.dup, 1) := dk_89 (dk_at dksX5_init_3 9 rfl rfl)
theorem dX5_init_79 : decode cX5_init 79 = .ok (.iconst 0, 1) := dk_3 (dk_at dksX5_init_3 10 rfl rfl)
theorem dX5_init_80 : decode cX5_init 80 = .ok (.iconst (-1), 1) := dk_2 (dk_at dksX5_init_3 11 rfl rfl)
theorem dX5_init_81 : decode cX5_init 81 = .ok (.iastore, 1) := dk_79 (dk_at dksX5_init_3 12 rfl rfl)
theorem dX5_init_82 : decode cX5_init 82 = .ok (.dup, 1) := dk_89 (dk_at dksX5_init_3 13 rfl rfl)
theorem dX5_init_83 : decode cX5_init 83 = .ok (.iconst 1, 1) := dk_4 (dk_at dksX5_init_3 14 rfl rfl)
theorem dX5_init_84 : decode cX5_init 84 = .ok (.iconst (-1), 1) := dk_2 (dk_at dksX5_init_3 15 rfl rfl)
theorem dX5_init_85 : decode cX5_init 85 = .ok (.iastore, 1) := dk_79 (dk_at dksX5_init_3 16 rfl rfl)
theorem dX5_init_86 : decode cX5_init 86 = .ok (.dup, 1) := dk_89 (dk_at dksX5_init_3 17 rfl rfl)
theorem dX5_init_87 : decode cX5_init 87 = .ok (.iconst 2, 1) := dk_5 (dk_at dksX5_init_3 18 rfl rfl)
theorem dX5_init_88 : decode cX5_init 88 = .ok (.iconst (-1), 1) := dk_2 (dk_at dksX5_init_3 19 rfl rfl)
theorem dX5_init_89 : decode cX5_init 89 = .ok (.iastore, 1) := dk_79 (dk_at dksX5_init_3 20 rfl rfl)
theorem dX5_init_90 : decode cX5_init 90 = .ok (.dup, 1) := dk_89 (dk_at dksX5_init_3 21 rfl rfl)
theorem dX5_init_91 : decode cX5_init 91 = .ok (.iconst 3, 1) := dk_6 (dk_at dksX5_init_3 22 rfl rfl)
theorem dX5_init_92 : decode cX5_init 92 = .ok (.iconst (-1), 1) := dk_2 (dk_at dksX5_init_3 23 rfl rfl)
theorem dX5_init_93 : decode cX5_init 93 = .ok (.iastore, 1) := dk_79 (dk_at dksX5_init_4 0 rfl rfl)
theorem dX5_init_94 : decode cX5_init 94 = .ok (.putfield 34, 3) := dk_181 0 34 (dk_at dksX5_init_4 1 rfl rfl)
theorem dX5_init_97 : decode cX5_init 97 = .ok (.aload_n 0, 1) := dk_42 (dk_at dksX5_init_4 4 rfl rfl)
theorem dX5_init_98 : decode cX5_init 98 = .ok (.iconst 4, 1) := dk_7 (dk_at dksX5_init_4 5 rfl rfl)
theorem dX5_init_99 : decode cX5_init 99 = .ok (.newarray .int, 2) := dk_188_10 (dk_at dksX5_init_4 6 rfl rfl)
theorem dX5_init_101 : decode cX5_init 101 = .ok (.putfield 37, 3) := dk_181 0 37 (dk_at dksX5_init_4 8 rfl rfl)
theorem dX5_init_104 : decode cX5_init 104 = .ok (.aload_n 0, 1) := dk_42 (dk_at dksX5_init_4 11 rfl rfl)
theorem dX5_init_105 : decode cX5_init 105 = .ok (.sipush 160, 3) := dk_17 0 160 (dk_at dksX5_init_4 12 rfl rfl)
theorem dX5_init_108 : decode cX5_init 108 = .ok (.newarray .long, 2) := dk_188_11 (dk_at dksX5_init_4 15 rfl rfl)
theorem dX5_init_110 : decode cX5_init 110 = .ok (.putfield 40, 3) := dk_181 0 40 (dk_at dksX5_init_4 17 rfl rfl)
theorem dX5_init_113 : decode cX5_init 113 = .ok (.aload_n 0, 1) := dk_42 (dk_at dksX5_init_4 20 rfl rfl)
theorem dX5_init_114 : decode cX5_init 114 = .ok (.iconst 1, 1) := dk_4 (dk_at dksX5_init_4 21 rfl rfl)
theorem dX5_init_115 : decode cX5_init 115 = .ok (.putfield 44, 3) := dk_181 0 44 (dk_at dksX5_init_5 0 rfl rfl)
theorem dX5_init_118 : decode cX5_init 118 = .ok (.aload_n 0, 1) := dk_42 (dk_at dksX5_init_5 3 rfl rfl)
theorem dX5_init_119 : decode cX5_init 119 = .ok (.iconst 1, 1) := dk_4 (dk_at dksX5_init_5 4 rfl rfl)
theorem dX5_init_120 : decode cX5_init 120 = .ok (.putfield 48, 3) := dk_181 0 48 (dk_at dksX5_init_5 5 rfl rfl)
theorem dX5_init_123 : decode cX5_init 123 = .ok (.aload_n 0, 1) := dk_42 (dk_at dksX5_init_5 8 rfl rfl)
theorem dX5_init_124 : decode cX5_init 124 = .ok (.iconst 1, 1) := dk_4 (dk_at dksX5_init_5 9 rfl rfl)
theorem dX5_init_125 : decode cX5_init 125 = .ok (.putfield 51, 3) := dk_181 0 51 (dk_at dksX5_init_5 10 rfl rfl)
theorem dX5_init_128 : decode cX5_init 128 = .ok (.aload_n 0, 1) := dk_42 (dk_at dksX5_init_5 13 rfl rfl)
theorem dX5_init_129 : decode cX5_init 129 = .ok (.sipush 495, 3) := dk_17 1 239 (dk_at dksX5_init_5 14 rfl rfl)
theorem dX5_init_132 : decode cX5_init 132 = .ok (.newarray .int, 2) := dk_188_10 (dk_at dksX5_init_5 17 rfl rfl)
theorem dX5_init_134 : decode cX5_init 134 = .ok (.putfield 54, 3) := dk_181 0 54 (dk_at dksX5_init_5 19 rfl rfl)
theorem dX5_init_137 : decode cX5_init 137 = .ok (.aload_n 0, 1) := dk_42 (dk_at dksX5_init_5 22 rfl rfl)
theorem dX5_init_138 : decode cX5_init 138 = .ok (.sipush 495, 3) := dk_17 1 239 (dk_at dksX5_init_6 0 rfl rfl)
theorem dX5_init_141 : decode cX5_init 141 = .ok (.newarray .int, 2) := dk_188_10 (dk_at dksX5_init_6 3 rfl rfl)
theorem dX5_init_143 : decode cX5_init 143 = .ok (.putfield 57, 3) := dk_181 0 57 (dk_at dksX5_init_6 5 rfl rfl)
theorem dX5_init_146 : decode cX5_init 146 = .ok (.aload_n 0, 1) := dk_42 (dk_at dksX5_init_6 8 rfl rfl)
theorem dX5_init_147 : decode cX5_init 147 = .ok (.bipush 12, 2) := dk_16 12 (dk_at dksX5_init_6 9 rfl rfl)
theorem dX5_init_149 : decode cX5_init 149 = .ok (.newarray .int, 2) := dk_188_10 (dk_at dksX5_init_6 11 rfl rfl)
theorem dX5_init_151 : decode cX5_init 151 = .ok (.putfield 60, 3) := dk_181 0 60 (dk_at dksX5_init_6 13 rfl rfl)
theorem dX5_init_154 : decode cX5_init 154 = .ok (.aload_n 0, 1) := dk_42 (dk_at dksX5_init_6 16 rfl rfl)
theorem dX5_init_155 : decode cX5_init 155 = .ok (.sipush 1485, 3) := dk_17 5 205 (dk_at dksX5_init_6 17 rfl rfl)
theorem dX5_init_158 : decode cX5_init 158 = .ok (.newarray .int, 2) := dk_188_10 (dk_at dksX5_init_6 20 rfl rfl)
theorem dX5_init_160 : decode cX5_init 160 = .ok (.putfield 63, 3) := dk_181 0 63 (dk_at dksX5_init_7 0 rfl rfl)
theorem dX5_init_163 : decode cX5_init 163 = .ok (.aload_n 0, 1) := dk_42 (dk_at dksX5_init_7 3 rfl rfl)
theorem dX5_init_164 : decode cX5_init 164 = .ok (.sipush 495, 3) := dk_17 1 239 (dk_at dksX5_init_7 4 rfl rfl)
theorem dX5_init_167 : decode cX5_init 167 = .ok (.newarray .int, 2) := dk_188_10 (dk_at dksX5_init_7 7 rfl rfl)
theorem dX5_init_169 : decode cX5_init 169 = .ok (.putfield 66, 3) := dk_181 0 66 (dk_at dksX5_init_7 9 rfl rfl)
theorem dX5_init_172 : decode cX5_init 172 = .ok (.aload_n 0, 1) := dk_42 (dk_at dksX5_init_7 12 rfl rfl)
theorem dX5_init_173 : decode cX5_init 173 = .ok (.sipush 495, 3) := dk_17 1 239 (dk_at dksX5_init_7 13 rfl rfl)
theorem dX5_init_176 : decode cX5_init 176 = .ok (.newarray .boolean, 2) := dk_188_4 (dk_at dksX5_init_7 16 rfl rfl)
theorem dX5_init_178 : decode cX5_init 178 = .ok (.putfield 69, 3) := dk_181 0 69 (dk_at dksX5_init_7 18 rfl rfl)
theorem dX5_init_181 : decode cX5_init 181 = .ok (.aload_n 0, 1) := dk_42 (dk_at dksX5_init_7 21 rfl rfl)
theorem dX5_init_182 : decode cX5_init 182 = .ok (.sipush 495, 3) := dk_17 1 239 (dk_at dksX5_init_8 0 rfl rfl)
theorem dX5_init_185 : decode cX5_init 185 = .ok (.newarray .int, 2) := dk_188_10 (dk_at dksX5_init_8 3 rfl rfl)
theorem dX5_init_187 : decode cX5_init 187 = .ok (.putfield 73, 3) := dk_181 0 73 (dk_at dksX5_init_8 5 rfl rfl)
theorem dX5_init_190 : decode cX5_init 190 = .ok (.aload_n 0, 1) := dk_42 (dk_at dksX5_init_8 8 rfl rfl)
theorem dX5_init_191 : decode cX5_init 191 = .ok (.iconst 5, 1) := dk_8 (dk_at dksX5_init_8 9 rfl rfl)
theorem dX5_init_192 : decode cX5_init 192 = .ok (.newarray .int, 2) := dk_188_10 (dk_at dksX5_init_8 10 rfl rfl)
theorem dX5_init_194 : decode cX5_init 194 = .ok (.putfield 76, 3) := dk_181 0 76 (dk_at dksX5_init_8 12 rfl rfl)
theorem dX5_init_197 : decode cX5_init 197 = .ok (.iconst 0, 1) := dk_3 (dk_at dksX5_init_8 15 rfl rfl)
theorem dX5_init_198 : decode cX5_init 198 = .ok (.istore_n 1, 1) := dk_60 (dk_at dksX5_init_8 16 rfl rfl)
theorem dX5_init_199 : decode cX5_init 199 = .ok (.iconst 1, 1) := dk_4 (dk_at dksX5_init_8 17 rfl rfl)
theorem dX5_init_200 : decode cX5_init 200 = .ok (.istore_n 2, 1) := dk_61 (dk_at dksX5_init_8 18 rfl rfl)
theorem dX5_init_201 : decode cX5_init 201 = .ok (.iload_n 2, 1) := dk_28 (dk_at dksX5_init_8 19 rfl rfl)
theorem dX5_init_202 : decode cX5_init 202 = .ok (.sipush 4096, 3) := dk_17 16 0 (dk_at dksX5_init_8 20 rfl rfl)
theorem dX5_init_205 : decode cX5_init 205 = .ok (.if_icmp .ge 78, 3) := dk_162 0 78 (dk_at dksX5_init_9 0 rfl rfl)
theorem dX5_init_208 : decode cX5_init 208 = .ok (.aload_n 0, 1) := dk_42 (dk_at dksX5_init_9 3 rfl rfl)
theorem dX5_init_209 : decode cX5_init 209 = .ok (.getfield 25, 3) := dk_180 0 25 (dk_at dksX5_init_9 4 rfl rfl)
theorem dX5_init_212 : decode cX5_init 212 = .ok (.iload_n 2, 1) := dk_28 (dk_at dksX5_init_9 7 rfl rfl)
theorem dX5_init_213 : decode cX5_init 213 = .ok (.aload_n 0, 1) := dk_42 (dk_at dksX5_init_9 8 rfl rfl)
theorem dX5_init_214 : decode cX5_init 214 = .ok (.getfield 25, 3) := dk_180 0 25 (dk_at dksX5_init_9 9 rfl rfl)
theorem dX5_init_217 : decode cX5_init 217 = .ok (.iload_n 2, 1) := dk_28 (dk_at dksX5_init_9 12 rfl rfl)
theorem dX5_init_218 : decode cX5_init 218 = .ok (.iconst 1, 1) := dk_4 (dk_at dksX5_init_9 13 rfl rfl)
theorem dX5_init_219 : decode cX5_init 219 = .ok (.ishr, 1) := dk_122 (dk_at dksX5_init_9 14 rfl rfl)
theorem dX5_init_220 : decode cX5_init 220 = .ok (.iaload, 1) := dk_46 (dk_at dksX5_init_9 15 rfl rfl)
theorem dX5_init_221 : decode cX5_init 221 = .ok (.iload_n 2, 1) := dk_28 (dk_at dksX5_init_9 16 rfl rfl)
theorem dX5_init_222 : decode cX5_init 222 = .ok (.iconst 1, 1) := dk_4 (dk_at dksX5_init_9 17 rfl rfl)
theorem dX5_init_223 : decode cX5_init 223 = .ok (.iand, 1) := dk_126 (dk_at dksX5_init_9 18 rfl rfl)
theorem dX5_init_224 : decode cX5_init 224 = .ok (.iadd, 1) := dk_96 (dk_at dksX5_init_9 19 rfl rfl)
theorem dX5_init_225 : decode cX5_init 225 = .ok (.iastore, 1) := dk_79 (dk_at dksX5_init_9 20 rfl rfl)
theorem dX5_init_226 : decode cX5_init 226 = .ok (.aload_n 0, 1) := dk_42 (dk_at dksX5_init_9 21 rfl rfl)
theorem dX5_init_227 : decode cX5_init 227 = .ok (.getfield 25, 3) := dk_180 0 25 (dk_at dksX5_init_10 0 rfl rfl)
theorem dX5_init_230 : decode cX5_init 230 = .ok (.iload_n 2, 1) := dk_28 (dk_at dksX5_init_10 3 rfl rfl)
theorem dX5_init_231 : decode cX5_init 231 = .ok (.iaload, 1) := dk_46 (dk_at dksX5_init_10 4 rfl rfl)
theorem dX5_init_232 : decode cX5_init 232 = .ok (.iconst 4, 1) := dk_7 (dk_at dksX5_init_10 5 rfl rfl)
theorem dX5_init_233 : decode cX5_init 233 = .ok (.if_icmp .ne 7, 3) := dk_160 0 7 (dk_at dksX5_init_10 6 rfl rfl)
theorem dX5_init_236 : decode cX5_init 236 = .ok (.iconst 1, 1) := dk_4 (dk_at dksX5_init_10 9 rfl rfl)
theorem dX5_init_237 : decode cX5_init 237 = .ok (.goto 4, 3) := dk_167 0 4 (dk_at dksX5_init_10 10 rfl rfl)
theorem dX5_init_240 : decode cX5_init 240 = .ok (.iconst 0, 1) := dk_3 (dk_at dksX5_init_10 13 rfl rfl)
theorem dX5_init_241 : decode cX5_init 241 = .ok (.istore_n 3, 1) := dk_62 (dk_at dksX5_init_10 14 rfl rfl)
theorem dX5_init_242 : decode cX5_init 242 = .ok (.aload_n 0, 1) := dk_42 (dk_at dksX5_init_10 15 rfl rfl)
theorem dX5_init_243 : decode cX5_init 243 = .ok (.getfield 22, 3) := dk_180 0 22 (dk_at dksX5_init_10 16 rfl rfl)
theorem dX5_init_246 : decode cX5_init 246 = .ok (.iload_n 2, 1) := dk_28 (dk_at dksX5_init_10 19 rfl rfl)
theorem dX5_init_247 : decode cX5_init 247 = .ok (.iload_n 3, 1) := dk_29 (dk_at dksX5_init_10 20 rfl rfl)
theorem dX5_init_248 : decode cX5_init 248 = .ok (.ifCond .eq 7, 3) := dk_153 0 7 (dk_at dksX5_init_10 21 rfl rfl)
theorem dX5_init_251 : decode cX5_init 251 = .ok (.iload_n 1, 1) := dk_27 (dk_at dksX5_init_11 0 rfl rfl)
theorem dX5_init_252 : decode cX5_init 252 = .ok (.goto 4, 3) := dk_167 0 4 (dk_at dksX5_init_11 1 rfl rfl)
theorem dX5_init_255 : decode cX5_init 255 = .ok (.iconst (-1), 1) := dk_2 (dk_at dksX5_init_11 4 rfl rfl)
theorem dX5_init_256 : decode cX5_init 256 = .ok (.iastore, 1) := dk_79 (dk_at dksX5_init_11 5 rfl rfl)
theorem dX5_init_257 : decode cX5_init 257 = .ok (.iload_n 3, 1) := dk_29 (dk_at dksX5_init_11 6 rfl rfl)
theorem dX5_init_258 : decode cX5_init 258 = .ok (.ifCond .eq 19, 3) := dk_153 0 19 (dk_at dksX5_init_11 7 rfl rfl)
theorem dX5_init_261 : decode cX5_init 261 = .ok (.aload_n 0, 1) := dk_42 (dk_at dksX5_init_11 10 rfl rfl)
theorem dX5_init_262 : decode cX5_init 262 = .ok (.getfield 19, 3) := dk_180 0 19 (dk_at dksX5_init_11 11 rfl rfl)
theorem dX5_init_265 : decode cX5_init 265 = .ok (.iload_n 1, 1) := dk_27 (dk_at dksX5_init_11 14 rfl rfl)
theorem dX5_init_266 : decode cX5_init 266 = .ok (.iload_n 2, 1) := dk_28 (dk_at dksX5_init_11 15 rfl rfl)
theorem dX5_init_267 : decode cX5_init 267 = .ok (.iastore, 1) := dk_79 (dk_at dksX5_init_11 16 rfl rfl)
theorem dX5_init_268 : decode cX5_init 268 = .ok (.aload_n 0, 1) := dk_42 (dk_at dksX5_init_11 17 rfl rfl)
theorem dX5_init_269 : decode cX5_init 269 = .ok (.iload_n 1, 1) := dk_27 (dk_at dksX5_init_11 18 rfl rfl)
theorem dX5_init_270 : decode cX5_init 270 = .ok (.iload_n 2, 1) := dk_28 (dk_at dksX5_init_11 19 rfl rfl)
theorem dX5_init_271 : decode cX5_init 271 = .ok (.invokevirtual 79, 3) := dk_182 0 79 (dk_at dksX5_init_11 20 rfl rfl)
theorem dX5_init_274 : decode cX5_init 274 = .ok (.iinc 1 1, 3) := dk_132 1 1 (dk_at dksX5_init_12 0 rfl rfl)
theorem dX5_init_277 : decode cX5_init 277 = .ok (.iinc 2 1, 3) := dk_132 2 1 (dk_at dksX5_init_12 3 rfl rfl)
theorem dX5_init_280 : decode cX5_init 280 = .ok (.goto (-79), 3) := dk_167 255 177 (dk_at dksX5_init_12 6 rfl rfl)
theorem dX5_init_283 : decode cX5_init 283 = .ok (.aload_n 0, 1) := dk_42 (dk_at dksX5_init_12 9 rfl rfl)
theorem dX5_init_284 : decode cX5_init 284 = .ok (.getfield 22, 3) := dk_180 0 22 (dk_at dksX5_init_12 10 rfl rfl)
theorem dX5_init_287 : decode cX5_init 287 = .ok (.iconst 0, 1) := dk_3 (dk_at dksX5_init_12 13 rfl rfl)
theorem dX5_init_288 : decode cX5_init 288 = .ok (.iconst (-1), 1) := dk_2 (dk_at dksX5_init_12 14 rfl rfl)
theorem dX5_init_289 : decode cX5_init 289 = .ok (.iastore, 1) := dk_79 (dk_at dksX5_init_12 15 rfl rfl)
theorem dX5_init_290 : decode cX5_init 290 = .ok (.aload_n 0, 1) := dk_42 (dk_at dksX5_init_12 16 rfl rfl)
theorem dX5_init_291 : decode cX5_init 291 = .ok (.getfield 7, 3) := dk_180 0 7 (dk_at dksX5_init_12 17 rfl rfl)
theorem dX5_init_294 : decode cX5_init 294 = .ok (.iconst 2, 1) := dk_5 (dk_at dksX5_init_12 20 rfl rfl)
theorem dX5_init_295 : decode cX5_init 295 = .ok (.iconst 1, 1) := dk_4 (dk_at dksX5_init_12 21 rfl rfl)
theorem dX5_init_296 : decode cX5_init 296 = .ok (.iastore, 1) := dk_79 (dk_at dksX5_init_12 22 rfl rfl)
theorem dX5_init_297 : decode cX5_init 297 = .ok (.aload_n 0, 1) := dk_42 (dk_at dksX5_init_12 23 rfl rfl)
theorem dX5_init_298 : decode cX5_init 298 = .ok (.getfield 7, 3) := dk_180 0 7 (dk_at dksX5_init_13 0 rfl rfl)
theorem dX5_init_301 : decode cX5_init 301 = .ok (.bipush 10, 2) := dk_16 10 (dk_at dksX5_init_13 3 rfl rfl)
theorem dX5_init_303 : decode cX5_init 303 = .ok (.iconst 1, 1) := dk_4 (dk_at dksX5_init_13 5 rfl rfl)
theorem dX5_init_304 : decode cX5_init 304 = .ok (.iastore, 1) := dk_79 (dk_at dksX5_init_13 6 rfl rfl)
theorem dX5_init_305 : decode cX5_init 305 = .ok (.aload_n 0, 1) := dk_42 (dk_at dksX5_init_13 7 rfl rfl)
theorem dX5_init_306 : decode cX5_init 306 = .ok (.getfield 7, 3) := dk_180 0 7 (dk_at dksX5_init_13 8 rfl rfl)
theorem dX5_init_309 : decode cX5_init 309 = .ok (.bipush 11, 2) := dk_16 11 (dk_at dksX5_init_13 11 rfl rfl)
theorem dX5_init_311 : decode cX5_init 311 = .ok (.bipush 50, 2) := dk_16 50 (dk_at dksX5_init_13 13 rfl rfl)
theorem dX5_init_313 : decode cX5_init 313 = .ok (.iastore, 1) := dk_79 (dk_at dksX5_init_13 15 rfl rfl)
theorem dX5_init_314 : decode cX5_init 314 = .ok (.aload_n 0, 1) := dk_42 (dk_at dksX5_init_13 16 rfl rfl)
theorem dX5_init_315 : decode cX5_init 315 = .ok (.getfield 7, 3) := dk_180 0 7 (dk_at dksX5_init_13 17 rfl rfl)
theorem dX5_init_318 : decode cX5_init 318 = .ok (.bipush 12, 2) := dk_16 12 (dk_at dksX5_init_13 20 rfl rfl)
theorem dX5_init_320 : decode cX5_init 320 = .ok (.bipush 60, 2) := dk_16 60 (dk_at dksX5_init_13 22 rfl rfl)
theorem dX5_init_322 : decode cX5_init 322 = .ok (.iastore, 1) := dk_79 (dk_at dksX5_init_14 0 rfl rfl)
theorem dX5_init_323 : decode cX5_init 323 = .ok (.aload_n 0, 1) := dk_42 (dk_at dksX5_init_14 1 rfl rfl)
theorem dX5_init_324 : decode cX5_init 324 = .ok (.getfield 7, 3) := dk_180 0 7 (dk_at dksX5_init_14 2 rfl rfl)
theorem dX5_init_327 : decode cX5_init 327 = .ok (.bipush 13, 2) := dk_16 13 (dk_at dksX5_init_14 5 rfl rfl)
theorem dX5_init_329 : decode cX5_init 329 = .ok (.bipush 30, 2) := dk_16 30 (dk_at dksX5_init_14 7 rfl rfl)
theorem dX5_init_331 : decode cX5_init 331 = .ok (.iastore, 1) := dk_79 (dk_at dksX5_init_14 9 rfl rfl)
theorem dX5_init_332 : decode cX5_init 332 = .ok (.aload_n 0, 1) := dk_42 (dk_at dksX5_init_14 10 rfl rfl)
theorem dX5_init_333 : decode cX5_init 333 = .ok (.getfield 7, 3) := dk_180 0 7 (dk_at dksX5_init_14 11 rfl rfl)
theorem dX5_init_336 : decode cX5_init 336 = .ok (.bipush 14, 2) := dk_16 14 (dk_at dksX5_init_14 14 rfl rfl)
theorem dX5_init_338 : decode cX5_init 338 = .ok (.bipush 10, 2) := dk_16 10 (dk_at dksX5_init_14 16 rfl rfl)
theorem dX5_init_340 : decode cX5_init 340 = .ok (.iastore, 1) := dk_79 (dk_at dksX5_init_14 18 rfl rfl)
theorem dX5_init_341 : decode cX5_init 341 = .ok (.return_, 1) := dk_177 (dk_at dksX5_init_14 19 rfl rfl)
abbrev cX5_looksAt : ByteArray := prog_24_method_3_code
def yX5_looksAt : MethodName := ⟨RX5, "looksAt", "(II)V"⟩
def dkwX5_looksAt_8 : List UInt8 := [167, 0, 12, 42, 180, 0, 28, 21, 4, 7, 96, 46, 79, 132, 5, 1, 167, 255, 72, 177]
abbrev dktX5_looksAt_8 : List UInt8 := dkwX5_looksAt_8 ++ []
def dkwX5_looksAt_7 : List UInt8 := [79, 42, 180, 0, 28, 21, 4, 7, 96, 29, 42, 180, 0, 28, 21, 4, 7, 96, 46, 164, 0, 7, 29]
abbrev dktX5_looksAt_7 : List UInt8 := dkwX5_looksAt_7 ++ dktX5_looksAt_8
def dkwX5_looksAt_6 : List UInt8 := [21, 4, 6, 96, 92, 46, 21, 6, 153, 0, 14, 21, 5, 5, 112, 154, 0, 7, 4, 167, 0, 4, 3, 96]
abbrev dktX5_looksAt_6 : List UInt8 := dkwX5_looksAt_6 ++ dktX5_looksAt_7
def dkwX5_looksAt_5 : List UInt8 := [21, 6, 153, 0, 8, 21, 5, 167, 0, 12, 42, 180, 0, 28, 21, 4, 5, 96, 46, 79, 42, 180, 0, 28]
abbrev dktX5_looksAt_5 : List UInt8 := dkwX5_looksAt_5 ++ dktX5_looksAt_6
def dkwX5_looksAt_4 : List UInt8 := [21, 5, 167, 0, 12, 42, 180, 0, 28, 21, 4, 4, 96, 46, 79, 42, 180, 0, 28, 21, 4, 5, 96]
abbrev dktX5_looksAt_4 : List UInt8 := dkwX5_looksAt_4 ++ dktX5_looksAt_5
def dkwX5_looksAt_3 : List UInt8 := [180, 0, 28, 21, 4, 4, 96, 21, 6, 153, 0, 20, 42, 180, 0, 28, 21, 4, 4, 96, 46, 156, 0, 8]
abbrev dktX5_looksAt_3 : List UInt8 := dkwX5_looksAt_3 ++ dktX5_looksAt_4
def dkwX5_looksAt_2 : List UInt8 := [42, 180, 0, 28, 21, 4, 92, 46, 21, 6, 153, 0, 8, 21, 5, 167, 0, 4, 3, 96, 79, 42]
abbrev dktX5_looksAt_2 : List UInt8 := dkwX5_looksAt_2 ++ dktX5_looksAt_3
def dkwX5_looksAt_1 : List UInt8 := [162, 0, 183, 28, 21, 5, 184, 0, 83, 54, 6, 21, 6, 153, 0, 9, 29, 4, 96, 167, 0, 4, 3, 62]
abbrev dktX5_looksAt_1 : List UInt8 := dkwX5_looksAt_1 ++ dktX5_looksAt_2
def dkwX5_looksAt_0 : List UInt8 := [3, 62, 8, 27, 104, 54, 4, 42, 180, 0, 28, 21, 4, 4, 96, 2, 79, 3, 54, 5, 21, 5, 16, 12]
abbrev dktX5_looksAt_0 : List UInt8 := dkwX5_looksAt_0 ++ dktX5_looksAt_1
theorem dksX5_looksAt_0 : cX5_looksAt.data.toList.drop 0 = dktX5_looksAt_0 := by decide +kernel
theorem dksX5_looksAt_1 : cX5_looksAt.data.toList.drop 24 = dktX5_looksAt_1 := dk_seg dksX5_looksAt_0 24 rfl rfl
theorem dksX5_looksAt_2 : cX5_looksAt.data.toList.drop 48 = dktX5_looksAt_2 := dk_seg dksX5_looksAt_1 24 rfl rfl
theorem dksX5_looksAt_3 : cX5_looksAt.data.toList.drop 70 = dktX5_looksAt_3 := dk_seg dksX5_looksAt_2 22 rfl rfl
theorem dksX5_looksAt_4 : cX5_looksAt.data.toList.drop 94 = dktX5_looksAt_4 := dk_seg dksX5_looksAt_3 24 rfl rfl
theorem dksX5_looksAt_5 : cX5_looksAt.data.toList.drop 117 = dktX5_looksAt_5 := dk_seg dksX5_looksAt_4 23 rfl rfl
theorem dksX5_looksAt_6 : cX5_looksAt.data.toList.drop 141 = dktX5_looksAt_6 := dk_seg dksX5_looksAt_5 24 rfl rfl
theorem dksX5_looksAt_7 : cX5_looksAt.data.toList.drop 165 = dktX5_looksAt_7 := dk_seg dksX5_looksAt_6 24 rfl rfl
theorem dksX5_looksAt_8 : cX5_looksAt.data.toList.drop 188 = dktX5_looksAt_8 := dk_seg dksX5_looksAt_7 23 rfl rfl
theorem dX5_looksAt_0 : decode cX5_looksAt 0 = .ok (.iconst 0, 1) := dk_3 (dk_at dksX5_looksAt_0 0 rfl rfl)
theorem dX5_looksAt_1 : decode cX5_looksAt 1 = .ok (.istore_n 3, 1) := dk_62 (dk_at dksX5_looksAt_0 1 rfl rfl)
theorem dX5_looksAt_2 : decode cX5_looksAt 2 = .ok (.iconst 5, 1) := dk_8 (dk_at dksX5_looksAt_0 2 rfl rfl)
theorem dX5_looksAt_3 : decode cX5_looksAt 3 = .ok (.iload_n 1, 1) := dk_27 (dk_at dksX5_looksAt_0 3 rfl rfl)
theorem dX5_looksAt_4 : decode cX5_looksAt 4 = .ok (.imul, 1) := dk_104 (dk_at dksX5_looksAt_0 4 rfl rfl)
theorem dX5_looksAt_5 : decode cX5_looksAt 5 = .ok (.istore 4, 2) := dk_54 4 (dk_at dksX5_looksAt_0 5 rfl rfl)
theorem dX5_looksAt_7 : decode cX5_looksAt 7 = .ok (.aload_n 0, 1) := dk_42 (dk_at dksX5_looksAt_0 7 rfl rfl)
theorem dX5_looksAt_8 : decode cX5_looksAt 8 = .ok (.getfield 28, 3) := dk_180 0 28 (dk_at dksX5_looksAt_0 8 rfl rfl)
theorem dX5_looksAt_11 : decode cX5_looksAt 11 = .ok (.iload 4, 2) := dk_21 4 (dk_at dksX5_looksAt_0 11 rfl rfl)
theorem dX5_looksAt_13 : decode cX5_looksAt 13 = .ok (.iconst 1, 1) := dk_4 (dk_at dksX5_looksAt_0 13 rfl rfl)
theorem dX5_looksAt_14 : decode cX5_looksAt 14 = .ok (.iadd, 1) := dk_96 (dk_at dksX5_looksAt_0 14 rfl rfl)
theorem dX5_looksAt_15 : decode cX5_looksAt 15 = .ok (.iconst (-1), 1) := dk_2 (dk_at dksX5_looksAt_0 15 rfl rfl)
theorem dX5_looksAt_16 : decode cX5_looksAt 16 = .ok (.iastore, 1) := dk_79 (dk_at dksX5_looksAt_0 16 rfl rfl)
theorem dX5_looksAt_17 : decode cX5_looksAt 17 = .ok (.iconst 0, 1) := dk_3 (dk_at dksX5_looksAt_0 17 rfl rfl)
theorem dX5_looksAt_18 : decode cX5_looksAt 18 = .ok (.istore 5, 2) := dk_54 5 (dk_at dksX5_looksAt_0 18 rfl rfl)
theorem dX5_looksAt_20 : decode cX5_looksAt 20 = .ok (.iload 5, 2) := dk_21 5 (dk_at dksX5_looksAt_0 20 rfl rfl)
theorem dX5_looksAt_22 : decode cX5_looksAt 22 = .ok (.bipush 12, 2) := dk_16 12 (dk_at dksX5_looksAt_0 22 rfl rfl)
theorem dX5_looksAt_24 : decode cX5_looksAt 24 = .ok (.if_icmp .ge 183, 3) := dk_162 0 183 (dk_at dksX5_looksAt_1 0 rfl rfl)
theorem dX5_looksAt_27 : decode cX5_looksAt 27 = .ok (.iload_n 2, 1) := dk_28 (dk_at dksX5_looksAt_1 3 rfl rfl)
theorem dX5_looksAt_28 : decode cX5_looksAt 28 = .ok (.iload 5, 2) := dk_21 5 (dk_at dksX5_looksAt_1 4 rfl rfl)
theorem dX5_looksAt_30 : decode cX5_looksAt 30 = .ok (.invokestatic 83, 3) := dk_184 0 83 (dk_at dksX5_looksAt_1 6 rfl rfl)
theorem dX5_looksAt_33 : decode cX5_looksAt 33 = .ok (.istore 6, 2) := dk_54 6 (dk_at dksX5_looksAt_1 9 rfl rfl)
theorem dX5_looksAt_35 : decode cX5_looksAt 35 = .ok (.iload 6, 2) := dk_21 6 (dk_at dksX5_looksAt_1 11 rfl rfl)
theorem dX5_looksAt_37 : decode cX5_looksAt 37 = .ok (.ifCond .eq 9, 3) := dk_153 0 9 (dk_at dksX5_looksAt_1 13 rfl rfl)
theorem dX5_looksAt_40 : decode cX5_looksAt 40 = .ok (.iload_n 3, 1) := dk_29 (dk_at dksX5_looksAt_1 16 rfl rfl)
theorem dX5_looksAt_41 : decode cX5_looksAt 41 = .ok (.iconst 1, 1) := dk_4 (dk_at dksX5_looksAt_1 17 rfl rfl)
theorem dX5_looksAt_42 : decode cX5_looksAt 42 = .ok (.iadd, 1) := dk_96 (dk_at dksX5_looksAt_1 18 rfl rfl)
theorem dX5_looksAt_43 : decode cX5_looksAt 43 = .ok (.goto 4, 3) := dk_167 0 4 (dk_at dksX5_looksAt_1 19 rfl rfl)
theorem dX5_looksAt_46 : decode cX5_looksAt 46 = .ok (.iconst 0, 1) := dk_3 (dk_at dksX5_looksAt_1 22 rfl rfl)
theorem dX5_looksAt_47 : decode cX5_looksAt 47 = .ok (.istore_n 3, 1) := dk_62 (dk_at dksX5_looksAt_1 23 rfl rfl)
theorem dX5_looksAt_48 : decode cX5_looksAt 48 = .ok (.aload_n 0, 1) := dk_42 (dk_at dksX5_looksAt_2 0 rfl rfl)
theorem dX5_looksAt_49 : decode cX5_looksAt 49 = .ok (.getfield 28, 3) := dk_180 0 28 (dk_at dksX5_looksAt_2 1 rfl rfl)
theorem dX5_looksAt_52 : decode cX5_looksAt 52 = .ok (.iload 4, 2) := dk_21 4 (dk_at dksX5_looksAt_2 4 rfl rfl)
theorem dX5_looksAt_54 : decode cX5_looksAt 54 = .ok (.dup2, 1) := dk_92 (dk_at dksX5_looksAt_2 6 rfl rfl)
theorem dX5_looksAt_55 : decode cX5_looksAt 55 = .ok (.iaload, 1) := dk_46 (dk_at dksX5_looksAt_2 7 rfl rfl)
theorem dX5_looksAt_56 : decode cX5_looksAt 56 = .ok (.iload 6, 2) := dk_21 6 (dk_at dksX5_looksAt_2 8 rfl rfl)
theorem dX5_looksAt_58 : decode cX5_looksAt 58 = .ok (.ifCond .eq 8, 3) := dk_153 0 8 (dk_at dksX5_looksAt_2 10 rfl rfl)
theorem dX5_looksAt_61 : decode cX5_looksAt 61 = .ok (.iload 5, 2) := dk_21 5 (dk_at dksX5_looksAt_2 13 rfl rfl)
theorem dX5_looksAt_63 : decode cX5_looksAt 63 = .ok (.goto 4, 3) := dk_167 0 4 (dk_at dksX5_looksAt_2 15 rfl rfl)
theorem dX5_looksAt_66 : decode cX5_looksAt 66 = .ok (.iconst 0, 1) := dk_3 (dk_at dksX5_looksAt_2 18 rfl rfl)
theorem dX5_looksAt_67 : decode cX5_looksAt 67 = .ok (.iadd, 1) := dk_96 (dk_at dksX5_looksAt_2 19 rfl rfl)
theorem dX5_looksAt_68 : decode cX5_looksAt 68 = .ok (.iastore, 1) := dk_79 (dk_at dksX5_looksAt_2 20 rfl rfl)
theorem dX5_looksAt_69 : decode cX5_looksAt 69 = .ok (.aload_n 0, 1) := dk_42 (dk_at dksX5_looksAt_2 21 rfl rfl)
theorem dX5_looksAt_70 : decode cX5_looksAt 70 = .ok (.getfield 28, 3) := dk_180 0 28 (dk_at dksX5_looksAt_3 0 rfl rfl)
theorem dX5_looksAt_73 : decode cX5_looksAt 73 = .ok (.iload 4, 2) := dk_21 4 (dk_at dksX5_looksAt_3 3 rfl rfl)
theorem dX5_looksAt_75 : decode cX5_looksAt 75 = .ok (.iconst 1, 1) := dk_4 (dk_at dksX5_looksAt_3 5 rfl rfl)
theorem dX5_looksAt_76 : decode cX5_looksAt 76 = .ok (.iadd, 1) := dk_96 (dk_at dksX5_looksAt_3 6 rfl rfl)
theorem dX5_looksAt_77 : decode cX5_looksAt 77 = .ok (.iload 6, 2) := dk_21 6 (dk_at dksX5_looksAt_3 7 rfl rfl)
theorem dX5_looksAt_79 : decode cX5_looksAt 79 = .ok (.ifCond .eq 20, 3) := dk_153 0 20 (dk_at dksX5_looksAt_3 9 rfl rfl)
theorem dX5_looksAt_82 : decode cX5_looksAt 82 = .ok (.aload_n 0, 1) := dk_42 (dk_at dksX5_looksAt_3 12 rfl rfl)
theorem dX5_looksAt_83 : decode cX5_looksAt 83 = .ok (.getfield 28, 3) := dk_180 0 28 (dk_at dksX5_looksAt_3 13 rfl rfl)
theorem dX5_looksAt_86 : decode cX5_looksAt 86 = .ok (.iload 4, 2) := dk_21 4 (dk_at dksX5_looksAt_3 16 rfl rfl)
theorem dX5_looksAt_88 : decode cX5_looksAt 88 = .ok (.iconst 1, 1) := dk_4 (dk_at dksX5_looksAt_3 18 rfl rfl)
theorem dX5_looksAt_89 : decode cX5_looksAt 89 = .ok (.iadd, 1) := dk_96 (dk_at dksX5_looksAt_3 19 rfl rfl)
theorem dX5_looksAt_90 : decode cX5_looksAt 90 = .ok (.iaload, 1) := dk_46 (dk_at dksX5_looksAt_3 20 rfl rfl)
theorem dX5_looksAt_91 : decode cX5_looksAt 91 = .ok (.ifCond .ge 8, 3) := dk_156 0 8 (dk_at dksX5_looksAt_3 21 rfl rfl)
theorem dX5_looksAt_94 : decode cX5_looksAt 94 = .ok (.iload 5, 2) := dk_21 5 (dk_at dksX5_looksAt_4 0 rfl rfl)
theorem dX5_looksAt_96 : decode cX5_looksAt 96 = .ok (.goto 12, 3) := dk_167 0 12 (dk_at dksX5_looksAt_4 2 rfl rfl)
theorem dX5_looksAt_99 : decode cX5_looksAt 99 = .ok (.aload_n 0, 1) := dk_42 (dk_at dksX5_looksAt_4 5 rfl rfl)
theorem dX5_looksAt_100 : decode cX5_looksAt 100 = .ok (.getfield 28, 3) := dk_180 0 28 (dk_at dksX5_looksAt_4 6 rfl rfl)
theorem dX5_looksAt_103 : decode cX5_looksAt 103 = .ok (.iload 4, 2) := dk_21 4 (dk_at dksX5_looksAt_4 9 rfl rfl)
theorem dX5_looksAt_105 : decode cX5_looksAt 105 = .ok (.iconst 1, 1) := dk_4 (dk_at dksX5_looksAt_4 11 rfl rfl)
theorem dX5_looksAt_106 : decode cX5_looksAt 106 = .ok (.iadd, 1) := dk_96 (dk_at dksX5_looksAt_4 12 rfl rfl)
theorem dX5_looksAt_107 : decode cX5_looksAt 107 = .ok (.iaload, 1) := dk_46 (dk_at dksX5_looksAt_4 13 rfl rfl)
theorem dX5_looksAt_108 : decode cX5_looksAt 108 = .ok (.iastore, 1) := dk_79 (dk_at dksX5_looksAt_4 14 rfl rfl)
theorem dX5_looksAt_109 : decode cX5_looksAt 109 = .ok (.aload_n 0, 1) := dk_42 (dk_at dksX5_looksAt_4 15 rfl rfl)
theorem dX5_looksAt_110 : decode cX5_looksAt 110 = .ok (.getfield 28, 3) := dk_180 0 28 (dk_at dksX5_looksAt_4 16 rfl rfl)
theorem dX5_looksAt_113 : decode cX5_looksAt 113 = .ok (.iload 4, 2) := dk_21 4 (dk_at dksX5_looksAt_4 19 rfl rfl)
theorem dX5_looksAt_115 : decode cX5_looksAt 115 = .ok (.iconst 2, 1) := dk_5 (dk_at dksX5_looksAt_4 21 rfl rfl)
theorem dX5_looksAt_116 : decode cX5_looksAt 116 = .ok (.iadd, 1) := dk_96 (dk_at dksX5_looksAt_4 22 rfl rfl)
theorem dX5_looksAt_117 : decode cX5_looksAt 117 = .ok (.iload 6, 2) := dk_21 6 (dk_at dksX5_looksAt_5 0 rfl rfl)
theorem dX5_looksAt_119 : decode cX5_looksAt 119 = .ok (.ifCond .eq 8, 3) := dk_153 0 8 (dk_at dksX5_looksAt_5 2 rfl rfl)
theorem dX5_looksAt_122 : decode cX5_looksAt 122 = .ok (.iload 5, 2) := dk_21 5 (dk_at dksX5_looksAt_5 5 rfl rfl)
theorem dX5_looksAt_124 : decode cX5_looksAt 124 = .ok (.goto 12, 3) := dk_167 0 12 (dk_at dksX5_looksAt_5 7 rfl rfl)
theorem dX5_looksAt_127 : decode cX5_looksAt 127 = .ok (.aload_n 0, 1) := dk_42 (dk_at dksX5_looksAt_5 10 rfl rfl)
theorem dX5_looksAt_128 : decode cX5_looksAt 128 = .ok (.getfield 28, 3) := dk_180 0 28 (dk_at dksX5_looksAt_5 11 rfl rfl)
theorem dX5_looksAt_131 : decode cX5_looksAt 131 = .ok (.iload 4, 2) := dk_21 4 (dk_at dksX5_looksAt_5 14 rfl rfl)
theorem dX5_looksAt_133 : decode cX5_looksAt 133 = .ok (.iconst 2, 1) := dk_5 (dk_at dksX5_looksAt_5 16 rfl rfl)
theorem dX5_looksAt_134 : decode cX5_looksAt 134 = .ok (.iadd, 1) := dk_96 (dk_at dksX5_looksAt_5 17 rfl rfl)
theorem dX5_looksAt_135 : decode cX5_looksAt 135 = .ok (.iaload, 1) := dk_46 (dk_at dksX5_looksAt_5 18 rfl rfl)
theorem dX5_looksAt_136 : decode cX5_looksAt 136 = .ok (.iastore, 1) := dk_79 (dk_at dksX5_looksAt_5 19 rfl rfl)
theorem dX5_looksAt_137 : decode cX5_looksAt 137 = .ok (.aload_n 0, 1) := dk_42 (dk_at dksX5_looksAt_5 20 rfl rfl)
theorem dX5_looksAt_138 : decode cX5_looksAt 138 = .ok (.getfield 28, 3) := dk_180 0 28 (dk_at dksX5_looksAt_5 21 rfl rfl)
theorem dX5_looksAt_141 : decode cX5_looksAt 141 = .ok (.iload 4, 2) := dk_21 4 (dk_at dksX5_looksAt_6 0 rfl rfl)
theorem dX5_looksAt_143 : decode cX5_looksAt 143 = .ok (.iconst 3, 1) := dk_6 (dk_at dksX5_looksAt_6 2 rfl rfl)
theorem dX5_looksAt_144 : decode cX5_looksAt 144 = .ok (.iadd, 1) := dk_96 (dk_at dksX5_looksAt_6 3 rfl rfl)
theorem dX5_looksAt_145 : decode cX5_looksAt 145 = .ok (.dup2, 1) := dk_92 (dk_at dksX5_looksAt_6 4 rfl rfl)
theorem dX5_looksAt_146 : decode cX5_looksAt 146 = .ok (.iaload, 1) := dk_46 (dk_at dksX5_looksAt_6 5 rfl rfl)
theorem dX5_looksAt_147 : decode cX5_looksAt 147 = .ok (.iload 6, 2) := dk_21 6 (dk_at dksX5_looksAt_6 6 rfl rfl)
theorem dX5_looksAt_149 : decode cX5_looksAt 149 = .ok (.ifCond .eq 14, 3) := dk_153 0 14 (dk_at dksX5_looksAt_6 8 rfl rfl)
theorem dX5_looksAt_152 : decode cX5_looksAt 152 = .ok (.iload 5, 2) := dk_21 5 (dk_at dksX5_looksAt_6 11 rfl rfl)
theorem dX5_looksAt_154 : decode cX5_looksAt 154 = .ok (.iconst 2, 1) := dk_5 (dk_at dksX5_looksAt_6 13 rfl rfl)
theorem dX5_looksAt_155 : decode cX5_looksAt 155 = .ok (.irem, 1) := dk_112 (dk_at dksX5_looksAt_6 14 rfl rfl)
theorem dX5_looksAt_156 : decode cX5_looksAt 156 = .ok (.ifCond .ne 7, 3) := dk_154 0 7 (dk_at dksX5_looksAt_6 15 rfl rfl)
theorem dX5_looksAt_159 : decode cX5_looksAt 159 = .ok (.iconst 1, 1) := dk_4 (dk_at dksX5_looksAt_6 18 rfl rfl)
theorem dX5_looksAt_160 : decode cX5_looksAt 160 = .ok (.goto 4, 3) := dk_167 0 4 (dk_at dksX5_looksAt_6 19 rfl rfl)
theorem dX5_looksAt_163 : decode cX5_looksAt 163 = .ok (.iconst 0, 1) := dk_3 (dk_at dksX5_looksAt_6 22 rfl rfl)
theorem dX5_looksAt_164 : decode cX5_looksAt 164 = .ok (.iadd, 1) := dk_96 (dk_at dksX5_looksAt_6 23 rfl rfl)
theorem dX5_looksAt_165 : decode cX5_looksAt 165 = .ok (.iastore, 1) := dk_79 (dk_at dksX5_looksAt_7 0 rfl rfl)
theorem dX5_looksAt_166 : decode cX5_looksAt 166 = .ok (.aload_n 0, 1) := dk_42 (dk_at dksX5_looksAt_7 1 rfl rfl)
theorem dX5_looksAt_167 : decode cX5_looksAt 167 = .ok (.getfield 28, 3) := dk_180 0 28 (dk_at dksX5_looksAt_7 2 rfl rfl)
theorem dX5_looksAt_170 : decode cX5_looksAt 170 = .ok (.iload 4, 2) := dk_21 4 (dk_at dksX5_looksAt_7 5 rfl rfl)
theorem dX5_looksAt_172 : decode cX5_looksAt 172 = .ok (.iconst 4, 1) := dk_7 (dk_at dksX5_looksAt_7 7 rfl rfl)
theorem dX5_looksAt_173 : decode cX5_looksAt 173 = .ok (.iadd, 1) := dk_96 (dk_at dksX5_looksAt_7 8 rfl rfl)
theorem dX5_looksAt_174 : decode cX5_looksAt 174 = .ok (.iload_n 3, 1) := dk_29 (dk_at dksX5_looksAt_7 9 rfl rfl)
theorem dX5_looksAt_175 : decode cX5_looksAt 175 = .ok (.aload_n 0, 1) := dk_42 (dk_at dksX5_looksAt_7 10 rfl rfl)
theorem dX5_looksAt_176 : decode cX5_looksAt 176 = .ok (.getfield 28, 3) := dk_180 0 28 (dk_at dksX5_looksAt_7 11 rfl rfl)
theorem dX5_looksAt_179 : decode cX5_looksAt 179 = .ok (.iload 4, 2) := dk_21 4 (dk_at dksX5_looksAt_7 14 rfl rfl)
theorem dX5_looksAt_181 : decode cX5_looksAt 181 = .ok (.iconst 4, 1) := dk_7 (dk_at dksX5_looksAt_7 16 rfl rfl)
theorem dX5_looksAt_182 : decode cX5_looksAt 182 = .ok (.iadd, 1) := dk_96 (dk_at dksX5_looksAt_7 17 rfl rfl)
theorem dX5_looksAt_183 : decode cX5_looksAt 183 = .ok (.iaload, 1) := dk_46 (dk_at dksX5_looksAt_7 18 rfl rfl)
theorem dX5_looksAt_184 : decode cX5_looksAt 184 = .ok (.if_icmp .le 7, 3) := dk_164 0 7 (dk_at dksX5_looksAt_7 19 rfl rfl)
theorem dX5_looksAt_187 : decode cX5_looksAt 187 = .ok (.iload_n 3, 1) := dk_29 (dk_at dksX5_looksAt_7 22 rfl rfl)
theorem dX5_looksAt_188 : decode cX5_looksAt 188 = .ok (.goto 12, 3) := dk_167 0 12 (dk_at dksX5_looksAt_8 0 rfl rfl)
theorem dX5_looksAt_191 : decode cX5_looksAt 191 = .ok (.aload_n 0, 1) := dk_42 (dk_at dksX5_looksAt_8 3 rfl rfl)
theorem dX5_looksAt_192 : decode cX5_looksAt 192 = .ok (.getfield 28, 3) := dk_180 0 28 (dk_at dksX5_looksAt_8 4 rfl rfl)
theorem dX5_looksAt_195 : decode cX5_looksAt 195 = .ok (.iload 4, 2) := dk_21 4 (dk_at dksX5_looksAt_8 7 rfl rfl)
theorem dX5_looksAt_197 : decode cX5_looksAt 197 = .ok (.iconst 4, 1) := dk_7 (dk_at dksX5_looksAt_8 9 rfl rfl)
theorem dX5_looksAt_198 : decode cX5_looksAt 198 = .ok (.iadd, 1) := dk_96 (dk_at dksX5_looksAt_8 10 rfl rfl)
theorem dX5_looksAt_199 : decode cX5_looksAt 199 = .ok (.iaload, 1) := dk_46 (dk_at dksX5_looksAt_8 11 rfl rfl)
theorem dX5_looksAt_200 : decode cX5_looksAt 200 = .ok (.iastore, 1) := dk_79 (dk_at dksX5_looksAt_8 12 rfl rfl)
theorem dX5_looksAt_201 : decode cX5_looksAt 201 = .ok (.iinc 5 1, 3) := dk_132 5 1 (dk_at dksX5_looksAt_8 13 rfl rfl)
theorem dX5_looksAt_204 : decode cX5_looksAt 204 = .ok (.goto (-184), 3) := dk_167 255 72 (dk_at dksX5_looksAt_8 16 rfl rfl)
theorem dX5_looksAt_207 : decode cX5_looksAt 207 = .ok (.return_, 1) := dk_177 (dk_at dksX5_looksAt_8 19 rfl rfl)
abbrev cX5_has : ByteArray := prog_24_method_8_code
def yX5_has : MethodName := ⟨RX5, "has", "(II)Z"⟩
def dkwX5_has_0 : List UInt8 := [26, 27, 122, 4, 126, 4, 160, 0, 7, 4, 167, 0, 4, 3, 172]
abbrev dktX5_has_0 : List UInt8 := dkwX5_has_0 ++ []
theorem dksX5_has_0 : cX5_has.data.toList.drop 0 = dktX5_has_0 := by decide +kernel
theorem dX5_has_0 : decode cX5_has 0 = .ok (.iload_n 0, 1) := dk_26 (dk_at dksX5_has_0 0 rfl rfl)
theorem dX5_has_1 : decode cX5_has 1 = .ok (.iload_n 1, 1) := dk_27 (dk_at dksX5_has_0 1 rfl rfl)
theorem dX5_has_2 : decode cX5_has 2 = .ok (.ishr, 1) := dk_122 (dk_at dksX5_has_0 2 rfl rfl)
theorem dX5_has_3 : decode cX5_has 3 = .ok (.iconst 1, 1) := dk_4 (dk_at dksX5_has_0 3 rfl rfl)
theorem dX5_has_4 : decode cX5_has 4 = .ok (.iand, 1) := dk_126 (dk_at dksX5_has_0 4 rfl rfl)
theorem dX5_has_5 : decode cX5_has 5 = .ok (.iconst 1, 1) := dk_4 (dk_at dksX5_has_0 5 rfl rfl)
theorem dX5_has_6 : decode cX5_has 6 = .ok (.if_icmp .ne 7, 3) := dk_160 0 7 (dk_at dksX5_has_0 6 rfl rfl)
theorem dX5_has_9 : decode cX5_has 9 = .ok (.iconst 1, 1) := dk_4 (dk_at dksX5_has_0 9 rfl rfl)
theorem dX5_has_10 : decode cX5_has 10 = .ok (.goto 4, 3) := dk_167 0 4 (dk_at dksX5_has_0 10 rfl rfl)
theorem dX5_has_13 : decode cX5_has 13 = .ok (.iconst 0, 1) := dk_3 (dk_at dksX5_has_0 13 rfl rfl)
theorem dX5_has_14 : decode cX5_has 14 = .ok (.ireturn, 1) := dk_172 (dk_at dksX5_has_0 14 rfl rfl)
abbrev cX5_place : ByteArray := prog_24_method_9_code
def yX5_place : MethodName := ⟨RX5, "place", "(I)I"⟩
def dkwX5_place_1 : List UInt8 := [182, 0, 88, 167, 0, 9, 42, 180, 0, 22, 27, 46, 172]
abbrev dktX5_place_1 : List UInt8 := dkwX5_place_1 ++ []
def dkwX5_place_0 : List UInt8 := [27, 155, 0, 19, 27, 17, 15, 255, 163, 0, 12, 42, 180, 0, 22, 27, 46, 156, 0, 12, 42, 18, 87]
abbrev dktX5_place_0 : List UInt8 := dkwX5_place_0 ++ dktX5_place_1
theorem dksX5_place_0 : cX5_place.data.toList.drop 0 = dktX5_place_0 := by decide +kernel
theorem dksX5_place_1 : cX5_place.data.toList.drop 23 = dktX5_place_1 := dk_seg dksX5_place_0 23 rfl rfl
theorem dX5_place_0 : decode cX5_place 0 = .ok (.iload_n 1, 1) := dk_27 (dk_at dksX5_place_0 0 rfl rfl)
theorem dX5_place_1 : decode cX5_place 1 = .ok (.ifCond .lt 19, 3) := dk_155 0 19 (dk_at dksX5_place_0 1 rfl rfl)
theorem dX5_place_4 : decode cX5_place 4 = .ok (.iload_n 1, 1) := dk_27 (dk_at dksX5_place_0 4 rfl rfl)
theorem dX5_place_5 : decode cX5_place 5 = .ok (.sipush 4095, 3) := dk_17 15 255 (dk_at dksX5_place_0 5 rfl rfl)
theorem dX5_place_8 : decode cX5_place 8 = .ok (.if_icmp .gt 12, 3) := dk_163 0 12 (dk_at dksX5_place_0 8 rfl rfl)
theorem dX5_place_11 : decode cX5_place 11 = .ok (.aload_n 0, 1) := dk_42 (dk_at dksX5_place_0 11 rfl rfl)
theorem dX5_place_12 : decode cX5_place 12 = .ok (.getfield 22, 3) := dk_180 0 22 (dk_at dksX5_place_0 12 rfl rfl)
theorem dX5_place_15 : decode cX5_place 15 = .ok (.iload_n 1, 1) := dk_27 (dk_at dksX5_place_0 15 rfl rfl)
theorem dX5_place_16 : decode cX5_place 16 = .ok (.iaload, 1) := dk_46 (dk_at dksX5_place_0 16 rfl rfl)
theorem dX5_place_17 : decode cX5_place 17 = .ok (.ifCond .ge 12, 3) := dk_156 0 12 (dk_at dksX5_place_0 17 rfl rfl)
theorem dX5_place_20 : decode cX5_place 20 = .ok (.aload_n 0, 1) := dk_42 (dk_at dksX5_place_0 20 rfl rfl)
theorem dX5_place_21 : decode cX5_place 21 = .ok (.ldc 87, 2) := dk_18 87 (dk_at dksX5_place_0 21 rfl rfl)
theorem dX5_place_23 : decode cX5_place 23 = .ok (.invokevirtual 88, 3) := dk_182 0 88 (dk_at dksX5_place_1 0 rfl rfl)
theorem dX5_place_26 : decode cX5_place 26 = .ok (.goto 9, 3) := dk_167 0 9 (dk_at dksX5_place_1 3 rfl rfl)
theorem dX5_place_29 : decode cX5_place 29 = .ok (.aload_n 0, 1) := dk_42 (dk_at dksX5_place_1 6 rfl rfl)
theorem dX5_place_30 : decode cX5_place 30 = .ok (.getfield 22, 3) := dk_180 0 22 (dk_at dksX5_place_1 7 rfl rfl)
theorem dX5_place_33 : decode cX5_place 33 = .ok (.iload_n 1, 1) := dk_27 (dk_at dksX5_place_1 10 rfl rfl)
theorem dX5_place_34 : decode cX5_place 34 = .ok (.iaload, 1) := dk_46 (dk_at dksX5_place_1 11 rfl rfl)
theorem dX5_place_35 : decode cX5_place 35 = .ok (.ireturn, 1) := dk_172 (dk_at dksX5_place_1 12 rfl rfl)
abbrev cX5_finds : ByteArray := prog_24_method_5_code
def yX5_finds : MethodName := ⟨RX5, "finds", "(I)I"⟩
def dkwX5_finds_1 : List UInt8 := [79, 27, 172]
abbrev dktX5_finds_1 : List UInt8 := dkwX5_finds_1 ++ []
def dkwX5_finds_0 : List UInt8 := [42, 180, 0, 16, 3, 92, 46, 4, 96, 79, 42, 180, 0, 16, 18, 87, 27, 100, 4, 96, 92, 46, 4, 96]
abbrev dktX5_finds_0 : List UInt8 := dkwX5_finds_0 ++ dktX5_finds_1
theorem dksX5_finds_0 : cX5_finds.data.toList.drop 0 = dktX5_finds_0 := by decide +kernel
theorem dksX5_finds_1 : cX5_finds.data.toList.drop 24 = dktX5_finds_1 := dk_seg dksX5_finds_0 24 rfl rfl
theorem dX5_finds_0 : decode cX5_finds 0 = .ok (.aload_n 0, 1) := dk_42 (dk_at dksX5_finds_0 0 rfl rfl)
theorem dX5_finds_1 : decode cX5_finds 1 = .ok (.getfield 16, 3) := dk_180 0 16 (dk_at dksX5_finds_0 1 rfl rfl)
theorem dX5_finds_4 : decode cX5_finds 4 = .ok (.iconst 0, 1) := dk_3 (dk_at dksX5_finds_0 4 rfl rfl)
theorem dX5_finds_5 : decode cX5_finds 5 = .ok (.dup2, 1) := dk_92 (dk_at dksX5_finds_0 5 rfl rfl)
theorem dX5_finds_6 : decode cX5_finds 6 = .ok (.iaload, 1) := dk_46 (dk_at dksX5_finds_0 6 rfl rfl)
theorem dX5_finds_7 : decode cX5_finds 7 = .ok (.iconst 1, 1) := dk_4 (dk_at dksX5_finds_0 7 rfl rfl)
theorem dX5_finds_8 : decode cX5_finds 8 = .ok (.iadd, 1) := dk_96 (dk_at dksX5_finds_0 8 rfl rfl)
theorem dX5_finds_9 : decode cX5_finds 9 = .ok (.iastore, 1) := dk_79 (dk_at dksX5_finds_0 9 rfl rfl)
theorem dX5_finds_10 : decode cX5_finds 10 = .ok (.aload_n 0, 1) := dk_42 (dk_at dksX5_finds_0 10 rfl rfl)
theorem dX5_finds_11 : decode cX5_finds 11 = .ok (.getfield 16, 3) := dk_180 0 16 (dk_at dksX5_finds_0 11 rfl rfl)
theorem dX5_finds_14 : decode cX5_finds 14 = .ok (.ldc 87, 2) := dk_18 87 (dk_at dksX5_finds_0 14 rfl rfl)
theorem dX5_finds_16 : decode cX5_finds 16 = .ok (.iload_n 1, 1) := dk_27 (dk_at dksX5_finds_0 16 rfl rfl)
theorem dX5_finds_17 : decode cX5_finds 17 = .ok (.isub, 1) := dk_100 (dk_at dksX5_finds_0 17 rfl rfl)
theorem dX5_finds_18 : decode cX5_finds 18 = .ok (.iconst 1, 1) := dk_4 (dk_at dksX5_finds_0 18 rfl rfl)
theorem dX5_finds_19 : decode cX5_finds 19 = .ok (.iadd, 1) := dk_96 (dk_at dksX5_finds_0 19 rfl rfl)
theorem dX5_finds_20 : decode cX5_finds 20 = .ok (.dup2, 1) := dk_92 (dk_at dksX5_finds_0 20 rfl rfl)
theorem dX5_finds_21 : decode cX5_finds 21 = .ok (.iaload, 1) := dk_46 (dk_at dksX5_finds_0 21 rfl rfl)
theorem dX5_finds_22 : decode cX5_finds 22 = .ok (.iconst 1, 1) := dk_4 (dk_at dksX5_finds_0 22 rfl rfl)
theorem dX5_finds_23 : decode cX5_finds 23 = .ok (.iadd, 1) := dk_96 (dk_at dksX5_finds_0 23 rfl rfl)
theorem dX5_finds_24 : decode cX5_finds 24 = .ok (.iastore, 1) := dk_79 (dk_at dksX5_finds_1 0 rfl rfl)
theorem dX5_finds_25 : decode cX5_finds 25 = .ok (.iload_n 1, 1) := dk_27 (dk_at dksX5_finds_1 1 rfl rfl)
theorem dX5_finds_26 : decode cX5_finds 26 = .ok (.ireturn, 1) := dk_172 (dk_at dksX5_finds_1 2 rfl rfl)
abbrev cX5_row : ByteArray := prog_24_method_10_code
def yX5_row : MethodName := ⟨RX5, "row", "(I)I"⟩
def dkwX5_row_0 : List UInt8 := [27, 184, 0, 92, 153, 0, 12, 42, 180, 0, 19, 27, 46, 167, 0, 9, 42, 18, 87, 182, 0, 88, 172]
abbrev dktX5_row_0 : List UInt8 := dkwX5_row_0 ++ []
theorem dksX5_row_0 : cX5_row.data.toList.drop 0 = dktX5_row_0 := by decide +kernel
theorem dX5_row_0 : decode cX5_row 0 = .ok (.iload_n 1, 1) := dk_27 (dk_at dksX5_row_0 0 rfl rfl)
theorem dX5_row_1 : decode cX5_row 1 = .ok (.invokestatic 92, 3) := dk_184 0 92 (dk_at dksX5_row_0 1 rfl rfl)
theorem dX5_row_4 : decode cX5_row 4 = .ok (.ifCond .eq 12, 3) := dk_153 0 12 (dk_at dksX5_row_0 4 rfl rfl)
theorem dX5_row_7 : decode cX5_row 7 = .ok (.aload_n 0, 1) := dk_42 (dk_at dksX5_row_0 7 rfl rfl)
theorem dX5_row_8 : decode cX5_row 8 = .ok (.getfield 19, 3) := dk_180 0 19 (dk_at dksX5_row_0 8 rfl rfl)
theorem dX5_row_11 : decode cX5_row 11 = .ok (.iload_n 1, 1) := dk_27 (dk_at dksX5_row_0 11 rfl rfl)
theorem dX5_row_12 : decode cX5_row 12 = .ok (.iaload, 1) := dk_46 (dk_at dksX5_row_0 12 rfl rfl)
theorem dX5_row_13 : decode cX5_row 13 = .ok (.goto 9, 3) := dk_167 0 9 (dk_at dksX5_row_0 13 rfl rfl)
theorem dX5_row_16 : decode cX5_row 16 = .ok (.aload_n 0, 1) := dk_42 (dk_at dksX5_row_0 16 rfl rfl)
theorem dX5_row_17 : decode cX5_row 17 = .ok (.ldc 87, 2) := dk_18 87 (dk_at dksX5_row_0 17 rfl rfl)
theorem dX5_row_19 : decode cX5_row 19 = .ok (.invokevirtual 88, 3) := dk_182 0 88 (dk_at dksX5_row_0 19 rfl rfl)
theorem dX5_row_22 : decode cX5_row 22 = .ok (.ireturn, 1) := dk_172 (dk_at dksX5_row_0 22 rfl rfl)
abbrev cX5_isPlace : ByteArray := prog_24_method_6_code
def yX5_isPlace : MethodName := ⟨RX5, "isPlace", "(I)Z"⟩
def dkwX5_isPlace_0 : List UInt8 := [26, 155, 0, 14, 26, 17, 1, 239, 162, 0, 7, 4, 167, 0, 4, 3, 172]
abbrev dktX5_isPlace_0 : List UInt8 := dkwX5_isPlace_0 ++ []
theorem dksX5_isPlace_0 : cX5_isPlace.data.toList.drop 0 = dktX5_isPlace_0 := by decide +kernel
theorem dX5_isPlace_0 : decode cX5_isPlace 0 = .ok (.iload_n 0, 1) := dk_26 (dk_at dksX5_isPlace_0 0 rfl rfl)
theorem dX5_isPlace_1 : decode cX5_isPlace 1 = .ok (.ifCond .lt 14, 3) := dk_155 0 14 (dk_at dksX5_isPlace_0 1 rfl rfl)
theorem dX5_isPlace_4 : decode cX5_isPlace 4 = .ok (.iload_n 0, 1) := dk_26 (dk_at dksX5_isPlace_0 4 rfl rfl)
theorem dX5_isPlace_5 : decode cX5_isPlace 5 = .ok (.sipush 495, 3) := dk_17 1 239 (dk_at dksX5_isPlace_0 5 rfl rfl)
theorem dX5_isPlace_8 : decode cX5_isPlace 8 = .ok (.if_icmp .ge 7, 3) := dk_162 0 7 (dk_at dksX5_isPlace_0 8 rfl rfl)
theorem dX5_isPlace_11 : decode cX5_isPlace 11 = .ok (.iconst 1, 1) := dk_4 (dk_at dksX5_isPlace_0 11 rfl rfl)
theorem dX5_isPlace_12 : decode cX5_isPlace 12 = .ok (.goto 4, 3) := dk_167 0 4 (dk_at dksX5_isPlace_0 12 rfl rfl)
theorem dX5_isPlace_15 : decode cX5_isPlace 15 = .ok (.iconst 0, 1) := dk_3 (dk_at dksX5_isPlace_0 15 rfl rfl)
theorem dX5_isPlace_16 : decode cX5_isPlace 16 = .ok (.ireturn, 1) := dk_172 (dk_at dksX5_isPlace_0 16 rfl rfl)
abbrev cX5_people : ByteArray := prog_24_method_11_code
def yX5_people : MethodName := ⟨RX5, "people", "(II)I"⟩
def dkwX5_people_4 : List UInt8 := [180, 0, 7, 3, 46, 4, 100, 172]
abbrev dktX5_people_4 : List UInt8 := dkwX5_people_4 ++ []
def dkwX5_people_3 : List UInt8 := [180, 0, 7, 3, 46, 96, 28, 79, 42, 180, 0, 7, 3, 92, 46, 4, 96, 79, 42, 4, 181, 0, 44, 42]
abbrev dktX5_people_3 : List UInt8 := dkwX5_people_3 ++ dktX5_people_4
def dkwX5_people_2 : List UInt8 := [172, 42, 180, 0, 7, 16, 20, 42, 180, 0, 7, 3, 46, 96, 27, 79, 42, 180, 0, 7, 16, 32, 42]
abbrev dktX5_people_2 : List UInt8 := dkwX5_people_2 ++ dktX5_people_3
def dkwX5_people_1 : List UInt8 := [42, 18, 87, 182, 0, 88, 172, 42, 180, 0, 7, 3, 46, 16, 12, 160, 0, 10, 42, 18, 104, 182, 0, 88]
abbrev dktX5_people_1 : List UInt8 := dkwX5_people_1 ++ dktX5_people_2
def dkwX5_people_0 : List UInt8 := [27, 133, 9, 20, 0, 96, 184, 0, 98, 153, 0, 15, 28, 133, 9, 20, 0, 102, 184, 0, 98, 154, 0, 10]
abbrev dktX5_people_0 : List UInt8 := dkwX5_people_0 ++ dktX5_people_1
theorem dksX5_people_0 : cX5_people.data.toList.drop 0 = dktX5_people_0 := by decide +kernel
theorem dksX5_people_1 : cX5_people.data.toList.drop 24 = dktX5_people_1 := dk_seg dksX5_people_0 24 rfl rfl
theorem dksX5_people_2 : cX5_people.data.toList.drop 48 = dktX5_people_2 := dk_seg dksX5_people_1 24 rfl rfl
theorem dksX5_people_3 : cX5_people.data.toList.drop 71 = dktX5_people_3 := dk_seg dksX5_people_2 23 rfl rfl
theorem dksX5_people_4 : cX5_people.data.toList.drop 95 = dktX5_people_4 := dk_seg dksX5_people_3 24 rfl rfl
theorem dX5_people_0 : decode cX5_people 0 = .ok (.iload_n 1, 1) := dk_27 (dk_at dksX5_people_0 0 rfl rfl)
theorem dX5_people_1 : decode cX5_people 1 = .ok (.i2l, 1) := dk_133 (dk_at dksX5_people_0 1 rfl rfl)
theorem dX5_people_2 : decode cX5_people 2 = .ok (.lconst 0, 1) := dk_9 (dk_at dksX5_people_0 2 rfl rfl)
theorem dX5_people_3 : decode cX5_people 3 = .ok (.ldc2_w 96, 3) := dk_20 0 96 (dk_at dksX5_people_0 3 rfl rfl)
theorem dX5_people_6 : decode cX5_people 6 = .ok (.invokestatic 98, 3) := dk_184 0 98 (dk_at dksX5_people_0 6 rfl rfl)
theorem dX5_people_9 : decode cX5_people 9 = .ok (.ifCond .eq 15, 3) := dk_153 0 15 (dk_at dksX5_people_0 9 rfl rfl)
theorem dX5_people_12 : decode cX5_people 12 = .ok (.iload_n 2, 1) := dk_28 (dk_at dksX5_people_0 12 rfl rfl)
theorem dX5_people_13 : decode cX5_people 13 = .ok (.i2l, 1) := dk_133 (dk_at dksX5_people_0 13 rfl rfl)
theorem dX5_people_14 : decode cX5_people 14 = .ok (.lconst 0, 1) := dk_9 (dk_at dksX5_people_0 14 rfl rfl)
theorem dX5_people_15 : decode cX5_people 15 = .ok (.ldc2_w 102, 3) := dk_20 0 102 (dk_at dksX5_people_0 15 rfl rfl)
theorem dX5_people_18 : decode cX5_people 18 = .ok (.invokestatic 98, 3) := dk_184 0 98 (dk_at dksX5_people_0 18 rfl rfl)
theorem dX5_people_21 : decode cX5_people 21 = .ok (.ifCond .ne 10, 3) := dk_154 0 10 (dk_at dksX5_people_0 21 rfl rfl)
theorem dX5_people_24 : decode cX5_people 24 = .ok (.aload_n 0, 1) := dk_42 (dk_at dksX5_people_1 0 rfl rfl)
theorem dX5_people_25 : decode cX5_people 25 = .ok (.ldc 87, 2) := dk_18 87 (dk_at dksX5_people_1 1 rfl rfl)
theorem dX5_people_27 : decode cX5_people 27 = .ok (.invokevirtual 88, 3) := dk_182 0 88 (dk_at dksX5_people_1 3 rfl rfl)
theorem dX5_people_30 : decode cX5_people 30 = .ok (.ireturn, 1) := dk_172 (dk_at dksX5_people_1 6 rfl rfl)
theorem dX5_people_31 : decode cX5_people 31 = .ok (.aload_n 0, 1) := dk_42 (dk_at dksX5_people_1 7 rfl rfl)
theorem dX5_people_32 : decode cX5_people 32 = .ok (.getfield 7, 3) := dk_180 0 7 (dk_at dksX5_people_1 8 rfl rfl)
theorem dX5_people_35 : decode cX5_people 35 = .ok (.iconst 0, 1) := dk_3 (dk_at dksX5_people_1 11 rfl rfl)
theorem dX5_people_36 : decode cX5_people 36 = .ok (.iaload, 1) := dk_46 (dk_at dksX5_people_1 12 rfl rfl)
theorem dX5_people_37 : decode cX5_people 37 = .ok (.bipush 12, 2) := dk_16 12 (dk_at dksX5_people_1 13 rfl rfl)
theorem dX5_people_39 : decode cX5_people 39 = .ok (.if_icmp .ne 10, 3) := dk_160 0 10 (dk_at dksX5_people_1 15 rfl rfl)
theorem dX5_people_42 : decode cX5_people 42 = .ok (.aload_n 0, 1) := dk_42 (dk_at dksX5_people_1 18 rfl rfl)
theorem dX5_people_43 : decode cX5_people 43 = .ok (.ldc 104, 2) := dk_18 104 (dk_at dksX5_people_1 19 rfl rfl)
theorem dX5_people_45 : decode cX5_people 45 = .ok (.invokevirtual 88, 3) := dk_182 0 88 (dk_at dksX5_people_1 21 rfl rfl)
theorem dX5_people_48 : decode cX5_people 48 = .ok (.ireturn, 1) := dk_172 (dk_at dksX5_people_2 0 rfl rfl)
theorem dX5_people_49 : decode cX5_people 49 = .ok (.aload_n 0, 1) := dk_42 (dk_at dksX5_people_2 1 rfl rfl)
theorem dX5_people_50 : decode cX5_people 50 = .ok (.getfield 7, 3) := dk_180 0 7 (dk_at dksX5_people_2 2 rfl rfl)
theorem dX5_people_53 : decode cX5_people 53 = .ok (.bipush 20, 2) := dk_16 20 (dk_at dksX5_people_2 5 rfl rfl)
theorem dX5_people_55 : decode cX5_people 55 = .ok (.aload_n 0, 1) := dk_42 (dk_at dksX5_people_2 7 rfl rfl)
theorem dX5_people_56 : decode cX5_people 56 = .ok (.getfield 7, 3) := dk_180 0 7 (dk_at dksX5_people_2 8 rfl rfl)
theorem dX5_people_59 : decode cX5_people 59 = .ok (.iconst 0, 1) := dk_3 (dk_at dksX5_people_2 11 rfl rfl)
theorem dX5_people_60 : decode cX5_people 60 = .ok (.iaload, 1) := dk_46 (dk_at dksX5_people_2 12 rfl rfl)
theorem dX5_people_61 : decode cX5_people 61 = .ok (.iadd, 1) := dk_96 (dk_at dksX5_people_2 13 rfl rfl)
theorem dX5_people_62 : decode cX5_people 62 = .ok (.iload_n 1, 1) := dk_27 (dk_at dksX5_people_2 14 rfl rfl)
theorem dX5_people_63 : decode cX5_people 63 = .ok (.iastore, 1) := dk_79 (dk_at dksX5_people_2 15 rfl rfl)
theorem dX5_people_64 : decode cX5_people 64 = .ok (.aload_n 0, 1) := dk_42 (dk_at dksX5_people_2 16 rfl rfl)
theorem dX5_people_65 : decode cX5_people 65 = .ok (.getfield 7, 3) := dk_180 0 7 (dk_at dksX5_people_2 17 rfl rfl)
theorem dX5_people_68 : decode cX5_people 68 = .ok (.bipush 32, 2) := dk_16 32 (dk_at dksX5_people_2 20 rfl rfl)
theorem dX5_people_70 : decode cX5_people 70 = .ok (.aload_n 0, 1) := dk_42 (dk_at dksX5_people_2 22 rfl rfl)
theorem dX5_people_71 : decode cX5_people 71 = .ok (.getfield 7, 3) := dk_180 0 7 (dk_at dksX5_people_3 0 rfl rfl)
theorem dX5_people_74 : decode cX5_people 74 = .ok (.iconst 0, 1) := dk_3 (dk_at dksX5_people_3 3 rfl rfl)
theorem dX5_people_75 : decode cX5_people 75 = .ok (.iaload, 1) := dk_46 (dk_at dksX5_people_3 4 rfl rfl)
theorem dX5_people_76 : decode cX5_people 76 = .ok (.iadd, 1) := dk_96 (dk_at dksX5_people_3 5 rfl rfl)
theorem dX5_people_77 : decode cX5_people 77 = .ok (.iload_n 2, 1) := dk_28 (dk_at dksX5_people_3 6 rfl rfl)
theorem dX5_people_78 : decode cX5_people 78 = .ok (.iastore, 1) := dk_79 (dk_at dksX5_people_3 7 rfl rfl)
theorem dX5_people_79 : decode cX5_people 79 = .ok (.aload_n 0, 1) := dk_42 (dk_at dksX5_people_3 8 rfl rfl)
theorem dX5_people_80 : decode cX5_people 80 = .ok (.getfield 7, 3) := dk_180 0 7 (dk_at dksX5_people_3 9 rfl rfl)
theorem dX5_people_83 : decode cX5_people 83 = .ok (.iconst 0, 1) := dk_3 (dk_at dksX5_people_3 12 rfl rfl)
theorem dX5_people_84 : decode cX5_people 84 = .ok (.dup2, 1) := dk_92 (dk_at dksX5_people_3 13 rfl rfl)
theorem dX5_people_85 : decode cX5_people 85 = .ok (.iaload, 1) := dk_46 (dk_at dksX5_people_3 14 rfl rfl)
theorem dX5_people_86 : decode cX5_people 86 = .ok (.iconst 1, 1) := dk_4 (dk_at dksX5_people_3 15 rfl rfl)
theorem dX5_people_87 : decode cX5_people 87 = .ok (.iadd, 1) := dk_96 (dk_at dksX5_people_3 16 rfl rfl)
theorem dX5_people_88 : decode cX5_people 88 = .ok (.iastore, 1) := dk_79 (dk_at dksX5_people_3 17 rfl rfl)
theorem dX5_people_89 : decode cX5_people 89 = .ok (.aload_n 0, 1) := dk_42 (dk_at dksX5_people_3 18 rfl rfl)
theorem dX5_people_90 : decode cX5_people 90 = .ok (.iconst 1, 1) := dk_4 (dk_at dksX5_people_3 19 rfl rfl)
theorem dX5_people_91 : decode cX5_people 91 = .ok (.putfield 44, 3) := dk_181 0 44 (dk_at dksX5_people_3 20 rfl rfl)
theorem dX5_people_94 : decode cX5_people 94 = .ok (.aload_n 0, 1) := dk_42 (dk_at dksX5_people_3 23 rfl rfl)
theorem dX5_people_95 : decode cX5_people 95 = .ok (.getfield 7, 3) := dk_180 0 7 (dk_at dksX5_people_4 0 rfl rfl)
theorem dX5_people_98 : decode cX5_people 98 = .ok (.iconst 0, 1) := dk_3 (dk_at dksX5_people_4 3 rfl rfl)
theorem dX5_people_99 : decode cX5_people 99 = .ok (.iaload, 1) := dk_46 (dk_at dksX5_people_4 4 rfl rfl)
theorem dX5_people_100 : decode cX5_people 100 = .ok (.iconst 1, 1) := dk_4 (dk_at dksX5_people_4 5 rfl rfl)
theorem dX5_people_101 : decode cX5_people 101 = .ok (.isub, 1) := dk_100 (dk_at dksX5_people_4 6 rfl rfl)
theorem dX5_people_102 : decode cX5_people 102 = .ok (.ireturn, 1) := dk_172 (dk_at dksX5_people_4 7 rfl rfl)
abbrev cX5_isIn : ByteArray := prog_24_method_4_code
def yX5_isIn : MethodName := ⟨RX5, "isIn", "(JJJ)Z"⟩
def dkwX5_isIn_0 : List UInt8 := [30, 32, 148, 155, 0, 14, 30, 22, 4, 148, 157, 0, 7, 4, 167, 0, 4, 3, 172]
abbrev dktX5_isIn_0 : List UInt8 := dkwX5_isIn_0 ++ []
theorem dksX5_isIn_0 : cX5_isIn.data.toList.drop 0 = dktX5_isIn_0 := by decide +kernel
theorem dX5_isIn_0 : decode cX5_isIn 0 = .ok (.lload_n 0, 1) := dk_30 (dk_at dksX5_isIn_0 0 rfl rfl)
theorem dX5_isIn_1 : decode cX5_isIn 1 = .ok (.lload_n 2, 1) := dk_32 (dk_at dksX5_isIn_0 1 rfl rfl)
theorem dX5_isIn_2 : decode cX5_isIn 2 = .ok (.lcmp, 1) := dk_148 (dk_at dksX5_isIn_0 2 rfl rfl)
theorem dX5_isIn_3 : decode cX5_isIn 3 = .ok (.ifCond .lt 14, 3) := dk_155 0 14 (dk_at dksX5_isIn_0 3 rfl rfl)
theorem dX5_isIn_6 : decode cX5_isIn 6 = .ok (.lload_n 0, 1) := dk_30 (dk_at dksX5_isIn_0 6 rfl rfl)
theorem dX5_isIn_7 : decode cX5_isIn 7 = .ok (.lload 4, 2) := dk_22 4 (dk_at dksX5_isIn_0 7 rfl rfl)
theorem dX5_isIn_9 : decode cX5_isIn 9 = .ok (.lcmp, 1) := dk_148 (dk_at dksX5_isIn_0 9 rfl rfl)
theorem dX5_isIn_10 : decode cX5_isIn 10 = .ok (.ifCond .gt 7, 3) := dk_157 0 7 (dk_at dksX5_isIn_0 10 rfl rfl)
theorem dX5_isIn_13 : decode cX5_isIn 13 = .ok (.iconst 1, 1) := dk_4 (dk_at dksX5_isIn_0 13 rfl rfl)
theorem dX5_isIn_14 : decode cX5_isIn 14 = .ok (.goto 4, 3) := dk_167 0 4 (dk_at dksX5_isIn_0 14 rfl rfl)
theorem dX5_isIn_17 : decode cX5_isIn 17 = .ok (.iconst 0, 1) := dk_3 (dk_at dksX5_isIn_0 17 rfl rfl)
theorem dX5_isIn_18 : decode cX5_isIn 18 = .ok (.ireturn, 1) := dk_172 (dk_at dksX5_isIn_0 18 rfl rfl)
abbrev cX5_of : ByteArray := prog_24_method_12_code
def yX5_of : MethodName := ⟨RX5, "of", "(II)I"⟩
def dkwX5_of_2 : List UInt8 := [96, 46, 172]
abbrev dktX5_of_2 : List UInt8 := dkwX5_of_2 ++ []
def dkwX5_of_1 : List UInt8 := [172, 28, 154, 0, 15, 42, 180, 0, 7, 16, 20, 27, 96, 46, 167, 0, 12, 42, 180, 0, 7, 16, 32, 27]
abbrev dktX5_of_1 : List UInt8 := dkwX5_of_1 ++ dktX5_of_2
def dkwX5_of_0 : List UInt8 := [42, 27, 182, 0, 105, 153, 0, 13, 28, 133, 9, 10, 184, 0, 98, 154, 0, 10, 42, 18, 87, 182, 0, 88]
abbrev dktX5_of_0 : List UInt8 := dkwX5_of_0 ++ dktX5_of_1
theorem dksX5_of_0 : cX5_of.data.toList.drop 0 = dktX5_of_0 := by decide +kernel
theorem dksX5_of_1 : cX5_of.data.toList.drop 24 = dktX5_of_1 := dk_seg dksX5_of_0 24 rfl rfl
theorem dksX5_of_2 : cX5_of.data.toList.drop 48 = dktX5_of_2 := dk_seg dksX5_of_1 24 rfl rfl
theorem dX5_of_0 : decode cX5_of 0 = .ok (.aload_n 0, 1) := dk_42 (dk_at dksX5_of_0 0 rfl rfl)
theorem dX5_of_1 : decode cX5_of 1 = .ok (.iload_n 1, 1) := dk_27 (dk_at dksX5_of_0 1 rfl rfl)
theorem dX5_of_2 : decode cX5_of 2 = .ok (.invokevirtual 105, 3) := dk_182 0 105 (dk_at dksX5_of_0 2 rfl rfl)
theorem dX5_of_5 : decode cX5_of 5 = .ok (.ifCond .eq 13, 3) := dk_153 0 13 (dk_at dksX5_of_0 5 rfl rfl)
theorem dX5_of_8 : decode cX5_of 8 = .ok (.iload_n 2, 1) := dk_28 (dk_at dksX5_of_0 8 rfl rfl)
theorem dX5_of_9 : decode cX5_of 9 = .ok (.i2l, 1) := dk_133 (dk_at dksX5_of_0 9 rfl rfl)
theorem dX5_of_10 : decode cX5_of 10 = .ok (.lconst 0, 1) := dk_9 (dk_at dksX5_of_0 10 rfl rfl)
theorem dX5_of_11 : decode cX5_of 11 = .ok (.lconst 1, 1) := dk_10 (dk_at dksX5_of_0 11 rfl rfl)
theorem dX5_of_12 : decode cX5_of 12 = .ok (.invokestatic 98, 3) := dk_184 0 98 (dk_at dksX5_of_0 12 rfl rfl)
theorem dX5_of_15 : decode cX5_of 15 = .ok (.ifCond .ne 10, 3) := dk_154 0 10 (dk_at dksX5_of_0 15 rfl rfl)
theorem dX5_of_18 : decode cX5_of 18 = .ok (.aload_n 0, 1) := dk_42 (dk_at dksX5_of_0 18 rfl rfl)
theorem dX5_of_19 : decode cX5_of 19 = .ok (.ldc 87, 2) := dk_18 87 (dk_at dksX5_of_0 19 rfl rfl)
theorem dX5_of_21 : decode cX5_of 21 = .ok (.invokevirtual 88, 3) := dk_182 0 88 (dk_at dksX5_of_0 21 rfl rfl)
theorem dX5_of_24 : decode cX5_of 24 = .ok (.ireturn, 1) := dk_172 (dk_at dksX5_of_1 0 rfl rfl)
theorem dX5_of_25 : decode cX5_of 25 = .ok (.iload_n 2, 1) := dk_28 (dk_at dksX5_of_1 1 rfl rfl)
theorem dX5_of_26 : decode cX5_of 26 = .ok (.ifCond .ne 15, 3) := dk_154 0 15 (dk_at dksX5_of_1 2 rfl rfl)
theorem dX5_of_29 : decode cX5_of 29 = .ok (.aload_n 0, 1) := dk_42 (dk_at dksX5_of_1 5 rfl rfl)
theorem dX5_of_30 : decode cX5_of 30 = .ok (.getfield 7, 3) := dk_180 0 7 (dk_at dksX5_of_1 6 rfl rfl)
theorem dX5_of_33 : decode cX5_of 33 = .ok (.bipush 20, 2) := dk_16 20 (dk_at dksX5_of_1 9 rfl rfl)
theorem dX5_of_35 : decode cX5_of 35 = .ok (.iload_n 1, 1) := dk_27 (dk_at dksX5_of_1 11 rfl rfl)
theorem dX5_of_36 : decode cX5_of 36 = .ok (.iadd, 1) := dk_96 (dk_at dksX5_of_1 12 rfl rfl)
theorem dX5_of_37 : decode cX5_of 37 = .ok (.iaload, 1) := dk_46 (dk_at dksX5_of_1 13 rfl rfl)
theorem dX5_of_38 : decode cX5_of 38 = .ok (.goto 12, 3) := dk_167 0 12 (dk_at dksX5_of_1 14 rfl rfl)
theorem dX5_of_41 : decode cX5_of 41 = .ok (.aload_n 0, 1) := dk_42 (dk_at dksX5_of_1 17 rfl rfl)
theorem dX5_of_42 : decode cX5_of 42 = .ok (.getfield 7, 3) := dk_180 0 7 (dk_at dksX5_of_1 18 rfl rfl)
theorem dX5_of_45 : decode cX5_of 45 = .ok (.bipush 32, 2) := dk_16 32 (dk_at dksX5_of_1 21 rfl rfl)
theorem dX5_of_47 : decode cX5_of 47 = .ok (.iload_n 1, 1) := dk_27 (dk_at dksX5_of_1 23 rfl rfl)
theorem dX5_of_48 : decode cX5_of 48 = .ok (.iadd, 1) := dk_96 (dk_at dksX5_of_2 0 rfl rfl)
theorem dX5_of_49 : decode cX5_of 49 = .ok (.iaload, 1) := dk_46 (dk_at dksX5_of_2 1 rfl rfl)
theorem dX5_of_50 : decode cX5_of 50 = .ok (.ireturn, 1) := dk_172 (dk_at dksX5_of_2 2 rfl rfl)
abbrev cX5_isPeople : ByteArray := prog_24_method_7_code
def yX5_isPeople : MethodName := ⟨RX5, "isPeople", "(I)Z"⟩
def dkwX5_isPeople_0 : List UInt8 := [27, 155, 0, 17, 27, 42, 180, 0, 7, 3, 46, 162, 0, 7, 4, 167, 0, 4, 3, 172]
abbrev dktX5_isPeople_0 : List UInt8 := dkwX5_isPeople_0 ++ []
theorem dksX5_isPeople_0 : cX5_isPeople.data.toList.drop 0 = dktX5_isPeople_0 := by decide +kernel
theorem dX5_isPeople_0 : decode cX5_isPeople 0 = .ok (.iload_n 1, 1) := dk_27 (dk_at dksX5_isPeople_0 0 rfl rfl)
theorem dX5_isPeople_1 : decode cX5_isPeople 1 = .ok (.ifCond .lt 17, 3) := dk_155 0 17 (dk_at dksX5_isPeople_0 1 rfl rfl)
theorem dX5_isPeople_4 : decode cX5_isPeople 4 = .ok (.iload_n 1, 1) := dk_27 (dk_at dksX5_isPeople_0 4 rfl rfl)
theorem dX5_isPeople_5 : decode cX5_isPeople 5 = .ok (.aload_n 0, 1) := dk_42 (dk_at dksX5_isPeople_0 5 rfl rfl)
theorem dX5_isPeople_6 : decode cX5_isPeople 6 = .ok (.getfield 7, 3) := dk_180 0 7 (dk_at dksX5_isPeople_0 6 rfl rfl)
theorem dX5_isPeople_9 : decode cX5_isPeople 9 = .ok (.iconst 0, 1) := dk_3 (dk_at dksX5_isPeople_0 9 rfl rfl)
theorem dX5_isPeople_10 : decode cX5_isPeople 10 = .ok (.iaload, 1) := dk_46 (dk_at dksX5_isPeople_0 10 rfl rfl)
theorem dX5_isPeople_11 : decode cX5_isPeople 11 = .ok (.if_icmp .ge 7, 3) := dk_162 0 7 (dk_at dksX5_isPeople_0 11 rfl rfl)
theorem dX5_isPeople_14 : decode cX5_isPeople 14 = .ok (.iconst 1, 1) := dk_4 (dk_at dksX5_isPeople_0 14 rfl rfl)
theorem dX5_isPeople_15 : decode cX5_isPeople 15 = .ok (.goto 4, 3) := dk_167 0 4 (dk_at dksX5_isPeople_0 15 rfl rfl)
theorem dX5_isPeople_18 : decode cX5_isPeople 18 = .ok (.iconst 0, 1) := dk_3 (dk_at dksX5_isPeople_0 18 rfl rfl)
theorem dX5_isPeople_19 : decode cX5_isPeople 19 = .ok (.ireturn, 1) := dk_172 (dk_at dksX5_isPeople_0 19 rfl rfl)
abbrev cX5_many : ByteArray := prog_24_method_13_code
def yX5_many : MethodName := ⟨RX5, "many", "(II)I"⟩
def dkwX5_many_2 : List UInt8 := [42, 4, 181, 0, 44, 29, 172]
abbrev dktX5_many_2 : List UInt8 := dkwX5_many_2 ++ []
def dkwX5_many_1 : List UInt8 := [182, 0, 88, 172, 42, 180, 0, 7, 16, 32, 27, 96, 46, 62, 42, 180, 0, 7, 16, 32, 27, 96, 28, 79]
abbrev dktX5_many_1 : List UInt8 := dkwX5_many_1 ++ dktX5_many_2
def dkwX5_many_0 : List UInt8 := [42, 27, 182, 0, 105, 153, 0, 15, 28, 133, 9, 20, 0, 102, 184, 0, 98, 154, 0, 10, 42, 18, 87]
abbrev dktX5_many_0 : List UInt8 := dkwX5_many_0 ++ dktX5_many_1
theorem dksX5_many_0 : cX5_many.data.toList.drop 0 = dktX5_many_0 := by decide +kernel
theorem dksX5_many_1 : cX5_many.data.toList.drop 23 = dktX5_many_1 := dk_seg dksX5_many_0 23 rfl rfl
theorem dksX5_many_2 : cX5_many.data.toList.drop 47 = dktX5_many_2 := dk_seg dksX5_many_1 24 rfl rfl
theorem dX5_many_0 : decode cX5_many 0 = .ok (.aload_n 0, 1) := dk_42 (dk_at dksX5_many_0 0 rfl rfl)
theorem dX5_many_1 : decode cX5_many 1 = .ok (.iload_n 1, 1) := dk_27 (dk_at dksX5_many_0 1 rfl rfl)
theorem dX5_many_2 : decode cX5_many 2 = .ok (.invokevirtual 105, 3) := dk_182 0 105 (dk_at dksX5_many_0 2 rfl rfl)
theorem dX5_many_5 : decode cX5_many 5 = .ok (.ifCond .eq 15, 3) := dk_153 0 15 (dk_at dksX5_many_0 5 rfl rfl)
theorem dX5_many_8 : decode cX5_many 8 = .ok (.iload_n 2, 1) := dk_28 (dk_at dksX5_many_0 8 rfl rfl)
theorem dX5_many_9 : decode cX5_many 9 = .ok (.i2l, 1) := dk_133 (dk_at dksX5_many_0 9 rfl rfl)
theorem dX5_many_10 : decode cX5_many 10 = .ok (.lconst 0, 1) := dk_9 (dk_at dksX5_many_0 10 rfl rfl)
theorem dX5_many_11 : decode cX5_many 11 = .ok (.ldc2_w 102, 3) := dk_20 0 102 (dk_at dksX5_many_0 11 rfl rfl)
theorem dX5_many_14 : decode cX5_many 14 = .ok (.invokestatic 98, 3) := dk_184 0 98 (dk_at dksX5_many_0 14 rfl rfl)
theorem dX5_many_17 : decode cX5_many 17 = .ok (.ifCond .ne 10, 3) := dk_154 0 10 (dk_at dksX5_many_0 17 rfl rfl)
theorem dX5_many_20 : decode cX5_many 20 = .ok (.aload_n 0, 1) := dk_42 (dk_at dksX5_many_0 20 rfl rfl)
theorem dX5_many_21 : decode cX5_many 21 = .ok (.ldc 87, 2) := dk_18 87 (dk_at dksX5_many_0 21 rfl rfl)
theorem dX5_many_23 : decode cX5_many 23 = .ok (.invokevirtual 88, 3) := dk_182 0 88 (dk_at dksX5_many_1 0 rfl rfl)
theorem dX5_many_26 : decode cX5_many 26 = .ok (.ireturn, 1) := dk_172 (dk_at dksX5_many_1 3 rfl rfl)
theorem dX5_many_27 : decode cX5_many 27 = .ok (.aload_n 0, 1) := dk_42 (dk_at dksX5_many_1 4 rfl rfl)
theorem dX5_many_28 : decode cX5_many 28 = .ok (.getfield 7, 3) := dk_180 0 7 (dk_at dksX5_many_1 5 rfl rfl)
theorem dX5_many_31 : decode cX5_many 31 = .ok (.bipush 32, 2) := dk_16 32 (dk_at dksX5_many_1 8 rfl rfl)
theorem dX5_many_33 : decode cX5_many 33 = .ok (.iload_n 1, 1) := dk_27 (dk_at dksX5_many_1 10 rfl rfl)
theorem dX5_many_34 : decode cX5_many 34 = .ok (.iadd, 1) := dk_96 (dk_at dksX5_many_1 11 rfl rfl)
theorem dX5_many_35 : decode cX5_many 35 = .ok (.iaload, 1) := dk_46 (dk_at dksX5_many_1 12 rfl rfl)
theorem dX5_many_36 : decode cX5_many 36 = .ok (.istore_n 3, 1) := dk_62 (dk_at dksX5_many_1 13 rfl rfl)
theorem dX5_many_37 : decode cX5_many 37 = .ok (.aload_n 0, 1) := dk_42 (dk_at dksX5_many_1 14 rfl rfl)
theorem dX5_many_38 : decode cX5_many 38 = .ok (.getfield 7, 3) := dk_180 0 7 (dk_at dksX5_many_1 15 rfl rfl)
theorem dX5_many_41 : decode cX5_many 41 = .ok (.bipush 32, 2) := dk_16 32 (dk_at dksX5_many_1 18 rfl rfl)
theorem dX5_many_43 : decode cX5_many 43 = .ok (.iload_n 1, 1) := dk_27 (dk_at dksX5_many_1 20 rfl rfl)
theorem dX5_many_44 : decode cX5_many 44 = .ok (.iadd, 1) := dk_96 (dk_at dksX5_many_1 21 rfl rfl)
theorem dX5_many_45 : decode cX5_many 45 = .ok (.iload_n 2, 1) := dk_28 (dk_at dksX5_many_1 22 rfl rfl)
theorem dX5_many_46 : decode cX5_many 46 = .ok (.iastore, 1) := dk_79 (dk_at dksX5_many_1 23 rfl rfl)
theorem dX5_many_47 : decode cX5_many 47 = .ok (.aload_n 0, 1) := dk_42 (dk_at dksX5_many_2 0 rfl rfl)
theorem dX5_many_48 : decode cX5_many 48 = .ok (.iconst 1, 1) := dk_4 (dk_at dksX5_many_2 1 rfl rfl)
theorem dX5_many_49 : decode cX5_many 49 = .ok (.putfield 44, 3) := dk_181 0 44 (dk_at dksX5_many_2 2 rfl rfl)
theorem dX5_many_52 : decode cX5_many 52 = .ok (.iload_n 3, 1) := dk_29 (dk_at dksX5_many_2 5 rfl rfl)
theorem dX5_many_53 : decode cX5_many 53 = .ok (.ireturn, 1) := dk_172 (dk_at dksX5_many_2 6 rfl rfl)
abbrev cX5_as : ByteArray := prog_24_method_15_code
def yX5_as : MethodName := ⟨RX5, "as", "(II)I"⟩
def dkwX5_as_3 : List UInt8 := [16, 32, 27, 96, 46, 172]
abbrev dktX5_as_3 : List UInt8 := dkwX5_as_3 ++ []
def dkwX5_as_2 : List UInt8 := [184, 0, 108, 62, 167, 255, 242, 29, 156, 0, 12, 42, 18, 111, 182, 0, 88, 167, 0, 12, 42, 180, 0, 7]
abbrev dktX5_as_2 : List UInt8 := dkwX5_as_2 ++ dktX5_as_3
def dkwX5_as_1 : List UInt8 := [182, 0, 88, 172, 42, 180, 0, 7, 16, 20, 27, 96, 46, 62, 29, 155, 0, 16, 29, 28, 159, 0, 11, 29]
abbrev dktX5_as_1 : List UInt8 := dkwX5_as_1 ++ dktX5_as_2
def dkwX5_as_0 : List UInt8 := [42, 27, 182, 0, 105, 153, 0, 15, 28, 133, 9, 20, 0, 96, 184, 0, 98, 154, 0, 10, 42, 18, 87]
abbrev dktX5_as_0 : List UInt8 := dkwX5_as_0 ++ dktX5_as_1
theorem dksX5_as_0 : cX5_as.data.toList.drop 0 = dktX5_as_0 := by decide +kernel
theorem dksX5_as_1 : cX5_as.data.toList.drop 23 = dktX5_as_1 := dk_seg dksX5_as_0 23 rfl rfl
theorem dksX5_as_2 : cX5_as.data.toList.drop 47 = dktX5_as_2 := dk_seg dksX5_as_1 24 rfl rfl
theorem dksX5_as_3 : cX5_as.data.toList.drop 71 = dktX5_as_3 := dk_seg dksX5_as_2 24 rfl rfl
theorem dX5_as_0 : decode cX5_as 0 = .ok (.aload_n 0, 1) := dk_42 (dk_at dksX5_as_0 0 rfl rfl)
theorem dX5_as_1 : decode cX5_as 1 = .ok (.iload_n 1, 1) := dk_27 (dk_at dksX5_as_0 1 rfl rfl)
theorem dX5_as_2 : decode cX5_as 2 = .ok (.invokevirtual 105, 3) := dk_182 0 105 (dk_at dksX5_as_0 2 rfl rfl)
theorem dX5_as_5 : decode cX5_as 5 = .ok (.ifCond .eq 15, 3) := dk_153 0 15 (dk_at dksX5_as_0 5 rfl rfl)
theorem dX5_as_8 : decode cX5_as 8 = .ok (.iload_n 2, 1) := dk_28 (dk_at dksX5_as_0 8 rfl rfl)
theorem dX5_as_9 : decode cX5_as 9 = .ok (.i2l, 1) := dk_133 (dk_at dksX5_as_0 9 rfl rfl)
theorem dX5_as_10 : decode cX5_as 10 = .ok (.lconst 0, 1) := dk_9 (dk_at dksX5_as_0 10 rfl rfl)
theorem dX5_as_11 : decode cX5_as 11 = .ok (.ldc2_w 96, 3) := dk_20 0 96 (dk_at dksX5_as_0 11 rfl rfl)
theorem dX5_as_14 : decode cX5_as 14 = .ok (.invokestatic 98, 3) := dk_184 0 98 (dk_at dksX5_as_0 14 rfl rfl)
theorem dX5_as_17 : decode cX5_as 17 = .ok (.ifCond .ne 10, 3) := dk_154 0 10 (dk_at dksX5_as_0 17 rfl rfl)
theorem dX5_as_20 : decode cX5_as 20 = .ok (.aload_n 0, 1) := dk_42 (dk_at dksX5_as_0 20 rfl rfl)
theorem dX5_as_21 : decode cX5_as 21 = .ok (.ldc 87, 2) := dk_18 87 (dk_at dksX5_as_0 21 rfl rfl)
theorem dX5_as_23 : decode cX5_as 23 = .ok (.invokevirtual 88, 3) := dk_182 0 88 (dk_at dksX5_as_1 0 rfl rfl)
theorem dX5_as_26 : decode cX5_as 26 = .ok (.ireturn, 1) := dk_172 (dk_at dksX5_as_1 3 rfl rfl)
theorem dX5_as_27 : decode cX5_as 27 = .ok (.aload_n 0, 1) := dk_42 (dk_at dksX5_as_1 4 rfl rfl)
theorem dX5_as_28 : decode cX5_as 28 = .ok (.getfield 7, 3) := dk_180 0 7 (dk_at dksX5_as_1 5 rfl rfl)
theorem dX5_as_31 : decode cX5_as 31 = .ok (.bipush 20, 2) := dk_16 20 (dk_at dksX5_as_1 8 rfl rfl)
theorem dX5_as_33 : decode cX5_as 33 = .ok (.iload_n 1, 1) := dk_27 (dk_at dksX5_as_1 10 rfl rfl)
theorem dX5_as_34 : decode cX5_as 34 = .ok (.iadd, 1) := dk_96 (dk_at dksX5_as_1 11 rfl rfl)
theorem dX5_as_35 : decode cX5_as 35 = .ok (.iaload, 1) := dk_46 (dk_at dksX5_as_1 12 rfl rfl)
theorem dX5_as_36 : decode cX5_as 36 = .ok (.istore_n 3, 1) := dk_62 (dk_at dksX5_as_1 13 rfl rfl)
theorem dX5_as_37 : decode cX5_as 37 = .ok (.iload_n 3, 1) := dk_29 (dk_at dksX5_as_1 14 rfl rfl)
theorem dX5_as_38 : decode cX5_as 38 = .ok (.ifCond .lt 16, 3) := dk_155 0 16 (dk_at dksX5_as_1 15 rfl rfl)
theorem dX5_as_41 : decode cX5_as 41 = .ok (.iload_n 3, 1) := dk_29 (dk_at dksX5_as_1 18 rfl rfl)
theorem dX5_as_42 : decode cX5_as 42 = .ok (.iload_n 2, 1) := dk_28 (dk_at dksX5_as_1 19 rfl rfl)
theorem dX5_as_43 : decode cX5_as 43 = .ok (.if_icmp .eq 11, 3) := dk_159 0 11 (dk_at dksX5_as_1 20 rfl rfl)
theorem dX5_as_46 : decode cX5_as 46 = .ok (.iload_n 3, 1) := dk_29 (dk_at dksX5_as_1 23 rfl rfl)
theorem dX5_as_47 : decode cX5_as 47 = .ok (.invokestatic 108, 3) := dk_184 0 108 (dk_at dksX5_as_2 0 rfl rfl)
theorem dX5_as_50 : decode cX5_as 50 = .ok (.istore_n 3, 1) := dk_62 (dk_at dksX5_as_2 3 rfl rfl)
theorem dX5_as_51 : decode cX5_as 51 = .ok (.goto (-14), 3) := dk_167 255 242 (dk_at dksX5_as_2 4 rfl rfl)
theorem dX5_as_54 : decode cX5_as 54 = .ok (.iload_n 3, 1) := dk_29 (dk_at dksX5_as_2 7 rfl rfl)
theorem dX5_as_55 : decode cX5_as 55 = .ok (.ifCond .ge 12, 3) := dk_156 0 12 (dk_at dksX5_as_2 8 rfl rfl)
theorem dX5_as_58 : decode cX5_as 58 = .ok (.aload_n 0, 1) := dk_42 (dk_at dksX5_as_2 11 rfl rfl)
theorem dX5_as_59 : decode cX5_as 59 = .ok (.ldc 111, 2) := dk_18 111 (dk_at dksX5_as_2 12 rfl rfl)
theorem dX5_as_61 : decode cX5_as 61 = .ok (.invokevirtual 88, 3) := dk_182 0 88 (dk_at dksX5_as_2 14 rfl rfl)
theorem dX5_as_64 : decode cX5_as 64 = .ok (.goto 12, 3) := dk_167 0 12 (dk_at dksX5_as_2 17 rfl rfl)
theorem dX5_as_67 : decode cX5_as 67 = .ok (.aload_n 0, 1) := dk_42 (dk_at dksX5_as_2 20 rfl rfl)
theorem dX5_as_68 : decode cX5_as 68 = .ok (.getfield 7, 3) := dk_180 0 7 (dk_at dksX5_as_2 21 rfl rfl)
theorem dX5_as_71 : decode cX5_as 71 = .ok (.bipush 32, 2) := dk_16 32 (dk_at dksX5_as_3 0 rfl rfl)
theorem dX5_as_73 : decode cX5_as 73 = .ok (.iload_n 1, 1) := dk_27 (dk_at dksX5_as_3 2 rfl rfl)
theorem dX5_as_74 : decode cX5_as 74 = .ok (.iadd, 1) := dk_96 (dk_at dksX5_as_3 3 rfl rfl)
theorem dX5_as_75 : decode cX5_as 75 = .ok (.iaload, 1) := dk_46 (dk_at dksX5_as_3 4 rfl rfl)
theorem dX5_as_76 : decode cX5_as 76 = .ok (.ireturn, 1) := dk_172 (dk_at dksX5_as_3 5 rfl rfl)
abbrev cX5_above : ByteArray := prog_24_method_14_code
def yX5_above : MethodName := ⟨RX5, "above", "(I)I"⟩
def dkwX5_above_2 : List UInt8 := [2, 172, 4, 172, 6, 172, 16, 6, 172, 3, 172]
abbrev dktX5_above_2 : List UInt8 := dkwX5_above_2 ++ []
def dkwX5_above_1 : List UInt8 := [170, 0, 0, 0, 0, 0, 56, 0, 0, 0, 0, 0, 0, 0, 7, 0, 0, 0, 47, 0, 0, 0, 56, 0, 0, 0, 56, 0, 0, 0, 56, 0, 0, 0, 56, 0, 0, 0, 49, 0, 0, 0, 51, 0, 0, 0, 53]
abbrev dktX5_above_1 : List UInt8 := dkwX5_above_1 ++ dktX5_above_2
def dkwX5_above_0 : List UInt8 := [26]
abbrev dktX5_above_0 : List UInt8 := dkwX5_above_0 ++ dktX5_above_1
theorem dksX5_above_0 : cX5_above.data.toList.drop 0 = dktX5_above_0 := by decide +kernel
theorem dksX5_above_1 : cX5_above.data.toList.drop 1 = dktX5_above_1 := dk_seg dksX5_above_0 1 rfl rfl
theorem dksX5_above_2 : cX5_above.data.toList.drop 48 = dktX5_above_2 := dk_seg dksX5_above_1 47 rfl rfl
theorem dX5_above_0 : decode cX5_above 0 = .ok (.iload_n 0, 1) := dk_26 (dk_at dksX5_above_0 0 rfl rfl)
theorem dX5_above_1 : decode cX5_above 1 = .ok (.tableswitch 56 0 7 #[47, 56, 56, 56, 56, 49, 51, 53], 47) := by decide +kernel
theorem dX5_above_48 : decode cX5_above 48 = .ok (.iconst (-1), 1) := dk_2 (dk_at dksX5_above_2 0 rfl rfl)
theorem dX5_above_49 : decode cX5_above 49 = .ok (.ireturn, 1) := dk_172 (dk_at dksX5_above_2 1 rfl rfl)
theorem dX5_above_50 : decode cX5_above 50 = .ok (.iconst 1, 1) := dk_4 (dk_at dksX5_above_2 2 rfl rfl)
theorem dX5_above_51 : decode cX5_above 51 = .ok (.ireturn, 1) := dk_172 (dk_at dksX5_above_2 3 rfl rfl)
theorem dX5_above_52 : decode cX5_above 52 = .ok (.iconst 3, 1) := dk_6 (dk_at dksX5_above_2 4 rfl rfl)
theorem dX5_above_53 : decode cX5_above 53 = .ok (.ireturn, 1) := dk_172 (dk_at dksX5_above_2 5 rfl rfl)
theorem dX5_above_54 : decode cX5_above 54 = .ok (.bipush 6, 2) := dk_16 6 (dk_at dksX5_above_2 6 rfl rfl)
theorem dX5_above_56 : decode cX5_above 56 = .ok (.ireturn, 1) := dk_172 (dk_at dksX5_above_2 8 rfl rfl)
theorem dX5_above_57 : decode cX5_above 57 = .ok (.iconst 0, 1) := dk_3 (dk_at dksX5_above_2 9 rfl rfl)
theorem dX5_above_58 : decode cX5_above 58 = .ok (.ireturn, 1) := dk_172 (dk_at dksX5_above_2 10 rfl rfl)
abbrev cX5_feed : ByteArray := prog_24_method_28_code
def yX5_feed : MethodName := ⟨RX5, "feed", "(II)I"⟩
def dkwX5_feed_3 : List UInt8 := [96, 181, 0, 115, 132, 3, 255, 167, 255, 220, 42, 180, 0, 115, 172]
abbrev dktX5_feed_3 : List UInt8 := dkwX5_feed_3 ++ []
def dkwX5_feed_2 : List UInt8 := [180, 0, 31, 42, 180, 0, 115, 27, 16, 8, 29, 104, 122, 17, 0, 255, 126, 79, 42, 89, 180, 0, 115, 4]
abbrev dktX5_feed_2 : List UInt8 := dkwX5_feed_2 ++ dktX5_feed_3
def dkwX5_feed_1 : List UInt8 := [96, 16, 60, 164, 0, 10, 42, 18, 104, 182, 0, 88, 172, 28, 4, 100, 62, 29, 155, 0, 38, 42]
abbrev dktX5_feed_1 : List UInt8 := dkwX5_feed_1 ++ dktX5_feed_2
def dkwX5_feed_0 : List UInt8 := [28, 133, 10, 20, 0, 173, 184, 0, 98, 154, 0, 10, 42, 18, 87, 182, 0, 88, 172, 42, 180, 0, 115, 28]
abbrev dktX5_feed_0 : List UInt8 := dkwX5_feed_0 ++ dktX5_feed_1
theorem dksX5_feed_0 : cX5_feed.data.toList.drop 0 = dktX5_feed_0 := by decide +kernel
theorem dksX5_feed_1 : cX5_feed.data.toList.drop 24 = dktX5_feed_1 := dk_seg dksX5_feed_0 24 rfl rfl
theorem dksX5_feed_2 : cX5_feed.data.toList.drop 46 = dktX5_feed_2 := dk_seg dksX5_feed_1 22 rfl rfl
theorem dksX5_feed_3 : cX5_feed.data.toList.drop 70 = dktX5_feed_3 := dk_seg dksX5_feed_2 24 rfl rfl
theorem dX5_feed_0 : decode cX5_feed 0 = .ok (.iload_n 2, 1) := dk_28 (dk_at dksX5_feed_0 0 rfl rfl)
theorem dX5_feed_1 : decode cX5_feed 1 = .ok (.i2l, 1) := dk_133 (dk_at dksX5_feed_0 1 rfl rfl)
theorem dX5_feed_2 : decode cX5_feed 2 = .ok (.lconst 1, 1) := dk_10 (dk_at dksX5_feed_0 2 rfl rfl)
theorem dX5_feed_3 : decode cX5_feed 3 = .ok (.ldc2_w 173, 3) := dk_20 0 173 (dk_at dksX5_feed_0 3 rfl rfl)
theorem dX5_feed_6 : decode cX5_feed 6 = .ok (.invokestatic 98, 3) := dk_184 0 98 (dk_at dksX5_feed_0 6 rfl rfl)
theorem dX5_feed_9 : decode cX5_feed 9 = .ok (.ifCond .ne 10, 3) := dk_154 0 10 (dk_at dksX5_feed_0 9 rfl rfl)
theorem dX5_feed_12 : decode cX5_feed 12 = .ok (.aload_n 0, 1) := dk_42 (dk_at dksX5_feed_0 12 rfl rfl)
theorem dX5_feed_13 : decode cX5_feed 13 = .ok (.ldc 87, 2) := dk_18 87 (dk_at dksX5_feed_0 13 rfl rfl)
theorem dX5_feed_15 : decode cX5_feed 15 = .ok (.invokevirtual 88, 3) := dk_182 0 88 (dk_at dksX5_feed_0 15 rfl rfl)
theorem dX5_feed_18 : decode cX5_feed 18 = .ok (.ireturn, 1) := dk_172 (dk_at dksX5_feed_0 18 rfl rfl)
theorem dX5_feed_19 : decode cX5_feed 19 = .ok (.aload_n 0, 1) := dk_42 (dk_at dksX5_feed_0 19 rfl rfl)
theorem dX5_feed_20 : decode cX5_feed 20 = .ok (.getfield 115, 3) := dk_180 0 115 (dk_at dksX5_feed_0 20 rfl rfl)
theorem dX5_feed_23 : decode cX5_feed 23 = .ok (.iload_n 2, 1) := dk_28 (dk_at dksX5_feed_0 23 rfl rfl)
theorem dX5_feed_24 : decode cX5_feed 24 = .ok (.iadd, 1) := dk_96 (dk_at dksX5_feed_1 0 rfl rfl)
theorem dX5_feed_25 : decode cX5_feed 25 = .ok (.bipush 60, 2) := dk_16 60 (dk_at dksX5_feed_1 1 rfl rfl)
theorem dX5_feed_27 : decode cX5_feed 27 = .ok (.if_icmp .le 10, 3) := dk_164 0 10 (dk_at dksX5_feed_1 3 rfl rfl)
theorem dX5_feed_30 : decode cX5_feed 30 = .ok (.aload_n 0, 1) := dk_42 (dk_at dksX5_feed_1 6 rfl rfl)
theorem dX5_feed_31 : decode cX5_feed 31 = .ok (.ldc 104, 2) := dk_18 104 (dk_at dksX5_feed_1 7 rfl rfl)
theorem dX5_feed_33 : decode cX5_feed 33 = .ok (.invokevirtual 88, 3) := dk_182 0 88 (dk_at dksX5_feed_1 9 rfl rfl)
theorem dX5_feed_36 : decode cX5_feed 36 = .ok (.ireturn, 1) := dk_172 (dk_at dksX5_feed_1 12 rfl rfl)
theorem dX5_feed_37 : decode cX5_feed 37 = .ok (.iload_n 2, 1) := dk_28 (dk_at dksX5_feed_1 13 rfl rfl)
theorem dX5_feed_38 : decode cX5_feed 38 = .ok (.iconst 1, 1) := dk_4 (dk_at dksX5_feed_1 14 rfl rfl)
theorem dX5_feed_39 : decode cX5_feed 39 = .ok (.isub, 1) := dk_100 (dk_at dksX5_feed_1 15 rfl rfl)
theorem dX5_feed_40 : decode cX5_feed 40 = .ok (.istore_n 3, 1) := dk_62 (dk_at dksX5_feed_1 16 rfl rfl)
theorem dX5_feed_41 : decode cX5_feed 41 = .ok (.iload_n 3, 1) := dk_29 (dk_at dksX5_feed_1 17 rfl rfl)
theorem dX5_feed_42 : decode cX5_feed 42 = .ok (.ifCond .lt 38, 3) := dk_155 0 38 (dk_at dksX5_feed_1 18 rfl rfl)
theorem dX5_feed_45 : decode cX5_feed 45 = .ok (.aload_n 0, 1) := dk_42 (dk_at dksX5_feed_1 21 rfl rfl)
theorem dX5_feed_46 : decode cX5_feed 46 = .ok (.getfield 31, 3) := dk_180 0 31 (dk_at dksX5_feed_2 0 rfl rfl)
theorem dX5_feed_49 : decode cX5_feed 49 = .ok (.aload_n 0, 1) := dk_42 (dk_at dksX5_feed_2 3 rfl rfl)
theorem dX5_feed_50 : decode cX5_feed 50 = .ok (.getfield 115, 3) := dk_180 0 115 (dk_at dksX5_feed_2 4 rfl rfl)
theorem dX5_feed_53 : decode cX5_feed 53 = .ok (.iload_n 1, 1) := dk_27 (dk_at dksX5_feed_2 7 rfl rfl)
theorem dX5_feed_54 : decode cX5_feed 54 = .ok (.bipush 8, 2) := dk_16 8 (dk_at dksX5_feed_2 8 rfl rfl)
theorem dX5_feed_56 : decode cX5_feed 56 = .ok (.iload_n 3, 1) := dk_29 (dk_at dksX5_feed_2 10 rfl rfl)
theorem dX5_feed_57 : decode cX5_feed 57 = .ok (.imul, 1) := dk_104 (dk_at dksX5_feed_2 11 rfl rfl)
theorem dX5_feed_58 : decode cX5_feed 58 = .ok (.ishr, 1) := dk_122 (dk_at dksX5_feed_2 12 rfl rfl)
theorem dX5_feed_59 : decode cX5_feed 59 = .ok (.sipush 255, 3) := dk_17 0 255 (dk_at dksX5_feed_2 13 rfl rfl)
theorem dX5_feed_62 : decode cX5_feed 62 = .ok (.iand, 1) := dk_126 (dk_at dksX5_feed_2 16 rfl rfl)
theorem dX5_feed_63 : decode cX5_feed 63 = .ok (.iastore, 1) := dk_79 (dk_at dksX5_feed_2 17 rfl rfl)
theorem dX5_feed_64 : decode cX5_feed 64 = .ok (.aload_n 0, 1) := dk_42 (dk_at dksX5_feed_2 18 rfl rfl)
theorem dX5_feed_65 : decode cX5_feed 65 = .ok (.dup, 1) := dk_89 (dk_at dksX5_feed_2 19 rfl rfl)
theorem dX5_feed_66 : decode cX5_feed 66 = .ok (.getfield 115, 3) := dk_180 0 115 (dk_at dksX5_feed_2 20 rfl rfl)
theorem dX5_feed_69 : decode cX5_feed 69 = .ok (.iconst 1, 1) := dk_4 (dk_at dksX5_feed_2 23 rfl rfl)
theorem dX5_feed_70 : decode cX5_feed 70 = .ok (.iadd, 1) := dk_96 (dk_at dksX5_feed_3 0 rfl rfl)
theorem dX5_feed_71 : decode cX5_feed 71 = .ok (.putfield 115, 3) := dk_181 0 115 (dk_at dksX5_feed_3 1 rfl rfl)
theorem dX5_feed_74 : decode cX5_feed 74 = .ok (.iinc 3 (-1), 3) := dk_132 3 255 (dk_at dksX5_feed_3 4 rfl rfl)
theorem dX5_feed_77 : decode cX5_feed 77 = .ok (.goto (-36), 3) := dk_167 255 220 (dk_at dksX5_feed_3 7 rfl rfl)
theorem dX5_feed_80 : decode cX5_feed 80 = .ok (.aload_n 0, 1) := dk_42 (dk_at dksX5_feed_3 10 rfl rfl)
theorem dX5_feed_81 : decode cX5_feed 81 = .ok (.getfield 115, 3) := dk_180 0 115 (dk_at dksX5_feed_3 11 rfl rfl)
theorem dX5_feed_84 : decode cX5_feed 84 = .ok (.ireturn, 1) := dk_172 (dk_at dksX5_feed_3 14 rfl rfl)
abbrev cX5_wipe : ByteArray := prog_24_method_29_code
def yX5_wipe : MethodName := ⟨RX5, "wipe", "()I"⟩
def dkwX5_wipe_0 : List UInt8 := [42, 180, 0, 115, 60, 42, 3, 181, 0, 115, 27, 172]
abbrev dktX5_wipe_0 : List UInt8 := dkwX5_wipe_0 ++ []
theorem dksX5_wipe_0 : cX5_wipe.data.toList.drop 0 = dktX5_wipe_0 := by decide +kernel
theorem dX5_wipe_0 : decode cX5_wipe 0 = .ok (.aload_n 0, 1) := dk_42 (dk_at dksX5_wipe_0 0 rfl rfl)
theorem dX5_wipe_1 : decode cX5_wipe 1 = .ok (.getfield 115, 3) := dk_180 0 115 (dk_at dksX5_wipe_0 1 rfl rfl)
theorem dX5_wipe_4 : decode cX5_wipe 4 = .ok (.istore_n 1, 1) := dk_60 (dk_at dksX5_wipe_0 4 rfl rfl)
theorem dX5_wipe_5 : decode cX5_wipe 5 = .ok (.aload_n 0, 1) := dk_42 (dk_at dksX5_wipe_0 5 rfl rfl)
theorem dX5_wipe_6 : decode cX5_wipe 6 = .ok (.iconst 0, 1) := dk_3 (dk_at dksX5_wipe_0 6 rfl rfl)
theorem dX5_wipe_7 : decode cX5_wipe 7 = .ok (.putfield 115, 3) := dk_181 0 115 (dk_at dksX5_wipe_0 7 rfl rfl)
theorem dX5_wipe_10 : decode cX5_wipe 10 = .ok (.iload_n 1, 1) := dk_27 (dk_at dksX5_wipe_0 10 rfl rfl)
theorem dX5_wipe_11 : decode cX5_wipe 11 = .ok (.ireturn, 1) := dk_172 (dk_at dksX5_wipe_0 11 rfl rfl)
abbrev cX5_liking : ByteArray := prog_24_method_30_code
def yX5_liking : MethodName := ⟨RX5, "liking", "()I"⟩
def dkwX5_liking_3 : List UInt8 := [180, 0, 7, 6, 4, 79, 42, 3, 181, 0, 115, 42, 4, 181, 0, 44, 42, 4, 181, 0, 48, 3, 172]
abbrev dktX5_liking_3 : List UInt8 := dkwX5_liking_3 ++ []
def dkwX5_liking_2 : List UInt8 := [42, 180, 0, 31, 28, 46, 79, 132, 2, 1, 167, 255, 230, 42, 180, 0, 7, 7, 42, 180, 0, 115, 79, 42]
abbrev dktX5_liking_2 : List UInt8 := dkwX5_liking_2 ++ dktX5_liking_3
def dkwX5_liking_1 : List UInt8 := [42, 180, 0, 119, 100, 172, 3, 61, 28, 42, 180, 0, 115, 162, 0, 24, 42, 180, 0, 7, 16, 44, 28, 96]
abbrev dktX5_liking_1 : List UInt8 := dkwX5_liking_1 ++ dktX5_liking_2
def dkwX5_liking_0 : List UInt8 := [42, 4, 181, 0, 112, 42, 3, 182, 0, 175, 60, 42, 3, 181, 0, 112, 42, 180, 0, 135, 153, 0, 10, 2]
abbrev dktX5_liking_0 : List UInt8 := dkwX5_liking_0 ++ dktX5_liking_1
theorem dksX5_liking_0 : cX5_liking.data.toList.drop 0 = dktX5_liking_0 := by decide +kernel
theorem dksX5_liking_1 : cX5_liking.data.toList.drop 24 = dktX5_liking_1 := dk_seg dksX5_liking_0 24 rfl rfl
theorem dksX5_liking_2 : cX5_liking.data.toList.drop 48 = dktX5_liking_2 := dk_seg dksX5_liking_1 24 rfl rfl
theorem dksX5_liking_3 : cX5_liking.data.toList.drop 72 = dktX5_liking_3 := dk_seg dksX5_liking_2 24 rfl rfl
theorem dX5_liking_0 : decode cX5_liking 0 = .ok (.aload_n 0, 1) := dk_42 (dk_at dksX5_liking_0 0 rfl rfl)
theorem dX5_liking_1 : decode cX5_liking 1 = .ok (.iconst 1, 1) := dk_4 (dk_at dksX5_liking_0 1 rfl rfl)
theorem dX5_liking_2 : decode cX5_liking 2 = .ok (.putfield 112, 3) := dk_181 0 112 (dk_at dksX5_liking_0 2 rfl rfl)
theorem dX5_liking_5 : decode cX5_liking 5 = .ok (.aload_n 0, 1) := dk_42 (dk_at dksX5_liking_0 5 rfl rfl)
theorem dX5_liking_6 : decode cX5_liking 6 = .ok (.iconst 0, 1) := dk_3 (dk_at dksX5_liking_0 6 rfl rfl)
theorem dX5_liking_7 : decode cX5_liking 7 = .ok (.invokevirtual 175, 3) := dk_182 0 175 (dk_at dksX5_liking_0 7 rfl rfl)
theorem dX5_liking_10 : decode cX5_liking 10 = .ok (.istore_n 1, 1) := dk_60 (dk_at dksX5_liking_0 10 rfl rfl)
theorem dX5_liking_11 : decode cX5_liking 11 = .ok (.aload_n 0, 1) := dk_42 (dk_at dksX5_liking_0 11 rfl rfl)
theorem dX5_liking_12 : decode cX5_liking 12 = .ok (.iconst 0, 1) := dk_3 (dk_at dksX5_liking_0 12 rfl rfl)
theorem dX5_liking_13 : decode cX5_liking 13 = .ok (.putfield 112, 3) := dk_181 0 112 (dk_at dksX5_liking_0 13 rfl rfl)
theorem dX5_liking_16 : decode cX5_liking 16 = .ok (.aload_n 0, 1) := dk_42 (dk_at dksX5_liking_0 16 rfl rfl)
theorem dX5_liking_17 : decode cX5_liking 17 = .ok (.getfield 135, 3) := dk_180 0 135 (dk_at dksX5_liking_0 17 rfl rfl)
theorem dX5_liking_20 : decode cX5_liking 20 = .ok (.ifCond .eq 10, 3) := dk_153 0 10 (dk_at dksX5_liking_0 20 rfl rfl)
theorem dX5_liking_23 : decode cX5_liking 23 = .ok (.iconst (-1), 1) := dk_2 (dk_at dksX5_liking_0 23 rfl rfl)
theorem dX5_liking_24 : decode cX5_liking 24 = .ok (.aload_n 0, 1) := dk_42 (dk_at dksX5_liking_1 0 rfl rfl)
theorem dX5_liking_25 : decode cX5_liking 25 = .ok (.getfield 119, 3) := dk_180 0 119 (dk_at dksX5_liking_1 1 rfl rfl)
theorem dX5_liking_28 : decode cX5_liking 28 = .ok (.isub, 1) := dk_100 (dk_at dksX5_liking_1 4 rfl rfl)
theorem dX5_liking_29 : decode cX5_liking 29 = .ok (.ireturn, 1) := dk_172 (dk_at dksX5_liking_1 5 rfl rfl)
theorem dX5_liking_30 : decode cX5_liking 30 = .ok (.iconst 0, 1) := dk_3 (dk_at dksX5_liking_1 6 rfl rfl)
theorem dX5_liking_31 : decode cX5_liking 31 = .ok (.istore_n 2, 1) := dk_61 (dk_at dksX5_liking_1 7 rfl rfl)
theorem dX5_liking_32 : decode cX5_liking 32 = .ok (.iload_n 2, 1) := dk_28 (dk_at dksX5_liking_1 8 rfl rfl)
theorem dX5_liking_33 : decode cX5_liking 33 = .ok (.aload_n 0, 1) := dk_42 (dk_at dksX5_liking_1 9 rfl rfl)
theorem dX5_liking_34 : decode cX5_liking 34 = .ok (.getfield 115, 3) := dk_180 0 115 (dk_at dksX5_liking_1 10 rfl rfl)
theorem dX5_liking_37 : decode cX5_liking 37 = .ok (.if_icmp .ge 24, 3) := dk_162 0 24 (dk_at dksX5_liking_1 13 rfl rfl)
theorem dX5_liking_40 : decode cX5_liking 40 = .ok (.aload_n 0, 1) := dk_42 (dk_at dksX5_liking_1 16 rfl rfl)
theorem dX5_liking_41 : decode cX5_liking 41 = .ok (.getfield 7, 3) := dk_180 0 7 (dk_at dksX5_liking_1 17 rfl rfl)
theorem dX5_liking_44 : decode cX5_liking 44 = .ok (.bipush 44, 2) := dk_16 44 (dk_at dksX5_liking_1 20 rfl rfl)
theorem dX5_liking_46 : decode cX5_liking 46 = .ok (.iload_n 2, 1) := dk_28 (dk_at dksX5_liking_1 22 rfl rfl)
theorem dX5_liking_47 : decode cX5_liking 47 = .ok (.iadd, 1) := dk_96 (dk_at dksX5_liking_1 23 rfl rfl)
theorem dX5_liking_48 : decode cX5_liking 48 = .ok (.aload_n 0, 1) := dk_42 (dk_at dksX5_liking_2 0 rfl rfl)
theorem dX5_liking_49 : decode cX5_liking 49 = .ok (.getfield 31, 3) := dk_180 0 31 (dk_at dksX5_liking_2 1 rfl rfl)
theorem dX5_liking_52 : decode cX5_liking 52 = .ok (.iload_n 2, 1) := dk_28 (dk_at dksX5_liking_2 4 rfl rfl)
theorem dX5_liking_53 : decode cX5_liking 53 = .ok (.iaload, 1) := dk_46 (dk_at dksX5_liking_2 5 rfl rfl)
theorem dX5_liking_54 : decode cX5_liking 54 = .ok (.iastore, 1) := dk_79 (dk_at dksX5_liking_2 6 rfl rfl)
theorem dX5_liking_55 : decode cX5_liking 55 = .ok (.iinc 2 1, 3) := dk_132 2 1 (dk_at dksX5_liking_2 7 rfl rfl)
theorem dX5_liking_58 : decode cX5_liking 58 = .ok (.goto (-26), 3) := dk_167 255 230 (dk_at dksX5_liking_2 10 rfl rfl)
theorem dX5_liking_61 : decode cX5_liking 61 = .ok (.aload_n 0, 1) := dk_42 (dk_at dksX5_liking_2 13 rfl rfl)
theorem dX5_liking_62 : decode cX5_liking 62 = .ok (.getfield 7, 3) := dk_180 0 7 (dk_at dksX5_liking_2 14 rfl rfl)
theorem dX5_liking_65 : decode cX5_liking 65 = .ok (.iconst 4, 1) := dk_7 (dk_at dksX5_liking_2 17 rfl rfl)
theorem dX5_liking_66 : decode cX5_liking 66 = .ok (.aload_n 0, 1) := dk_42 (dk_at dksX5_liking_2 18 rfl rfl)
theorem dX5_liking_67 : decode cX5_liking 67 = .ok (.getfield 115, 3) := dk_180 0 115 (dk_at dksX5_liking_2 19 rfl rfl)
theorem dX5_liking_70 : decode cX5_liking 70 = .ok (.iastore, 1) := dk_79 (dk_at dksX5_liking_2 22 rfl rfl)
theorem dX5_liking_71 : decode cX5_liking 71 = .ok (.aload_n 0, 1) := dk_42 (dk_at dksX5_liking_2 23 rfl rfl)
theorem dX5_liking_72 : decode cX5_liking 72 = .ok (.getfield 7, 3) := dk_180 0 7 (dk_at dksX5_liking_3 0 rfl rfl)
theorem dX5_liking_75 : decode cX5_liking 75 = .ok (.iconst 3, 1) := dk_6 (dk_at dksX5_liking_3 3 rfl rfl)
theorem dX5_liking_76 : decode cX5_liking 76 = .ok (.iconst 1, 1) := dk_4 (dk_at dksX5_liking_3 4 rfl rfl)
theorem dX5_liking_77 : decode cX5_liking 77 = .ok (.iastore, 1) := dk_79 (dk_at dksX5_liking_3 5 rfl rfl)
theorem dX5_liking_78 : decode cX5_liking 78 = .ok (.aload_n 0, 1) := dk_42 (dk_at dksX5_liking_3 6 rfl rfl)
theorem dX5_liking_79 : decode cX5_liking 79 = .ok (.iconst 0, 1) := dk_3 (dk_at dksX5_liking_3 7 rfl rfl)
theorem dX5_liking_80 : decode cX5_liking 80 = .ok (.putfield 115, 3) := dk_181 0 115 (dk_at dksX5_liking_3 8 rfl rfl)
theorem dX5_liking_83 : decode cX5_liking 83 = .ok (.aload_n 0, 1) := dk_42 (dk_at dksX5_liking_3 11 rfl rfl)
theorem dX5_liking_84 : decode cX5_liking 84 = .ok (.iconst 1, 1) := dk_4 (dk_at dksX5_liking_3 12 rfl rfl)
theorem dX5_liking_85 : decode cX5_liking 85 = .ok (.putfield 44, 3) := dk_181 0 44 (dk_at dksX5_liking_3 13 rfl rfl)
theorem dX5_liking_88 : decode cX5_liking 88 = .ok (.aload_n 0, 1) := dk_42 (dk_at dksX5_liking_3 16 rfl rfl)
theorem dX5_liking_89 : decode cX5_liking 89 = .ok (.iconst 1, 1) := dk_4 (dk_at dksX5_liking_3 17 rfl rfl)
theorem dX5_liking_90 : decode cX5_liking 90 = .ok (.putfield 48, 3) := dk_181 0 48 (dk_at dksX5_liking_3 18 rfl rfl)
theorem dX5_liking_93 : decode cX5_liking 93 = .ok (.iconst 0, 1) := dk_3 (dk_at dksX5_liking_3 21 rfl rfl)
theorem dX5_liking_94 : decode cX5_liking 94 = .ok (.ireturn, 1) := dk_172 (dk_at dksX5_liking_3 22 rfl rfl)
abbrev cX5_says : ByteArray := prog_24_method_27_code
def yX5_says : MethodName := ⟨RX5, "says", "(I)I"⟩
def dkwX5_says_2 : List UInt8 := [3, 181, 0, 135, 28, 172]
abbrev dktX5_says_2 : List UInt8 := dkwX5_says_2 ++ []
def dkwX5_says_1 : List UInt8 := [61, 42, 42, 180, 0, 135, 154, 0, 14, 42, 180, 0, 119, 42, 182, 0, 122, 162, 0, 7, 4, 167, 0, 4]
abbrev dktX5_says_1 : List UInt8 := dkwX5_says_1 ++ dktX5_says_2
def dkwX5_says_0 : List UInt8 := [42, 27, 181, 0, 126, 42, 3, 181, 0, 119, 42, 3, 181, 0, 148, 42, 3, 181, 0, 135, 42, 182, 0, 151]
abbrev dktX5_says_0 : List UInt8 := dkwX5_says_0 ++ dktX5_says_1
theorem dksX5_says_0 : cX5_says.data.toList.drop 0 = dktX5_says_0 := by decide +kernel
theorem dksX5_says_1 : cX5_says.data.toList.drop 24 = dktX5_says_1 := dk_seg dksX5_says_0 24 rfl rfl
theorem dksX5_says_2 : cX5_says.data.toList.drop 48 = dktX5_says_2 := dk_seg dksX5_says_1 24 rfl rfl
theorem dX5_says_0 : decode cX5_says 0 = .ok (.aload_n 0, 1) := dk_42 (dk_at dksX5_says_0 0 rfl rfl)
theorem dX5_says_1 : decode cX5_says 1 = .ok (.iload_n 1, 1) := dk_27 (dk_at dksX5_says_0 1 rfl rfl)
theorem dX5_says_2 : decode cX5_says 2 = .ok (.putfield 126, 3) := dk_181 0 126 (dk_at dksX5_says_0 2 rfl rfl)
theorem dX5_says_5 : decode cX5_says 5 = .ok (.aload_n 0, 1) := dk_42 (dk_at dksX5_says_0 5 rfl rfl)
theorem dX5_says_6 : decode cX5_says 6 = .ok (.iconst 0, 1) := dk_3 (dk_at dksX5_says_0 6 rfl rfl)
theorem dX5_says_7 : decode cX5_says 7 = .ok (.putfield 119, 3) := dk_181 0 119 (dk_at dksX5_says_0 7 rfl rfl)
theorem dX5_says_10 : decode cX5_says 10 = .ok (.aload_n 0, 1) := dk_42 (dk_at dksX5_says_0 10 rfl rfl)
theorem dX5_says_11 : decode cX5_says 11 = .ok (.iconst 0, 1) := dk_3 (dk_at dksX5_says_0 11 rfl rfl)
theorem dX5_says_12 : decode cX5_says 12 = .ok (.putfield 148, 3) := dk_181 0 148 (dk_at dksX5_says_0 12 rfl rfl)
theorem dX5_says_15 : decode cX5_says 15 = .ok (.aload_n 0, 1) := dk_42 (dk_at dksX5_says_0 15 rfl rfl)
theorem dX5_says_16 : decode cX5_says 16 = .ok (.iconst 0, 1) := dk_3 (dk_at dksX5_says_0 16 rfl rfl)
theorem dX5_says_17 : decode cX5_says 17 = .ok (.putfield 135, 3) := dk_181 0 135 (dk_at dksX5_says_0 17 rfl rfl)
theorem dX5_says_20 : decode cX5_says 20 = .ok (.aload_n 0, 1) := dk_42 (dk_at dksX5_says_0 20 rfl rfl)
theorem dX5_says_21 : decode cX5_says 21 = .ok (.invokevirtual 151, 3) := dk_182 0 151 (dk_at dksX5_says_0 21 rfl rfl)
theorem dX5_says_24 : decode cX5_says 24 = .ok (.istore_n 2, 1) := dk_61 (dk_at dksX5_says_1 0 rfl rfl)
theorem dX5_says_25 : decode cX5_says 25 = .ok (.aload_n 0, 1) := dk_42 (dk_at dksX5_says_1 1 rfl rfl)
theorem dX5_says_26 : decode cX5_says 26 = .ok (.aload_n 0, 1) := dk_42 (dk_at dksX5_says_1 2 rfl rfl)
theorem dX5_says_27 : decode cX5_says 27 = .ok (.getfield 135, 3) := dk_180 0 135 (dk_at dksX5_says_1 3 rfl rfl)
theorem dX5_says_30 : decode cX5_says 30 = .ok (.ifCond .ne 14, 3) := dk_154 0 14 (dk_at dksX5_says_1 6 rfl rfl)
theorem dX5_says_33 : decode cX5_says 33 = .ok (.aload_n 0, 1) := dk_42 (dk_at dksX5_says_1 9 rfl rfl)
theorem dX5_says_34 : decode cX5_says 34 = .ok (.getfield 119, 3) := dk_180 0 119 (dk_at dksX5_says_1 10 rfl rfl)
theorem dX5_says_37 : decode cX5_says 37 = .ok (.aload_n 0, 1) := dk_42 (dk_at dksX5_says_1 13 rfl rfl)
theorem dX5_says_38 : decode cX5_says 38 = .ok (.invokevirtual 122, 3) := dk_182 0 122 (dk_at dksX5_says_1 14 rfl rfl)
theorem dX5_says_41 : decode cX5_says 41 = .ok (.if_icmp .ge 7, 3) := dk_162 0 7 (dk_at dksX5_says_1 17 rfl rfl)
theorem dX5_says_44 : decode cX5_says 44 = .ok (.iconst 1, 1) := dk_4 (dk_at dksX5_says_1 20 rfl rfl)
theorem dX5_says_45 : decode cX5_says 45 = .ok (.goto 4, 3) := dk_167 0 4 (dk_at dksX5_says_1 21 rfl rfl)
theorem dX5_says_48 : decode cX5_says 48 = .ok (.iconst 0, 1) := dk_3 (dk_at dksX5_says_2 0 rfl rfl)
theorem dX5_says_49 : decode cX5_says 49 = .ok (.putfield 135, 3) := dk_181 0 135 (dk_at dksX5_says_2 1 rfl rfl)
theorem dX5_says_52 : decode cX5_says 52 = .ok (.iload_n 2, 1) := dk_28 (dk_at dksX5_says_2 4 rfl rfl)
theorem dX5_says_53 : decode cX5_says 53 = .ok (.ireturn, 1) := dk_172 (dk_at dksX5_says_2 5 rfl rfl)
abbrev cX5_sum : ByteArray := prog_24_method_26_code
def yX5_sum : MethodName := ⟨RX5, "sum", "()I"⟩
def dkwX5_sum_2 : List UInt8 := [29, 153, 0, 10, 27, 21, 4, 96, 167, 0, 7, 27, 21, 4, 100, 60, 167, 255, 200, 27, 172]
abbrev dktX5_sum_2 : List UInt8 := dkwX5_sum_2 ++ []
def dkwX5_sum_1 : List UInt8 := [16, 45, 182, 0, 141, 153, 0, 7, 4, 167, 0, 4, 3, 61, 28, 153, 0, 25, 42, 182, 0, 170, 54, 4]
abbrev dktX5_sum_1 : List UInt8 := dkwX5_sum_1 ++ dktX5_sum_2
def dkwX5_sum_0 : List UInt8 := [42, 182, 0, 170, 60, 4, 61, 28, 153, 0, 58, 42, 16, 43, 182, 0, 141, 62, 29, 154, 0, 12, 42]
abbrev dktX5_sum_0 : List UInt8 := dkwX5_sum_0 ++ dktX5_sum_1
theorem dksX5_sum_0 : cX5_sum.data.toList.drop 0 = dktX5_sum_0 := by decide +kernel
theorem dksX5_sum_1 : cX5_sum.data.toList.drop 23 = dktX5_sum_1 := dk_seg dksX5_sum_0 23 rfl rfl
theorem dksX5_sum_2 : cX5_sum.data.toList.drop 47 = dktX5_sum_2 := dk_seg dksX5_sum_1 24 rfl rfl
theorem dX5_sum_0 : decode cX5_sum 0 = .ok (.aload_n 0, 1) := dk_42 (dk_at dksX5_sum_0 0 rfl rfl)
theorem dX5_sum_1 : decode cX5_sum 1 = .ok (.invokevirtual 170, 3) := dk_182 0 170 (dk_at dksX5_sum_0 1 rfl rfl)
theorem dX5_sum_4 : decode cX5_sum 4 = .ok (.istore_n 1, 1) := dk_60 (dk_at dksX5_sum_0 4 rfl rfl)
theorem dX5_sum_5 : decode cX5_sum 5 = .ok (.iconst 1, 1) := dk_4 (dk_at dksX5_sum_0 5 rfl rfl)
theorem dX5_sum_6 : decode cX5_sum 6 = .ok (.istore_n 2, 1) := dk_61 (dk_at dksX5_sum_0 6 rfl rfl)
theorem dX5_sum_7 : decode cX5_sum 7 = .ok (.iload_n 2, 1) := dk_28 (dk_at dksX5_sum_0 7 rfl rfl)
theorem dX5_sum_8 : decode cX5_sum 8 = .ok (.ifCond .eq 58, 3) := dk_153 0 58 (dk_at dksX5_sum_0 8 rfl rfl)
theorem dX5_sum_11 : decode cX5_sum 11 = .ok (.aload_n 0, 1) := dk_42 (dk_at dksX5_sum_0 11 rfl rfl)
theorem dX5_sum_12 : decode cX5_sum 12 = .ok (.bipush 43, 2) := dk_16 43 (dk_at dksX5_sum_0 12 rfl rfl)
theorem dX5_sum_14 : decode cX5_sum 14 = .ok (.invokevirtual 141, 3) := dk_182 0 141 (dk_at dksX5_sum_0 14 rfl rfl)
theorem dX5_sum_17 : decode cX5_sum 17 = .ok (.istore_n 3, 1) := dk_62 (dk_at dksX5_sum_0 17 rfl rfl)
theorem dX5_sum_18 : decode cX5_sum 18 = .ok (.iload_n 3, 1) := dk_29 (dk_at dksX5_sum_0 18 rfl rfl)
theorem dX5_sum_19 : decode cX5_sum 19 = .ok (.ifCond .ne 12, 3) := dk_154 0 12 (dk_at dksX5_sum_0 19 rfl rfl)
theorem dX5_sum_22 : decode cX5_sum 22 = .ok (.aload_n 0, 1) := dk_42 (dk_at dksX5_sum_0 22 rfl rfl)
theorem dX5_sum_23 : decode cX5_sum 23 = .ok (.bipush 45, 2) := dk_16 45 (dk_at dksX5_sum_1 0 rfl rfl)
theorem dX5_sum_25 : decode cX5_sum 25 = .ok (.invokevirtual 141, 3) := dk_182 0 141 (dk_at dksX5_sum_1 2 rfl rfl)
theorem dX5_sum_28 : decode cX5_sum 28 = .ok (.ifCond .eq 7, 3) := dk_153 0 7 (dk_at dksX5_sum_1 5 rfl rfl)
theorem dX5_sum_31 : decode cX5_sum 31 = .ok (.iconst 1, 1) := dk_4 (dk_at dksX5_sum_1 8 rfl rfl)
theorem dX5_sum_32 : decode cX5_sum 32 = .ok (.goto 4, 3) := dk_167 0 4 (dk_at dksX5_sum_1 9 rfl rfl)
theorem dX5_sum_35 : decode cX5_sum 35 = .ok (.iconst 0, 1) := dk_3 (dk_at dksX5_sum_1 12 rfl rfl)
theorem dX5_sum_36 : decode cX5_sum 36 = .ok (.istore_n 2, 1) := dk_61 (dk_at dksX5_sum_1 13 rfl rfl)
theorem dX5_sum_37 : decode cX5_sum 37 = .ok (.iload_n 2, 1) := dk_28 (dk_at dksX5_sum_1 14 rfl rfl)
theorem dX5_sum_38 : decode cX5_sum 38 = .ok (.ifCond .eq 25, 3) := dk_153 0 25 (dk_at dksX5_sum_1 15 rfl rfl)
theorem dX5_sum_41 : decode cX5_sum 41 = .ok (.aload_n 0, 1) := dk_42 (dk_at dksX5_sum_1 18 rfl rfl)
theorem dX5_sum_42 : decode cX5_sum 42 = .ok (.invokevirtual 170, 3) := dk_182 0 170 (dk_at dksX5_sum_1 19 rfl rfl)
theorem dX5_sum_45 : decode cX5_sum 45 = .ok (.istore 4, 2) := dk_54 4 (dk_at dksX5_sum_1 22 rfl rfl)
theorem dX5_sum_47 : decode cX5_sum 47 = .ok (.iload_n 3, 1) := dk_29 (dk_at dksX5_sum_2 0 rfl rfl)
theorem dX5_sum_48 : decode cX5_sum 48 = .ok (.ifCond .eq 10, 3) := dk_153 0 10 (dk_at dksX5_sum_2 1 rfl rfl)
theorem dX5_sum_51 : decode cX5_sum 51 = .ok (.iload_n 1, 1) := dk_27 (dk_at dksX5_sum_2 4 rfl rfl)
theorem dX5_sum_52 : decode cX5_sum 52 = .ok (.iload 4, 2) := dk_21 4 (dk_at dksX5_sum_2 5 rfl rfl)
theorem dX5_sum_54 : decode cX5_sum 54 = .ok (.iadd, 1) := dk_96 (dk_at dksX5_sum_2 7 rfl rfl)
theorem dX5_sum_55 : decode cX5_sum 55 = .ok (.goto 7, 3) := dk_167 0 7 (dk_at dksX5_sum_2 8 rfl rfl)
theorem dX5_sum_58 : decode cX5_sum 58 = .ok (.iload_n 1, 1) := dk_27 (dk_at dksX5_sum_2 11 rfl rfl)
theorem dX5_sum_59 : decode cX5_sum 59 = .ok (.iload 4, 2) := dk_21 4 (dk_at dksX5_sum_2 12 rfl rfl)
theorem dX5_sum_61 : decode cX5_sum 61 = .ok (.isub, 1) := dk_100 (dk_at dksX5_sum_2 14 rfl rfl)
theorem dX5_sum_62 : decode cX5_sum 62 = .ok (.istore_n 1, 1) := dk_60 (dk_at dksX5_sum_2 15 rfl rfl)
theorem dX5_sum_63 : decode cX5_sum 63 = .ok (.goto (-56), 3) := dk_167 255 200 (dk_at dksX5_sum_2 16 rfl rfl)
theorem dX5_sum_66 : decode cX5_sum 66 = .ok (.iload_n 1, 1) := dk_27 (dk_at dksX5_sum_2 19 rfl rfl)
theorem dX5_sum_67 : decode cX5_sum 67 = .ok (.ireturn, 1) := dk_172 (dk_at dksX5_sum_2 20 rfl rfl)
abbrev cX5_term : ByteArray := prog_24_method_25_code
def yX5_term : MethodName := ⟨RX5, "term", "()I"⟩
def dkwX5_term_1 : List UInt8 := [27, 172]
abbrev dktX5_term_1 : List UInt8 := dkwX5_term_1 ++ []
def dkwX5_term_0 : List UInt8 := [42, 182, 0, 167, 60, 42, 16, 42, 182, 0, 141, 153, 0, 13, 27, 42, 182, 0, 167, 104, 60, 167, 255, 240]
abbrev dktX5_term_0 : List UInt8 := dkwX5_term_0 ++ dktX5_term_1
theorem dksX5_term_0 : cX5_term.data.toList.drop 0 = dktX5_term_0 := by decide +kernel
theorem dksX5_term_1 : cX5_term.data.toList.drop 24 = dktX5_term_1 := dk_seg dksX5_term_0 24 rfl rfl
theorem dX5_term_0 : decode cX5_term 0 = .ok (.aload_n 0, 1) := dk_42 (dk_at dksX5_term_0 0 rfl rfl)
theorem dX5_term_1 : decode cX5_term 1 = .ok (.invokevirtual 167, 3) := dk_182 0 167 (dk_at dksX5_term_0 1 rfl rfl)
theorem dX5_term_4 : decode cX5_term 4 = .ok (.istore_n 1, 1) := dk_60 (dk_at dksX5_term_0 4 rfl rfl)
theorem dX5_term_5 : decode cX5_term 5 = .ok (.aload_n 0, 1) := dk_42 (dk_at dksX5_term_0 5 rfl rfl)
theorem dX5_term_6 : decode cX5_term 6 = .ok (.bipush 42, 2) := dk_16 42 (dk_at dksX5_term_0 6 rfl rfl)
theorem dX5_term_8 : decode cX5_term 8 = .ok (.invokevirtual 141, 3) := dk_182 0 141 (dk_at dksX5_term_0 8 rfl rfl)
theorem dX5_term_11 : decode cX5_term 11 = .ok (.ifCond .eq 13, 3) := dk_153 0 13 (dk_at dksX5_term_0 11 rfl rfl)
theorem dX5_term_14 : decode cX5_term 14 = .ok (.iload_n 1, 1) := dk_27 (dk_at dksX5_term_0 14 rfl rfl)
theorem dX5_term_15 : decode cX5_term 15 = .ok (.aload_n 0, 1) := dk_42 (dk_at dksX5_term_0 15 rfl rfl)
theorem dX5_term_16 : decode cX5_term 16 = .ok (.invokevirtual 167, 3) := dk_182 0 167 (dk_at dksX5_term_0 16 rfl rfl)
theorem dX5_term_19 : decode cX5_term 19 = .ok (.imul, 1) := dk_104 (dk_at dksX5_term_0 19 rfl rfl)
theorem dX5_term_20 : decode cX5_term 20 = .ok (.istore_n 1, 1) := dk_60 (dk_at dksX5_term_0 20 rfl rfl)
theorem dX5_term_21 : decode cX5_term 21 = .ok (.goto (-16), 3) := dk_167 255 240 (dk_at dksX5_term_0 21 rfl rfl)
theorem dX5_term_24 : decode cX5_term 24 = .ok (.iload_n 1, 1) := dk_27 (dk_at dksX5_term_1 0 rfl rfl)
theorem dX5_term_25 : decode cX5_term 25 = .ok (.ireturn, 1) := dk_172 (dk_at dksX5_term_1 1 rfl rfl)
abbrev cX5_factor : ByteArray := prog_24_method_24_code
def yX5_factor : MethodName := ⟨RX5, "factor", "()I"⟩
def dkwX5_factor_3 : List UInt8 := [180, 0, 135, 153, 0, 7, 3, 167, 0, 4, 4, 96, 181, 0, 119, 28, 172]
abbrev dktX5_factor_3 : List UInt8 := dkwX5_factor_3 ++ []
def dkwX5_factor_2 : List UInt8 := [182, 0, 164, 61, 42, 28, 156, 0, 7, 4, 167, 0, 4, 3, 181, 0, 135, 42, 89, 180, 0, 119, 42]
abbrev dktX5_factor_2 : List UInt8 := dkwX5_factor_2 ++ dktX5_factor_3
def dkwX5_factor_1 : List UInt8 := [184, 0, 98, 153, 0, 8, 42, 182, 0, 158, 172, 27, 16, 40, 160, 0, 8, 42, 182, 0, 161, 172, 42, 27]
abbrev dktX5_factor_1 : List UInt8 := dkwX5_factor_1 ++ dktX5_factor_2
def dkwX5_factor_0 : List UInt8 := [42, 180, 0, 135, 153, 0, 5, 3, 172, 42, 182, 0, 138, 60, 27, 133, 20, 0, 144, 20, 0, 146]
abbrev dktX5_factor_0 : List UInt8 := dkwX5_factor_0 ++ dktX5_factor_1
theorem dksX5_factor_0 : cX5_factor.data.toList.drop 0 = dktX5_factor_0 := by decide +kernel
theorem dksX5_factor_1 : cX5_factor.data.toList.drop 22 = dktX5_factor_1 := dk_seg dksX5_factor_0 22 rfl rfl
theorem dksX5_factor_2 : cX5_factor.data.toList.drop 46 = dktX5_factor_2 := dk_seg dksX5_factor_1 24 rfl rfl
theorem dksX5_factor_3 : cX5_factor.data.toList.drop 69 = dktX5_factor_3 := dk_seg dksX5_factor_2 23 rfl rfl
theorem dX5_factor_0 : decode cX5_factor 0 = .ok (.aload_n 0, 1) := dk_42 (dk_at dksX5_factor_0 0 rfl rfl)
theorem dX5_factor_1 : decode cX5_factor 1 = .ok (.getfield 135, 3) := dk_180 0 135 (dk_at dksX5_factor_0 1 rfl rfl)
theorem dX5_factor_4 : decode cX5_factor 4 = .ok (.ifCond .eq 5, 3) := dk_153 0 5 (dk_at dksX5_factor_0 4 rfl rfl)
theorem dX5_factor_7 : decode cX5_factor 7 = .ok (.iconst 0, 1) := dk_3 (dk_at dksX5_factor_0 7 rfl rfl)
theorem dX5_factor_8 : decode cX5_factor 8 = .ok (.ireturn, 1) := dk_172 (dk_at dksX5_factor_0 8 rfl rfl)
theorem dX5_factor_9 : decode cX5_factor 9 = .ok (.aload_n 0, 1) := dk_42 (dk_at dksX5_factor_0 9 rfl rfl)
theorem dX5_factor_10 : decode cX5_factor 10 = .ok (.invokevirtual 138, 3) := dk_182 0 138 (dk_at dksX5_factor_0 10 rfl rfl)
theorem dX5_factor_13 : decode cX5_factor 13 = .ok (.istore_n 1, 1) := dk_60 (dk_at dksX5_factor_0 13 rfl rfl)
theorem dX5_factor_14 : decode cX5_factor 14 = .ok (.iload_n 1, 1) := dk_27 (dk_at dksX5_factor_0 14 rfl rfl)
theorem dX5_factor_15 : decode cX5_factor 15 = .ok (.i2l, 1) := dk_133 (dk_at dksX5_factor_0 15 rfl rfl)
theorem dX5_factor_16 : decode cX5_factor 16 = .ok (.ldc2_w 144, 3) := dk_20 0 144 (dk_at dksX5_factor_0 16 rfl rfl)
theorem dX5_factor_19 : decode cX5_factor 19 = .ok (.ldc2_w 146, 3) := dk_20 0 146 (dk_at dksX5_factor_0 19 rfl rfl)
theorem dX5_factor_22 : decode cX5_factor 22 = .ok (.invokestatic 98, 3) := dk_184 0 98 (dk_at dksX5_factor_1 0 rfl rfl)
theorem dX5_factor_25 : decode cX5_factor 25 = .ok (.ifCond .eq 8, 3) := dk_153 0 8 (dk_at dksX5_factor_1 3 rfl rfl)
theorem dX5_factor_28 : decode cX5_factor 28 = .ok (.aload_n 0, 1) := dk_42 (dk_at dksX5_factor_1 6 rfl rfl)
theorem dX5_factor_29 : decode cX5_factor 29 = .ok (.invokevirtual 158, 3) := dk_182 0 158 (dk_at dksX5_factor_1 7 rfl rfl)
theorem dX5_factor_32 : decode cX5_factor 32 = .ok (.ireturn, 1) := dk_172 (dk_at dksX5_factor_1 10 rfl rfl)
theorem dX5_factor_33 : decode cX5_factor 33 = .ok (.iload_n 1, 1) := dk_27 (dk_at dksX5_factor_1 11 rfl rfl)
theorem dX5_factor_34 : decode cX5_factor 34 = .ok (.bipush 40, 2) := dk_16 40 (dk_at dksX5_factor_1 12 rfl rfl)
theorem dX5_factor_36 : decode cX5_factor 36 = .ok (.if_icmp .ne 8, 3) := dk_160 0 8 (dk_at dksX5_factor_1 14 rfl rfl)
theorem dX5_factor_39 : decode cX5_factor 39 = .ok (.aload_n 0, 1) := dk_42 (dk_at dksX5_factor_1 17 rfl rfl)
theorem dX5_factor_40 : decode cX5_factor 40 = .ok (.invokevirtual 161, 3) := dk_182 0 161 (dk_at dksX5_factor_1 18 rfl rfl)
theorem dX5_factor_43 : decode cX5_factor 43 = .ok (.ireturn, 1) := dk_172 (dk_at dksX5_factor_1 21 rfl rfl)
theorem dX5_factor_44 : decode cX5_factor 44 = .ok (.aload_n 0, 1) := dk_42 (dk_at dksX5_factor_1 22 rfl rfl)
theorem dX5_factor_45 : decode cX5_factor 45 = .ok (.iload_n 1, 1) := dk_27 (dk_at dksX5_factor_1 23 rfl rfl)
theorem dX5_factor_46 : decode cX5_factor 46 = .ok (.invokevirtual 164, 3) := dk_182 0 164 (dk_at dksX5_factor_2 0 rfl rfl)
theorem dX5_factor_49 : decode cX5_factor 49 = .ok (.istore_n 2, 1) := dk_61 (dk_at dksX5_factor_2 3 rfl rfl)
theorem dX5_factor_50 : decode cX5_factor 50 = .ok (.aload_n 0, 1) := dk_42 (dk_at dksX5_factor_2 4 rfl rfl)
theorem dX5_factor_51 : decode cX5_factor 51 = .ok (.iload_n 2, 1) := dk_28 (dk_at dksX5_factor_2 5 rfl rfl)
theorem dX5_factor_52 : decode cX5_factor 52 = .ok (.ifCond .ge 7, 3) := dk_156 0 7 (dk_at dksX5_factor_2 6 rfl rfl)
theorem dX5_factor_55 : decode cX5_factor 55 = .ok (.iconst 1, 1) := dk_4 (dk_at dksX5_factor_2 9 rfl rfl)
theorem dX5_factor_56 : decode cX5_factor 56 = .ok (.goto 4, 3) := dk_167 0 4 (dk_at dksX5_factor_2 10 rfl rfl)
theorem dX5_factor_59 : decode cX5_factor 59 = .ok (.iconst 0, 1) := dk_3 (dk_at dksX5_factor_2 13 rfl rfl)
theorem dX5_factor_60 : decode cX5_factor 60 = .ok (.putfield 135, 3) := dk_181 0 135 (dk_at dksX5_factor_2 14 rfl rfl)
theorem dX5_factor_63 : decode cX5_factor 63 = .ok (.aload_n 0, 1) := dk_42 (dk_at dksX5_factor_2 17 rfl rfl)
theorem dX5_factor_64 : decode cX5_factor 64 = .ok (.dup, 1) := dk_89 (dk_at dksX5_factor_2 18 rfl rfl)
theorem dX5_factor_65 : decode cX5_factor 65 = .ok (.getfield 119, 3) := dk_180 0 119 (dk_at dksX5_factor_2 19 rfl rfl)
theorem dX5_factor_68 : decode cX5_factor 68 = .ok (.aload_n 0, 1) := dk_42 (dk_at dksX5_factor_2 22 rfl rfl)
theorem dX5_factor_69 : decode cX5_factor 69 = .ok (.getfield 135, 3) := dk_180 0 135 (dk_at dksX5_factor_3 0 rfl rfl)
theorem dX5_factor_72 : decode cX5_factor 72 = .ok (.ifCond .eq 7, 3) := dk_153 0 7 (dk_at dksX5_factor_3 3 rfl rfl)
theorem dX5_factor_75 : decode cX5_factor 75 = .ok (.iconst 0, 1) := dk_3 (dk_at dksX5_factor_3 6 rfl rfl)
theorem dX5_factor_76 : decode cX5_factor 76 = .ok (.goto 4, 3) := dk_167 0 4 (dk_at dksX5_factor_3 7 rfl rfl)
theorem dX5_factor_79 : decode cX5_factor 79 = .ok (.iconst 1, 1) := dk_4 (dk_at dksX5_factor_3 10 rfl rfl)
theorem dX5_factor_80 : decode cX5_factor 80 = .ok (.iadd, 1) := dk_96 (dk_at dksX5_factor_3 11 rfl rfl)
theorem dX5_factor_81 : decode cX5_factor 81 = .ok (.putfield 119, 3) := dk_181 0 119 (dk_at dksX5_factor_3 12 rfl rfl)
theorem dX5_factor_84 : decode cX5_factor 84 = .ok (.iload_n 2, 1) := dk_28 (dk_at dksX5_factor_3 15 rfl rfl)
theorem dX5_factor_85 : decode cX5_factor 85 = .ok (.ireturn, 1) := dk_172 (dk_at dksX5_factor_3 16 rfl rfl)
abbrev cX5_byteHere : ByteArray := prog_24_method_17_code
def yX5_byteHere : MethodName := ⟨RX5, "byteHere", "()I"⟩
def dkwX5_byteHere_1 : List UInt8 := [180, 0, 31, 42, 180, 0, 119, 46, 167, 0, 15, 42, 180, 0, 7, 16, 44, 42, 180, 0, 119, 96, 46, 172]
abbrev dktX5_byteHere_1 : List UInt8 := dkwX5_byteHere_1 ++ []
def dkwX5_byteHere_0 : List UInt8 := [42, 180, 0, 119, 42, 182, 0, 122, 161, 0, 7, 2, 167, 0, 34, 42, 180, 0, 112, 153, 0, 15, 42]
abbrev dktX5_byteHere_0 : List UInt8 := dkwX5_byteHere_0 ++ dktX5_byteHere_1
theorem dksX5_byteHere_0 : cX5_byteHere.data.toList.drop 0 = dktX5_byteHere_0 := by decide +kernel
theorem dksX5_byteHere_1 : cX5_byteHere.data.toList.drop 23 = dktX5_byteHere_1 := dk_seg dksX5_byteHere_0 23 rfl rfl
theorem dX5_byteHere_0 : decode cX5_byteHere 0 = .ok (.aload_n 0, 1) := dk_42 (dk_at dksX5_byteHere_0 0 rfl rfl)
theorem dX5_byteHere_1 : decode cX5_byteHere 1 = .ok (.getfield 119, 3) := dk_180 0 119 (dk_at dksX5_byteHere_0 1 rfl rfl)
theorem dX5_byteHere_4 : decode cX5_byteHere 4 = .ok (.aload_n 0, 1) := dk_42 (dk_at dksX5_byteHere_0 4 rfl rfl)
theorem dX5_byteHere_5 : decode cX5_byteHere 5 = .ok (.invokevirtual 122, 3) := dk_182 0 122 (dk_at dksX5_byteHere_0 5 rfl rfl)
theorem dX5_byteHere_8 : decode cX5_byteHere 8 = .ok (.if_icmp .lt 7, 3) := dk_161 0 7 (dk_at dksX5_byteHere_0 8 rfl rfl)
theorem dX5_byteHere_11 : decode cX5_byteHere 11 = .ok (.iconst (-1), 1) := dk_2 (dk_at dksX5_byteHere_0 11 rfl rfl)
theorem dX5_byteHere_12 : decode cX5_byteHere 12 = .ok (.goto 34, 3) := dk_167 0 34 (dk_at dksX5_byteHere_0 12 rfl rfl)
theorem dX5_byteHere_15 : decode cX5_byteHere 15 = .ok (.aload_n 0, 1) := dk_42 (dk_at dksX5_byteHere_0 15 rfl rfl)
theorem dX5_byteHere_16 : decode cX5_byteHere 16 = .ok (.getfield 112, 3) := dk_180 0 112 (dk_at dksX5_byteHere_0 16 rfl rfl)
theorem dX5_byteHere_19 : decode cX5_byteHere 19 = .ok (.ifCond .eq 15, 3) := dk_153 0 15 (dk_at dksX5_byteHere_0 19 rfl rfl)
theorem dX5_byteHere_22 : decode cX5_byteHere 22 = .ok (.aload_n 0, 1) := dk_42 (dk_at dksX5_byteHere_0 22 rfl rfl)
theorem dX5_byteHere_23 : decode cX5_byteHere 23 = .ok (.getfield 31, 3) := dk_180 0 31 (dk_at dksX5_byteHere_1 0 rfl rfl)
theorem dX5_byteHere_26 : decode cX5_byteHere 26 = .ok (.aload_n 0, 1) := dk_42 (dk_at dksX5_byteHere_1 3 rfl rfl)
theorem dX5_byteHere_27 : decode cX5_byteHere 27 = .ok (.getfield 119, 3) := dk_180 0 119 (dk_at dksX5_byteHere_1 4 rfl rfl)
theorem dX5_byteHere_30 : decode cX5_byteHere 30 = .ok (.iaload, 1) := dk_46 (dk_at dksX5_byteHere_1 7 rfl rfl)
theorem dX5_byteHere_31 : decode cX5_byteHere 31 = .ok (.goto 15, 3) := dk_167 0 15 (dk_at dksX5_byteHere_1 8 rfl rfl)
theorem dX5_byteHere_34 : decode cX5_byteHere 34 = .ok (.aload_n 0, 1) := dk_42 (dk_at dksX5_byteHere_1 11 rfl rfl)
theorem dX5_byteHere_35 : decode cX5_byteHere 35 = .ok (.getfield 7, 3) := dk_180 0 7 (dk_at dksX5_byteHere_1 12 rfl rfl)
theorem dX5_byteHere_38 : decode cX5_byteHere 38 = .ok (.bipush 44, 2) := dk_16 44 (dk_at dksX5_byteHere_1 15 rfl rfl)
theorem dX5_byteHere_40 : decode cX5_byteHere 40 = .ok (.aload_n 0, 1) := dk_42 (dk_at dksX5_byteHere_1 17 rfl rfl)
theorem dX5_byteHere_41 : decode cX5_byteHere 41 = .ok (.getfield 119, 3) := dk_180 0 119 (dk_at dksX5_byteHere_1 18 rfl rfl)
theorem dX5_byteHere_44 : decode cX5_byteHere 44 = .ok (.iadd, 1) := dk_96 (dk_at dksX5_byteHere_1 21 rfl rfl)
theorem dX5_byteHere_45 : decode cX5_byteHere 45 = .ok (.iaload, 1) := dk_46 (dk_at dksX5_byteHere_1 22 rfl rfl)
theorem dX5_byteHere_46 : decode cX5_byteHere 46 = .ok (.ireturn, 1) := dk_172 (dk_at dksX5_byteHere_1 23 rfl rfl)
abbrev cX5_end : ByteArray := prog_24_method_16_code
def yX5_end : MethodName := ⟨RX5, "end", "()I"⟩
def dkwX5_end_0 : List UInt8 := [42, 180, 0, 112, 153, 0, 10, 42, 180, 0, 115, 167, 0, 9, 42, 180, 0, 7, 7, 46, 172]
abbrev dktX5_end_0 : List UInt8 := dkwX5_end_0 ++ []
theorem dksX5_end_0 : cX5_end.data.toList.drop 0 = dktX5_end_0 := by decide +kernel
theorem dX5_end_0 : decode cX5_end 0 = .ok (.aload_n 0, 1) := dk_42 (dk_at dksX5_end_0 0 rfl rfl)
theorem dX5_end_1 : decode cX5_end 1 = .ok (.getfield 112, 3) := dk_180 0 112 (dk_at dksX5_end_0 1 rfl rfl)
theorem dX5_end_4 : decode cX5_end 4 = .ok (.ifCond .eq 10, 3) := dk_153 0 10 (dk_at dksX5_end_0 4 rfl rfl)
theorem dX5_end_7 : decode cX5_end 7 = .ok (.aload_n 0, 1) := dk_42 (dk_at dksX5_end_0 7 rfl rfl)
theorem dX5_end_8 : decode cX5_end 8 = .ok (.getfield 115, 3) := dk_180 0 115 (dk_at dksX5_end_0 8 rfl rfl)
theorem dX5_end_11 : decode cX5_end 11 = .ok (.goto 9, 3) := dk_167 0 9 (dk_at dksX5_end_0 11 rfl rfl)
theorem dX5_end_14 : decode cX5_end 14 = .ok (.aload_n 0, 1) := dk_42 (dk_at dksX5_end_0 14 rfl rfl)
theorem dX5_end_15 : decode cX5_end 15 = .ok (.getfield 7, 3) := dk_180 0 7 (dk_at dksX5_end_0 15 rfl rfl)
theorem dX5_end_18 : decode cX5_end 18 = .ok (.iconst 4, 1) := dk_7 (dk_at dksX5_end_0 18 rfl rfl)
theorem dX5_end_19 : decode cX5_end 19 = .ok (.iaload, 1) := dk_46 (dk_at dksX5_end_0 19 rfl rfl)
theorem dX5_end_20 : decode cX5_end 20 = .ok (.ireturn, 1) := dk_172 (dk_at dksX5_end_0 20 rfl rfl)
abbrev cX5_number : ByteArray := prog_24_method_22_code
def yX5_number : MethodName := ⟨RX5, "number", "()I"⟩
def dkwX5_number_2 : List UInt8 := [181, 0, 119, 132, 2, 1, 167, 255, 208, 27, 172]
abbrev dktX5_number_2 : List UInt8 := dkwX5_number_2 ++ []
def dkwX5_number_1 : List UInt8 := [153, 0, 32, 16, 10, 27, 104, 42, 182, 0, 138, 96, 16, 48, 100, 60, 42, 89, 180, 0, 119, 4, 96]
abbrev dktX5_number_1 : List UInt8 := dkwX5_number_1 ++ dktX5_number_2
def dkwX5_number_0 : List UInt8 := [3, 60, 3, 61, 28, 6, 162, 0, 49, 42, 182, 0, 138, 133, 20, 0, 144, 20, 0, 146, 184, 0, 98]
abbrev dktX5_number_0 : List UInt8 := dkwX5_number_0 ++ dktX5_number_1
theorem dksX5_number_0 : cX5_number.data.toList.drop 0 = dktX5_number_0 := by decide +kernel
theorem dksX5_number_1 : cX5_number.data.toList.drop 23 = dktX5_number_1 := dk_seg dksX5_number_0 23 rfl rfl
theorem dksX5_number_2 : cX5_number.data.toList.drop 46 = dktX5_number_2 := dk_seg dksX5_number_1 23 rfl rfl
theorem dX5_number_0 : decode cX5_number 0 = .ok (.iconst 0, 1) := dk_3 (dk_at dksX5_number_0 0 rfl rfl)
theorem dX5_number_1 : decode cX5_number 1 = .ok (.istore_n 1, 1) := dk_60 (dk_at dksX5_number_0 1 rfl rfl)
theorem dX5_number_2 : decode cX5_number 2 = .ok (.iconst 0, 1) := dk_3 (dk_at dksX5_number_0 2 rfl rfl)
theorem dX5_number_3 : decode cX5_number 3 = .ok (.istore_n 2, 1) := dk_61 (dk_at dksX5_number_0 3 rfl rfl)
theorem dX5_number_4 : decode cX5_number 4 = .ok (.iload_n 2, 1) := dk_28 (dk_at dksX5_number_0 4 rfl rfl)
theorem dX5_number_5 : decode cX5_number 5 = .ok (.iconst 3, 1) := dk_6 (dk_at dksX5_number_0 5 rfl rfl)
theorem dX5_number_6 : decode cX5_number 6 = .ok (.if_icmp .ge 49, 3) := dk_162 0 49 (dk_at dksX5_number_0 6 rfl rfl)
theorem dX5_number_9 : decode cX5_number 9 = .ok (.aload_n 0, 1) := dk_42 (dk_at dksX5_number_0 9 rfl rfl)
theorem dX5_number_10 : decode cX5_number 10 = .ok (.invokevirtual 138, 3) := dk_182 0 138 (dk_at dksX5_number_0 10 rfl rfl)
theorem dX5_number_13 : decode cX5_number 13 = .ok (.i2l, 1) := dk_133 (dk_at dksX5_number_0 13 rfl rfl)
theorem dX5_number_14 : decode cX5_number 14 = .ok (.ldc2_w 144, 3) := dk_20 0 144 (dk_at dksX5_number_0 14 rfl rfl)
theorem dX5_number_17 : decode cX5_number 17 = .ok (.ldc2_w 146, 3) := dk_20 0 146 (dk_at dksX5_number_0 17 rfl rfl)
theorem dX5_number_20 : decode cX5_number 20 = .ok (.invokestatic 98, 3) := dk_184 0 98 (dk_at dksX5_number_0 20 rfl rfl)
theorem dX5_number_23 : decode cX5_number 23 = .ok (.ifCond .eq 32, 3) := dk_153 0 32 (dk_at dksX5_number_1 0 rfl rfl)
theorem dX5_number_26 : decode cX5_number 26 = .ok (.bipush 10, 2) := dk_16 10 (dk_at dksX5_number_1 3 rfl rfl)
theorem dX5_number_28 : decode cX5_number 28 = .ok (.iload_n 1, 1) := dk_27 (dk_at dksX5_number_1 5 rfl rfl)
theorem dX5_number_29 : decode cX5_number 29 = .ok (.imul, 1) := dk_104 (dk_at dksX5_number_1 6 rfl rfl)
theorem dX5_number_30 : decode cX5_number 30 = .ok (.aload_n 0, 1) := dk_42 (dk_at dksX5_number_1 7 rfl rfl)
theorem dX5_number_31 : decode cX5_number 31 = .ok (.invokevirtual 138, 3) := dk_182 0 138 (dk_at dksX5_number_1 8 rfl rfl)
theorem dX5_number_34 : decode cX5_number 34 = .ok (.iadd, 1) := dk_96 (dk_at dksX5_number_1 11 rfl rfl)
theorem dX5_number_35 : decode cX5_number 35 = .ok (.bipush 48, 2) := dk_16 48 (dk_at dksX5_number_1 12 rfl rfl)
theorem dX5_number_37 : decode cX5_number 37 = .ok (.isub, 1) := dk_100 (dk_at dksX5_number_1 14 rfl rfl)
theorem dX5_number_38 : decode cX5_number 38 = .ok (.istore_n 1, 1) := dk_60 (dk_at dksX5_number_1 15 rfl rfl)
theorem dX5_number_39 : decode cX5_number 39 = .ok (.aload_n 0, 1) := dk_42 (dk_at dksX5_number_1 16 rfl rfl)
theorem dX5_number_40 : decode cX5_number 40 = .ok (.dup, 1) := dk_89 (dk_at dksX5_number_1 17 rfl rfl)
theorem dX5_number_41 : decode cX5_number 41 = .ok (.getfield 119, 3) := dk_180 0 119 (dk_at dksX5_number_1 18 rfl rfl)
theorem dX5_number_44 : decode cX5_number 44 = .ok (.iconst 1, 1) := dk_4 (dk_at dksX5_number_1 21 rfl rfl)
theorem dX5_number_45 : decode cX5_number 45 = .ok (.iadd, 1) := dk_96 (dk_at dksX5_number_1 22 rfl rfl)
theorem dX5_number_46 : decode cX5_number 46 = .ok (.putfield 119, 3) := dk_181 0 119 (dk_at dksX5_number_2 0 rfl rfl)
theorem dX5_number_49 : decode cX5_number 49 = .ok (.iinc 2 1, 3) := dk_132 2 1 (dk_at dksX5_number_2 3 rfl rfl)
theorem dX5_number_52 : decode cX5_number 52 = .ok (.goto (-48), 3) := dk_167 255 208 (dk_at dksX5_number_2 6 rfl rfl)
theorem dX5_number_55 : decode cX5_number 55 = .ok (.iload_n 1, 1) := dk_27 (dk_at dksX5_number_2 9 rfl rfl)
theorem dX5_number_56 : decode cX5_number 56 = .ok (.ireturn, 1) := dk_172 (dk_at dksX5_number_2 10 rfl rfl)
abbrev cX5_choice : ByteArray := prog_24_method_23_code
def yX5_choice : MethodName := ⟨RX5, "choice", "()I"⟩
def dkwX5_choice_3 : List UInt8 := [167, 0, 4, 29, 60, 42, 16, 41, 182, 0, 154, 42, 89, 180, 0, 148, 4, 100, 181, 0, 148, 27, 172]
abbrev dktX5_choice_3 : List UInt8 := dkwX5_choice_3 ++ []
def dkwX5_choice_2 : List UInt8 := [153, 0, 29, 42, 182, 0, 151, 61, 42, 16, 58, 182, 0, 154, 42, 182, 0, 151, 62, 27, 158, 0, 7, 28]
abbrev dktX5_choice_2 : List UInt8 := dkwX5_choice_2 ++ dktX5_choice_3
def dkwX5_choice_1 : List UInt8 := [181, 0, 148, 42, 89, 180, 0, 119, 4, 96, 181, 0, 119, 42, 182, 0, 151, 60, 42, 16, 63, 182, 0, 141]
abbrev dktX5_choice_1 : List UInt8 := dkwX5_choice_1 ++ dktX5_choice_2
def dkwX5_choice_0 : List UInt8 := [42, 180, 0, 148, 7, 160, 0, 10, 42, 4, 181, 0, 135, 3, 172, 42, 89, 180, 0, 148, 4, 96]
abbrev dktX5_choice_0 : List UInt8 := dkwX5_choice_0 ++ dktX5_choice_1
theorem dksX5_choice_0 : cX5_choice.data.toList.drop 0 = dktX5_choice_0 := by decide +kernel
theorem dksX5_choice_1 : cX5_choice.data.toList.drop 22 = dktX5_choice_1 := dk_seg dksX5_choice_0 22 rfl rfl
theorem dksX5_choice_2 : cX5_choice.data.toList.drop 46 = dktX5_choice_2 := dk_seg dksX5_choice_1 24 rfl rfl
theorem dksX5_choice_3 : cX5_choice.data.toList.drop 70 = dktX5_choice_3 := dk_seg dksX5_choice_2 24 rfl rfl
theorem dX5_choice_0 : decode cX5_choice 0 = .ok (.aload_n 0, 1) := dk_42 (dk_at dksX5_choice_0 0 rfl rfl)
theorem dX5_choice_1 : decode cX5_choice 1 = .ok (.getfield 148, 3) := dk_180 0 148 (dk_at dksX5_choice_0 1 rfl rfl)
theorem dX5_choice_4 : decode cX5_choice 4 = .ok (.iconst 4, 1) := dk_7 (dk_at dksX5_choice_0 4 rfl rfl)
theorem dX5_choice_5 : decode cX5_choice 5 = .ok (.if_icmp .ne 10, 3) := dk_160 0 10 (dk_at dksX5_choice_0 5 rfl rfl)
theorem dX5_choice_8 : decode cX5_choice 8 = .ok (.aload_n 0, 1) := dk_42 (dk_at dksX5_choice_0 8 rfl rfl)
theorem dX5_choice_9 : decode cX5_choice 9 = .ok (.iconst 1, 1) := dk_4 (dk_at dksX5_choice_0 9 rfl rfl)
theorem dX5_choice_10 : decode cX5_choice 10 = .ok (.putfield 135, 3) := dk_181 0 135 (dk_at dksX5_choice_0 10 rfl rfl)
theorem dX5_choice_13 : decode cX5_choice 13 = .ok (.iconst 0, 1) := dk_3 (dk_at dksX5_choice_0 13 rfl rfl)
theorem dX5_choice_14 : decode cX5_choice 14 = .ok (.ireturn, 1) := dk_172 (dk_at dksX5_choice_0 14 rfl rfl)
theorem dX5_choice_15 : decode cX5_choice 15 = .ok (.aload_n 0, 1) := dk_42 (dk_at dksX5_choice_0 15 rfl rfl)
theorem dX5_choice_16 : decode cX5_choice 16 = .ok (.dup, 1) := dk_89 (dk_at dksX5_choice_0 16 rfl rfl)
theorem dX5_choice_17 : decode cX5_choice 17 = .ok (.getfield 148, 3) := dk_180 0 148 (dk_at dksX5_choice_0 17 rfl rfl)
theorem dX5_choice_20 : decode cX5_choice 20 = .ok (.iconst 1, 1) := dk_4 (dk_at dksX5_choice_0 20 rfl rfl)
theorem dX5_choice_21 : decode cX5_choice 21 = .ok (.iadd, 1) := dk_96 (dk_at dksX5_choice_0 21 rfl rfl)
theorem dX5_choice_22 : decode cX5_choice 22 = .ok (.putfield 148, 3) := dk_181 0 148 (dk_at dksX5_choice_1 0 rfl rfl)
theorem dX5_choice_25 : decode cX5_choice 25 = .ok (.aload_n 0, 1) := dk_42 (dk_at dksX5_choice_1 3 rfl rfl)
theorem dX5_choice_26 : decode cX5_choice 26 = .ok (.dup, 1) := dk_89 (dk_at dksX5_choice_1 4 rfl rfl)
theorem dX5_choice_27 : decode cX5_choice 27 = .ok (.getfield 119, 3) := dk_180 0 119 (dk_at dksX5_choice_1 5 rfl rfl)
theorem dX5_choice_30 : decode cX5_choice 30 = .ok (.iconst 1, 1) := dk_4 (dk_at dksX5_choice_1 8 rfl rfl)
theorem dX5_choice_31 : decode cX5_choice 31 = .ok (.iadd, 1) := dk_96 (dk_at dksX5_choice_1 9 rfl rfl)
theorem dX5_choice_32 : decode cX5_choice 32 = .ok (.putfield 119, 3) := dk_181 0 119 (dk_at dksX5_choice_1 10 rfl rfl)
theorem dX5_choice_35 : decode cX5_choice 35 = .ok (.aload_n 0, 1) := dk_42 (dk_at dksX5_choice_1 13 rfl rfl)
theorem dX5_choice_36 : decode cX5_choice 36 = .ok (.invokevirtual 151, 3) := dk_182 0 151 (dk_at dksX5_choice_1 14 rfl rfl)
theorem dX5_choice_39 : decode cX5_choice 39 = .ok (.istore_n 1, 1) := dk_60 (dk_at dksX5_choice_1 17 rfl rfl)
theorem dX5_choice_40 : decode cX5_choice 40 = .ok (.aload_n 0, 1) := dk_42 (dk_at dksX5_choice_1 18 rfl rfl)
theorem dX5_choice_41 : decode cX5_choice 41 = .ok (.bipush 63, 2) := dk_16 63 (dk_at dksX5_choice_1 19 rfl rfl)
theorem dX5_choice_43 : decode cX5_choice 43 = .ok (.invokevirtual 141, 3) := dk_182 0 141 (dk_at dksX5_choice_1 21 rfl rfl)
theorem dX5_choice_46 : decode cX5_choice 46 = .ok (.ifCond .eq 29, 3) := dk_153 0 29 (dk_at dksX5_choice_2 0 rfl rfl)
theorem dX5_choice_49 : decode cX5_choice 49 = .ok (.aload_n 0, 1) := dk_42 (dk_at dksX5_choice_2 3 rfl rfl)
theorem dX5_choice_50 : decode cX5_choice 50 = .ok (.invokevirtual 151, 3) := dk_182 0 151 (dk_at dksX5_choice_2 4 rfl rfl)
theorem dX5_choice_53 : decode cX5_choice 53 = .ok (.istore_n 2, 1) := dk_61 (dk_at dksX5_choice_2 7 rfl rfl)
theorem dX5_choice_54 : decode cX5_choice 54 = .ok (.aload_n 0, 1) := dk_42 (dk_at dksX5_choice_2 8 rfl rfl)
theorem dX5_choice_55 : decode cX5_choice 55 = .ok (.bipush 58, 2) := dk_16 58 (dk_at dksX5_choice_2 9 rfl rfl)
theorem dX5_choice_57 : decode cX5_choice 57 = .ok (.invokevirtual 154, 3) := dk_182 0 154 (dk_at dksX5_choice_2 11 rfl rfl)
theorem dX5_choice_60 : decode cX5_choice 60 = .ok (.aload_n 0, 1) := dk_42 (dk_at dksX5_choice_2 14 rfl rfl)
theorem dX5_choice_61 : decode cX5_choice 61 = .ok (.invokevirtual 151, 3) := dk_182 0 151 (dk_at dksX5_choice_2 15 rfl rfl)
theorem dX5_choice_64 : decode cX5_choice 64 = .ok (.istore_n 3, 1) := dk_62 (dk_at dksX5_choice_2 18 rfl rfl)
theorem dX5_choice_65 : decode cX5_choice 65 = .ok (.iload_n 1, 1) := dk_27 (dk_at dksX5_choice_2 19 rfl rfl)
theorem dX5_choice_66 : decode cX5_choice 66 = .ok (.ifCond .le 7, 3) := dk_158 0 7 (dk_at dksX5_choice_2 20 rfl rfl)
theorem dX5_choice_69 : decode cX5_choice 69 = .ok (.iload_n 2, 1) := dk_28 (dk_at dksX5_choice_2 23 rfl rfl)
theorem dX5_choice_70 : decode cX5_choice 70 = .ok (.goto 4, 3) := dk_167 0 4 (dk_at dksX5_choice_3 0 rfl rfl)
theorem dX5_choice_73 : decode cX5_choice 73 = .ok (.iload_n 3, 1) := dk_29 (dk_at dksX5_choice_3 3 rfl rfl)
theorem dX5_choice_74 : decode cX5_choice 74 = .ok (.istore_n 1, 1) := dk_60 (dk_at dksX5_choice_3 4 rfl rfl)
theorem dX5_choice_75 : decode cX5_choice 75 = .ok (.aload_n 0, 1) := dk_42 (dk_at dksX5_choice_3 5 rfl rfl)
theorem dX5_choice_76 : decode cX5_choice 76 = .ok (.bipush 41, 2) := dk_16 41 (dk_at dksX5_choice_3 6 rfl rfl)
theorem dX5_choice_78 : decode cX5_choice 78 = .ok (.invokevirtual 154, 3) := dk_182 0 154 (dk_at dksX5_choice_3 8 rfl rfl)
theorem dX5_choice_81 : decode cX5_choice 81 = .ok (.aload_n 0, 1) := dk_42 (dk_at dksX5_choice_3 11 rfl rfl)
theorem dX5_choice_82 : decode cX5_choice 82 = .ok (.dup, 1) := dk_89 (dk_at dksX5_choice_3 12 rfl rfl)
theorem dX5_choice_83 : decode cX5_choice 83 = .ok (.getfield 148, 3) := dk_180 0 148 (dk_at dksX5_choice_3 13 rfl rfl)
theorem dX5_choice_86 : decode cX5_choice 86 = .ok (.iconst 1, 1) := dk_4 (dk_at dksX5_choice_3 16 rfl rfl)
theorem dX5_choice_87 : decode cX5_choice 87 = .ok (.isub, 1) := dk_100 (dk_at dksX5_choice_3 17 rfl rfl)
theorem dX5_choice_88 : decode cX5_choice 88 = .ok (.putfield 148, 3) := dk_181 0 148 (dk_at dksX5_choice_3 18 rfl rfl)
theorem dX5_choice_91 : decode cX5_choice 91 = .ok (.iload_n 1, 1) := dk_27 (dk_at dksX5_choice_3 21 rfl rfl)
theorem dX5_choice_92 : decode cX5_choice 92 = .ok (.ireturn, 1) := dk_172 (dk_at dksX5_choice_3 22 rfl rfl)
abbrev cX5_takes : ByteArray := prog_24_method_20_code
def yX5_takes : MethodName := ⟨RX5, "takes", "(I)Z"⟩
def dkwX5_takes_1 : List UInt8 := [181, 0, 119, 4, 172]
abbrev dktX5_takes_1 : List UInt8 := dkwX5_takes_1 ++ []
def dkwX5_takes_0 : List UInt8 := [42, 180, 0, 135, 154, 0, 11, 42, 182, 0, 138, 27, 159, 0, 5, 3, 172, 42, 89, 180, 0, 119, 4, 96]
abbrev dktX5_takes_0 : List UInt8 := dkwX5_takes_0 ++ dktX5_takes_1
theorem dksX5_takes_0 : cX5_takes.data.toList.drop 0 = dktX5_takes_0 := by decide +kernel
theorem dksX5_takes_1 : cX5_takes.data.toList.drop 24 = dktX5_takes_1 := dk_seg dksX5_takes_0 24 rfl rfl
theorem dX5_takes_0 : decode cX5_takes 0 = .ok (.aload_n 0, 1) := dk_42 (dk_at dksX5_takes_0 0 rfl rfl)
theorem dX5_takes_1 : decode cX5_takes 1 = .ok (.getfield 135, 3) := dk_180 0 135 (dk_at dksX5_takes_0 1 rfl rfl)
theorem dX5_takes_4 : decode cX5_takes 4 = .ok (.ifCond .ne 11, 3) := dk_154 0 11 (dk_at dksX5_takes_0 4 rfl rfl)
theorem dX5_takes_7 : decode cX5_takes 7 = .ok (.aload_n 0, 1) := dk_42 (dk_at dksX5_takes_0 7 rfl rfl)
theorem dX5_takes_8 : decode cX5_takes 8 = .ok (.invokevirtual 138, 3) := dk_182 0 138 (dk_at dksX5_takes_0 8 rfl rfl)
theorem dX5_takes_11 : decode cX5_takes 11 = .ok (.iload_n 1, 1) := dk_27 (dk_at dksX5_takes_0 11 rfl rfl)
theorem dX5_takes_12 : decode cX5_takes 12 = .ok (.if_icmp .eq 5, 3) := dk_159 0 5 (dk_at dksX5_takes_0 12 rfl rfl)
theorem dX5_takes_15 : decode cX5_takes 15 = .ok (.iconst 0, 1) := dk_3 (dk_at dksX5_takes_0 15 rfl rfl)
theorem dX5_takes_16 : decode cX5_takes 16 = .ok (.ireturn, 1) := dk_172 (dk_at dksX5_takes_0 16 rfl rfl)
theorem dX5_takes_17 : decode cX5_takes 17 = .ok (.aload_n 0, 1) := dk_42 (dk_at dksX5_takes_0 17 rfl rfl)
theorem dX5_takes_18 : decode cX5_takes 18 = .ok (.dup, 1) := dk_89 (dk_at dksX5_takes_0 18 rfl rfl)
theorem dX5_takes_19 : decode cX5_takes 19 = .ok (.getfield 119, 3) := dk_180 0 119 (dk_at dksX5_takes_0 19 rfl rfl)
theorem dX5_takes_22 : decode cX5_takes 22 = .ok (.iconst 1, 1) := dk_4 (dk_at dksX5_takes_0 22 rfl rfl)
theorem dX5_takes_23 : decode cX5_takes 23 = .ok (.iadd, 1) := dk_96 (dk_at dksX5_takes_0 23 rfl rfl)
theorem dX5_takes_24 : decode cX5_takes 24 = .ok (.putfield 119, 3) := dk_181 0 119 (dk_at dksX5_takes_1 0 rfl rfl)
theorem dX5_takes_27 : decode cX5_takes 27 = .ok (.iconst 1, 1) := dk_4 (dk_at dksX5_takes_1 3 rfl rfl)
theorem dX5_takes_28 : decode cX5_takes 28 = .ok (.ireturn, 1) := dk_172 (dk_at dksX5_takes_1 4 rfl rfl)
abbrev cX5_must : ByteArray := prog_24_method_21_code
def yX5_must : MethodName := ⟨RX5, "must", "(I)V"⟩
def dkwX5_must_0 : List UInt8 := [42, 42, 27, 182, 0, 141, 154, 0, 7, 4, 167, 0, 4, 3, 181, 0, 135, 177]
abbrev dktX5_must_0 : List UInt8 := dkwX5_must_0 ++ []
theorem dksX5_must_0 : cX5_must.data.toList.drop 0 = dktX5_must_0 := by decide +kernel
theorem dX5_must_0 : decode cX5_must 0 = .ok (.aload_n 0, 1) := dk_42 (dk_at dksX5_must_0 0 rfl rfl)
theorem dX5_must_1 : decode cX5_must 1 = .ok (.aload_n 0, 1) := dk_42 (dk_at dksX5_must_0 1 rfl rfl)
theorem dX5_must_2 : decode cX5_must 2 = .ok (.iload_n 1, 1) := dk_27 (dk_at dksX5_must_0 2 rfl rfl)
theorem dX5_must_3 : decode cX5_must 3 = .ok (.invokevirtual 141, 3) := dk_182 0 141 (dk_at dksX5_must_0 3 rfl rfl)
theorem dX5_must_6 : decode cX5_must 6 = .ok (.ifCond .ne 7, 3) := dk_154 0 7 (dk_at dksX5_must_0 6 rfl rfl)
theorem dX5_must_9 : decode cX5_must 9 = .ok (.iconst 1, 1) := dk_4 (dk_at dksX5_must_0 9 rfl rfl)
theorem dX5_must_10 : decode cX5_must 10 = .ok (.goto 4, 3) := dk_167 0 4 (dk_at dksX5_must_0 10 rfl rfl)
theorem dX5_must_13 : decode cX5_must 13 = .ok (.iconst 0, 1) := dk_3 (dk_at dksX5_must_0 13 rfl rfl)
theorem dX5_must_14 : decode cX5_must 14 = .ok (.putfield 135, 3) := dk_181 0 135 (dk_at dksX5_must_0 14 rfl rfl)
theorem dX5_must_17 : decode cX5_must 17 = .ok (.return_, 1) := dk_177 (dk_at dksX5_must_0 17 rfl rfl)
abbrev cX5_named : ByteArray := prog_24_method_19_code
def yX5_named : MethodName := ⟨RX5, "named", "(I)I"⟩
def dkwX5_named_6 : List UInt8 := [2, 172]
abbrev dktX5_named_6 : List UInt8 := dkwX5_named_6 ++ []
def dkwX5_named_5 : List UInt8 := [180, 0, 19, 42, 180, 0, 126, 46, 42, 182, 0, 129, 126, 182, 0, 132, 172, 42, 180, 0, 7, 4, 46, 172]
abbrev dktX5_named_5 : List UInt8 := dkwX5_named_5 ++ dktX5_named_6
def dkwX5_named_4 : List UInt8 := [180, 0, 126, 104, 6, 96, 46, 172, 42, 180, 0, 28, 8, 42, 180, 0, 126, 104, 7, 96, 46, 172, 42, 42]
abbrev dktX5_named_4 : List UInt8 := dkwX5_named_4 ++ dktX5_named_5
def dkwX5_named_3 : List UInt8 := [46, 172, 42, 180, 0, 28, 8, 42, 180, 0, 126, 104, 5, 96, 46, 172, 42, 180, 0, 28, 8, 42]
abbrev dktX5_named_3 : List UInt8 := dkwX5_named_3 ++ dktX5_named_4
def dkwX5_named_2 : List UInt8 := [42, 180, 0, 28, 8, 42, 180, 0, 126, 104, 46, 172, 42, 180, 0, 28, 8, 42, 180, 0, 126, 104, 4, 96]
abbrev dktX5_named_2 : List UInt8 := dkwX5_named_2 ++ dktX5_named_3
def dkwX5_named_1 : List UInt8 := [170, 0, 0, 0, 0, 0, 193, 0, 0, 0, 99, 0, 0, 0, 119, 0, 0, 0, 153, 0, 0, 0, 167, 0, 0, 0, 139, 0, 0, 0, 193, 0, 0, 0, 125, 0, 0, 0, 193, 0, 0, 0, 193, 0, 0, 0, 193, 0, 0, 0, 193, 0, 0, 0, 111, 0, 0, 0, 193, 0, 0, 0, 193, 0, 0, 0, 193, 0, 0, 0, 193, 0, 0, 0, 193, 0, 0, 0, 193, 0, 0, 0, 99, 0, 0, 0, 193, 0, 0, 0, 193, 0, 0, 0, 193, 0, 0, 0, 186]
abbrev dktX5_named_1 : List UInt8 := dkwX5_named_1 ++ dktX5_named_2
def dkwX5_named_0 : List UInt8 := [27]
abbrev dktX5_named_0 : List UInt8 := dkwX5_named_0 ++ dktX5_named_1
theorem dksX5_named_0 : cX5_named.data.toList.drop 0 = dktX5_named_0 := by decide +kernel
theorem dksX5_named_1 : cX5_named.data.toList.drop 1 = dktX5_named_1 := dk_seg dksX5_named_0 1 rfl rfl
theorem dksX5_named_2 : cX5_named.data.toList.drop 100 = dktX5_named_2 := dk_seg dksX5_named_1 99 rfl rfl
theorem dksX5_named_3 : cX5_named.data.toList.drop 124 = dktX5_named_3 := dk_seg dksX5_named_2 24 rfl rfl
theorem dksX5_named_4 : cX5_named.data.toList.drop 146 = dktX5_named_4 := dk_seg dksX5_named_3 22 rfl rfl
theorem dksX5_named_5 : cX5_named.data.toList.drop 170 = dktX5_named_5 := dk_seg dksX5_named_4 24 rfl rfl
theorem dksX5_named_6 : cX5_named.data.toList.drop 194 = dktX5_named_6 := dk_seg dksX5_named_5 24 rfl rfl
theorem dX5_named_0 : decode cX5_named 0 = .ok (.iload_n 1, 1) := dk_27 (dk_at dksX5_named_0 0 rfl rfl)
theorem dX5_named_1 : decode cX5_named 1 = .ok (.tableswitch 193 99 119 #[153, 167, 139, 193, 125, 193, 193, 193, 193, 111, 193, 193, 193, 193, 193, 193, 99, 193, 193, 193, 186], 99) := by decide +kernel
theorem dX5_named_100 : decode cX5_named 100 = .ok (.aload_n 0, 1) := dk_42 (dk_at dksX5_named_2 0 rfl rfl)
theorem dX5_named_101 : decode cX5_named 101 = .ok (.getfield 28, 3) := dk_180 0 28 (dk_at dksX5_named_2 1 rfl rfl)
theorem dX5_named_104 : decode cX5_named 104 = .ok (.iconst 5, 1) := dk_8 (dk_at dksX5_named_2 4 rfl rfl)
theorem dX5_named_105 : decode cX5_named 105 = .ok (.aload_n 0, 1) := dk_42 (dk_at dksX5_named_2 5 rfl rfl)
theorem dX5_named_106 : decode cX5_named 106 = .ok (.getfield 126, 3) := dk_180 0 126 (dk_at dksX5_named_2 6 rfl rfl)
theorem dX5_named_109 : decode cX5_named 109 = .ok (.imul, 1) := dk_104 (dk_at dksX5_named_2 9 rfl rfl)
theorem dX5_named_110 : decode cX5_named 110 = .ok (.iaload, 1) := dk_46 (dk_at dksX5_named_2 10 rfl rfl)
theorem dX5_named_111 : decode cX5_named 111 = .ok (.ireturn, 1) := dk_172 (dk_at dksX5_named_2 11 rfl rfl)
theorem dX5_named_112 : decode cX5_named 112 = .ok (.aload_n 0, 1) := dk_42 (dk_at dksX5_named_2 12 rfl rfl)
theorem dX5_named_113 : decode cX5_named 113 = .ok (.getfield 28, 3) := dk_180 0 28 (dk_at dksX5_named_2 13 rfl rfl)
theorem dX5_named_116 : decode cX5_named 116 = .ok (.iconst 5, 1) := dk_8 (dk_at dksX5_named_2 16 rfl rfl)
theorem dX5_named_117 : decode cX5_named 117 = .ok (.aload_n 0, 1) := dk_42 (dk_at dksX5_named_2 17 rfl rfl)
theorem dX5_named_118 : decode cX5_named 118 = .ok (.getfield 126, 3) := dk_180 0 126 (dk_at dksX5_named_2 18 rfl rfl)
theorem dX5_named_121 : decode cX5_named 121 = .ok (.imul, 1) := dk_104 (dk_at dksX5_named_2 21 rfl rfl)
theorem dX5_named_122 : decode cX5_named 122 = .ok (.iconst 1, 1) := dk_4 (dk_at dksX5_named_2 22 rfl rfl)
theorem dX5_named_123 : decode cX5_named 123 = .ok (.iadd, 1) := dk_96 (dk_at dksX5_named_2 23 rfl rfl)
theorem dX5_named_124 : decode cX5_named 124 = .ok (.iaload, 1) := dk_46 (dk_at dksX5_named_3 0 rfl rfl)
theorem dX5_named_125 : decode cX5_named 125 = .ok (.ireturn, 1) := dk_172 (dk_at dksX5_named_3 1 rfl rfl)
theorem dX5_named_126 : decode cX5_named 126 = .ok (.aload_n 0, 1) := dk_42 (dk_at dksX5_named_3 2 rfl rfl)
theorem dX5_named_127 : decode cX5_named 127 = .ok (.getfield 28, 3) := dk_180 0 28 (dk_at dksX5_named_3 3 rfl rfl)
theorem dX5_named_130 : decode cX5_named 130 = .ok (.iconst 5, 1) := dk_8 (dk_at dksX5_named_3 6 rfl rfl)
theorem dX5_named_131 : decode cX5_named 131 = .ok (.aload_n 0, 1) := dk_42 (dk_at dksX5_named_3 7 rfl rfl)
theorem dX5_named_132 : decode cX5_named 132 = .ok (.getfield 126, 3) := dk_180 0 126 (dk_at dksX5_named_3 8 rfl rfl)
theorem dX5_named_135 : decode cX5_named 135 = .ok (.imul, 1) := dk_104 (dk_at dksX5_named_3 11 rfl rfl)
theorem dX5_named_136 : decode cX5_named 136 = .ok (.iconst 2, 1) := dk_5 (dk_at dksX5_named_3 12 rfl rfl)
theorem dX5_named_137 : decode cX5_named 137 = .ok (.iadd, 1) := dk_96 (dk_at dksX5_named_3 13 rfl rfl)
theorem dX5_named_138 : decode cX5_named 138 = .ok (.iaload, 1) := dk_46 (dk_at dksX5_named_3 14 rfl rfl)
theorem dX5_named_139 : decode cX5_named 139 = .ok (.ireturn, 1) := dk_172 (dk_at dksX5_named_3 15 rfl rfl)
theorem dX5_named_140 : decode cX5_named 140 = .ok (.aload_n 0, 1) := dk_42 (dk_at dksX5_named_3 16 rfl rfl)
theorem dX5_named_141 : decode cX5_named 141 = .ok (.getfield 28, 3) := dk_180 0 28 (dk_at dksX5_named_3 17 rfl rfl)
theorem dX5_named_144 : decode cX5_named 144 = .ok (.iconst 5, 1) := dk_8 (dk_at dksX5_named_3 20 rfl rfl)
theorem dX5_named_145 : decode cX5_named 145 = .ok (.aload_n 0, 1) := dk_42 (dk_at dksX5_named_3 21 rfl rfl)
theorem dX5_named_146 : decode cX5_named 146 = .ok (.getfield 126, 3) := dk_180 0 126 (dk_at dksX5_named_4 0 rfl rfl)
theorem dX5_named_149 : decode cX5_named 149 = .ok (.imul, 1) := dk_104 (dk_at dksX5_named_4 3 rfl rfl)
theorem dX5_named_150 : decode cX5_named 150 = .ok (.iconst 3, 1) := dk_6 (dk_at dksX5_named_4 4 rfl rfl)
theorem dX5_named_151 : decode cX5_named 151 = .ok (.iadd, 1) := dk_96 (dk_at dksX5_named_4 5 rfl rfl)
theorem dX5_named_152 : decode cX5_named 152 = .ok (.iaload, 1) := dk_46 (dk_at dksX5_named_4 6 rfl rfl)
theorem dX5_named_153 : decode cX5_named 153 = .ok (.ireturn, 1) := dk_172 (dk_at dksX5_named_4 7 rfl rfl)
theorem dX5_named_154 : decode cX5_named 154 = .ok (.aload_n 0, 1) := dk_42 (dk_at dksX5_named_4 8 rfl rfl)
theorem dX5_named_155 : decode cX5_named 155 = .ok (.getfield 28, 3) := dk_180 0 28 (dk_at dksX5_named_4 9 rfl rfl)
theorem dX5_named_158 : decode cX5_named 158 = .ok (.iconst 5, 1) := dk_8 (dk_at dksX5_named_4 12 rfl rfl)
theorem dX5_named_159 : decode cX5_named 159 = .ok (.aload_n 0, 1) := dk_42 (dk_at dksX5_named_4 13 rfl rfl)
theorem dX5_named_160 : decode cX5_named 160 = .ok (.getfield 126, 3) := dk_180 0 126 (dk_at dksX5_named_4 14 rfl rfl)
theorem dX5_named_163 : decode cX5_named 163 = .ok (.imul, 1) := dk_104 (dk_at dksX5_named_4 17 rfl rfl)
theorem dX5_named_164 : decode cX5_named 164 = .ok (.iconst 4, 1) := dk_7 (dk_at dksX5_named_4 18 rfl rfl)
theorem dX5_named_165 : decode cX5_named 165 = .ok (.iadd, 1) := dk_96 (dk_at dksX5_named_4 19 rfl rfl)
theorem dX5_named_166 : decode cX5_named 166 = .ok (.iaload, 1) := dk_46 (dk_at dksX5_named_4 20 rfl rfl)
theorem dX5_named_167 : decode cX5_named 167 = .ok (.ireturn, 1) := dk_172 (dk_at dksX5_named_4 21 rfl rfl)
theorem dX5_named_168 : decode cX5_named 168 = .ok (.aload_n 0, 1) := dk_42 (dk_at dksX5_named_4 22 rfl rfl)
theorem dX5_named_169 : decode cX5_named 169 = .ok (.aload_n 0, 1) := dk_42 (dk_at dksX5_named_4 23 rfl rfl)
theorem dX5_named_170 : decode cX5_named 170 = .ok (.getfield 19, 3) := dk_180 0 19 (dk_at dksX5_named_5 0 rfl rfl)
theorem dX5_named_173 : decode cX5_named 173 = .ok (.aload_n 0, 1) := dk_42 (dk_at dksX5_named_5 3 rfl rfl)
theorem dX5_named_174 : decode cX5_named 174 = .ok (.getfield 126, 3) := dk_180 0 126 (dk_at dksX5_named_5 4 rfl rfl)
theorem dX5_named_177 : decode cX5_named 177 = .ok (.iaload, 1) := dk_46 (dk_at dksX5_named_5 7 rfl rfl)
theorem dX5_named_178 : decode cX5_named 178 = .ok (.aload_n 0, 1) := dk_42 (dk_at dksX5_named_5 8 rfl rfl)
theorem dX5_named_179 : decode cX5_named 179 = .ok (.invokevirtual 129, 3) := dk_182 0 129 (dk_at dksX5_named_5 9 rfl rfl)
theorem dX5_named_182 : decode cX5_named 182 = .ok (.iand, 1) := dk_126 (dk_at dksX5_named_5 12 rfl rfl)
theorem dX5_named_183 : decode cX5_named 183 = .ok (.invokevirtual 132, 3) := dk_182 0 132 (dk_at dksX5_named_5 13 rfl rfl)
theorem dX5_named_186 : decode cX5_named 186 = .ok (.ireturn, 1) := dk_172 (dk_at dksX5_named_5 16 rfl rfl)
theorem dX5_named_187 : decode cX5_named 187 = .ok (.aload_n 0, 1) := dk_42 (dk_at dksX5_named_5 17 rfl rfl)
theorem dX5_named_188 : decode cX5_named 188 = .ok (.getfield 7, 3) := dk_180 0 7 (dk_at dksX5_named_5 18 rfl rfl)
theorem dX5_named_191 : decode cX5_named 191 = .ok (.iconst 1, 1) := dk_4 (dk_at dksX5_named_5 21 rfl rfl)
theorem dX5_named_192 : decode cX5_named 192 = .ok (.iaload, 1) := dk_46 (dk_at dksX5_named_5 22 rfl rfl)
theorem dX5_named_193 : decode cX5_named 193 = .ok (.ireturn, 1) := dk_172 (dk_at dksX5_named_5 23 rfl rfl)
theorem dX5_named_194 : decode cX5_named 194 = .ok (.iconst (-1), 1) := dk_2 (dk_at dksX5_named_6 0 rfl rfl)
theorem dX5_named_195 : decode cX5_named 195 = .ok (.ireturn, 1) := dk_172 (dk_at dksX5_named_6 1 rfl rfl)
abbrev cX5_latest : ByteArray := prog_24_method_18_code
def yX5_latest : MethodName := ⟨RX5, "latest", "()I"⟩
def dkwX5_latest_1 : List UInt8 := [180, 0, 7, 4, 46, 4, 100, 104, 96, 46, 172]
abbrev dktX5_latest_1 : List UInt8 := dkwX5_latest_1 ++ []
def dkwX5_latest_0 : List UInt8 := [42, 180, 0, 7, 4, 46, 154, 0, 7, 3, 167, 0, 22, 42, 180, 0, 7, 16, 104, 16, 8, 42]
abbrev dktX5_latest_0 : List UInt8 := dkwX5_latest_0 ++ dktX5_latest_1
theorem dksX5_latest_0 : cX5_latest.data.toList.drop 0 = dktX5_latest_0 := by decide +kernel
theorem dksX5_latest_1 : cX5_latest.data.toList.drop 22 = dktX5_latest_1 := dk_seg dksX5_latest_0 22 rfl rfl
theorem dX5_latest_0 : decode cX5_latest 0 = .ok (.aload_n 0, 1) := dk_42 (dk_at dksX5_latest_0 0 rfl rfl)
theorem dX5_latest_1 : decode cX5_latest 1 = .ok (.getfield 7, 3) := dk_180 0 7 (dk_at dksX5_latest_0 1 rfl rfl)
theorem dX5_latest_4 : decode cX5_latest 4 = .ok (.iconst 1, 1) := dk_4 (dk_at dksX5_latest_0 4 rfl rfl)
theorem dX5_latest_5 : decode cX5_latest 5 = .ok (.iaload, 1) := dk_46 (dk_at dksX5_latest_0 5 rfl rfl)
theorem dX5_latest_6 : decode cX5_latest 6 = .ok (.ifCond .ne 7, 3) := dk_154 0 7 (dk_at dksX5_latest_0 6 rfl rfl)
theorem dX5_latest_9 : decode cX5_latest 9 = .ok (.iconst 0, 1) := dk_3 (dk_at dksX5_latest_0 9 rfl rfl)
theorem dX5_latest_10 : decode cX5_latest 10 = .ok (.goto 22, 3) := dk_167 0 22 (dk_at dksX5_latest_0 10 rfl rfl)
theorem dX5_latest_13 : decode cX5_latest 13 = .ok (.aload_n 0, 1) := dk_42 (dk_at dksX5_latest_0 13 rfl rfl)
theorem dX5_latest_14 : decode cX5_latest 14 = .ok (.getfield 7, 3) := dk_180 0 7 (dk_at dksX5_latest_0 14 rfl rfl)
theorem dX5_latest_17 : decode cX5_latest 17 = .ok (.bipush 104, 2) := dk_16 104 (dk_at dksX5_latest_0 17 rfl rfl)
theorem dX5_latest_19 : decode cX5_latest 19 = .ok (.bipush 8, 2) := dk_16 8 (dk_at dksX5_latest_0 19 rfl rfl)
theorem dX5_latest_21 : decode cX5_latest 21 = .ok (.aload_n 0, 1) := dk_42 (dk_at dksX5_latest_0 21 rfl rfl)
theorem dX5_latest_22 : decode cX5_latest 22 = .ok (.getfield 7, 3) := dk_180 0 7 (dk_at dksX5_latest_1 0 rfl rfl)
theorem dX5_latest_25 : decode cX5_latest 25 = .ok (.iconst 1, 1) := dk_4 (dk_at dksX5_latest_1 3 rfl rfl)
theorem dX5_latest_26 : decode cX5_latest 26 = .ok (.iaload, 1) := dk_46 (dk_at dksX5_latest_1 4 rfl rfl)
theorem dX5_latest_27 : decode cX5_latest 27 = .ok (.iconst 1, 1) := dk_4 (dk_at dksX5_latest_1 5 rfl rfl)
theorem dX5_latest_28 : decode cX5_latest 28 = .ok (.isub, 1) := dk_100 (dk_at dksX5_latest_1 6 rfl rfl)
theorem dX5_latest_29 : decode cX5_latest 29 = .ok (.imul, 1) := dk_104 (dk_at dksX5_latest_1 7 rfl rfl)
theorem dX5_latest_30 : decode cX5_latest 30 = .ok (.iadd, 1) := dk_96 (dk_at dksX5_latest_1 8 rfl rfl)
theorem dX5_latest_31 : decode cX5_latest 31 = .ok (.iaload, 1) := dk_46 (dk_at dksX5_latest_1 9 rfl rfl)
theorem dX5_latest_32 : decode cX5_latest 32 = .ok (.ireturn, 1) := dk_172 (dk_at dksX5_latest_1 10 rfl rfl)
abbrev cX5_ones : ByteArray := prog_24_method_2_code
def yX5_ones : MethodName := ⟨RX5, "ones", "(I)I"⟩
def dkwX5_ones_0 : List UInt8 := [42, 180, 0, 25, 27, 46, 172]
abbrev dktX5_ones_0 : List UInt8 := dkwX5_ones_0 ++ []
theorem dksX5_ones_0 : cX5_ones.data.toList.drop 0 = dktX5_ones_0 := by decide +kernel
theorem dX5_ones_0 : decode cX5_ones 0 = .ok (.aload_n 0, 1) := dk_42 (dk_at dksX5_ones_0 0 rfl rfl)
theorem dX5_ones_1 : decode cX5_ones 1 = .ok (.getfield 25, 3) := dk_180 0 25 (dk_at dksX5_ones_0 1 rfl rfl)
theorem dX5_ones_4 : decode cX5_ones 4 = .ok (.iload_n 1, 1) := dk_27 (dk_at dksX5_ones_0 4 rfl rfl)
theorem dX5_ones_5 : decode cX5_ones 5 = .ok (.iaload, 1) := dk_46 (dk_at dksX5_ones_0 5 rfl rfl)
theorem dX5_ones_6 : decode cX5_ones 6 = .ok (.ireturn, 1) := dk_172 (dk_at dksX5_ones_0 6 rfl rfl)
abbrev cX5_even : ByteArray := prog_24_method_31_code
def yX5_even : MethodName := ⟨RX5, "even", "()I"⟩
def dkwX5_even_1 : List UInt8 := [27, 172]
abbrev dktX5_even_1 : List UInt8 := dkwX5_even_1 ++ []
def dkwX5_even_0 : List UInt8 := [42, 180, 0, 7, 6, 46, 60, 42, 180, 0, 7, 6, 3, 79, 42, 4, 181, 0, 44, 42, 4, 181, 0, 48]
abbrev dktX5_even_0 : List UInt8 := dkwX5_even_0 ++ dktX5_even_1
theorem dksX5_even_0 : cX5_even.data.toList.drop 0 = dktX5_even_0 := by decide +kernel
theorem dksX5_even_1 : cX5_even.data.toList.drop 24 = dktX5_even_1 := dk_seg dksX5_even_0 24 rfl rfl
theorem dX5_even_0 : decode cX5_even 0 = .ok (.aload_n 0, 1) := dk_42 (dk_at dksX5_even_0 0 rfl rfl)
theorem dX5_even_1 : decode cX5_even 1 = .ok (.getfield 7, 3) := dk_180 0 7 (dk_at dksX5_even_0 1 rfl rfl)
theorem dX5_even_4 : decode cX5_even 4 = .ok (.iconst 3, 1) := dk_6 (dk_at dksX5_even_0 4 rfl rfl)
theorem dX5_even_5 : decode cX5_even 5 = .ok (.iaload, 1) := dk_46 (dk_at dksX5_even_0 5 rfl rfl)
theorem dX5_even_6 : decode cX5_even 6 = .ok (.istore_n 1, 1) := dk_60 (dk_at dksX5_even_0 6 rfl rfl)
theorem dX5_even_7 : decode cX5_even 7 = .ok (.aload_n 0, 1) := dk_42 (dk_at dksX5_even_0 7 rfl rfl)
theorem dX5_even_8 : decode cX5_even 8 = .ok (.getfield 7, 3) := dk_180 0 7 (dk_at dksX5_even_0 8 rfl rfl)
theorem dX5_even_11 : decode cX5_even 11 = .ok (.iconst 3, 1) := dk_6 (dk_at dksX5_even_0 11 rfl rfl)
theorem dX5_even_12 : decode cX5_even 12 = .ok (.iconst 0, 1) := dk_3 (dk_at dksX5_even_0 12 rfl rfl)
theorem dX5_even_13 : decode cX5_even 13 = .ok (.iastore, 1) := dk_79 (dk_at dksX5_even_0 13 rfl rfl)
theorem dX5_even_14 : decode cX5_even 14 = .ok (.aload_n 0, 1) := dk_42 (dk_at dksX5_even_0 14 rfl rfl)
theorem dX5_even_15 : decode cX5_even 15 = .ok (.iconst 1, 1) := dk_4 (dk_at dksX5_even_0 15 rfl rfl)
theorem dX5_even_16 : decode cX5_even 16 = .ok (.putfield 44, 3) := dk_181 0 44 (dk_at dksX5_even_0 16 rfl rfl)
theorem dX5_even_19 : decode cX5_even 19 = .ok (.aload_n 0, 1) := dk_42 (dk_at dksX5_even_0 19 rfl rfl)
theorem dX5_even_20 : decode cX5_even 20 = .ok (.iconst 1, 1) := dk_4 (dk_at dksX5_even_0 20 rfl rfl)
theorem dX5_even_21 : decode cX5_even 21 = .ok (.putfield 48, 3) := dk_181 0 48 (dk_at dksX5_even_0 21 rfl rfl)
theorem dX5_even_24 : decode cX5_even 24 = .ok (.iload_n 1, 1) := dk_27 (dk_at dksX5_even_1 0 rfl rfl)
theorem dX5_even_25 : decode cX5_even 25 = .ok (.ireturn, 1) := dk_172 (dk_at dksX5_even_1 1 rfl rfl)
abbrev cX5_likes : ByteArray := prog_24_method_38_code
def yX5_likes : MethodName := ⟨RX5, "likes", "(II)I"⟩
def dkwX5_likes_1 : List UInt8 := [182, 0, 198, 42, 27, 28, 182, 0, 188, 172]
abbrev dktX5_likes_1 : List UInt8 := dkwX5_likes_1 ++ []
def dkwX5_likes_0 : List UInt8 := [42, 27, 182, 0, 105, 153, 0, 10, 28, 184, 0, 92, 154, 0, 10, 42, 18, 87, 182, 0, 88, 172, 42]
abbrev dktX5_likes_0 : List UInt8 := dkwX5_likes_0 ++ dktX5_likes_1
theorem dksX5_likes_0 : cX5_likes.data.toList.drop 0 = dktX5_likes_0 := by decide +kernel
theorem dksX5_likes_1 : cX5_likes.data.toList.drop 23 = dktX5_likes_1 := dk_seg dksX5_likes_0 23 rfl rfl
theorem dX5_likes_0 : decode cX5_likes 0 = .ok (.aload_n 0, 1) := dk_42 (dk_at dksX5_likes_0 0 rfl rfl)
theorem dX5_likes_1 : decode cX5_likes 1 = .ok (.iload_n 1, 1) := dk_27 (dk_at dksX5_likes_0 1 rfl rfl)
theorem dX5_likes_2 : decode cX5_likes 2 = .ok (.invokevirtual 105, 3) := dk_182 0 105 (dk_at dksX5_likes_0 2 rfl rfl)
theorem dX5_likes_5 : decode cX5_likes 5 = .ok (.ifCond .eq 10, 3) := dk_153 0 10 (dk_at dksX5_likes_0 5 rfl rfl)
theorem dX5_likes_8 : decode cX5_likes 8 = .ok (.iload_n 2, 1) := dk_28 (dk_at dksX5_likes_0 8 rfl rfl)
theorem dX5_likes_9 : decode cX5_likes 9 = .ok (.invokestatic 92, 3) := dk_184 0 92 (dk_at dksX5_likes_0 9 rfl rfl)
theorem dX5_likes_12 : decode cX5_likes 12 = .ok (.ifCond .ne 10, 3) := dk_154 0 10 (dk_at dksX5_likes_0 12 rfl rfl)
theorem dX5_likes_15 : decode cX5_likes 15 = .ok (.aload_n 0, 1) := dk_42 (dk_at dksX5_likes_0 15 rfl rfl)
theorem dX5_likes_16 : decode cX5_likes 16 = .ok (.ldc 87, 2) := dk_18 87 (dk_at dksX5_likes_0 16 rfl rfl)
theorem dX5_likes_18 : decode cX5_likes 18 = .ok (.invokevirtual 88, 3) := dk_182 0 88 (dk_at dksX5_likes_0 18 rfl rfl)
theorem dX5_likes_21 : decode cX5_likes 21 = .ok (.ireturn, 1) := dk_172 (dk_at dksX5_likes_0 21 rfl rfl)
theorem dX5_likes_22 : decode cX5_likes 22 = .ok (.aload_n 0, 1) := dk_42 (dk_at dksX5_likes_0 22 rfl rfl)
theorem dX5_likes_23 : decode cX5_likes 23 = .ok (.invokevirtual 198, 3) := dk_182 0 198 (dk_at dksX5_likes_1 0 rfl rfl)
theorem dX5_likes_26 : decode cX5_likes 26 = .ok (.aload_n 0, 1) := dk_42 (dk_at dksX5_likes_1 3 rfl rfl)
theorem dX5_likes_27 : decode cX5_likes 27 = .ok (.iload_n 1, 1) := dk_27 (dk_at dksX5_likes_1 4 rfl rfl)
theorem dX5_likes_28 : decode cX5_likes 28 = .ok (.iload_n 2, 1) := dk_28 (dk_at dksX5_likes_1 5 rfl rfl)
theorem dX5_likes_29 : decode cX5_likes 29 = .ok (.invokevirtual 188, 3) := dk_182 0 188 (dk_at dksX5_likes_1 6 rfl rfl)
theorem dX5_likes_32 : decode cX5_likes 32 = .ok (.ireturn, 1) := dk_172 (dk_at dksX5_likes_1 9 rfl rfl)
abbrev cX5_works : ByteArray := prog_24_method_37_code
def yX5_works : MethodName := ⟨RX5, "works", "()V"⟩
def dkwX5_works_10 : List UInt8 := [181, 0, 192, 132, 1, 1, 167, 255, 231, 177]
abbrev dktX5_works_10 : List UInt8 := dkwX5_works_10 ++ []
def dkwX5_works_9 : List UInt8 := [167, 255, 176, 3, 60, 27, 17, 1, 239, 162, 0, 24, 42, 89, 180, 0, 192, 42, 180, 0, 57, 27, 46, 96]
abbrev dktX5_works_9 : List UInt8 := dkwX5_works_9 ++ dktX5_works_10
def dkwX5_works_8 : List UInt8 := [180, 0, 57, 28, 92, 46, 42, 27, 28, 182, 0, 195, 96, 79, 132, 2, 1, 167, 255, 231, 132, 1, 1]
abbrev dktX5_works_8 : List UInt8 := dkwX5_works_8 ++ dktX5_works_9
def dkwX5_works_7 : List UInt8 := [28, 182, 0, 188, 96, 79, 132, 2, 1, 167, 255, 231, 3, 61, 28, 17, 1, 239, 162, 0, 24, 42]
abbrev dktX5_works_7 : List UInt8 := dkwX5_works_7 ++ dktX5_works_8
def dkwX5_works_6 : List UInt8 := [180, 0, 60, 27, 3, 79, 3, 61, 28, 17, 1, 239, 162, 0, 24, 42, 180, 0, 60, 27, 92, 46, 42, 27]
abbrev dktX5_works_6 : List UInt8 := dkwX5_works_6 ++ dktX5_works_7
def dkwX5_works_5 : List UInt8 := [27, 96, 46, 79, 132, 1, 1, 167, 255, 230, 3, 60, 27, 42, 180, 0, 7, 3, 46, 162, 0, 76, 42]
abbrev dktX5_works_5 : List UInt8 := dkwX5_works_5 ++ dktX5_works_6
def dkwX5_works_4 : List UInt8 := [181, 0, 192, 3, 60, 27, 17, 1, 239, 162, 0, 25, 42, 180, 0, 57, 27, 42, 180, 0, 7, 17, 1, 168]
abbrev dktX5_works_4 : List UInt8 := dkwX5_works_4 ++ dktX5_works_5
def dkwX5_works_3 : List UInt8 := [164, 0, 8, 16, 99, 167, 0, 4, 28, 79, 132, 1, 1, 167, 255, 193, 42, 3, 181, 0, 48, 42, 3]
abbrev dktX5_works_3 : List UInt8 := dkwX5_works_3 ++ dktX5_works_4
def dkwX5_works_2 : List UInt8 := [182, 0, 175, 167, 0, 4, 4, 61, 42, 180, 0, 54, 27, 28, 156, 0, 7, 3, 167, 0, 15, 28, 16, 99]
abbrev dktX5_works_2 : List UInt8 := dkwX5_works_2 ++ dktX5_works_3
def dkwX5_works_1 : List UInt8 := [162, 0, 62, 42, 180, 0, 48, 153, 0, 55, 42, 180, 0, 7, 6, 46, 4, 160, 0, 11, 42, 27]
abbrev dktX5_works_1 : List UInt8 := dkwX5_works_1 ++ dktX5_works_2
def dkwX5_works_0 : List UInt8 := [42, 180, 0, 44, 154, 0, 4, 177, 42, 3, 181, 0, 44, 42, 4, 181, 0, 51, 3, 60, 27, 17, 1, 239]
abbrev dktX5_works_0 : List UInt8 := dkwX5_works_0 ++ dktX5_works_1
theorem dksX5_works_0 : cX5_works.data.toList.drop 0 = dktX5_works_0 := by decide +kernel
theorem dksX5_works_1 : cX5_works.data.toList.drop 24 = dktX5_works_1 := dk_seg dksX5_works_0 24 rfl rfl
theorem dksX5_works_2 : cX5_works.data.toList.drop 46 = dktX5_works_2 := dk_seg dksX5_works_1 22 rfl rfl
theorem dksX5_works_3 : cX5_works.data.toList.drop 70 = dktX5_works_3 := dk_seg dksX5_works_2 24 rfl rfl
theorem dksX5_works_4 : cX5_works.data.toList.drop 93 = dktX5_works_4 := dk_seg dksX5_works_3 23 rfl rfl
theorem dksX5_works_5 : cX5_works.data.toList.drop 117 = dktX5_works_5 := dk_seg dksX5_works_4 24 rfl rfl
theorem dksX5_works_6 : cX5_works.data.toList.drop 140 = dktX5_works_6 := dk_seg dksX5_works_5 23 rfl rfl
theorem dksX5_works_7 : cX5_works.data.toList.drop 164 = dktX5_works_7 := dk_seg dksX5_works_6 24 rfl rfl
theorem dksX5_works_8 : cX5_works.data.toList.drop 186 = dktX5_works_8 := dk_seg dksX5_works_7 22 rfl rfl
theorem dksX5_works_9 : cX5_works.data.toList.drop 209 = dktX5_works_9 := dk_seg dksX5_works_8 23 rfl rfl
theorem dksX5_works_10 : cX5_works.data.toList.drop 233 = dktX5_works_10 := dk_seg dksX5_works_9 24 rfl rfl
theorem dX5_works_0 : decode cX5_works 0 = .ok (.aload_n 0, 1) := dk_42 (dk_at dksX5_works_0 0 rfl rfl)
theorem dX5_works_1 : decode cX5_works 1 = .ok (.getfield 44, 3) := dk_180 0 44 (dk_at dksX5_works_0 1 rfl rfl)
theorem dX5_works_4 : decode cX5_works 4 = .ok (.ifCond .ne 4, 3) := dk_154 0 4 (dk_at dksX5_works_0 4 rfl rfl)
theorem dX5_works_7 : decode cX5_works 7 = .ok (.return_, 1) := dk_177 (dk_at dksX5_works_0 7 rfl rfl)
theorem dX5_works_8 : decode cX5_works 8 = .ok (.aload_n 0, 1) := dk_42 (dk_at dksX5_works_0 8 rfl rfl)
theorem dX5_works_9 : decode cX5_works 9 = .ok (.iconst 0, 1) := dk_3 (dk_at dksX5_works_0 9 rfl rfl)
theorem dX5_works_10 : decode cX5_works 10 = .ok (.putfield 44, 3) := dk_181 0 44 (dk_at dksX5_works_0 10 rfl rfl)
theorem dX5_works_13 : decode cX5_works 13 = .ok (.aload_n 0, 1) := dk_42 (dk_at dksX5_works_0 13 rfl rfl)
theorem dX5_works_14 : decode cX5_works 14 = .ok (.iconst 1, 1) := dk_4 (dk_at dksX5_works_0 14 rfl rfl)
theorem dX5_works_15 : decode cX5_works 15 = .ok (.putfield 51, 3) := dk_181 0 51 (dk_at dksX5_works_0 15 rfl rfl)
theorem dX5_works_18 : decode cX5_works 18 = .ok (.iconst 0, 1) := dk_3 (dk_at dksX5_works_0 18 rfl rfl)
theorem dX5_works_19 : decode cX5_works 19 = .ok (.istore_n 1, 1) := dk_60 (dk_at dksX5_works_0 19 rfl rfl)
theorem dX5_works_20 : decode cX5_works 20 = .ok (.iload_n 1, 1) := dk_27 (dk_at dksX5_works_0 20 rfl rfl)
theorem dX5_works_21 : decode cX5_works 21 = .ok (.sipush 495, 3) := dk_17 1 239 (dk_at dksX5_works_0 21 rfl rfl)
theorem dX5_works_24 : decode cX5_works 24 = .ok (.if_icmp .ge 62, 3) := dk_162 0 62 (dk_at dksX5_works_1 0 rfl rfl)
theorem dX5_works_27 : decode cX5_works 27 = .ok (.aload_n 0, 1) := dk_42 (dk_at dksX5_works_1 3 rfl rfl)
theorem dX5_works_28 : decode cX5_works 28 = .ok (.getfield 48, 3) := dk_180 0 48 (dk_at dksX5_works_1 4 rfl rfl)
theorem dX5_works_31 : decode cX5_works 31 = .ok (.ifCond .eq 55, 3) := dk_153 0 55 (dk_at dksX5_works_1 7 rfl rfl)
theorem dX5_works_34 : decode cX5_works 34 = .ok (.aload_n 0, 1) := dk_42 (dk_at dksX5_works_1 10 rfl rfl)
theorem dX5_works_35 : decode cX5_works 35 = .ok (.getfield 7, 3) := dk_180 0 7 (dk_at dksX5_works_1 11 rfl rfl)
theorem dX5_works_38 : decode cX5_works 38 = .ok (.iconst 3, 1) := dk_6 (dk_at dksX5_works_1 14 rfl rfl)
theorem dX5_works_39 : decode cX5_works 39 = .ok (.iaload, 1) := dk_46 (dk_at dksX5_works_1 15 rfl rfl)
theorem dX5_works_40 : decode cX5_works 40 = .ok (.iconst 1, 1) := dk_4 (dk_at dksX5_works_1 16 rfl rfl)
theorem dX5_works_41 : decode cX5_works 41 = .ok (.if_icmp .ne 11, 3) := dk_160 0 11 (dk_at dksX5_works_1 17 rfl rfl)
theorem dX5_works_44 : decode cX5_works 44 = .ok (.aload_n 0, 1) := dk_42 (dk_at dksX5_works_1 20 rfl rfl)
theorem dX5_works_45 : decode cX5_works 45 = .ok (.iload_n 1, 1) := dk_27 (dk_at dksX5_works_1 21 rfl rfl)
theorem dX5_works_46 : decode cX5_works 46 = .ok (.invokevirtual 175, 3) := dk_182 0 175 (dk_at dksX5_works_2 0 rfl rfl)
theorem dX5_works_49 : decode cX5_works 49 = .ok (.goto 4, 3) := dk_167 0 4 (dk_at dksX5_works_2 3 rfl rfl)
theorem dX5_works_52 : decode cX5_works 52 = .ok (.iconst 1, 1) := dk_4 (dk_at dksX5_works_2 6 rfl rfl)
theorem dX5_works_53 : decode cX5_works 53 = .ok (.istore_n 2, 1) := dk_61 (dk_at dksX5_works_2 7 rfl rfl)
theorem dX5_works_54 : decode cX5_works 54 = .ok (.aload_n 0, 1) := dk_42 (dk_at dksX5_works_2 8 rfl rfl)
theorem dX5_works_55 : decode cX5_works 55 = .ok (.getfield 54, 3) := dk_180 0 54 (dk_at dksX5_works_2 9 rfl rfl)
theorem dX5_works_58 : decode cX5_works 58 = .ok (.iload_n 1, 1) := dk_27 (dk_at dksX5_works_2 12 rfl rfl)
theorem dX5_works_59 : decode cX5_works 59 = .ok (.iload_n 2, 1) := dk_28 (dk_at dksX5_works_2 13 rfl rfl)
theorem dX5_works_60 : decode cX5_works 60 = .ok (.ifCond .ge 7, 3) := dk_156 0 7 (dk_at dksX5_works_2 14 rfl rfl)
theorem dX5_works_63 : decode cX5_works 63 = .ok (.iconst 0, 1) := dk_3 (dk_at dksX5_works_2 17 rfl rfl)
theorem dX5_works_64 : decode cX5_works 64 = .ok (.goto 15, 3) := dk_167 0 15 (dk_at dksX5_works_2 18 rfl rfl)
theorem dX5_works_67 : decode cX5_works 67 = .ok (.iload_n 2, 1) := dk_28 (dk_at dksX5_works_2 21 rfl rfl)
theorem dX5_works_68 : decode cX5_works 68 = .ok (.bipush 99, 2) := dk_16 99 (dk_at dksX5_works_2 22 rfl rfl)
theorem dX5_works_70 : decode cX5_works 70 = .ok (.if_icmp .le 8, 3) := dk_164 0 8 (dk_at dksX5_works_3 0 rfl rfl)
theorem dX5_works_73 : decode cX5_works 73 = .ok (.bipush 99, 2) := dk_16 99 (dk_at dksX5_works_3 3 rfl rfl)
theorem dX5_works_75 : decode cX5_works 75 = .ok (.goto 4, 3) := dk_167 0 4 (dk_at dksX5_works_3 5 rfl rfl)
theorem dX5_works_78 : decode cX5_works 78 = .ok (.iload_n 2, 1) := dk_28 (dk_at dksX5_works_3 8 rfl rfl)
theorem dX5_works_79 : decode cX5_works 79 = .ok (.iastore, 1) := dk_79 (dk_at dksX5_works_3 9 rfl rfl)
theorem dX5_works_80 : decode cX5_works 80 = .ok (.iinc 1 1, 3) := dk_132 1 1 (dk_at dksX5_works_3 10 rfl rfl)
theorem dX5_works_83 : decode cX5_works 83 = .ok (.goto (-63), 3) := dk_167 255 193 (dk_at dksX5_works_3 13 rfl rfl)
theorem dX5_works_86 : decode cX5_works 86 = .ok (.aload_n 0, 1) := dk_42 (dk_at dksX5_works_3 16 rfl rfl)
theorem dX5_works_87 : decode cX5_works 87 = .ok (.iconst 0, 1) := dk_3 (dk_at dksX5_works_3 17 rfl rfl)
theorem dX5_works_88 : decode cX5_works 88 = .ok (.putfield 48, 3) := dk_181 0 48 (dk_at dksX5_works_3 18 rfl rfl)
theorem dX5_works_91 : decode cX5_works 91 = .ok (.aload_n 0, 1) := dk_42 (dk_at dksX5_works_3 21 rfl rfl)
theorem dX5_works_92 : decode cX5_works 92 = .ok (.iconst 0, 1) := dk_3 (dk_at dksX5_works_3 22 rfl rfl)
theorem dX5_works_93 : decode cX5_works 93 = .ok (.putfield 192, 3) := dk_181 0 192 (dk_at dksX5_works_4 0 rfl rfl)
theorem dX5_works_96 : decode cX5_works 96 = .ok (.iconst 0, 1) := dk_3 (dk_at dksX5_works_4 3 rfl rfl)
theorem dX5_works_97 : decode cX5_works 97 = .ok (.istore_n 1, 1) := dk_60 (dk_at dksX5_works_4 4 rfl rfl)
theorem dX5_works_98 : decode cX5_works 98 = .ok (.iload_n 1, 1) := dk_27 (dk_at dksX5_works_4 5 rfl rfl)
theorem dX5_works_99 : decode cX5_works 99 = .ok (.sipush 495, 3) := dk_17 1 239 (dk_at dksX5_works_4 6 rfl rfl)
theorem dX5_works_102 : decode cX5_works 102 = .ok (.if_icmp .ge 25, 3) := dk_162 0 25 (dk_at dksX5_works_4 9 rfl rfl)
theorem dX5_works_105 : decode cX5_works 105 = .ok (.aload_n 0, 1) := dk_42 (dk_at dksX5_works_4 12 rfl rfl)
theorem dX5_works_106 : decode cX5_works 106 = .ok (.getfield 57, 3) := dk_180 0 57 (dk_at dksX5_works_4 13 rfl rfl)
theorem dX5_works_109 : decode cX5_works 109 = .ok (.iload_n 1, 1) := dk_27 (dk_at dksX5_works_4 16 rfl rfl)
theorem dX5_works_110 : decode cX5_works 110 = .ok (.aload_n 0, 1) := dk_42 (dk_at dksX5_works_4 17 rfl rfl)
theorem dX5_works_111 : decode cX5_works 111 = .ok (.getfield 7, 3) := dk_180 0 7 (dk_at dksX5_works_4 18 rfl rfl)
theorem dX5_works_114 : decode cX5_works 114 = .ok (.sipush 424, 3) := dk_17 1 168 (dk_at dksX5_works_4 21 rfl rfl)
theorem dX5_works_117 : decode cX5_works 117 = .ok (.iload_n 1, 1) := dk_27 (dk_at dksX5_works_5 0 rfl rfl)
theorem dX5_works_118 : decode cX5_works 118 = .ok (.iadd, 1) := dk_96 (dk_at dksX5_works_5 1 rfl rfl)
theorem dX5_works_119 : decode cX5_works 119 = .ok (.iaload, 1) := dk_46 (dk_at dksX5_works_5 2 rfl rfl)
theorem dX5_works_120 : decode cX5_works 120 = .ok (.iastore, 1) := dk_79 (dk_at dksX5_works_5 3 rfl rfl)
theorem dX5_works_121 : decode cX5_works 121 = .ok (.iinc 1 1, 3) := dk_132 1 1 (dk_at dksX5_works_5 4 rfl rfl)
theorem dX5_works_124 : decode cX5_works 124 = .ok (.goto (-26), 3) := dk_167 255 230 (dk_at dksX5_works_5 7 rfl rfl)
theorem dX5_works_127 : decode cX5_works 127 = .ok (.iconst 0, 1) := dk_3 (dk_at dksX5_works_5 10 rfl rfl)
theorem dX5_works_128 : decode cX5_works 128 = .ok (.istore_n 1, 1) := dk_60 (dk_at dksX5_works_5 11 rfl rfl)
theorem dX5_works_129 : decode cX5_works 129 = .ok (.iload_n 1, 1) := dk_27 (dk_at dksX5_works_5 12 rfl rfl)
theorem dX5_works_130 : decode cX5_works 130 = .ok (.aload_n 0, 1) := dk_42 (dk_at dksX5_works_5 13 rfl rfl)
theorem dX5_works_131 : decode cX5_works 131 = .ok (.getfield 7, 3) := dk_180 0 7 (dk_at dksX5_works_5 14 rfl rfl)
theorem dX5_works_134 : decode cX5_works 134 = .ok (.iconst 0, 1) := dk_3 (dk_at dksX5_works_5 17 rfl rfl)
theorem dX5_works_135 : decode cX5_works 135 = .ok (.iaload, 1) := dk_46 (dk_at dksX5_works_5 18 rfl rfl)
theorem dX5_works_136 : decode cX5_works 136 = .ok (.if_icmp .ge 76, 3) := dk_162 0 76 (dk_at dksX5_works_5 19 rfl rfl)
theorem dX5_works_139 : decode cX5_works 139 = .ok (.aload_n 0, 1) := dk_42 (dk_at dksX5_works_5 22 rfl rfl)
theorem dX5_works_140 : decode cX5_works 140 = .ok (.getfield 60, 3) := dk_180 0 60 (dk_at dksX5_works_6 0 rfl rfl)
theorem dX5_works_143 : decode cX5_works 143 = .ok (.iload_n 1, 1) := dk_27 (dk_at dksX5_works_6 3 rfl rfl)
theorem dX5_works_144 : decode cX5_works 144 = .ok (.iconst 0, 1) := dk_3 (dk_at dksX5_works_6 4 rfl rfl)
theorem dX5_works_145 : decode cX5_works 145 = .ok (.iastore, 1) := dk_79 (dk_at dksX5_works_6 5 rfl rfl)
theorem dX5_works_146 : decode cX5_works 146 = .ok (.iconst 0, 1) := dk_3 (dk_at dksX5_works_6 6 rfl rfl)
theorem dX5_works_147 : decode cX5_works 147 = .ok (.istore_n 2, 1) := dk_61 (dk_at dksX5_works_6 7 rfl rfl)
theorem dX5_works_148 : decode cX5_works 148 = .ok (.iload_n 2, 1) := dk_28 (dk_at dksX5_works_6 8 rfl rfl)
theorem dX5_works_149 : decode cX5_works 149 = .ok (.sipush 495, 3) := dk_17 1 239 (dk_at dksX5_works_6 9 rfl rfl)
theorem dX5_works_152 : decode cX5_works 152 = .ok (.if_icmp .ge 24, 3) := dk_162 0 24 (dk_at dksX5_works_6 12 rfl rfl)
theorem dX5_works_155 : decode cX5_works 155 = .ok (.aload_n 0, 1) := dk_42 (dk_at dksX5_works_6 15 rfl rfl)
theorem dX5_works_156 : decode cX5_works 156 = .ok (.getfield 60, 3) := dk_180 0 60 (dk_at dksX5_works_6 16 rfl rfl)
theorem dX5_works_159 : decode cX5_works 159 = .ok (.iload_n 1, 1) := dk_27 (dk_at dksX5_works_6 19 rfl rfl)
theorem dX5_works_160 : decode cX5_works 160 = .ok (.dup2, 1) := dk_92 (dk_at dksX5_works_6 20 rfl rfl)
theorem dX5_works_161 : decode cX5_works 161 = .ok (.iaload, 1) := dk_46 (dk_at dksX5_works_6 21 rfl rfl)
theorem dX5_works_162 : decode cX5_works 162 = .ok (.aload_n 0, 1) := dk_42 (dk_at dksX5_works_6 22 rfl rfl)
theorem dX5_works_163 : decode cX5_works 163 = .ok (.iload_n 1, 1) := dk_27 (dk_at dksX5_works_6 23 rfl rfl)
theorem dX5_works_164 : decode cX5_works 164 = .ok (.iload_n 2, 1) := dk_28 (dk_at dksX5_works_7 0 rfl rfl)
theorem dX5_works_165 : decode cX5_works 165 = .ok (.invokevirtual 188, 3) := dk_182 0 188 (dk_at dksX5_works_7 1 rfl rfl)
theorem dX5_works_168 : decode cX5_works 168 = .ok (.iadd, 1) := dk_96 (dk_at dksX5_works_7 4 rfl rfl)
theorem dX5_works_169 : decode cX5_works 169 = .ok (.iastore, 1) := dk_79 (dk_at dksX5_works_7 5 rfl rfl)
theorem dX5_works_170 : decode cX5_works 170 = .ok (.iinc 2 1, 3) := dk_132 2 1 (dk_at dksX5_works_7 6 rfl rfl)
theorem dX5_works_173 : decode cX5_works 173 = .ok (.goto (-25), 3) := dk_167 255 231 (dk_at dksX5_works_7 9 rfl rfl)
theorem dX5_works_176 : decode cX5_works 176 = .ok (.iconst 0, 1) := dk_3 (dk_at dksX5_works_7 12 rfl rfl)
theorem dX5_works_177 : decode cX5_works 177 = .ok (.istore_n 2, 1) := dk_61 (dk_at dksX5_works_7 13 rfl rfl)
theorem dX5_works_178 : decode cX5_works 178 = .ok (.iload_n 2, 1) := dk_28 (dk_at dksX5_works_7 14 rfl rfl)
theorem dX5_works_179 : decode cX5_works 179 = .ok (.sipush 495, 3) := dk_17 1 239 (dk_at dksX5_works_7 15 rfl rfl)
theorem dX5_works_182 : decode cX5_works 182 = .ok (.if_icmp .ge 24, 3) := dk_162 0 24 (dk_at dksX5_works_7 18 rfl rfl)
theorem dX5_works_185 : decode cX5_works 185 = .ok (.aload_n 0, 1) := dk_42 (dk_at dksX5_works_7 21 rfl rfl)
theorem dX5_works_186 : decode cX5_works 186 = .ok (.getfield 57, 3) := dk_180 0 57 (dk_at dksX5_works_8 0 rfl rfl)
theorem dX5_works_189 : decode cX5_works 189 = .ok (.iload_n 2, 1) := dk_28 (dk_at dksX5_works_8 3 rfl rfl)
theorem dX5_works_190 : decode cX5_works 190 = .ok (.dup2, 1) := dk_92 (dk_at dksX5_works_8 4 rfl rfl)
theorem dX5_works_191 : decode cX5_works 191 = .ok (.iaload, 1) := dk_46 (dk_at dksX5_works_8 5 rfl rfl)
theorem dX5_works_192 : decode cX5_works 192 = .ok (.aload_n 0, 1) := dk_42 (dk_at dksX5_works_8 6 rfl rfl)
theorem dX5_works_193 : decode cX5_works 193 = .ok (.iload_n 1, 1) := dk_27 (dk_at dksX5_works_8 7 rfl rfl)
theorem dX5_works_194 : decode cX5_works 194 = .ok (.iload_n 2, 1) := dk_28 (dk_at dksX5_works_8 8 rfl rfl)
theorem dX5_works_195 : decode cX5_works 195 = .ok (.invokevirtual 195, 3) := dk_182 0 195 (dk_at dksX5_works_8 9 rfl rfl)
theorem dX5_works_198 : decode cX5_works 198 = .ok (.iadd, 1) := dk_96 (dk_at dksX5_works_8 12 rfl rfl)
theorem dX5_works_199 : decode cX5_works 199 = .ok (.iastore, 1) := dk_79 (dk_at dksX5_works_8 13 rfl rfl)
theorem dX5_works_200 : decode cX5_works 200 = .ok (.iinc 2 1, 3) := dk_132 2 1 (dk_at dksX5_works_8 14 rfl rfl)
theorem dX5_works_203 : decode cX5_works 203 = .ok (.goto (-25), 3) := dk_167 255 231 (dk_at dksX5_works_8 17 rfl rfl)
theorem dX5_works_206 : decode cX5_works 206 = .ok (.iinc 1 1, 3) := dk_132 1 1 (dk_at dksX5_works_8 20 rfl rfl)
theorem dX5_works_209 : decode cX5_works 209 = .ok (.goto (-80), 3) := dk_167 255 176 (dk_at dksX5_works_9 0 rfl rfl)
theorem dX5_works_212 : decode cX5_works 212 = .ok (.iconst 0, 1) := dk_3 (dk_at dksX5_works_9 3 rfl rfl)
theorem dX5_works_213 : decode cX5_works 213 = .ok (.istore_n 1, 1) := dk_60 (dk_at dksX5_works_9 4 rfl rfl)
theorem dX5_works_214 : decode cX5_works 214 = .ok (.iload_n 1, 1) := dk_27 (dk_at dksX5_works_9 5 rfl rfl)
theorem dX5_works_215 : decode cX5_works 215 = .ok (.sipush 495, 3) := dk_17 1 239 (dk_at dksX5_works_9 6 rfl rfl)
theorem dX5_works_218 : decode cX5_works 218 = .ok (.if_icmp .ge 24, 3) := dk_162 0 24 (dk_at dksX5_works_9 9 rfl rfl)
theorem dX5_works_221 : decode cX5_works 221 = .ok (.aload_n 0, 1) := dk_42 (dk_at dksX5_works_9 12 rfl rfl)
theorem dX5_works_222 : decode cX5_works 222 = .ok (.dup, 1) := dk_89 (dk_at dksX5_works_9 13 rfl rfl)
theorem dX5_works_223 : decode cX5_works 223 = .ok (.getfield 192, 3) := dk_180 0 192 (dk_at dksX5_works_9 14 rfl rfl)
theorem dX5_works_226 : decode cX5_works 226 = .ok (.aload_n 0, 1) := dk_42 (dk_at dksX5_works_9 17 rfl rfl)
theorem dX5_works_227 : decode cX5_works 227 = .ok (.getfield 57, 3) := dk_180 0 57 (dk_at dksX5_works_9 18 rfl rfl)
theorem dX5_works_230 : decode cX5_works 230 = .ok (.iload_n 1, 1) := dk_27 (dk_at dksX5_works_9 21 rfl rfl)
theorem dX5_works_231 : decode cX5_works 231 = .ok (.iaload, 1) := dk_46 (dk_at dksX5_works_9 22 rfl rfl)
theorem dX5_works_232 : decode cX5_works 232 = .ok (.iadd, 1) := dk_96 (dk_at dksX5_works_9 23 rfl rfl)
theorem dX5_works_233 : decode cX5_works 233 = .ok (.putfield 192, 3) := dk_181 0 192 (dk_at dksX5_works_10 0 rfl rfl)
theorem dX5_works_236 : decode cX5_works 236 = .ok (.iinc 1 1, 3) := dk_132 1 1 (dk_at dksX5_works_10 3 rfl rfl)
theorem dX5_works_239 : decode cX5_works 239 = .ok (.goto (-25), 3) := dk_167 255 231 (dk_at dksX5_works_10 6 rfl rfl)
theorem dX5_works_242 : decode cX5_works 242 = .ok (.return_, 1) := dk_177 (dk_at dksX5_works_10 9 rfl rfl)
abbrev cX5_likesBy : ByteArray := prog_24_method_35_code
def yX5_likesBy : MethodName := ⟨RX5, "likesBy", "(II)I"⟩
def dkwX5_likesBy_1 : List UInt8 := [28, 46, 182, 0, 184, 172]
abbrev dktX5_likesBy_1 : List UInt8 := dkwX5_likesBy_1 ++ []
def dkwX5_likesBy_0 : List UInt8 := [42, 42, 180, 0, 7, 16, 20, 27, 96, 46, 42, 180, 0, 7, 16, 32, 27, 96, 46, 28, 42, 180, 0, 54]
abbrev dktX5_likesBy_0 : List UInt8 := dkwX5_likesBy_0 ++ dktX5_likesBy_1
theorem dksX5_likesBy_0 : cX5_likesBy.data.toList.drop 0 = dktX5_likesBy_0 := by decide +kernel
theorem dksX5_likesBy_1 : cX5_likesBy.data.toList.drop 24 = dktX5_likesBy_1 := dk_seg dksX5_likesBy_0 24 rfl rfl
theorem dX5_likesBy_0 : decode cX5_likesBy 0 = .ok (.aload_n 0, 1) := dk_42 (dk_at dksX5_likesBy_0 0 rfl rfl)
theorem dX5_likesBy_1 : decode cX5_likesBy 1 = .ok (.aload_n 0, 1) := dk_42 (dk_at dksX5_likesBy_0 1 rfl rfl)
theorem dX5_likesBy_2 : decode cX5_likesBy 2 = .ok (.getfield 7, 3) := dk_180 0 7 (dk_at dksX5_likesBy_0 2 rfl rfl)
theorem dX5_likesBy_5 : decode cX5_likesBy 5 = .ok (.bipush 20, 2) := dk_16 20 (dk_at dksX5_likesBy_0 5 rfl rfl)
theorem dX5_likesBy_7 : decode cX5_likesBy 7 = .ok (.iload_n 1, 1) := dk_27 (dk_at dksX5_likesBy_0 7 rfl rfl)
theorem dX5_likesBy_8 : decode cX5_likesBy 8 = .ok (.iadd, 1) := dk_96 (dk_at dksX5_likesBy_0 8 rfl rfl)
theorem dX5_likesBy_9 : decode cX5_likesBy 9 = .ok (.iaload, 1) := dk_46 (dk_at dksX5_likesBy_0 9 rfl rfl)
theorem dX5_likesBy_10 : decode cX5_likesBy 10 = .ok (.aload_n 0, 1) := dk_42 (dk_at dksX5_likesBy_0 10 rfl rfl)
theorem dX5_likesBy_11 : decode cX5_likesBy 11 = .ok (.getfield 7, 3) := dk_180 0 7 (dk_at dksX5_likesBy_0 11 rfl rfl)
theorem dX5_likesBy_14 : decode cX5_likesBy 14 = .ok (.bipush 32, 2) := dk_16 32 (dk_at dksX5_likesBy_0 14 rfl rfl)
theorem dX5_likesBy_16 : decode cX5_likesBy 16 = .ok (.iload_n 1, 1) := dk_27 (dk_at dksX5_likesBy_0 16 rfl rfl)
theorem dX5_likesBy_17 : decode cX5_likesBy 17 = .ok (.iadd, 1) := dk_96 (dk_at dksX5_likesBy_0 17 rfl rfl)
theorem dX5_likesBy_18 : decode cX5_likesBy 18 = .ok (.iaload, 1) := dk_46 (dk_at dksX5_likesBy_0 18 rfl rfl)
theorem dX5_likesBy_19 : decode cX5_likesBy 19 = .ok (.iload_n 2, 1) := dk_28 (dk_at dksX5_likesBy_0 19 rfl rfl)
theorem dX5_likesBy_20 : decode cX5_likesBy 20 = .ok (.aload_n 0, 1) := dk_42 (dk_at dksX5_likesBy_0 20 rfl rfl)
theorem dX5_likesBy_21 : decode cX5_likesBy 21 = .ok (.getfield 54, 3) := dk_180 0 54 (dk_at dksX5_likesBy_0 21 rfl rfl)
theorem dX5_likesBy_24 : decode cX5_likesBy 24 = .ok (.iload_n 2, 1) := dk_28 (dk_at dksX5_likesBy_1 0 rfl rfl)
theorem dX5_likesBy_25 : decode cX5_likesBy 25 = .ok (.iaload, 1) := dk_46 (dk_at dksX5_likesBy_1 1 rfl rfl)
theorem dX5_likesBy_26 : decode cX5_likesBy 26 = .ok (.invokevirtual 184, 3) := dk_182 0 184 (dk_at dksX5_likesBy_1 2 rfl rfl)
theorem dX5_likesBy_29 : decode cX5_likesBy 29 = .ok (.ireturn, 1) := dk_172 (dk_at dksX5_likesBy_1 5 rfl rfl)
abbrev cX5_fancied : ByteArray := prog_24_method_34_code
def yX5_fancied : MethodName := ⟨RX5, "fancied", "(IIII)I"⟩
def dkwX5_fancied_7 : List UInt8 := [28, 162, 0, 18, 4, 42, 21, 5, 17, 15, 0, 126, 182, 0, 132, 96, 167, 0, 4, 3, 172]
abbrev dktX5_fancied_7 : List UInt8 := dkwX5_fancied_7 ++ []
def dkwX5_fancied_6 : List UInt8 := [153, 0, 7, 5, 167, 0, 4, 4, 104, 172, 4, 42, 21, 5, 17, 15, 0, 126, 182, 0, 132, 96, 172, 29]
abbrev dktX5_fancied_6 : List UInt8 := dkwX5_fancied_6 ++ dktX5_fancied_7
def dkwX5_fancied_5 : List UInt8 := [172, 21, 4, 5, 42, 21, 5, 16, 63, 126, 182, 0, 132, 104, 96, 21, 5, 16, 7, 184, 0, 83]
abbrev dktX5_fancied_5 : List UInt8 := dkwX5_fancied_5 ++ dktX5_fancied_6
def dkwX5_fancied_4 : List UInt8 := [167, 0, 4, 3, 96, 172, 4, 172, 21, 4, 6, 42, 21, 5, 42, 182, 0, 129, 126, 182, 0, 132, 104, 96]
abbrev dktX5_fancied_4 : List UInt8 := dkwX5_fancied_4 ++ dktX5_fancied_5
def dkwX5_fancied_3 : List UInt8 := [184, 0, 178, 153, 0, 8, 16, 20, 167, 0, 4, 3, 96, 42, 21, 5, 182, 0, 181, 153, 0, 8, 16, 10]
abbrev dktX5_fancied_3 : List UInt8 := dkwX5_fancied_3 ++ dktX5_fancied_4
def dkwX5_fancied_2 : List UInt8 := [21, 4, 172, 21, 4, 5, 42, 21, 5, 16, 63, 126, 182, 0, 132, 104, 96, 172, 21, 4, 21, 5]
abbrev dktX5_fancied_2 : List UInt8 := dkwX5_fancied_2 ++ dktX5_fancied_3
def dkwX5_fancied_1 : List UInt8 := [170, 0, 0, 0, 0, 0, 158, 0, 0, 0, 0, 0, 0, 0, 6, 0, 0, 0, 43, 0, 0, 0, 46, 0, 0, 0, 61, 0, 0, 0, 95, 0, 0, 0, 97, 0, 0, 0, 114, 0, 0, 0, 145]
abbrev dktX5_fancied_1 : List UInt8 := dkwX5_fancied_1 ++ dktX5_fancied_2
def dkwX5_fancied_0 : List UInt8 := [42, 180, 0, 19, 29, 46, 54, 5, 27]
abbrev dktX5_fancied_0 : List UInt8 := dkwX5_fancied_0 ++ dktX5_fancied_1
theorem dksX5_fancied_0 : cX5_fancied.data.toList.drop 0 = dktX5_fancied_0 := by decide +kernel
theorem dksX5_fancied_1 : cX5_fancied.data.toList.drop 9 = dktX5_fancied_1 := dk_seg dksX5_fancied_0 9 rfl rfl
theorem dksX5_fancied_2 : cX5_fancied.data.toList.drop 52 = dktX5_fancied_2 := dk_seg dksX5_fancied_1 43 rfl rfl
theorem dksX5_fancied_3 : cX5_fancied.data.toList.drop 74 = dktX5_fancied_3 := dk_seg dksX5_fancied_2 22 rfl rfl
theorem dksX5_fancied_4 : cX5_fancied.data.toList.drop 98 = dktX5_fancied_4 := dk_seg dksX5_fancied_3 24 rfl rfl
theorem dksX5_fancied_5 : cX5_fancied.data.toList.drop 122 = dktX5_fancied_5 := dk_seg dksX5_fancied_4 24 rfl rfl
theorem dksX5_fancied_6 : cX5_fancied.data.toList.drop 144 = dktX5_fancied_6 := dk_seg dksX5_fancied_5 22 rfl rfl
theorem dksX5_fancied_7 : cX5_fancied.data.toList.drop 168 = dktX5_fancied_7 := dk_seg dksX5_fancied_6 24 rfl rfl
theorem dX5_fancied_0 : decode cX5_fancied 0 = .ok (.aload_n 0, 1) := dk_42 (dk_at dksX5_fancied_0 0 rfl rfl)
theorem dX5_fancied_1 : decode cX5_fancied 1 = .ok (.getfield 19, 3) := dk_180 0 19 (dk_at dksX5_fancied_0 1 rfl rfl)
theorem dX5_fancied_4 : decode cX5_fancied 4 = .ok (.iload_n 3, 1) := dk_29 (dk_at dksX5_fancied_0 4 rfl rfl)
theorem dX5_fancied_5 : decode cX5_fancied 5 = .ok (.iaload, 1) := dk_46 (dk_at dksX5_fancied_0 5 rfl rfl)
theorem dX5_fancied_6 : decode cX5_fancied 6 = .ok (.istore 5, 2) := dk_54 5 (dk_at dksX5_fancied_0 6 rfl rfl)
theorem dX5_fancied_8 : decode cX5_fancied 8 = .ok (.iload_n 1, 1) := dk_27 (dk_at dksX5_fancied_0 8 rfl rfl)
theorem dX5_fancied_9 : decode cX5_fancied 9 = .ok (.tableswitch 158 0 6 #[43, 46, 61, 95, 97, 114, 145], 43) := by decide +kernel
theorem dX5_fancied_52 : decode cX5_fancied 52 = .ok (.iload 4, 2) := dk_21 4 (dk_at dksX5_fancied_2 0 rfl rfl)
theorem dX5_fancied_54 : decode cX5_fancied 54 = .ok (.ireturn, 1) := dk_172 (dk_at dksX5_fancied_2 2 rfl rfl)
theorem dX5_fancied_55 : decode cX5_fancied 55 = .ok (.iload 4, 2) := dk_21 4 (dk_at dksX5_fancied_2 3 rfl rfl)
theorem dX5_fancied_57 : decode cX5_fancied 57 = .ok (.iconst 2, 1) := dk_5 (dk_at dksX5_fancied_2 5 rfl rfl)
theorem dX5_fancied_58 : decode cX5_fancied 58 = .ok (.aload_n 0, 1) := dk_42 (dk_at dksX5_fancied_2 6 rfl rfl)
theorem dX5_fancied_59 : decode cX5_fancied 59 = .ok (.iload 5, 2) := dk_21 5 (dk_at dksX5_fancied_2 7 rfl rfl)
theorem dX5_fancied_61 : decode cX5_fancied 61 = .ok (.bipush 63, 2) := dk_16 63 (dk_at dksX5_fancied_2 9 rfl rfl)
theorem dX5_fancied_63 : decode cX5_fancied 63 = .ok (.iand, 1) := dk_126 (dk_at dksX5_fancied_2 11 rfl rfl)
theorem dX5_fancied_64 : decode cX5_fancied 64 = .ok (.invokevirtual 132, 3) := dk_182 0 132 (dk_at dksX5_fancied_2 12 rfl rfl)
theorem dX5_fancied_67 : decode cX5_fancied 67 = .ok (.imul, 1) := dk_104 (dk_at dksX5_fancied_2 15 rfl rfl)
theorem dX5_fancied_68 : decode cX5_fancied 68 = .ok (.iadd, 1) := dk_96 (dk_at dksX5_fancied_2 16 rfl rfl)
theorem dX5_fancied_69 : decode cX5_fancied 69 = .ok (.ireturn, 1) := dk_172 (dk_at dksX5_fancied_2 17 rfl rfl)
theorem dX5_fancied_70 : decode cX5_fancied 70 = .ok (.iload 4, 2) := dk_21 4 (dk_at dksX5_fancied_2 18 rfl rfl)
theorem dX5_fancied_72 : decode cX5_fancied 72 = .ok (.iload 5, 2) := dk_21 5 (dk_at dksX5_fancied_2 20 rfl rfl)
theorem dX5_fancied_74 : decode cX5_fancied 74 = .ok (.invokestatic 178, 3) := dk_184 0 178 (dk_at dksX5_fancied_3 0 rfl rfl)
theorem dX5_fancied_77 : decode cX5_fancied 77 = .ok (.ifCond .eq 8, 3) := dk_153 0 8 (dk_at dksX5_fancied_3 3 rfl rfl)
theorem dX5_fancied_80 : decode cX5_fancied 80 = .ok (.bipush 20, 2) := dk_16 20 (dk_at dksX5_fancied_3 6 rfl rfl)
theorem dX5_fancied_82 : decode cX5_fancied 82 = .ok (.goto 4, 3) := dk_167 0 4 (dk_at dksX5_fancied_3 8 rfl rfl)
theorem dX5_fancied_85 : decode cX5_fancied 85 = .ok (.iconst 0, 1) := dk_3 (dk_at dksX5_fancied_3 11 rfl rfl)
theorem dX5_fancied_86 : decode cX5_fancied 86 = .ok (.iadd, 1) := dk_96 (dk_at dksX5_fancied_3 12 rfl rfl)
theorem dX5_fancied_87 : decode cX5_fancied 87 = .ok (.aload_n 0, 1) := dk_42 (dk_at dksX5_fancied_3 13 rfl rfl)
theorem dX5_fancied_88 : decode cX5_fancied 88 = .ok (.iload 5, 2) := dk_21 5 (dk_at dksX5_fancied_3 14 rfl rfl)
theorem dX5_fancied_90 : decode cX5_fancied 90 = .ok (.invokevirtual 181, 3) := dk_182 0 181 (dk_at dksX5_fancied_3 16 rfl rfl)
theorem dX5_fancied_93 : decode cX5_fancied 93 = .ok (.ifCond .eq 8, 3) := dk_153 0 8 (dk_at dksX5_fancied_3 19 rfl rfl)
theorem dX5_fancied_96 : decode cX5_fancied 96 = .ok (.bipush 10, 2) := dk_16 10 (dk_at dksX5_fancied_3 22 rfl rfl)
theorem dX5_fancied_98 : decode cX5_fancied 98 = .ok (.goto 4, 3) := dk_167 0 4 (dk_at dksX5_fancied_4 0 rfl rfl)
theorem dX5_fancied_101 : decode cX5_fancied 101 = .ok (.iconst 0, 1) := dk_3 (dk_at dksX5_fancied_4 3 rfl rfl)
theorem dX5_fancied_102 : decode cX5_fancied 102 = .ok (.iadd, 1) := dk_96 (dk_at dksX5_fancied_4 4 rfl rfl)
theorem dX5_fancied_103 : decode cX5_fancied 103 = .ok (.ireturn, 1) := dk_172 (dk_at dksX5_fancied_4 5 rfl rfl)
theorem dX5_fancied_104 : decode cX5_fancied 104 = .ok (.iconst 1, 1) := dk_4 (dk_at dksX5_fancied_4 6 rfl rfl)
theorem dX5_fancied_105 : decode cX5_fancied 105 = .ok (.ireturn, 1) := dk_172 (dk_at dksX5_fancied_4 7 rfl rfl)
theorem dX5_fancied_106 : decode cX5_fancied 106 = .ok (.iload 4, 2) := dk_21 4 (dk_at dksX5_fancied_4 8 rfl rfl)
theorem dX5_fancied_108 : decode cX5_fancied 108 = .ok (.iconst 3, 1) := dk_6 (dk_at dksX5_fancied_4 10 rfl rfl)
theorem dX5_fancied_109 : decode cX5_fancied 109 = .ok (.aload_n 0, 1) := dk_42 (dk_at dksX5_fancied_4 11 rfl rfl)
theorem dX5_fancied_110 : decode cX5_fancied 110 = .ok (.iload 5, 2) := dk_21 5 (dk_at dksX5_fancied_4 12 rfl rfl)
theorem dX5_fancied_112 : decode cX5_fancied 112 = .ok (.aload_n 0, 1) := dk_42 (dk_at dksX5_fancied_4 14 rfl rfl)
theorem dX5_fancied_113 : decode cX5_fancied 113 = .ok (.invokevirtual 129, 3) := dk_182 0 129 (dk_at dksX5_fancied_4 15 rfl rfl)
theorem dX5_fancied_116 : decode cX5_fancied 116 = .ok (.iand, 1) := dk_126 (dk_at dksX5_fancied_4 18 rfl rfl)
theorem dX5_fancied_117 : decode cX5_fancied 117 = .ok (.invokevirtual 132, 3) := dk_182 0 132 (dk_at dksX5_fancied_4 19 rfl rfl)
theorem dX5_fancied_120 : decode cX5_fancied 120 = .ok (.imul, 1) := dk_104 (dk_at dksX5_fancied_4 22 rfl rfl)
theorem dX5_fancied_121 : decode cX5_fancied 121 = .ok (.iadd, 1) := dk_96 (dk_at dksX5_fancied_4 23 rfl rfl)
theorem dX5_fancied_122 : decode cX5_fancied 122 = .ok (.ireturn, 1) := dk_172 (dk_at dksX5_fancied_5 0 rfl rfl)
theorem dX5_fancied_123 : decode cX5_fancied 123 = .ok (.iload 4, 2) := dk_21 4 (dk_at dksX5_fancied_5 1 rfl rfl)
theorem dX5_fancied_125 : decode cX5_fancied 125 = .ok (.iconst 2, 1) := dk_5 (dk_at dksX5_fancied_5 3 rfl rfl)
theorem dX5_fancied_126 : decode cX5_fancied 126 = .ok (.aload_n 0, 1) := dk_42 (dk_at dksX5_fancied_5 4 rfl rfl)
theorem dX5_fancied_127 : decode cX5_fancied 127 = .ok (.iload 5, 2) := dk_21 5 (dk_at dksX5_fancied_5 5 rfl rfl)
theorem dX5_fancied_129 : decode cX5_fancied 129 = .ok (.bipush 63, 2) := dk_16 63 (dk_at dksX5_fancied_5 7 rfl rfl)
theorem dX5_fancied_131 : decode cX5_fancied 131 = .ok (.iand, 1) := dk_126 (dk_at dksX5_fancied_5 9 rfl rfl)
theorem dX5_fancied_132 : decode cX5_fancied 132 = .ok (.invokevirtual 132, 3) := dk_182 0 132 (dk_at dksX5_fancied_5 10 rfl rfl)
theorem dX5_fancied_135 : decode cX5_fancied 135 = .ok (.imul, 1) := dk_104 (dk_at dksX5_fancied_5 13 rfl rfl)
theorem dX5_fancied_136 : decode cX5_fancied 136 = .ok (.iadd, 1) := dk_96 (dk_at dksX5_fancied_5 14 rfl rfl)
theorem dX5_fancied_137 : decode cX5_fancied 137 = .ok (.iload 5, 2) := dk_21 5 (dk_at dksX5_fancied_5 15 rfl rfl)
theorem dX5_fancied_139 : decode cX5_fancied 139 = .ok (.bipush 7, 2) := dk_16 7 (dk_at dksX5_fancied_5 17 rfl rfl)
theorem dX5_fancied_141 : decode cX5_fancied 141 = .ok (.invokestatic 83, 3) := dk_184 0 83 (dk_at dksX5_fancied_5 19 rfl rfl)
theorem dX5_fancied_144 : decode cX5_fancied 144 = .ok (.ifCond .eq 7, 3) := dk_153 0 7 (dk_at dksX5_fancied_6 0 rfl rfl)
theorem dX5_fancied_147 : decode cX5_fancied 147 = .ok (.iconst 2, 1) := dk_5 (dk_at dksX5_fancied_6 3 rfl rfl)
theorem dX5_fancied_148 : decode cX5_fancied 148 = .ok (.goto 4, 3) := dk_167 0 4 (dk_at dksX5_fancied_6 4 rfl rfl)
theorem dX5_fancied_151 : decode cX5_fancied 151 = .ok (.iconst 1, 1) := dk_4 (dk_at dksX5_fancied_6 7 rfl rfl)
theorem dX5_fancied_152 : decode cX5_fancied 152 = .ok (.imul, 1) := dk_104 (dk_at dksX5_fancied_6 8 rfl rfl)
theorem dX5_fancied_153 : decode cX5_fancied 153 = .ok (.ireturn, 1) := dk_172 (dk_at dksX5_fancied_6 9 rfl rfl)
theorem dX5_fancied_154 : decode cX5_fancied 154 = .ok (.iconst 1, 1) := dk_4 (dk_at dksX5_fancied_6 10 rfl rfl)
theorem dX5_fancied_155 : decode cX5_fancied 155 = .ok (.aload_n 0, 1) := dk_42 (dk_at dksX5_fancied_6 11 rfl rfl)
theorem dX5_fancied_156 : decode cX5_fancied 156 = .ok (.iload 5, 2) := dk_21 5 (dk_at dksX5_fancied_6 12 rfl rfl)
theorem dX5_fancied_158 : decode cX5_fancied 158 = .ok (.sipush 3840, 3) := dk_17 15 0 (dk_at dksX5_fancied_6 14 rfl rfl)
theorem dX5_fancied_161 : decode cX5_fancied 161 = .ok (.iand, 1) := dk_126 (dk_at dksX5_fancied_6 17 rfl rfl)
theorem dX5_fancied_162 : decode cX5_fancied 162 = .ok (.invokevirtual 132, 3) := dk_182 0 132 (dk_at dksX5_fancied_6 18 rfl rfl)
theorem dX5_fancied_165 : decode cX5_fancied 165 = .ok (.iadd, 1) := dk_96 (dk_at dksX5_fancied_6 21 rfl rfl)
theorem dX5_fancied_166 : decode cX5_fancied 166 = .ok (.ireturn, 1) := dk_172 (dk_at dksX5_fancied_6 22 rfl rfl)
theorem dX5_fancied_167 : decode cX5_fancied 167 = .ok (.iload_n 3, 1) := dk_29 (dk_at dksX5_fancied_6 23 rfl rfl)
theorem dX5_fancied_168 : decode cX5_fancied 168 = .ok (.iload_n 2, 1) := dk_28 (dk_at dksX5_fancied_7 0 rfl rfl)
theorem dX5_fancied_169 : decode cX5_fancied 169 = .ok (.if_icmp .ge 18, 3) := dk_162 0 18 (dk_at dksX5_fancied_7 1 rfl rfl)
theorem dX5_fancied_172 : decode cX5_fancied 172 = .ok (.iconst 1, 1) := dk_4 (dk_at dksX5_fancied_7 4 rfl rfl)
theorem dX5_fancied_173 : decode cX5_fancied 173 = .ok (.aload_n 0, 1) := dk_42 (dk_at dksX5_fancied_7 5 rfl rfl)
theorem dX5_fancied_174 : decode cX5_fancied 174 = .ok (.iload 5, 2) := dk_21 5 (dk_at dksX5_fancied_7 6 rfl rfl)
theorem dX5_fancied_176 : decode cX5_fancied 176 = .ok (.sipush 3840, 3) := dk_17 15 0 (dk_at dksX5_fancied_7 8 rfl rfl)
theorem dX5_fancied_179 : decode cX5_fancied 179 = .ok (.iand, 1) := dk_126 (dk_at dksX5_fancied_7 11 rfl rfl)
theorem dX5_fancied_180 : decode cX5_fancied 180 = .ok (.invokevirtual 132, 3) := dk_182 0 132 (dk_at dksX5_fancied_7 12 rfl rfl)
theorem dX5_fancied_183 : decode cX5_fancied 183 = .ok (.iadd, 1) := dk_96 (dk_at dksX5_fancied_7 15 rfl rfl)
theorem dX5_fancied_184 : decode cX5_fancied 184 = .ok (.goto 4, 3) := dk_167 0 4 (dk_at dksX5_fancied_7 16 rfl rfl)
theorem dX5_fancied_187 : decode cX5_fancied 187 = .ok (.iconst 0, 1) := dk_3 (dk_at dksX5_fancied_7 19 rfl rfl)
theorem dX5_fancied_188 : decode cX5_fancied 188 = .ok (.ireturn, 1) := dk_172 (dk_at dksX5_fancied_7 20 rfl rfl)
abbrev cX5_isOneLine : ByteArray := prog_24_method_32_code
def yX5_isOneLine : MethodName := ⟨RX5, "isOneLine", "(I)Z"⟩
def dkwX5_isOneLine_1 : List UInt8 := [167, 0, 4, 3, 172]
abbrev dktX5_isOneLine_1 : List UInt8 := dkwX5_isOneLine_1 ++ []
def dkwX5_isOneLine_0 : List UInt8 := [26, 16, 240, 126, 153, 0, 19, 26, 17, 255, 15, 126, 153, 0, 11, 26, 17, 240, 255, 126, 154, 0, 7, 4]
abbrev dktX5_isOneLine_0 : List UInt8 := dkwX5_isOneLine_0 ++ dktX5_isOneLine_1
theorem dksX5_isOneLine_0 : cX5_isOneLine.data.toList.drop 0 = dktX5_isOneLine_0 := by decide +kernel
theorem dksX5_isOneLine_1 : cX5_isOneLine.data.toList.drop 24 = dktX5_isOneLine_1 := dk_seg dksX5_isOneLine_0 24 rfl rfl
theorem dX5_isOneLine_0 : decode cX5_isOneLine 0 = .ok (.iload_n 0, 1) := dk_26 (dk_at dksX5_isOneLine_0 0 rfl rfl)
theorem dX5_isOneLine_1 : decode cX5_isOneLine 1 = .ok (.bipush (-16), 2) := dk_16 240 (dk_at dksX5_isOneLine_0 1 rfl rfl)
theorem dX5_isOneLine_3 : decode cX5_isOneLine 3 = .ok (.iand, 1) := dk_126 (dk_at dksX5_isOneLine_0 3 rfl rfl)
theorem dX5_isOneLine_4 : decode cX5_isOneLine 4 = .ok (.ifCond .eq 19, 3) := dk_153 0 19 (dk_at dksX5_isOneLine_0 4 rfl rfl)
theorem dX5_isOneLine_7 : decode cX5_isOneLine 7 = .ok (.iload_n 0, 1) := dk_26 (dk_at dksX5_isOneLine_0 7 rfl rfl)
theorem dX5_isOneLine_8 : decode cX5_isOneLine 8 = .ok (.sipush (-241), 3) := dk_17 255 15 (dk_at dksX5_isOneLine_0 8 rfl rfl)
theorem dX5_isOneLine_11 : decode cX5_isOneLine 11 = .ok (.iand, 1) := dk_126 (dk_at dksX5_isOneLine_0 11 rfl rfl)
theorem dX5_isOneLine_12 : decode cX5_isOneLine 12 = .ok (.ifCond .eq 11, 3) := dk_153 0 11 (dk_at dksX5_isOneLine_0 12 rfl rfl)
theorem dX5_isOneLine_15 : decode cX5_isOneLine 15 = .ok (.iload_n 0, 1) := dk_26 (dk_at dksX5_isOneLine_0 15 rfl rfl)
theorem dX5_isOneLine_16 : decode cX5_isOneLine 16 = .ok (.sipush (-3841), 3) := dk_17 240 255 (dk_at dksX5_isOneLine_0 16 rfl rfl)
theorem dX5_isOneLine_19 : decode cX5_isOneLine 19 = .ok (.iand, 1) := dk_126 (dk_at dksX5_isOneLine_0 19 rfl rfl)
theorem dX5_isOneLine_20 : decode cX5_isOneLine 20 = .ok (.ifCond .ne 7, 3) := dk_154 0 7 (dk_at dksX5_isOneLine_0 20 rfl rfl)
theorem dX5_isOneLine_23 : decode cX5_isOneLine 23 = .ok (.iconst 1, 1) := dk_4 (dk_at dksX5_isOneLine_0 23 rfl rfl)
theorem dX5_isOneLine_24 : decode cX5_isOneLine 24 = .ok (.goto 4, 3) := dk_167 0 4 (dk_at dksX5_isOneLine_1 0 rfl rfl)
theorem dX5_isOneLine_27 : decode cX5_isOneLine 27 = .ok (.iconst 0, 1) := dk_3 (dk_at dksX5_isOneLine_1 3 rfl rfl)
theorem dX5_isOneLine_28 : decode cX5_isOneLine 28 = .ok (.ireturn, 1) := dk_172 (dk_at dksX5_isOneLine_1 4 rfl rfl)
abbrev cX5_isThreeUp : ByteArray := prog_24_method_33_code
def yX5_isThreeUp : MethodName := ⟨RX5, "isThreeUp", "(I)Z"⟩
def dkwX5_isThreeUp_1 : List UInt8 := [6, 160, 0, 7, 4, 167, 0, 4, 3, 61, 132, 3, 1, 167, 255, 223, 28, 172]
abbrev dktX5_isThreeUp_1 : List UInt8 := dkwX5_isThreeUp_1 ++ []
def dkwX5_isThreeUp_0 : List UInt8 := [3, 61, 3, 62, 29, 7, 162, 0, 34, 28, 154, 0, 18, 42, 27, 17, 1, 17, 29, 120, 126, 182, 0, 132]
abbrev dktX5_isThreeUp_0 : List UInt8 := dkwX5_isThreeUp_0 ++ dktX5_isThreeUp_1
theorem dksX5_isThreeUp_0 : cX5_isThreeUp.data.toList.drop 0 = dktX5_isThreeUp_0 := by decide +kernel
theorem dksX5_isThreeUp_1 : cX5_isThreeUp.data.toList.drop 24 = dktX5_isThreeUp_1 := dk_seg dksX5_isThreeUp_0 24 rfl rfl
theorem dX5_isThreeUp_0 : decode cX5_isThreeUp 0 = .ok (.iconst 0, 1) := dk_3 (dk_at dksX5_isThreeUp_0 0 rfl rfl)
theorem dX5_isThreeUp_1 : decode cX5_isThreeUp 1 = .ok (.istore_n 2, 1) := dk_61 (dk_at dksX5_isThreeUp_0 1 rfl rfl)
theorem dX5_isThreeUp_2 : decode cX5_isThreeUp 2 = .ok (.iconst 0, 1) := dk_3 (dk_at dksX5_isThreeUp_0 2 rfl rfl)
theorem dX5_isThreeUp_3 : decode cX5_isThreeUp 3 = .ok (.istore_n 3, 1) := dk_62 (dk_at dksX5_isThreeUp_0 3 rfl rfl)
theorem dX5_isThreeUp_4 : decode cX5_isThreeUp 4 = .ok (.iload_n 3, 1) := dk_29 (dk_at dksX5_isThreeUp_0 4 rfl rfl)
theorem dX5_isThreeUp_5 : decode cX5_isThreeUp 5 = .ok (.iconst 4, 1) := dk_7 (dk_at dksX5_isThreeUp_0 5 rfl rfl)
theorem dX5_isThreeUp_6 : decode cX5_isThreeUp 6 = .ok (.if_icmp .ge 34, 3) := dk_162 0 34 (dk_at dksX5_isThreeUp_0 6 rfl rfl)
theorem dX5_isThreeUp_9 : decode cX5_isThreeUp 9 = .ok (.iload_n 2, 1) := dk_28 (dk_at dksX5_isThreeUp_0 9 rfl rfl)
theorem dX5_isThreeUp_10 : decode cX5_isThreeUp 10 = .ok (.ifCond .ne 18, 3) := dk_154 0 18 (dk_at dksX5_isThreeUp_0 10 rfl rfl)
theorem dX5_isThreeUp_13 : decode cX5_isThreeUp 13 = .ok (.aload_n 0, 1) := dk_42 (dk_at dksX5_isThreeUp_0 13 rfl rfl)
theorem dX5_isThreeUp_14 : decode cX5_isThreeUp 14 = .ok (.iload_n 1, 1) := dk_27 (dk_at dksX5_isThreeUp_0 14 rfl rfl)
theorem dX5_isThreeUp_15 : decode cX5_isThreeUp 15 = .ok (.sipush 273, 3) := dk_17 1 17 (dk_at dksX5_isThreeUp_0 15 rfl rfl)
theorem dX5_isThreeUp_18 : decode cX5_isThreeUp 18 = .ok (.iload_n 3, 1) := dk_29 (dk_at dksX5_isThreeUp_0 18 rfl rfl)
theorem dX5_isThreeUp_19 : decode cX5_isThreeUp 19 = .ok (.ishl, 1) := dk_120 (dk_at dksX5_isThreeUp_0 19 rfl rfl)
theorem dX5_isThreeUp_20 : decode cX5_isThreeUp 20 = .ok (.iand, 1) := dk_126 (dk_at dksX5_isThreeUp_0 20 rfl rfl)
theorem dX5_isThreeUp_21 : decode cX5_isThreeUp 21 = .ok (.invokevirtual 132, 3) := dk_182 0 132 (dk_at dksX5_isThreeUp_0 21 rfl rfl)
theorem dX5_isThreeUp_24 : decode cX5_isThreeUp 24 = .ok (.iconst 3, 1) := dk_6 (dk_at dksX5_isThreeUp_1 0 rfl rfl)
theorem dX5_isThreeUp_25 : decode cX5_isThreeUp 25 = .ok (.if_icmp .ne 7, 3) := dk_160 0 7 (dk_at dksX5_isThreeUp_1 1 rfl rfl)
theorem dX5_isThreeUp_28 : decode cX5_isThreeUp 28 = .ok (.iconst 1, 1) := dk_4 (dk_at dksX5_isThreeUp_1 4 rfl rfl)
theorem dX5_isThreeUp_29 : decode cX5_isThreeUp 29 = .ok (.goto 4, 3) := dk_167 0 4 (dk_at dksX5_isThreeUp_1 5 rfl rfl)
theorem dX5_isThreeUp_32 : decode cX5_isThreeUp 32 = .ok (.iconst 0, 1) := dk_3 (dk_at dksX5_isThreeUp_1 8 rfl rfl)
theorem dX5_isThreeUp_33 : decode cX5_isThreeUp 33 = .ok (.istore_n 2, 1) := dk_61 (dk_at dksX5_isThreeUp_1 9 rfl rfl)
theorem dX5_isThreeUp_34 : decode cX5_isThreeUp 34 = .ok (.iinc 3 1, 3) := dk_132 3 1 (dk_at dksX5_isThreeUp_1 10 rfl rfl)
theorem dX5_isThreeUp_37 : decode cX5_isThreeUp 37 = .ok (.goto (-33), 3) := dk_167 255 223 (dk_at dksX5_isThreeUp_1 13 rfl rfl)
theorem dX5_isThreeUp_40 : decode cX5_isThreeUp 40 = .ok (.iload_n 2, 1) := dk_28 (dk_at dksX5_isThreeUp_1 16 rfl rfl)
theorem dX5_isThreeUp_41 : decode cX5_isThreeUp 41 = .ok (.ireturn, 1) := dk_172 (dk_at dksX5_isThreeUp_1 17 rfl rfl)
abbrev cX5_crossedBy : ByteArray := prog_24_method_36_code
def yX5_crossedBy : MethodName := ⟨RX5, "crossedBy", "(II)I"⟩
def dkwX5_crossedBy_1 : List UInt8 := [28, 182, 0, 188, 104, 42, 180, 0, 60, 27, 46, 108, 172]
abbrev dktX5_crossedBy_1 : List UInt8 := dkwX5_crossedBy_1 ++ []
def dkwX5_crossedBy_0 : List UInt8 := [42, 180, 0, 60, 27, 46, 154, 0, 7, 3, 167, 0, 26, 42, 180, 0, 7, 16, 32, 27, 96, 46, 42, 27]
abbrev dktX5_crossedBy_0 : List UInt8 := dkwX5_crossedBy_0 ++ dktX5_crossedBy_1
theorem dksX5_crossedBy_0 : cX5_crossedBy.data.toList.drop 0 = dktX5_crossedBy_0 := by decide +kernel
theorem dksX5_crossedBy_1 : cX5_crossedBy.data.toList.drop 24 = dktX5_crossedBy_1 := dk_seg dksX5_crossedBy_0 24 rfl rfl
theorem dX5_crossedBy_0 : decode cX5_crossedBy 0 = .ok (.aload_n 0, 1) := dk_42 (dk_at dksX5_crossedBy_0 0 rfl rfl)
theorem dX5_crossedBy_1 : decode cX5_crossedBy 1 = .ok (.getfield 60, 3) := dk_180 0 60 (dk_at dksX5_crossedBy_0 1 rfl rfl)
theorem dX5_crossedBy_4 : decode cX5_crossedBy 4 = .ok (.iload_n 1, 1) := dk_27 (dk_at dksX5_crossedBy_0 4 rfl rfl)
theorem dX5_crossedBy_5 : decode cX5_crossedBy 5 = .ok (.iaload, 1) := dk_46 (dk_at dksX5_crossedBy_0 5 rfl rfl)
theorem dX5_crossedBy_6 : decode cX5_crossedBy 6 = .ok (.ifCond .ne 7, 3) := dk_154 0 7 (dk_at dksX5_crossedBy_0 6 rfl rfl)
theorem dX5_crossedBy_9 : decode cX5_crossedBy 9 = .ok (.iconst 0, 1) := dk_3 (dk_at dksX5_crossedBy_0 9 rfl rfl)
theorem dX5_crossedBy_10 : decode cX5_crossedBy 10 = .ok (.goto 26, 3) := dk_167 0 26 (dk_at dksX5_crossedBy_0 10 rfl rfl)
theorem dX5_crossedBy_13 : decode cX5_crossedBy 13 = .ok (.aload_n 0, 1) := dk_42 (dk_at dksX5_crossedBy_0 13 rfl rfl)
theorem dX5_crossedBy_14 : decode cX5_crossedBy 14 = .ok (.getfield 7, 3) := dk_180 0 7 (dk_at dksX5_crossedBy_0 14 rfl rfl)
theorem dX5_crossedBy_17 : decode cX5_crossedBy 17 = .ok (.bipush 32, 2) := dk_16 32 (dk_at dksX5_crossedBy_0 17 rfl rfl)
theorem dX5_crossedBy_19 : decode cX5_crossedBy 19 = .ok (.iload_n 1, 1) := dk_27 (dk_at dksX5_crossedBy_0 19 rfl rfl)
theorem dX5_crossedBy_20 : decode cX5_crossedBy 20 = .ok (.iadd, 1) := dk_96 (dk_at dksX5_crossedBy_0 20 rfl rfl)
theorem dX5_crossedBy_21 : decode cX5_crossedBy 21 = .ok (.iaload, 1) := dk_46 (dk_at dksX5_crossedBy_0 21 rfl rfl)
theorem dX5_crossedBy_22 : decode cX5_crossedBy 22 = .ok (.aload_n 0, 1) := dk_42 (dk_at dksX5_crossedBy_0 22 rfl rfl)
theorem dX5_crossedBy_23 : decode cX5_crossedBy 23 = .ok (.iload_n 1, 1) := dk_27 (dk_at dksX5_crossedBy_0 23 rfl rfl)
theorem dX5_crossedBy_24 : decode cX5_crossedBy 24 = .ok (.iload_n 2, 1) := dk_28 (dk_at dksX5_crossedBy_1 0 rfl rfl)
theorem dX5_crossedBy_25 : decode cX5_crossedBy 25 = .ok (.invokevirtual 188, 3) := dk_182 0 188 (dk_at dksX5_crossedBy_1 1 rfl rfl)
theorem dX5_crossedBy_28 : decode cX5_crossedBy 28 = .ok (.imul, 1) := dk_104 (dk_at dksX5_crossedBy_1 4 rfl rfl)
theorem dX5_crossedBy_29 : decode cX5_crossedBy 29 = .ok (.aload_n 0, 1) := dk_42 (dk_at dksX5_crossedBy_1 5 rfl rfl)
theorem dX5_crossedBy_30 : decode cX5_crossedBy 30 = .ok (.getfield 60, 3) := dk_180 0 60 (dk_at dksX5_crossedBy_1 6 rfl rfl)
theorem dX5_crossedBy_33 : decode cX5_crossedBy 33 = .ok (.iload_n 1, 1) := dk_27 (dk_at dksX5_crossedBy_1 9 rfl rfl)
theorem dX5_crossedBy_34 : decode cX5_crossedBy 34 = .ok (.iaload, 1) := dk_46 (dk_at dksX5_crossedBy_1 10 rfl rfl)
theorem dX5_crossedBy_35 : decode cX5_crossedBy 35 = .ok (.idiv, 1) := dk_108 (dk_at dksX5_crossedBy_1 11 rfl rfl)
theorem dX5_crossedBy_36 : decode cX5_crossedBy 36 = .ok (.ireturn, 1) := dk_172 (dk_at dksX5_crossedBy_1 12 rfl rfl)
abbrev cX5_crossed : ByteArray := prog_24_method_39_code
def yX5_crossed : MethodName := ⟨RX5, "crossed", "(II)I"⟩
def dkwX5_crossed_2 : List UInt8 := [182, 0, 195, 172]
abbrev dktX5_crossed_2 : List UInt8 := dkwX5_crossed_2 ++ []
def dkwX5_crossed_1 : List UInt8 := [182, 0, 88, 172, 42, 182, 0, 198, 27, 156, 0, 12, 42, 180, 0, 57, 28, 46, 167, 0, 9, 42, 27, 28]
abbrev dktX5_crossed_1 : List UInt8 := dkwX5_crossed_1 ++ dktX5_crossed_2
def dkwX5_crossed_0 : List UInt8 := [27, 2, 159, 0, 11, 42, 27, 182, 0, 105, 153, 0, 10, 28, 184, 0, 92, 154, 0, 10, 42, 18, 87]
abbrev dktX5_crossed_0 : List UInt8 := dkwX5_crossed_0 ++ dktX5_crossed_1
theorem dksX5_crossed_0 : cX5_crossed.data.toList.drop 0 = dktX5_crossed_0 := by decide +kernel
theorem dksX5_crossed_1 : cX5_crossed.data.toList.drop 23 = dktX5_crossed_1 := dk_seg dksX5_crossed_0 23 rfl rfl
theorem dksX5_crossed_2 : cX5_crossed.data.toList.drop 47 = dktX5_crossed_2 := dk_seg dksX5_crossed_1 24 rfl rfl
theorem dX5_crossed_0 : decode cX5_crossed 0 = .ok (.iload_n 1, 1) := dk_27 (dk_at dksX5_crossed_0 0 rfl rfl)
theorem dX5_crossed_1 : decode cX5_crossed 1 = .ok (.iconst (-1), 1) := dk_2 (dk_at dksX5_crossed_0 1 rfl rfl)
theorem dX5_crossed_2 : decode cX5_crossed 2 = .ok (.if_icmp .eq 11, 3) := dk_159 0 11 (dk_at dksX5_crossed_0 2 rfl rfl)
theorem dX5_crossed_5 : decode cX5_crossed 5 = .ok (.aload_n 0, 1) := dk_42 (dk_at dksX5_crossed_0 5 rfl rfl)
theorem dX5_crossed_6 : decode cX5_crossed 6 = .ok (.iload_n 1, 1) := dk_27 (dk_at dksX5_crossed_0 6 rfl rfl)
theorem dX5_crossed_7 : decode cX5_crossed 7 = .ok (.invokevirtual 105, 3) := dk_182 0 105 (dk_at dksX5_crossed_0 7 rfl rfl)
theorem dX5_crossed_10 : decode cX5_crossed 10 = .ok (.ifCond .eq 10, 3) := dk_153 0 10 (dk_at dksX5_crossed_0 10 rfl rfl)
theorem dX5_crossed_13 : decode cX5_crossed 13 = .ok (.iload_n 2, 1) := dk_28 (dk_at dksX5_crossed_0 13 rfl rfl)
theorem dX5_crossed_14 : decode cX5_crossed 14 = .ok (.invokestatic 92, 3) := dk_184 0 92 (dk_at dksX5_crossed_0 14 rfl rfl)
theorem dX5_crossed_17 : decode cX5_crossed 17 = .ok (.ifCond .ne 10, 3) := dk_154 0 10 (dk_at dksX5_crossed_0 17 rfl rfl)
theorem dX5_crossed_20 : decode cX5_crossed 20 = .ok (.aload_n 0, 1) := dk_42 (dk_at dksX5_crossed_0 20 rfl rfl)
theorem dX5_crossed_21 : decode cX5_crossed 21 = .ok (.ldc 87, 2) := dk_18 87 (dk_at dksX5_crossed_0 21 rfl rfl)
theorem dX5_crossed_23 : decode cX5_crossed 23 = .ok (.invokevirtual 88, 3) := dk_182 0 88 (dk_at dksX5_crossed_1 0 rfl rfl)
theorem dX5_crossed_26 : decode cX5_crossed 26 = .ok (.ireturn, 1) := dk_172 (dk_at dksX5_crossed_1 3 rfl rfl)
theorem dX5_crossed_27 : decode cX5_crossed 27 = .ok (.aload_n 0, 1) := dk_42 (dk_at dksX5_crossed_1 4 rfl rfl)
theorem dX5_crossed_28 : decode cX5_crossed 28 = .ok (.invokevirtual 198, 3) := dk_182 0 198 (dk_at dksX5_crossed_1 5 rfl rfl)
theorem dX5_crossed_31 : decode cX5_crossed 31 = .ok (.iload_n 1, 1) := dk_27 (dk_at dksX5_crossed_1 8 rfl rfl)
theorem dX5_crossed_32 : decode cX5_crossed 32 = .ok (.ifCond .ge 12, 3) := dk_156 0 12 (dk_at dksX5_crossed_1 9 rfl rfl)
theorem dX5_crossed_35 : decode cX5_crossed 35 = .ok (.aload_n 0, 1) := dk_42 (dk_at dksX5_crossed_1 12 rfl rfl)
theorem dX5_crossed_36 : decode cX5_crossed 36 = .ok (.getfield 57, 3) := dk_180 0 57 (dk_at dksX5_crossed_1 13 rfl rfl)
theorem dX5_crossed_39 : decode cX5_crossed 39 = .ok (.iload_n 2, 1) := dk_28 (dk_at dksX5_crossed_1 16 rfl rfl)
theorem dX5_crossed_40 : decode cX5_crossed 40 = .ok (.iaload, 1) := dk_46 (dk_at dksX5_crossed_1 17 rfl rfl)
theorem dX5_crossed_41 : decode cX5_crossed 41 = .ok (.goto 9, 3) := dk_167 0 9 (dk_at dksX5_crossed_1 18 rfl rfl)
theorem dX5_crossed_44 : decode cX5_crossed 44 = .ok (.aload_n 0, 1) := dk_42 (dk_at dksX5_crossed_1 21 rfl rfl)
theorem dX5_crossed_45 : decode cX5_crossed 45 = .ok (.iload_n 1, 1) := dk_27 (dk_at dksX5_crossed_1 22 rfl rfl)
theorem dX5_crossed_46 : decode cX5_crossed 46 = .ok (.iload_n 2, 1) := dk_28 (dk_at dksX5_crossed_1 23 rfl rfl)
theorem dX5_crossed_47 : decode cX5_crossed 47 = .ok (.invokevirtual 195, 3) := dk_182 0 195 (dk_at dksX5_crossed_2 0 rfl rfl)
theorem dX5_crossed_50 : decode cX5_crossed 50 = .ok (.ireturn, 1) := dk_172 (dk_at dksX5_crossed_2 3 rfl rfl)
abbrev cX5_buys : ByteArray := prog_24_method_40_code
def yX5_buys : MethodName := ⟨RX5, "buys", "(II)I"⟩
def dkwX5_buys_4 : List UInt8 := [27, 96, 29, 28, 96, 79, 42, 4, 181, 0, 44, 29, 28, 96, 172]
abbrev dktX5_buys_4 : List UInt8 := dkwX5_buys_4 ++ []
def dkwX5_buys_3 : List UInt8 := [180, 0, 7, 8, 92, 46, 29, 154, 0, 7, 4, 167, 0, 4, 3, 96, 79, 42, 180, 0, 7, 17, 1, 168]
abbrev dktX5_buys_3 : List UInt8 := dkwX5_buys_3 ++ dktX5_buys_4
def dkwX5_buys_2 : List UInt8 := [46, 16, 40, 159, 0, 11, 29, 28, 96, 18, 203, 164, 0, 10, 42, 18, 104, 182, 0, 88, 172, 42]
abbrev dktX5_buys_2 : List UInt8 := dkwX5_buys_2 ++ dktX5_buys_3
def dkwX5_buys_1 : List UInt8 := [182, 0, 88, 172, 42, 180, 0, 7, 17, 1, 168, 27, 96, 46, 62, 29, 154, 0, 14, 42, 180, 0, 7, 8]
abbrev dktX5_buys_1 : List UInt8 := dkwX5_buys_1 ++ dktX5_buys_2
def dkwX5_buys_0 : List UInt8 := [27, 184, 0, 92, 153, 0, 15, 28, 133, 10, 20, 0, 201, 184, 0, 98, 154, 0, 10, 42, 18, 87]
abbrev dktX5_buys_0 : List UInt8 := dkwX5_buys_0 ++ dktX5_buys_1
theorem dksX5_buys_0 : cX5_buys.data.toList.drop 0 = dktX5_buys_0 := by decide +kernel
theorem dksX5_buys_1 : cX5_buys.data.toList.drop 22 = dktX5_buys_1 := dk_seg dksX5_buys_0 22 rfl rfl
theorem dksX5_buys_2 : cX5_buys.data.toList.drop 46 = dktX5_buys_2 := dk_seg dksX5_buys_1 24 rfl rfl
theorem dksX5_buys_3 : cX5_buys.data.toList.drop 68 = dktX5_buys_3 := dk_seg dksX5_buys_2 22 rfl rfl
theorem dksX5_buys_4 : cX5_buys.data.toList.drop 92 = dktX5_buys_4 := dk_seg dksX5_buys_3 24 rfl rfl
theorem dX5_buys_0 : decode cX5_buys 0 = .ok (.iload_n 1, 1) := dk_27 (dk_at dksX5_buys_0 0 rfl rfl)
theorem dX5_buys_1 : decode cX5_buys 1 = .ok (.invokestatic 92, 3) := dk_184 0 92 (dk_at dksX5_buys_0 1 rfl rfl)
theorem dX5_buys_4 : decode cX5_buys 4 = .ok (.ifCond .eq 15, 3) := dk_153 0 15 (dk_at dksX5_buys_0 4 rfl rfl)
theorem dX5_buys_7 : decode cX5_buys 7 = .ok (.iload_n 2, 1) := dk_28 (dk_at dksX5_buys_0 7 rfl rfl)
theorem dX5_buys_8 : decode cX5_buys 8 = .ok (.i2l, 1) := dk_133 (dk_at dksX5_buys_0 8 rfl rfl)
theorem dX5_buys_9 : decode cX5_buys 9 = .ok (.lconst 1, 1) := dk_10 (dk_at dksX5_buys_0 9 rfl rfl)
theorem dX5_buys_10 : decode cX5_buys 10 = .ok (.ldc2_w 201, 3) := dk_20 0 201 (dk_at dksX5_buys_0 10 rfl rfl)
theorem dX5_buys_13 : decode cX5_buys 13 = .ok (.invokestatic 98, 3) := dk_184 0 98 (dk_at dksX5_buys_0 13 rfl rfl)
theorem dX5_buys_16 : decode cX5_buys 16 = .ok (.ifCond .ne 10, 3) := dk_154 0 10 (dk_at dksX5_buys_0 16 rfl rfl)
theorem dX5_buys_19 : decode cX5_buys 19 = .ok (.aload_n 0, 1) := dk_42 (dk_at dksX5_buys_0 19 rfl rfl)
theorem dX5_buys_20 : decode cX5_buys 20 = .ok (.ldc 87, 2) := dk_18 87 (dk_at dksX5_buys_0 20 rfl rfl)
theorem dX5_buys_22 : decode cX5_buys 22 = .ok (.invokevirtual 88, 3) := dk_182 0 88 (dk_at dksX5_buys_1 0 rfl rfl)
theorem dX5_buys_25 : decode cX5_buys 25 = .ok (.ireturn, 1) := dk_172 (dk_at dksX5_buys_1 3 rfl rfl)
theorem dX5_buys_26 : decode cX5_buys 26 = .ok (.aload_n 0, 1) := dk_42 (dk_at dksX5_buys_1 4 rfl rfl)
theorem dX5_buys_27 : decode cX5_buys 27 = .ok (.getfield 7, 3) := dk_180 0 7 (dk_at dksX5_buys_1 5 rfl rfl)
theorem dX5_buys_30 : decode cX5_buys 30 = .ok (.sipush 424, 3) := dk_17 1 168 (dk_at dksX5_buys_1 8 rfl rfl)
theorem dX5_buys_33 : decode cX5_buys 33 = .ok (.iload_n 1, 1) := dk_27 (dk_at dksX5_buys_1 11 rfl rfl)
theorem dX5_buys_34 : decode cX5_buys 34 = .ok (.iadd, 1) := dk_96 (dk_at dksX5_buys_1 12 rfl rfl)
theorem dX5_buys_35 : decode cX5_buys 35 = .ok (.iaload, 1) := dk_46 (dk_at dksX5_buys_1 13 rfl rfl)
theorem dX5_buys_36 : decode cX5_buys 36 = .ok (.istore_n 3, 1) := dk_62 (dk_at dksX5_buys_1 14 rfl rfl)
theorem dX5_buys_37 : decode cX5_buys 37 = .ok (.iload_n 3, 1) := dk_29 (dk_at dksX5_buys_1 15 rfl rfl)
theorem dX5_buys_38 : decode cX5_buys 38 = .ok (.ifCond .ne 14, 3) := dk_154 0 14 (dk_at dksX5_buys_1 16 rfl rfl)
theorem dX5_buys_41 : decode cX5_buys 41 = .ok (.aload_n 0, 1) := dk_42 (dk_at dksX5_buys_1 19 rfl rfl)
theorem dX5_buys_42 : decode cX5_buys 42 = .ok (.getfield 7, 3) := dk_180 0 7 (dk_at dksX5_buys_1 20 rfl rfl)
theorem dX5_buys_45 : decode cX5_buys 45 = .ok (.iconst 5, 1) := dk_8 (dk_at dksX5_buys_1 23 rfl rfl)
theorem dX5_buys_46 : decode cX5_buys 46 = .ok (.iaload, 1) := dk_46 (dk_at dksX5_buys_2 0 rfl rfl)
theorem dX5_buys_47 : decode cX5_buys 47 = .ok (.bipush 40, 2) := dk_16 40 (dk_at dksX5_buys_2 1 rfl rfl)
theorem dX5_buys_49 : decode cX5_buys 49 = .ok (.if_icmp .eq 11, 3) := dk_159 0 11 (dk_at dksX5_buys_2 3 rfl rfl)
theorem dX5_buys_52 : decode cX5_buys 52 = .ok (.iload_n 3, 1) := dk_29 (dk_at dksX5_buys_2 6 rfl rfl)
theorem dX5_buys_53 : decode cX5_buys 53 = .ok (.iload_n 2, 1) := dk_28 (dk_at dksX5_buys_2 7 rfl rfl)
theorem dX5_buys_54 : decode cX5_buys 54 = .ok (.iadd, 1) := dk_96 (dk_at dksX5_buys_2 8 rfl rfl)
theorem dX5_buys_55 : decode cX5_buys 55 = .ok (.ldc 203, 2) := dk_18 203 (dk_at dksX5_buys_2 9 rfl rfl)
theorem dX5_buys_57 : decode cX5_buys 57 = .ok (.if_icmp .le 10, 3) := dk_164 0 10 (dk_at dksX5_buys_2 11 rfl rfl)
theorem dX5_buys_60 : decode cX5_buys 60 = .ok (.aload_n 0, 1) := dk_42 (dk_at dksX5_buys_2 14 rfl rfl)
theorem dX5_buys_61 : decode cX5_buys 61 = .ok (.ldc 104, 2) := dk_18 104 (dk_at dksX5_buys_2 15 rfl rfl)
theorem dX5_buys_63 : decode cX5_buys 63 = .ok (.invokevirtual 88, 3) := dk_182 0 88 (dk_at dksX5_buys_2 17 rfl rfl)
theorem dX5_buys_66 : decode cX5_buys 66 = .ok (.ireturn, 1) := dk_172 (dk_at dksX5_buys_2 20 rfl rfl)
theorem dX5_buys_67 : decode cX5_buys 67 = .ok (.aload_n 0, 1) := dk_42 (dk_at dksX5_buys_2 21 rfl rfl)
theorem dX5_buys_68 : decode cX5_buys 68 = .ok (.getfield 7, 3) := dk_180 0 7 (dk_at dksX5_buys_3 0 rfl rfl)
theorem dX5_buys_71 : decode cX5_buys 71 = .ok (.iconst 5, 1) := dk_8 (dk_at dksX5_buys_3 3 rfl rfl)
theorem dX5_buys_72 : decode cX5_buys 72 = .ok (.dup2, 1) := dk_92 (dk_at dksX5_buys_3 4 rfl rfl)
theorem dX5_buys_73 : decode cX5_buys 73 = .ok (.iaload, 1) := dk_46 (dk_at dksX5_buys_3 5 rfl rfl)
theorem dX5_buys_74 : decode cX5_buys 74 = .ok (.iload_n 3, 1) := dk_29 (dk_at dksX5_buys_3 6 rfl rfl)
theorem dX5_buys_75 : decode cX5_buys 75 = .ok (.ifCond .ne 7, 3) := dk_154 0 7 (dk_at dksX5_buys_3 7 rfl rfl)
theorem dX5_buys_78 : decode cX5_buys 78 = .ok (.iconst 1, 1) := dk_4 (dk_at dksX5_buys_3 10 rfl rfl)
theorem dX5_buys_79 : decode cX5_buys 79 = .ok (.goto 4, 3) := dk_167 0 4 (dk_at dksX5_buys_3 11 rfl rfl)
theorem dX5_buys_82 : decode cX5_buys 82 = .ok (.iconst 0, 1) := dk_3 (dk_at dksX5_buys_3 14 rfl rfl)
theorem dX5_buys_83 : decode cX5_buys 83 = .ok (.iadd, 1) := dk_96 (dk_at dksX5_buys_3 15 rfl rfl)
theorem dX5_buys_84 : decode cX5_buys 84 = .ok (.iastore, 1) := dk_79 (dk_at dksX5_buys_3 16 rfl rfl)
theorem dX5_buys_85 : decode cX5_buys 85 = .ok (.aload_n 0, 1) := dk_42 (dk_at dksX5_buys_3 17 rfl rfl)
theorem dX5_buys_86 : decode cX5_buys 86 = .ok (.getfield 7, 3) := dk_180 0 7 (dk_at dksX5_buys_3 18 rfl rfl)
theorem dX5_buys_89 : decode cX5_buys 89 = .ok (.sipush 424, 3) := dk_17 1 168 (dk_at dksX5_buys_3 21 rfl rfl)
theorem dX5_buys_92 : decode cX5_buys 92 = .ok (.iload_n 1, 1) := dk_27 (dk_at dksX5_buys_4 0 rfl rfl)
theorem dX5_buys_93 : decode cX5_buys 93 = .ok (.iadd, 1) := dk_96 (dk_at dksX5_buys_4 1 rfl rfl)
theorem dX5_buys_94 : decode cX5_buys 94 = .ok (.iload_n 3, 1) := dk_29 (dk_at dksX5_buys_4 2 rfl rfl)
theorem dX5_buys_95 : decode cX5_buys 95 = .ok (.iload_n 2, 1) := dk_28 (dk_at dksX5_buys_4 3 rfl rfl)
theorem dX5_buys_96 : decode cX5_buys 96 = .ok (.iadd, 1) := dk_96 (dk_at dksX5_buys_4 4 rfl rfl)
theorem dX5_buys_97 : decode cX5_buys 97 = .ok (.iastore, 1) := dk_79 (dk_at dksX5_buys_4 5 rfl rfl)
theorem dX5_buys_98 : decode cX5_buys 98 = .ok (.aload_n 0, 1) := dk_42 (dk_at dksX5_buys_4 6 rfl rfl)
theorem dX5_buys_99 : decode cX5_buys 99 = .ok (.iconst 1, 1) := dk_4 (dk_at dksX5_buys_4 7 rfl rfl)
theorem dX5_buys_100 : decode cX5_buys 100 = .ok (.putfield 44, 3) := dk_181 0 44 (dk_at dksX5_buys_4 8 rfl rfl)
theorem dX5_buys_103 : decode cX5_buys 103 = .ok (.iload_n 3, 1) := dk_29 (dk_at dksX5_buys_4 11 rfl rfl)
theorem dX5_buys_104 : decode cX5_buys 104 = .ok (.iload_n 2, 1) := dk_28 (dk_at dksX5_buys_4 12 rfl rfl)
theorem dX5_buys_105 : decode cX5_buys 105 = .ok (.iadd, 1) := dk_96 (dk_at dksX5_buys_4 13 rfl rfl)
theorem dX5_buys_106 : decode cX5_buys 106 = .ok (.ireturn, 1) := dk_172 (dk_at dksX5_buys_4 14 rfl rfl)
abbrev cX5_returned : ByteArray := prog_24_method_41_code
def yX5_returned : MethodName := ⟨RX5, "returned", "()I"⟩
def dkwX5_returned_2 : List UInt8 := [42, 4, 181, 0, 44, 27, 172]
abbrev dktX5_returned_2 : List UInt8 := dkwX5_returned_2 ++ []
def dkwX5_returned_1 : List UInt8 := [42, 180, 0, 7, 17, 1, 168, 28, 96, 3, 79, 132, 2, 1, 167, 255, 222, 42, 180, 0, 7, 8, 3, 79]
abbrev dktX5_returned_1 : List UInt8 := dkwX5_returned_1 ++ dktX5_returned_2
def dkwX5_returned_0 : List UInt8 := [3, 60, 3, 61, 28, 17, 1, 239, 162, 0, 33, 27, 42, 180, 0, 7, 17, 1, 168, 28, 96, 46, 96, 60]
abbrev dktX5_returned_0 : List UInt8 := dkwX5_returned_0 ++ dktX5_returned_1
theorem dksX5_returned_0 : cX5_returned.data.toList.drop 0 = dktX5_returned_0 := by decide +kernel
theorem dksX5_returned_1 : cX5_returned.data.toList.drop 24 = dktX5_returned_1 := dk_seg dksX5_returned_0 24 rfl rfl
theorem dksX5_returned_2 : cX5_returned.data.toList.drop 48 = dktX5_returned_2 := dk_seg dksX5_returned_1 24 rfl rfl
theorem dX5_returned_0 : decode cX5_returned 0 = .ok (.iconst 0, 1) := dk_3 (dk_at dksX5_returned_0 0 rfl rfl)
theorem dX5_returned_1 : decode cX5_returned 1 = .ok (.istore_n 1, 1) := dk_60 (dk_at dksX5_returned_0 1 rfl rfl)
theorem dX5_returned_2 : decode cX5_returned 2 = .ok (.iconst 0, 1) := dk_3 (dk_at dksX5_returned_0 2 rfl rfl)
theorem dX5_returned_3 : decode cX5_returned 3 = .ok (.istore_n 2, 1) := dk_61 (dk_at dksX5_returned_0 3 rfl rfl)
theorem dX5_returned_4 : decode cX5_returned 4 = .ok (.iload_n 2, 1) := dk_28 (dk_at dksX5_returned_0 4 rfl rfl)
theorem dX5_returned_5 : decode cX5_returned 5 = .ok (.sipush 495, 3) := dk_17 1 239 (dk_at dksX5_returned_0 5 rfl rfl)
theorem dX5_returned_8 : decode cX5_returned 8 = .ok (.if_icmp .ge 33, 3) := dk_162 0 33 (dk_at dksX5_returned_0 8 rfl rfl)
theorem dX5_returned_11 : decode cX5_returned 11 = .ok (.iload_n 1, 1) := dk_27 (dk_at dksX5_returned_0 11 rfl rfl)
theorem dX5_returned_12 : decode cX5_returned 12 = .ok (.aload_n 0, 1) := dk_42 (dk_at dksX5_returned_0 12 rfl rfl)
theorem dX5_returned_13 : decode cX5_returned 13 = .ok (.getfield 7, 3) := dk_180 0 7 (dk_at dksX5_returned_0 13 rfl rfl)
theorem dX5_returned_16 : decode cX5_returned 16 = .ok (.sipush 424, 3) := dk_17 1 168 (dk_at dksX5_returned_0 16 rfl rfl)
theorem dX5_returned_19 : decode cX5_returned 19 = .ok (.iload_n 2, 1) := dk_28 (dk_at dksX5_returned_0 19 rfl rfl)
theorem dX5_returned_20 : decode cX5_returned 20 = .ok (.iadd, 1) := dk_96 (dk_at dksX5_returned_0 20 rfl rfl)
theorem dX5_returned_21 : decode cX5_returned 21 = .ok (.iaload, 1) := dk_46 (dk_at dksX5_returned_0 21 rfl rfl)
theorem dX5_returned_22 : decode cX5_returned 22 = .ok (.iadd, 1) := dk_96 (dk_at dksX5_returned_0 22 rfl rfl)
theorem dX5_returned_23 : decode cX5_returned 23 = .ok (.istore_n 1, 1) := dk_60 (dk_at dksX5_returned_0 23 rfl rfl)
theorem dX5_returned_24 : decode cX5_returned 24 = .ok (.aload_n 0, 1) := dk_42 (dk_at dksX5_returned_1 0 rfl rfl)
theorem dX5_returned_25 : decode cX5_returned 25 = .ok (.getfield 7, 3) := dk_180 0 7 (dk_at dksX5_returned_1 1 rfl rfl)
theorem dX5_returned_28 : decode cX5_returned 28 = .ok (.sipush 424, 3) := dk_17 1 168 (dk_at dksX5_returned_1 4 rfl rfl)
theorem dX5_returned_31 : decode cX5_returned 31 = .ok (.iload_n 2, 1) := dk_28 (dk_at dksX5_returned_1 7 rfl rfl)
theorem dX5_returned_32 : decode cX5_returned 32 = .ok (.iadd, 1) := dk_96 (dk_at dksX5_returned_1 8 rfl rfl)
theorem dX5_returned_33 : decode cX5_returned 33 = .ok (.iconst 0, 1) := dk_3 (dk_at dksX5_returned_1 9 rfl rfl)
theorem dX5_returned_34 : decode cX5_returned 34 = .ok (.iastore, 1) := dk_79 (dk_at dksX5_returned_1 10 rfl rfl)
theorem dX5_returned_35 : decode cX5_returned 35 = .ok (.iinc 2 1, 3) := dk_132 2 1 (dk_at dksX5_returned_1 11 rfl rfl)
theorem dX5_returned_38 : decode cX5_returned 38 = .ok (.goto (-34), 3) := dk_167 255 222 (dk_at dksX5_returned_1 14 rfl rfl)
theorem dX5_returned_41 : decode cX5_returned 41 = .ok (.aload_n 0, 1) := dk_42 (dk_at dksX5_returned_1 17 rfl rfl)
theorem dX5_returned_42 : decode cX5_returned 42 = .ok (.getfield 7, 3) := dk_180 0 7 (dk_at dksX5_returned_1 18 rfl rfl)
theorem dX5_returned_45 : decode cX5_returned 45 = .ok (.iconst 5, 1) := dk_8 (dk_at dksX5_returned_1 21 rfl rfl)
theorem dX5_returned_46 : decode cX5_returned 46 = .ok (.iconst 0, 1) := dk_3 (dk_at dksX5_returned_1 22 rfl rfl)
theorem dX5_returned_47 : decode cX5_returned 47 = .ok (.iastore, 1) := dk_79 (dk_at dksX5_returned_1 23 rfl rfl)
theorem dX5_returned_48 : decode cX5_returned 48 = .ok (.aload_n 0, 1) := dk_42 (dk_at dksX5_returned_2 0 rfl rfl)
theorem dX5_returned_49 : decode cX5_returned 49 = .ok (.iconst 1, 1) := dk_4 (dk_at dksX5_returned_2 1 rfl rfl)
theorem dX5_returned_50 : decode cX5_returned 50 = .ok (.putfield 44, 3) := dk_181 0 44 (dk_at dksX5_returned_2 2 rfl rfl)
theorem dX5_returned_53 : decode cX5_returned 53 = .ok (.iload_n 1, 1) := dk_27 (dk_at dksX5_returned_2 5 rfl rfl)
theorem dX5_returned_54 : decode cX5_returned 54 = .ok (.ireturn, 1) := dk_172 (dk_at dksX5_returned_2 6 rfl rfl)
abbrev cX5_rule : ByteArray := prog_24_method_42_code
def yX5_rule : MethodName := ⟨RX5, "rule", "(II)I"⟩
def dkwX5_rule_4 : List UInt8 := [180, 0, 7, 16, 10, 27, 96, 28, 79, 21, 4, 172]
abbrev dktX5_rule_4 : List UInt8 := dkwX5_rule_4 ++ []
def dkwX5_rule_3 : List UInt8 := [154, 0, 10, 42, 18, 87, 182, 0, 88, 172, 42, 180, 0, 7, 16, 10, 27, 96, 46, 54, 4, 42]
abbrev dktX5_rule_3 : List UInt8 := dkwX5_rule_3 ++ dktX5_rule_4
def dkwX5_rule_2 : List UInt8 := [167, 0, 5, 16, 100, 62, 28, 133, 27, 154, 0, 7, 10, 167, 0, 4, 9, 29, 133, 184, 0, 98]
abbrev dktX5_rule_2 : List UInt8 := dkwX5_rule_2 ++ dktX5_rule_3
def dkwX5_rule_1 : List UInt8 := [16, 99, 167, 0, 27, 27, 16, 6, 160, 0, 8, 18, 204, 167, 0, 16, 27, 16, 7, 160, 0, 8, 18, 205]
abbrev dktX5_rule_1 : List UInt8 := dkwX5_rule_1 ++ dktX5_rule_2
def dkwX5_rule_0 : List UInt8 := [27, 133, 9, 20, 0, 96, 184, 0, 98, 154, 0, 10, 42, 18, 87, 182, 0, 88, 172, 27, 154, 0, 8]
abbrev dktX5_rule_0 : List UInt8 := dkwX5_rule_0 ++ dktX5_rule_1
theorem dksX5_rule_0 : cX5_rule.data.toList.drop 0 = dktX5_rule_0 := by decide +kernel
theorem dksX5_rule_1 : cX5_rule.data.toList.drop 23 = dktX5_rule_1 := dk_seg dksX5_rule_0 23 rfl rfl
theorem dksX5_rule_2 : cX5_rule.data.toList.drop 47 = dktX5_rule_2 := dk_seg dksX5_rule_1 24 rfl rfl
theorem dksX5_rule_3 : cX5_rule.data.toList.drop 69 = dktX5_rule_3 := dk_seg dksX5_rule_2 22 rfl rfl
theorem dksX5_rule_4 : cX5_rule.data.toList.drop 91 = dktX5_rule_4 := dk_seg dksX5_rule_3 22 rfl rfl
theorem dX5_rule_0 : decode cX5_rule 0 = .ok (.iload_n 1, 1) := dk_27 (dk_at dksX5_rule_0 0 rfl rfl)
theorem dX5_rule_1 : decode cX5_rule 1 = .ok (.i2l, 1) := dk_133 (dk_at dksX5_rule_0 1 rfl rfl)
theorem dX5_rule_2 : decode cX5_rule 2 = .ok (.lconst 0, 1) := dk_9 (dk_at dksX5_rule_0 2 rfl rfl)
theorem dX5_rule_3 : decode cX5_rule 3 = .ok (.ldc2_w 96, 3) := dk_20 0 96 (dk_at dksX5_rule_0 3 rfl rfl)
theorem dX5_rule_6 : decode cX5_rule 6 = .ok (.invokestatic 98, 3) := dk_184 0 98 (dk_at dksX5_rule_0 6 rfl rfl)
theorem dX5_rule_9 : decode cX5_rule 9 = .ok (.ifCond .ne 10, 3) := dk_154 0 10 (dk_at dksX5_rule_0 9 rfl rfl)
theorem dX5_rule_12 : decode cX5_rule 12 = .ok (.aload_n 0, 1) := dk_42 (dk_at dksX5_rule_0 12 rfl rfl)
theorem dX5_rule_13 : decode cX5_rule 13 = .ok (.ldc 87, 2) := dk_18 87 (dk_at dksX5_rule_0 13 rfl rfl)
theorem dX5_rule_15 : decode cX5_rule 15 = .ok (.invokevirtual 88, 3) := dk_182 0 88 (dk_at dksX5_rule_0 15 rfl rfl)
theorem dX5_rule_18 : decode cX5_rule 18 = .ok (.ireturn, 1) := dk_172 (dk_at dksX5_rule_0 18 rfl rfl)
theorem dX5_rule_19 : decode cX5_rule 19 = .ok (.iload_n 1, 1) := dk_27 (dk_at dksX5_rule_0 19 rfl rfl)
theorem dX5_rule_20 : decode cX5_rule 20 = .ok (.ifCond .ne 8, 3) := dk_154 0 8 (dk_at dksX5_rule_0 20 rfl rfl)
theorem dX5_rule_23 : decode cX5_rule 23 = .ok (.bipush 99, 2) := dk_16 99 (dk_at dksX5_rule_1 0 rfl rfl)
theorem dX5_rule_25 : decode cX5_rule 25 = .ok (.goto 27, 3) := dk_167 0 27 (dk_at dksX5_rule_1 2 rfl rfl)
theorem dX5_rule_28 : decode cX5_rule 28 = .ok (.iload_n 1, 1) := dk_27 (dk_at dksX5_rule_1 5 rfl rfl)
theorem dX5_rule_29 : decode cX5_rule 29 = .ok (.bipush 6, 2) := dk_16 6 (dk_at dksX5_rule_1 6 rfl rfl)
theorem dX5_rule_31 : decode cX5_rule 31 = .ok (.if_icmp .ne 8, 3) := dk_160 0 8 (dk_at dksX5_rule_1 8 rfl rfl)
theorem dX5_rule_34 : decode cX5_rule 34 = .ok (.ldc 204, 2) := dk_18 204 (dk_at dksX5_rule_1 11 rfl rfl)
theorem dX5_rule_36 : decode cX5_rule 36 = .ok (.goto 16, 3) := dk_167 0 16 (dk_at dksX5_rule_1 13 rfl rfl)
theorem dX5_rule_39 : decode cX5_rule 39 = .ok (.iload_n 1, 1) := dk_27 (dk_at dksX5_rule_1 16 rfl rfl)
theorem dX5_rule_40 : decode cX5_rule 40 = .ok (.bipush 7, 2) := dk_16 7 (dk_at dksX5_rule_1 17 rfl rfl)
theorem dX5_rule_42 : decode cX5_rule 42 = .ok (.if_icmp .ne 8, 3) := dk_160 0 8 (dk_at dksX5_rule_1 19 rfl rfl)
theorem dX5_rule_45 : decode cX5_rule 45 = .ok (.ldc 205, 2) := dk_18 205 (dk_at dksX5_rule_1 22 rfl rfl)
theorem dX5_rule_47 : decode cX5_rule 47 = .ok (.goto 5, 3) := dk_167 0 5 (dk_at dksX5_rule_2 0 rfl rfl)
theorem dX5_rule_50 : decode cX5_rule 50 = .ok (.bipush 100, 2) := dk_16 100 (dk_at dksX5_rule_2 3 rfl rfl)
theorem dX5_rule_52 : decode cX5_rule 52 = .ok (.istore_n 3, 1) := dk_62 (dk_at dksX5_rule_2 5 rfl rfl)
theorem dX5_rule_53 : decode cX5_rule 53 = .ok (.iload_n 2, 1) := dk_28 (dk_at dksX5_rule_2 6 rfl rfl)
theorem dX5_rule_54 : decode cX5_rule 54 = .ok (.i2l, 1) := dk_133 (dk_at dksX5_rule_2 7 rfl rfl)
theorem dX5_rule_55 : decode cX5_rule 55 = .ok (.iload_n 1, 1) := dk_27 (dk_at dksX5_rule_2 8 rfl rfl)
theorem dX5_rule_56 : decode cX5_rule 56 = .ok (.ifCond .ne 7, 3) := dk_154 0 7 (dk_at dksX5_rule_2 9 rfl rfl)
theorem dX5_rule_59 : decode cX5_rule 59 = .ok (.lconst 1, 1) := dk_10 (dk_at dksX5_rule_2 12 rfl rfl)
theorem dX5_rule_60 : decode cX5_rule 60 = .ok (.goto 4, 3) := dk_167 0 4 (dk_at dksX5_rule_2 13 rfl rfl)
theorem dX5_rule_63 : decode cX5_rule 63 = .ok (.lconst 0, 1) := dk_9 (dk_at dksX5_rule_2 16 rfl rfl)
theorem dX5_rule_64 : decode cX5_rule 64 = .ok (.iload_n 3, 1) := dk_29 (dk_at dksX5_rule_2 17 rfl rfl)
theorem dX5_rule_65 : decode cX5_rule 65 = .ok (.i2l, 1) := dk_133 (dk_at dksX5_rule_2 18 rfl rfl)
theorem dX5_rule_66 : decode cX5_rule 66 = .ok (.invokestatic 98, 3) := dk_184 0 98 (dk_at dksX5_rule_2 19 rfl rfl)
theorem dX5_rule_69 : decode cX5_rule 69 = .ok (.ifCond .ne 10, 3) := dk_154 0 10 (dk_at dksX5_rule_3 0 rfl rfl)
theorem dX5_rule_72 : decode cX5_rule 72 = .ok (.aload_n 0, 1) := dk_42 (dk_at dksX5_rule_3 3 rfl rfl)
theorem dX5_rule_73 : decode cX5_rule 73 = .ok (.ldc 87, 2) := dk_18 87 (dk_at dksX5_rule_3 4 rfl rfl)
theorem dX5_rule_75 : decode cX5_rule 75 = .ok (.invokevirtual 88, 3) := dk_182 0 88 (dk_at dksX5_rule_3 6 rfl rfl)
theorem dX5_rule_78 : decode cX5_rule 78 = .ok (.ireturn, 1) := dk_172 (dk_at dksX5_rule_3 9 rfl rfl)
theorem dX5_rule_79 : decode cX5_rule 79 = .ok (.aload_n 0, 1) := dk_42 (dk_at dksX5_rule_3 10 rfl rfl)
theorem dX5_rule_80 : decode cX5_rule 80 = .ok (.getfield 7, 3) := dk_180 0 7 (dk_at dksX5_rule_3 11 rfl rfl)
theorem dX5_rule_83 : decode cX5_rule 83 = .ok (.bipush 10, 2) := dk_16 10 (dk_at dksX5_rule_3 14 rfl rfl)
theorem dX5_rule_85 : decode cX5_rule 85 = .ok (.iload_n 1, 1) := dk_27 (dk_at dksX5_rule_3 16 rfl rfl)
theorem dX5_rule_86 : decode cX5_rule 86 = .ok (.iadd, 1) := dk_96 (dk_at dksX5_rule_3 17 rfl rfl)
theorem dX5_rule_87 : decode cX5_rule 87 = .ok (.iaload, 1) := dk_46 (dk_at dksX5_rule_3 18 rfl rfl)
theorem dX5_rule_88 : decode cX5_rule 88 = .ok (.istore 4, 2) := dk_54 4 (dk_at dksX5_rule_3 19 rfl rfl)
theorem dX5_rule_90 : decode cX5_rule 90 = .ok (.aload_n 0, 1) := dk_42 (dk_at dksX5_rule_3 21 rfl rfl)
theorem dX5_rule_91 : decode cX5_rule 91 = .ok (.getfield 7, 3) := dk_180 0 7 (dk_at dksX5_rule_4 0 rfl rfl)
theorem dX5_rule_94 : decode cX5_rule 94 = .ok (.bipush 10, 2) := dk_16 10 (dk_at dksX5_rule_4 3 rfl rfl)
theorem dX5_rule_96 : decode cX5_rule 96 = .ok (.iload_n 1, 1) := dk_27 (dk_at dksX5_rule_4 5 rfl rfl)
theorem dX5_rule_97 : decode cX5_rule 97 = .ok (.iadd, 1) := dk_96 (dk_at dksX5_rule_4 6 rfl rfl)
theorem dX5_rule_98 : decode cX5_rule 98 = .ok (.iload_n 2, 1) := dk_28 (dk_at dksX5_rule_4 7 rfl rfl)
theorem dX5_rule_99 : decode cX5_rule 99 = .ok (.iastore, 1) := dk_79 (dk_at dksX5_rule_4 8 rfl rfl)
theorem dX5_rule_100 : decode cX5_rule 100 = .ok (.iload 4, 2) := dk_21 4 (dk_at dksX5_rule_4 9 rfl rfl)
theorem dX5_rule_102 : decode cX5_rule 102 = .ok (.ireturn, 1) := dk_172 (dk_at dksX5_rule_4 11 rfl rfl)
abbrev cX5_seed : ByteArray := prog_24_method_43_code
def yX5_seed : MethodName := ⟨RX5, "seed", "(I)I"⟩
def dkwX5_seed_0 : List UInt8 := [42, 180, 0, 7, 5, 46, 61, 42, 180, 0, 7, 5, 27, 79, 28, 172]
abbrev dktX5_seed_0 : List UInt8 := dkwX5_seed_0 ++ []
theorem dksX5_seed_0 : cX5_seed.data.toList.drop 0 = dktX5_seed_0 := by decide +kernel
theorem dX5_seed_0 : decode cX5_seed 0 = .ok (.aload_n 0, 1) := dk_42 (dk_at dksX5_seed_0 0 rfl rfl)
theorem dX5_seed_1 : decode cX5_seed 1 = .ok (.getfield 7, 3) := dk_180 0 7 (dk_at dksX5_seed_0 1 rfl rfl)
theorem dX5_seed_4 : decode cX5_seed 4 = .ok (.iconst 2, 1) := dk_5 (dk_at dksX5_seed_0 4 rfl rfl)
theorem dX5_seed_5 : decode cX5_seed 5 = .ok (.iaload, 1) := dk_46 (dk_at dksX5_seed_0 5 rfl rfl)
theorem dX5_seed_6 : decode cX5_seed 6 = .ok (.istore_n 2, 1) := dk_61 (dk_at dksX5_seed_0 6 rfl rfl)
theorem dX5_seed_7 : decode cX5_seed 7 = .ok (.aload_n 0, 1) := dk_42 (dk_at dksX5_seed_0 7 rfl rfl)
theorem dX5_seed_8 : decode cX5_seed 8 = .ok (.getfield 7, 3) := dk_180 0 7 (dk_at dksX5_seed_0 8 rfl rfl)
theorem dX5_seed_11 : decode cX5_seed 11 = .ok (.iconst 2, 1) := dk_5 (dk_at dksX5_seed_0 11 rfl rfl)
theorem dX5_seed_12 : decode cX5_seed 12 = .ok (.iload_n 1, 1) := dk_27 (dk_at dksX5_seed_0 12 rfl rfl)
theorem dX5_seed_13 : decode cX5_seed 13 = .ok (.iastore, 1) := dk_79 (dk_at dksX5_seed_0 13 rfl rfl)
theorem dX5_seed_14 : decode cX5_seed 14 = .ok (.iload_n 2, 1) := dk_28 (dk_at dksX5_seed_0 14 rfl rfl)
theorem dX5_seed_15 : decode cX5_seed 15 = .ok (.ireturn, 1) := dk_172 (dk_at dksX5_seed_0 15 rfl rfl)
abbrev cX5_week : ByteArray := prog_24_method_48_code
def yX5_week : MethodName := ⟨RX5, "week", "()I"⟩
def dkwX5_week_3 : List UInt8 := [182, 0, 219, 27, 172]
abbrev dktX5_week_3 : List UInt8 := dkwX5_week_3 ++ []
def dkwX5_week_2 : List UInt8 := [96, 79, 27, 4, 42, 180, 0, 7, 5, 46, 16, 16, 124, 16, 12, 112, 120, 128, 60, 167, 255, 211, 42, 27]
abbrev dktX5_week_2 : List UInt8 := dkwX5_week_2 ++ dktX5_week_3
def dkwX5_week_1 : List UInt8 := [182, 0, 132, 7, 162, 0, 42, 42, 180, 0, 7, 5, 42, 180, 0, 7, 5, 46, 18, 218, 104, 17, 48, 57]
abbrev dktX5_week_1 : List UInt8 := dkwX5_week_1 ++ dktX5_week_2
def dkwX5_week_0 : List UInt8 := [42, 180, 0, 7, 4, 46, 16, 40, 160, 0, 10, 42, 18, 104, 182, 0, 88, 172, 3, 60, 42, 27]
abbrev dktX5_week_0 : List UInt8 := dkwX5_week_0 ++ dktX5_week_1
theorem dksX5_week_0 : cX5_week.data.toList.drop 0 = dktX5_week_0 := by decide +kernel
theorem dksX5_week_1 : cX5_week.data.toList.drop 22 = dktX5_week_1 := dk_seg dksX5_week_0 22 rfl rfl
theorem dksX5_week_2 : cX5_week.data.toList.drop 46 = dktX5_week_2 := dk_seg dksX5_week_1 24 rfl rfl
theorem dksX5_week_3 : cX5_week.data.toList.drop 70 = dktX5_week_3 := dk_seg dksX5_week_2 24 rfl rfl
theorem dX5_week_0 : decode cX5_week 0 = .ok (.aload_n 0, 1) := dk_42 (dk_at dksX5_week_0 0 rfl rfl)
theorem dX5_week_1 : decode cX5_week 1 = .ok (.getfield 7, 3) := dk_180 0 7 (dk_at dksX5_week_0 1 rfl rfl)
theorem dX5_week_4 : decode cX5_week 4 = .ok (.iconst 1, 1) := dk_4 (dk_at dksX5_week_0 4 rfl rfl)
theorem dX5_week_5 : decode cX5_week 5 = .ok (.iaload, 1) := dk_46 (dk_at dksX5_week_0 5 rfl rfl)
theorem dX5_week_6 : decode cX5_week 6 = .ok (.bipush 40, 2) := dk_16 40 (dk_at dksX5_week_0 6 rfl rfl)
theorem dX5_week_8 : decode cX5_week 8 = .ok (.if_icmp .ne 10, 3) := dk_160 0 10 (dk_at dksX5_week_0 8 rfl rfl)
theorem dX5_week_11 : decode cX5_week 11 = .ok (.aload_n 0, 1) := dk_42 (dk_at dksX5_week_0 11 rfl rfl)
theorem dX5_week_12 : decode cX5_week 12 = .ok (.ldc 104, 2) := dk_18 104 (dk_at dksX5_week_0 12 rfl rfl)
theorem dX5_week_14 : decode cX5_week 14 = .ok (.invokevirtual 88, 3) := dk_182 0 88 (dk_at dksX5_week_0 14 rfl rfl)
theorem dX5_week_17 : decode cX5_week 17 = .ok (.ireturn, 1) := dk_172 (dk_at dksX5_week_0 17 rfl rfl)
theorem dX5_week_18 : decode cX5_week 18 = .ok (.iconst 0, 1) := dk_3 (dk_at dksX5_week_0 18 rfl rfl)
theorem dX5_week_19 : decode cX5_week 19 = .ok (.istore_n 1, 1) := dk_60 (dk_at dksX5_week_0 19 rfl rfl)
theorem dX5_week_20 : decode cX5_week 20 = .ok (.aload_n 0, 1) := dk_42 (dk_at dksX5_week_0 20 rfl rfl)
theorem dX5_week_21 : decode cX5_week 21 = .ok (.iload_n 1, 1) := dk_27 (dk_at dksX5_week_0 21 rfl rfl)
theorem dX5_week_22 : decode cX5_week 22 = .ok (.invokevirtual 132, 3) := dk_182 0 132 (dk_at dksX5_week_1 0 rfl rfl)
theorem dX5_week_25 : decode cX5_week 25 = .ok (.iconst 4, 1) := dk_7 (dk_at dksX5_week_1 3 rfl rfl)
theorem dX5_week_26 : decode cX5_week 26 = .ok (.if_icmp .ge 42, 3) := dk_162 0 42 (dk_at dksX5_week_1 4 rfl rfl)
theorem dX5_week_29 : decode cX5_week 29 = .ok (.aload_n 0, 1) := dk_42 (dk_at dksX5_week_1 7 rfl rfl)
theorem dX5_week_30 : decode cX5_week 30 = .ok (.getfield 7, 3) := dk_180 0 7 (dk_at dksX5_week_1 8 rfl rfl)
theorem dX5_week_33 : decode cX5_week 33 = .ok (.iconst 2, 1) := dk_5 (dk_at dksX5_week_1 11 rfl rfl)
theorem dX5_week_34 : decode cX5_week 34 = .ok (.aload_n 0, 1) := dk_42 (dk_at dksX5_week_1 12 rfl rfl)
theorem dX5_week_35 : decode cX5_week 35 = .ok (.getfield 7, 3) := dk_180 0 7 (dk_at dksX5_week_1 13 rfl rfl)
theorem dX5_week_38 : decode cX5_week 38 = .ok (.iconst 2, 1) := dk_5 (dk_at dksX5_week_1 16 rfl rfl)
theorem dX5_week_39 : decode cX5_week 39 = .ok (.iaload, 1) := dk_46 (dk_at dksX5_week_1 17 rfl rfl)
theorem dX5_week_40 : decode cX5_week 40 = .ok (.ldc 218, 2) := dk_18 218 (dk_at dksX5_week_1 18 rfl rfl)
theorem dX5_week_42 : decode cX5_week 42 = .ok (.imul, 1) := dk_104 (dk_at dksX5_week_1 20 rfl rfl)
theorem dX5_week_43 : decode cX5_week 43 = .ok (.sipush 12345, 3) := dk_17 48 57 (dk_at dksX5_week_1 21 rfl rfl)
theorem dX5_week_46 : decode cX5_week 46 = .ok (.iadd, 1) := dk_96 (dk_at dksX5_week_2 0 rfl rfl)
theorem dX5_week_47 : decode cX5_week 47 = .ok (.iastore, 1) := dk_79 (dk_at dksX5_week_2 1 rfl rfl)
theorem dX5_week_48 : decode cX5_week 48 = .ok (.iload_n 1, 1) := dk_27 (dk_at dksX5_week_2 2 rfl rfl)
theorem dX5_week_49 : decode cX5_week 49 = .ok (.iconst 1, 1) := dk_4 (dk_at dksX5_week_2 3 rfl rfl)
theorem dX5_week_50 : decode cX5_week 50 = .ok (.aload_n 0, 1) := dk_42 (dk_at dksX5_week_2 4 rfl rfl)
theorem dX5_week_51 : decode cX5_week 51 = .ok (.getfield 7, 3) := dk_180 0 7 (dk_at dksX5_week_2 5 rfl rfl)
theorem dX5_week_54 : decode cX5_week 54 = .ok (.iconst 2, 1) := dk_5 (dk_at dksX5_week_2 8 rfl rfl)
theorem dX5_week_55 : decode cX5_week 55 = .ok (.iaload, 1) := dk_46 (dk_at dksX5_week_2 9 rfl rfl)
theorem dX5_week_56 : decode cX5_week 56 = .ok (.bipush 16, 2) := dk_16 16 (dk_at dksX5_week_2 10 rfl rfl)
theorem dX5_week_58 : decode cX5_week 58 = .ok (.iushr, 1) := dk_124 (dk_at dksX5_week_2 12 rfl rfl)
theorem dX5_week_59 : decode cX5_week 59 = .ok (.bipush 12, 2) := dk_16 12 (dk_at dksX5_week_2 13 rfl rfl)
theorem dX5_week_61 : decode cX5_week 61 = .ok (.irem, 1) := dk_112 (dk_at dksX5_week_2 15 rfl rfl)
theorem dX5_week_62 : decode cX5_week 62 = .ok (.ishl, 1) := dk_120 (dk_at dksX5_week_2 16 rfl rfl)
theorem dX5_week_63 : decode cX5_week 63 = .ok (.ior, 1) := dk_128 (dk_at dksX5_week_2 17 rfl rfl)
theorem dX5_week_64 : decode cX5_week 64 = .ok (.istore_n 1, 1) := dk_60 (dk_at dksX5_week_2 18 rfl rfl)
theorem dX5_week_65 : decode cX5_week 65 = .ok (.goto (-45), 3) := dk_167 255 211 (dk_at dksX5_week_2 19 rfl rfl)
theorem dX5_week_68 : decode cX5_week 68 = .ok (.aload_n 0, 1) := dk_42 (dk_at dksX5_week_2 22 rfl rfl)
theorem dX5_week_69 : decode cX5_week 69 = .ok (.iload_n 1, 1) := dk_27 (dk_at dksX5_week_2 23 rfl rfl)
theorem dX5_week_70 : decode cX5_week 70 = .ok (.invokevirtual 219, 3) := dk_182 0 219 (dk_at dksX5_week_3 0 rfl rfl)
theorem dX5_week_73 : decode cX5_week 73 = .ok (.iload_n 1, 1) := dk_27 (dk_at dksX5_week_3 3 rfl rfl)
theorem dX5_week_74 : decode cX5_week 74 = .ok (.ireturn, 1) := dk_172 (dk_at dksX5_week_3 4 rfl rfl)
abbrev cX5_goes : ByteArray := prog_24_method_47_code
def yX5_goes : MethodName := ⟨RX5, "goes", "(I)V"⟩
def dkwX5_goes_10 : List UInt8 := [96, 79, 42, 4, 181, 0, 44, 42, 4, 181, 0, 48, 177]
abbrev dktX5_goes_10 : List UInt8 := dkwX5_goes_10 ++ []
def dkwX5_goes_9 : List UInt8 := [180, 0, 7, 21, 4, 16, 7, 96, 42, 180, 0, 7, 16, 17, 46, 79, 42, 180, 0, 7, 4, 92, 46, 4]
abbrev dktX5_goes_9 : List UInt8 := dkwX5_goes_9 ++ dktX5_goes_10
def dkwX5_goes_8 : List UInt8 := [167, 0, 20, 22, 5, 20, 0, 216, 148, 158, 0, 9, 20, 0, 216, 167, 0, 5, 22, 5, 136, 79, 42]
abbrev dktX5_goes_8 : List UInt8 := dkwX5_goes_8 ++ dktX5_goes_9
def dkwX5_goes_7 : List UInt8 := [136, 79, 132, 7, 255, 167, 255, 130, 42, 180, 0, 7, 16, 17, 22, 5, 9, 148, 156, 0, 7, 9]
abbrev dktX5_goes_7 : List UInt8 := dkwX5_goes_7 ++ dktX5_goes_8
def dkwX5_goes_6 : List UInt8 := [21, 4, 8, 96, 21, 7, 100, 21, 8, 79, 42, 180, 0, 7, 21, 4, 16, 8, 96, 21, 7, 100, 22, 9]
abbrev dktX5_goes_6 : List UInt8 := dkwX5_goes_6 ++ dktX5_goes_7
def dkwX5_goes_5 : List UInt8 := [182, 0, 212, 21, 8, 133, 109, 55, 9, 22, 5, 22, 9, 21, 8, 133, 105, 101, 55, 5, 42, 180, 0, 7]
abbrev dktX5_goes_5 : List UInt8 := dkwX5_goes_5 ++ dktX5_goes_6
def dkwX5_goes_4 : List UInt8 := [96, 54, 8, 132, 9, 1, 167, 255, 211, 21, 8, 154, 0, 7, 9, 167, 0, 14, 42, 32, 21, 7]
abbrev dktX5_goes_4 : List UInt8 := dkwX5_goes_4 ++ dktX5_goes_5
def dkwX5_goes_3 : List UInt8 := [21, 9, 46, 27, 126, 182, 0, 132, 21, 7, 160, 0, 13, 42, 180, 0, 57, 21, 9, 46, 167, 0, 4, 3]
abbrev dktX5_goes_3 : List UInt8 := dkwX5_goes_3 ++ dktX5_goes_4
def dkwX5_goes_2 : List UInt8 := [164, 0, 126, 3, 54, 8, 3, 54, 9, 21, 9, 17, 1, 239, 162, 0, 43, 21, 8, 42, 42, 180, 0, 19]
abbrev dktX5_goes_2 : List UInt8 := dkwX5_goes_2 ++ dktX5_goes_3
def dkwX5_goes_1 : List UInt8 := [4, 46, 104, 96, 54, 4, 42, 180, 0, 7, 21, 4, 27, 79, 32, 55, 5, 7, 54, 7, 21, 7, 4]
abbrev dktX5_goes_1 : List UInt8 := dkwX5_goes_1 ++ dktX5_goes_2
def dkwX5_goes_0 : List UInt8 := [42, 182, 0, 198, 42, 42, 180, 0, 7, 16, 17, 46, 182, 0, 208, 65, 16, 104, 16, 8, 42, 180, 0, 7]
abbrev dktX5_goes_0 : List UInt8 := dkwX5_goes_0 ++ dktX5_goes_1
theorem dksX5_goes_0 : cX5_goes.data.toList.drop 0 = dktX5_goes_0 := by decide +kernel
theorem dksX5_goes_1 : cX5_goes.data.toList.drop 24 = dktX5_goes_1 := dk_seg dksX5_goes_0 24 rfl rfl
theorem dksX5_goes_2 : cX5_goes.data.toList.drop 47 = dktX5_goes_2 := dk_seg dksX5_goes_1 23 rfl rfl
theorem dksX5_goes_3 : cX5_goes.data.toList.drop 71 = dktX5_goes_3 := dk_seg dksX5_goes_2 24 rfl rfl
theorem dksX5_goes_4 : cX5_goes.data.toList.drop 95 = dktX5_goes_4 := dk_seg dksX5_goes_3 24 rfl rfl
theorem dksX5_goes_5 : cX5_goes.data.toList.drop 117 = dktX5_goes_5 := dk_seg dksX5_goes_4 22 rfl rfl
theorem dksX5_goes_6 : cX5_goes.data.toList.drop 141 = dktX5_goes_6 := dk_seg dksX5_goes_5 24 rfl rfl
theorem dksX5_goes_7 : cX5_goes.data.toList.drop 165 = dktX5_goes_7 := dk_seg dksX5_goes_6 24 rfl rfl
theorem dksX5_goes_8 : cX5_goes.data.toList.drop 187 = dktX5_goes_8 := dk_seg dksX5_goes_7 22 rfl rfl
theorem dksX5_goes_9 : cX5_goes.data.toList.drop 210 = dktX5_goes_9 := dk_seg dksX5_goes_8 23 rfl rfl
theorem dksX5_goes_10 : cX5_goes.data.toList.drop 234 = dktX5_goes_10 := dk_seg dksX5_goes_9 24 rfl rfl
theorem dX5_goes_0 : decode cX5_goes 0 = .ok (.aload_n 0, 1) := dk_42 (dk_at dksX5_goes_0 0 rfl rfl)
theorem dX5_goes_1 : decode cX5_goes 1 = .ok (.invokevirtual 198, 3) := dk_182 0 198 (dk_at dksX5_goes_0 1 rfl rfl)
theorem dX5_goes_4 : decode cX5_goes 4 = .ok (.aload_n 0, 1) := dk_42 (dk_at dksX5_goes_0 4 rfl rfl)
theorem dX5_goes_5 : decode cX5_goes 5 = .ok (.aload_n 0, 1) := dk_42 (dk_at dksX5_goes_0 5 rfl rfl)
theorem dX5_goes_6 : decode cX5_goes 6 = .ok (.getfield 7, 3) := dk_180 0 7 (dk_at dksX5_goes_0 6 rfl rfl)
theorem dX5_goes_9 : decode cX5_goes 9 = .ok (.bipush 17, 2) := dk_16 17 (dk_at dksX5_goes_0 9 rfl rfl)
theorem dX5_goes_11 : decode cX5_goes 11 = .ok (.iaload, 1) := dk_46 (dk_at dksX5_goes_0 11 rfl rfl)
theorem dX5_goes_12 : decode cX5_goes 12 = .ok (.invokevirtual 208, 3) := dk_182 0 208 (dk_at dksX5_goes_0 12 rfl rfl)
theorem dX5_goes_15 : decode cX5_goes 15 = .ok (.lstore_n 2, 1) := dk_65 (dk_at dksX5_goes_0 15 rfl rfl)
theorem dX5_goes_16 : decode cX5_goes 16 = .ok (.bipush 104, 2) := dk_16 104 (dk_at dksX5_goes_0 16 rfl rfl)
theorem dX5_goes_18 : decode cX5_goes 18 = .ok (.bipush 8, 2) := dk_16 8 (dk_at dksX5_goes_0 18 rfl rfl)
theorem dX5_goes_20 : decode cX5_goes 20 = .ok (.aload_n 0, 1) := dk_42 (dk_at dksX5_goes_0 20 rfl rfl)
theorem dX5_goes_21 : decode cX5_goes 21 = .ok (.getfield 7, 3) := dk_180 0 7 (dk_at dksX5_goes_0 21 rfl rfl)
theorem dX5_goes_24 : decode cX5_goes 24 = .ok (.iconst 1, 1) := dk_4 (dk_at dksX5_goes_1 0 rfl rfl)
theorem dX5_goes_25 : decode cX5_goes 25 = .ok (.iaload, 1) := dk_46 (dk_at dksX5_goes_1 1 rfl rfl)
theorem dX5_goes_26 : decode cX5_goes 26 = .ok (.imul, 1) := dk_104 (dk_at dksX5_goes_1 2 rfl rfl)
theorem dX5_goes_27 : decode cX5_goes 27 = .ok (.iadd, 1) := dk_96 (dk_at dksX5_goes_1 3 rfl rfl)
theorem dX5_goes_28 : decode cX5_goes 28 = .ok (.istore 4, 2) := dk_54 4 (dk_at dksX5_goes_1 4 rfl rfl)
theorem dX5_goes_30 : decode cX5_goes 30 = .ok (.aload_n 0, 1) := dk_42 (dk_at dksX5_goes_1 6 rfl rfl)
theorem dX5_goes_31 : decode cX5_goes 31 = .ok (.getfield 7, 3) := dk_180 0 7 (dk_at dksX5_goes_1 7 rfl rfl)
theorem dX5_goes_34 : decode cX5_goes 34 = .ok (.iload 4, 2) := dk_21 4 (dk_at dksX5_goes_1 10 rfl rfl)
theorem dX5_goes_36 : decode cX5_goes 36 = .ok (.iload_n 1, 1) := dk_27 (dk_at dksX5_goes_1 12 rfl rfl)
theorem dX5_goes_37 : decode cX5_goes 37 = .ok (.iastore, 1) := dk_79 (dk_at dksX5_goes_1 13 rfl rfl)
theorem dX5_goes_38 : decode cX5_goes 38 = .ok (.lload_n 2, 1) := dk_32 (dk_at dksX5_goes_1 14 rfl rfl)
theorem dX5_goes_39 : decode cX5_goes 39 = .ok (.lstore 5, 2) := dk_55 5 (dk_at dksX5_goes_1 15 rfl rfl)
theorem dX5_goes_41 : decode cX5_goes 41 = .ok (.iconst 4, 1) := dk_7 (dk_at dksX5_goes_1 17 rfl rfl)
theorem dX5_goes_42 : decode cX5_goes 42 = .ok (.istore 7, 2) := dk_54 7 (dk_at dksX5_goes_1 18 rfl rfl)
theorem dX5_goes_44 : decode cX5_goes 44 = .ok (.iload 7, 2) := dk_21 7 (dk_at dksX5_goes_1 20 rfl rfl)
theorem dX5_goes_46 : decode cX5_goes 46 = .ok (.iconst 1, 1) := dk_4 (dk_at dksX5_goes_1 22 rfl rfl)
theorem dX5_goes_47 : decode cX5_goes 47 = .ok (.if_icmp .le 126, 3) := dk_164 0 126 (dk_at dksX5_goes_2 0 rfl rfl)
theorem dX5_goes_50 : decode cX5_goes 50 = .ok (.iconst 0, 1) := dk_3 (dk_at dksX5_goes_2 3 rfl rfl)
theorem dX5_goes_51 : decode cX5_goes 51 = .ok (.istore 8, 2) := dk_54 8 (dk_at dksX5_goes_2 4 rfl rfl)
theorem dX5_goes_53 : decode cX5_goes 53 = .ok (.iconst 0, 1) := dk_3 (dk_at dksX5_goes_2 6 rfl rfl)
theorem dX5_goes_54 : decode cX5_goes 54 = .ok (.istore 9, 2) := dk_54 9 (dk_at dksX5_goes_2 7 rfl rfl)
theorem dX5_goes_56 : decode cX5_goes 56 = .ok (.iload 9, 2) := dk_21 9 (dk_at dksX5_goes_2 9 rfl rfl)
theorem dX5_goes_58 : decode cX5_goes 58 = .ok (.sipush 495, 3) := dk_17 1 239 (dk_at dksX5_goes_2 11 rfl rfl)
theorem dX5_goes_61 : decode cX5_goes 61 = .ok (.if_icmp .ge 43, 3) := dk_162 0 43 (dk_at dksX5_goes_2 14 rfl rfl)
theorem dX5_goes_64 : decode cX5_goes 64 = .ok (.iload 8, 2) := dk_21 8 (dk_at dksX5_goes_2 17 rfl rfl)
theorem dX5_goes_66 : decode cX5_goes 66 = .ok (.aload_n 0, 1) := dk_42 (dk_at dksX5_goes_2 19 rfl rfl)
theorem dX5_goes_67 : decode cX5_goes 67 = .ok (.aload_n 0, 1) := dk_42 (dk_at dksX5_goes_2 20 rfl rfl)
theorem dX5_goes_68 : decode cX5_goes 68 = .ok (.getfield 19, 3) := dk_180 0 19 (dk_at dksX5_goes_2 21 rfl rfl)
theorem dX5_goes_71 : decode cX5_goes 71 = .ok (.iload 9, 2) := dk_21 9 (dk_at dksX5_goes_3 0 rfl rfl)
theorem dX5_goes_73 : decode cX5_goes 73 = .ok (.iaload, 1) := dk_46 (dk_at dksX5_goes_3 2 rfl rfl)
theorem dX5_goes_74 : decode cX5_goes 74 = .ok (.iload_n 1, 1) := dk_27 (dk_at dksX5_goes_3 3 rfl rfl)
theorem dX5_goes_75 : decode cX5_goes 75 = .ok (.iand, 1) := dk_126 (dk_at dksX5_goes_3 4 rfl rfl)
theorem dX5_goes_76 : decode cX5_goes 76 = .ok (.invokevirtual 132, 3) := dk_182 0 132 (dk_at dksX5_goes_3 5 rfl rfl)
theorem dX5_goes_79 : decode cX5_goes 79 = .ok (.iload 7, 2) := dk_21 7 (dk_at dksX5_goes_3 8 rfl rfl)
theorem dX5_goes_81 : decode cX5_goes 81 = .ok (.if_icmp .ne 13, 3) := dk_160 0 13 (dk_at dksX5_goes_3 10 rfl rfl)
theorem dX5_goes_84 : decode cX5_goes 84 = .ok (.aload_n 0, 1) := dk_42 (dk_at dksX5_goes_3 13 rfl rfl)
theorem dX5_goes_85 : decode cX5_goes 85 = .ok (.getfield 57, 3) := dk_180 0 57 (dk_at dksX5_goes_3 14 rfl rfl)
theorem dX5_goes_88 : decode cX5_goes 88 = .ok (.iload 9, 2) := dk_21 9 (dk_at dksX5_goes_3 17 rfl rfl)
theorem dX5_goes_90 : decode cX5_goes 90 = .ok (.iaload, 1) := dk_46 (dk_at dksX5_goes_3 19 rfl rfl)
theorem dX5_goes_91 : decode cX5_goes 91 = .ok (.goto 4, 3) := dk_167 0 4 (dk_at dksX5_goes_3 20 rfl rfl)
theorem dX5_goes_94 : decode cX5_goes 94 = .ok (.iconst 0, 1) := dk_3 (dk_at dksX5_goes_3 23 rfl rfl)
theorem dX5_goes_95 : decode cX5_goes 95 = .ok (.iadd, 1) := dk_96 (dk_at dksX5_goes_4 0 rfl rfl)
theorem dX5_goes_96 : decode cX5_goes 96 = .ok (.istore 8, 2) := dk_54 8 (dk_at dksX5_goes_4 1 rfl rfl)
theorem dX5_goes_98 : decode cX5_goes 98 = .ok (.iinc 9 1, 3) := dk_132 9 1 (dk_at dksX5_goes_4 3 rfl rfl)
theorem dX5_goes_101 : decode cX5_goes 101 = .ok (.goto (-45), 3) := dk_167 255 211 (dk_at dksX5_goes_4 6 rfl rfl)
theorem dX5_goes_104 : decode cX5_goes 104 = .ok (.iload 8, 2) := dk_21 8 (dk_at dksX5_goes_4 9 rfl rfl)
theorem dX5_goes_106 : decode cX5_goes 106 = .ok (.ifCond .ne 7, 3) := dk_154 0 7 (dk_at dksX5_goes_4 11 rfl rfl)
theorem dX5_goes_109 : decode cX5_goes 109 = .ok (.lconst 0, 1) := dk_9 (dk_at dksX5_goes_4 14 rfl rfl)
theorem dX5_goes_110 : decode cX5_goes 110 = .ok (.goto 14, 3) := dk_167 0 14 (dk_at dksX5_goes_4 15 rfl rfl)
theorem dX5_goes_113 : decode cX5_goes 113 = .ok (.aload_n 0, 1) := dk_42 (dk_at dksX5_goes_4 18 rfl rfl)
theorem dX5_goes_114 : decode cX5_goes 114 = .ok (.lload_n 2, 1) := dk_32 (dk_at dksX5_goes_4 19 rfl rfl)
theorem dX5_goes_115 : decode cX5_goes 115 = .ok (.iload 7, 2) := dk_21 7 (dk_at dksX5_goes_4 20 rfl rfl)
theorem dX5_goes_117 : decode cX5_goes 117 = .ok (.invokevirtual 212, 3) := dk_182 0 212 (dk_at dksX5_goes_5 0 rfl rfl)
theorem dX5_goes_120 : decode cX5_goes 120 = .ok (.iload 8, 2) := dk_21 8 (dk_at dksX5_goes_5 3 rfl rfl)
theorem dX5_goes_122 : decode cX5_goes 122 = .ok (.i2l, 1) := dk_133 (dk_at dksX5_goes_5 5 rfl rfl)
theorem dX5_goes_123 : decode cX5_goes 123 = .ok (.ldiv, 1) := dk_109 (dk_at dksX5_goes_5 6 rfl rfl)
theorem dX5_goes_124 : decode cX5_goes 124 = .ok (.lstore 9, 2) := dk_55 9 (dk_at dksX5_goes_5 7 rfl rfl)
theorem dX5_goes_126 : decode cX5_goes 126 = .ok (.lload 5, 2) := dk_22 5 (dk_at dksX5_goes_5 9 rfl rfl)
theorem dX5_goes_128 : decode cX5_goes 128 = .ok (.lload 9, 2) := dk_22 9 (dk_at dksX5_goes_5 11 rfl rfl)
theorem dX5_goes_130 : decode cX5_goes 130 = .ok (.iload 8, 2) := dk_21 8 (dk_at dksX5_goes_5 13 rfl rfl)
theorem dX5_goes_132 : decode cX5_goes 132 = .ok (.i2l, 1) := dk_133 (dk_at dksX5_goes_5 15 rfl rfl)
theorem dX5_goes_133 : decode cX5_goes 133 = .ok (.lmul, 1) := dk_105 (dk_at dksX5_goes_5 16 rfl rfl)
theorem dX5_goes_134 : decode cX5_goes 134 = .ok (.lsub, 1) := dk_101 (dk_at dksX5_goes_5 17 rfl rfl)
theorem dX5_goes_135 : decode cX5_goes 135 = .ok (.lstore 5, 2) := dk_55 5 (dk_at dksX5_goes_5 18 rfl rfl)
theorem dX5_goes_137 : decode cX5_goes 137 = .ok (.aload_n 0, 1) := dk_42 (dk_at dksX5_goes_5 20 rfl rfl)
theorem dX5_goes_138 : decode cX5_goes 138 = .ok (.getfield 7, 3) := dk_180 0 7 (dk_at dksX5_goes_5 21 rfl rfl)
theorem dX5_goes_141 : decode cX5_goes 141 = .ok (.iload 4, 2) := dk_21 4 (dk_at dksX5_goes_6 0 rfl rfl)
theorem dX5_goes_143 : decode cX5_goes 143 = .ok (.iconst 5, 1) := dk_8 (dk_at dksX5_goes_6 2 rfl rfl)
theorem dX5_goes_144 : decode cX5_goes 144 = .ok (.iadd, 1) := dk_96 (dk_at dksX5_goes_6 3 rfl rfl)
theorem dX5_goes_145 : decode cX5_goes 145 = .ok (.iload 7, 2) := dk_21 7 (dk_at dksX5_goes_6 4 rfl rfl)
theorem dX5_goes_147 : decode cX5_goes 147 = .ok (.isub, 1) := dk_100 (dk_at dksX5_goes_6 6 rfl rfl)
theorem dX5_goes_148 : decode cX5_goes 148 = .ok (.iload 8, 2) := dk_21 8 (dk_at dksX5_goes_6 7 rfl rfl)
theorem dX5_goes_150 : decode cX5_goes 150 = .ok (.iastore, 1) := dk_79 (dk_at dksX5_goes_6 9 rfl rfl)
theorem dX5_goes_151 : decode cX5_goes 151 = .ok (.aload_n 0, 1) := dk_42 (dk_at dksX5_goes_6 10 rfl rfl)
theorem dX5_goes_152 : decode cX5_goes 152 = .ok (.getfield 7, 3) := dk_180 0 7 (dk_at dksX5_goes_6 11 rfl rfl)
theorem dX5_goes_155 : decode cX5_goes 155 = .ok (.iload 4, 2) := dk_21 4 (dk_at dksX5_goes_6 14 rfl rfl)
theorem dX5_goes_157 : decode cX5_goes 157 = .ok (.bipush 8, 2) := dk_16 8 (dk_at dksX5_goes_6 16 rfl rfl)
theorem dX5_goes_159 : decode cX5_goes 159 = .ok (.iadd, 1) := dk_96 (dk_at dksX5_goes_6 18 rfl rfl)
theorem dX5_goes_160 : decode cX5_goes 160 = .ok (.iload 7, 2) := dk_21 7 (dk_at dksX5_goes_6 19 rfl rfl)
theorem dX5_goes_162 : decode cX5_goes 162 = .ok (.isub, 1) := dk_100 (dk_at dksX5_goes_6 21 rfl rfl)
theorem dX5_goes_163 : decode cX5_goes 163 = .ok (.lload 9, 2) := dk_22 9 (dk_at dksX5_goes_6 22 rfl rfl)
theorem dX5_goes_165 : decode cX5_goes 165 = .ok (.l2i, 1) := dk_136 (dk_at dksX5_goes_7 0 rfl rfl)
theorem dX5_goes_166 : decode cX5_goes 166 = .ok (.iastore, 1) := dk_79 (dk_at dksX5_goes_7 1 rfl rfl)
theorem dX5_goes_167 : decode cX5_goes 167 = .ok (.iinc 7 (-1), 3) := dk_132 7 255 (dk_at dksX5_goes_7 2 rfl rfl)
theorem dX5_goes_170 : decode cX5_goes 170 = .ok (.goto (-126), 3) := dk_167 255 130 (dk_at dksX5_goes_7 5 rfl rfl)
theorem dX5_goes_173 : decode cX5_goes 173 = .ok (.aload_n 0, 1) := dk_42 (dk_at dksX5_goes_7 8 rfl rfl)
theorem dX5_goes_174 : decode cX5_goes 174 = .ok (.getfield 7, 3) := dk_180 0 7 (dk_at dksX5_goes_7 9 rfl rfl)
theorem dX5_goes_177 : decode cX5_goes 177 = .ok (.bipush 17, 2) := dk_16 17 (dk_at dksX5_goes_7 12 rfl rfl)
theorem dX5_goes_179 : decode cX5_goes 179 = .ok (.lload 5, 2) := dk_22 5 (dk_at dksX5_goes_7 14 rfl rfl)
theorem dX5_goes_181 : decode cX5_goes 181 = .ok (.lconst 0, 1) := dk_9 (dk_at dksX5_goes_7 16 rfl rfl)
theorem dX5_goes_182 : decode cX5_goes 182 = .ok (.lcmp, 1) := dk_148 (dk_at dksX5_goes_7 17 rfl rfl)
theorem dX5_goes_183 : decode cX5_goes 183 = .ok (.ifCond .ge 7, 3) := dk_156 0 7 (dk_at dksX5_goes_7 18 rfl rfl)
theorem dX5_goes_186 : decode cX5_goes 186 = .ok (.lconst 0, 1) := dk_9 (dk_at dksX5_goes_7 21 rfl rfl)
theorem dX5_goes_187 : decode cX5_goes 187 = .ok (.goto 20, 3) := dk_167 0 20 (dk_at dksX5_goes_8 0 rfl rfl)
theorem dX5_goes_190 : decode cX5_goes 190 = .ok (.lload 5, 2) := dk_22 5 (dk_at dksX5_goes_8 3 rfl rfl)
theorem dX5_goes_192 : decode cX5_goes 192 = .ok (.ldc2_w 216, 3) := dk_20 0 216 (dk_at dksX5_goes_8 5 rfl rfl)
theorem dX5_goes_195 : decode cX5_goes 195 = .ok (.lcmp, 1) := dk_148 (dk_at dksX5_goes_8 8 rfl rfl)
theorem dX5_goes_196 : decode cX5_goes 196 = .ok (.ifCond .le 9, 3) := dk_158 0 9 (dk_at dksX5_goes_8 9 rfl rfl)
theorem dX5_goes_199 : decode cX5_goes 199 = .ok (.ldc2_w 216, 3) := dk_20 0 216 (dk_at dksX5_goes_8 12 rfl rfl)
theorem dX5_goes_202 : decode cX5_goes 202 = .ok (.goto 5, 3) := dk_167 0 5 (dk_at dksX5_goes_8 15 rfl rfl)
theorem dX5_goes_205 : decode cX5_goes 205 = .ok (.lload 5, 2) := dk_22 5 (dk_at dksX5_goes_8 18 rfl rfl)
theorem dX5_goes_207 : decode cX5_goes 207 = .ok (.l2i, 1) := dk_136 (dk_at dksX5_goes_8 20 rfl rfl)
theorem dX5_goes_208 : decode cX5_goes 208 = .ok (.iastore, 1) := dk_79 (dk_at dksX5_goes_8 21 rfl rfl)
theorem dX5_goes_209 : decode cX5_goes 209 = .ok (.aload_n 0, 1) := dk_42 (dk_at dksX5_goes_8 22 rfl rfl)
theorem dX5_goes_210 : decode cX5_goes 210 = .ok (.getfield 7, 3) := dk_180 0 7 (dk_at dksX5_goes_9 0 rfl rfl)
theorem dX5_goes_213 : decode cX5_goes 213 = .ok (.iload 4, 2) := dk_21 4 (dk_at dksX5_goes_9 3 rfl rfl)
theorem dX5_goes_215 : decode cX5_goes 215 = .ok (.bipush 7, 2) := dk_16 7 (dk_at dksX5_goes_9 5 rfl rfl)
theorem dX5_goes_217 : decode cX5_goes 217 = .ok (.iadd, 1) := dk_96 (dk_at dksX5_goes_9 7 rfl rfl)
theorem dX5_goes_218 : decode cX5_goes 218 = .ok (.aload_n 0, 1) := dk_42 (dk_at dksX5_goes_9 8 rfl rfl)
theorem dX5_goes_219 : decode cX5_goes 219 = .ok (.getfield 7, 3) := dk_180 0 7 (dk_at dksX5_goes_9 9 rfl rfl)
theorem dX5_goes_222 : decode cX5_goes 222 = .ok (.bipush 17, 2) := dk_16 17 (dk_at dksX5_goes_9 12 rfl rfl)
theorem dX5_goes_224 : decode cX5_goes 224 = .ok (.iaload, 1) := dk_46 (dk_at dksX5_goes_9 14 rfl rfl)
theorem dX5_goes_225 : decode cX5_goes 225 = .ok (.iastore, 1) := dk_79 (dk_at dksX5_goes_9 15 rfl rfl)
theorem dX5_goes_226 : decode cX5_goes 226 = .ok (.aload_n 0, 1) := dk_42 (dk_at dksX5_goes_9 16 rfl rfl)
theorem dX5_goes_227 : decode cX5_goes 227 = .ok (.getfield 7, 3) := dk_180 0 7 (dk_at dksX5_goes_9 17 rfl rfl)
theorem dX5_goes_230 : decode cX5_goes 230 = .ok (.iconst 1, 1) := dk_4 (dk_at dksX5_goes_9 20 rfl rfl)
theorem dX5_goes_231 : decode cX5_goes 231 = .ok (.dup2, 1) := dk_92 (dk_at dksX5_goes_9 21 rfl rfl)
theorem dX5_goes_232 : decode cX5_goes 232 = .ok (.iaload, 1) := dk_46 (dk_at dksX5_goes_9 22 rfl rfl)
theorem dX5_goes_233 : decode cX5_goes 233 = .ok (.iconst 1, 1) := dk_4 (dk_at dksX5_goes_9 23 rfl rfl)
theorem dX5_goes_234 : decode cX5_goes 234 = .ok (.iadd, 1) := dk_96 (dk_at dksX5_goes_10 0 rfl rfl)
theorem dX5_goes_235 : decode cX5_goes 235 = .ok (.iastore, 1) := dk_79 (dk_at dksX5_goes_10 1 rfl rfl)
theorem dX5_goes_236 : decode cX5_goes 236 = .ok (.aload_n 0, 1) := dk_42 (dk_at dksX5_goes_10 2 rfl rfl)
theorem dX5_goes_237 : decode cX5_goes 237 = .ok (.iconst 1, 1) := dk_4 (dk_at dksX5_goes_10 3 rfl rfl)
theorem dX5_goes_238 : decode cX5_goes 238 = .ok (.putfield 44, 3) := dk_181 0 44 (dk_at dksX5_goes_10 4 rfl rfl)
theorem dX5_goes_241 : decode cX5_goes 241 = .ok (.aload_n 0, 1) := dk_42 (dk_at dksX5_goes_10 7 rfl rfl)
theorem dX5_goes_242 : decode cX5_goes 242 = .ok (.iconst 1, 1) := dk_4 (dk_at dksX5_goes_10 8 rfl rfl)
theorem dX5_goes_243 : decode cX5_goes 243 = .ok (.putfield 48, 3) := dk_181 0 48 (dk_at dksX5_goes_10 9 rfl rfl)
theorem dX5_goes_246 : decode cX5_goes 246 = .ok (.return_, 1) := dk_177 (dk_at dksX5_goes_10 12 rfl rfl)
abbrev cX5_potWith : ByteArray := prog_24_method_45_code
def yX5_potWith : MethodName := ⟨RX5, "potWith", "(I)J"⟩
def dkwX5_potWith_1 : List UInt8 := [16, 11, 46, 133, 105, 20, 0, 206, 109, 97, 173]
abbrev dktX5_potWith_1 : List UInt8 := dkwX5_potWith_1 ++ []
def dkwX5_potWith_0 : List UInt8 := [42, 182, 0, 198, 27, 133, 42, 180, 0, 192, 133, 42, 180, 0, 7, 16, 10, 46, 133, 105, 42, 180, 0, 7]
abbrev dktX5_potWith_0 : List UInt8 := dkwX5_potWith_0 ++ dktX5_potWith_1
theorem dksX5_potWith_0 : cX5_potWith.data.toList.drop 0 = dktX5_potWith_0 := by decide +kernel
theorem dksX5_potWith_1 : cX5_potWith.data.toList.drop 24 = dktX5_potWith_1 := dk_seg dksX5_potWith_0 24 rfl rfl
theorem dX5_potWith_0 : decode cX5_potWith 0 = .ok (.aload_n 0, 1) := dk_42 (dk_at dksX5_potWith_0 0 rfl rfl)
theorem dX5_potWith_1 : decode cX5_potWith 1 = .ok (.invokevirtual 198, 3) := dk_182 0 198 (dk_at dksX5_potWith_0 1 rfl rfl)
theorem dX5_potWith_4 : decode cX5_potWith 4 = .ok (.iload_n 1, 1) := dk_27 (dk_at dksX5_potWith_0 4 rfl rfl)
theorem dX5_potWith_5 : decode cX5_potWith 5 = .ok (.i2l, 1) := dk_133 (dk_at dksX5_potWith_0 5 rfl rfl)
theorem dX5_potWith_6 : decode cX5_potWith 6 = .ok (.aload_n 0, 1) := dk_42 (dk_at dksX5_potWith_0 6 rfl rfl)
theorem dX5_potWith_7 : decode cX5_potWith 7 = .ok (.getfield 192, 3) := dk_180 0 192 (dk_at dksX5_potWith_0 7 rfl rfl)
theorem dX5_potWith_10 : decode cX5_potWith 10 = .ok (.i2l, 1) := dk_133 (dk_at dksX5_potWith_0 10 rfl rfl)
theorem dX5_potWith_11 : decode cX5_potWith 11 = .ok (.aload_n 0, 1) := dk_42 (dk_at dksX5_potWith_0 11 rfl rfl)
theorem dX5_potWith_12 : decode cX5_potWith 12 = .ok (.getfield 7, 3) := dk_180 0 7 (dk_at dksX5_potWith_0 12 rfl rfl)
theorem dX5_potWith_15 : decode cX5_potWith 15 = .ok (.bipush 10, 2) := dk_16 10 (dk_at dksX5_potWith_0 15 rfl rfl)
theorem dX5_potWith_17 : decode cX5_potWith 17 = .ok (.iaload, 1) := dk_46 (dk_at dksX5_potWith_0 17 rfl rfl)
theorem dX5_potWith_18 : decode cX5_potWith 18 = .ok (.i2l, 1) := dk_133 (dk_at dksX5_potWith_0 18 rfl rfl)
theorem dX5_potWith_19 : decode cX5_potWith 19 = .ok (.lmul, 1) := dk_105 (dk_at dksX5_potWith_0 19 rfl rfl)
theorem dX5_potWith_20 : decode cX5_potWith 20 = .ok (.aload_n 0, 1) := dk_42 (dk_at dksX5_potWith_0 20 rfl rfl)
theorem dX5_potWith_21 : decode cX5_potWith 21 = .ok (.getfield 7, 3) := dk_180 0 7 (dk_at dksX5_potWith_0 21 rfl rfl)
theorem dX5_potWith_24 : decode cX5_potWith 24 = .ok (.bipush 11, 2) := dk_16 11 (dk_at dksX5_potWith_1 0 rfl rfl)
theorem dX5_potWith_26 : decode cX5_potWith 26 = .ok (.iaload, 1) := dk_46 (dk_at dksX5_potWith_1 2 rfl rfl)
theorem dX5_potWith_27 : decode cX5_potWith 27 = .ok (.i2l, 1) := dk_133 (dk_at dksX5_potWith_1 3 rfl rfl)
theorem dX5_potWith_28 : decode cX5_potWith 28 = .ok (.lmul, 1) := dk_105 (dk_at dksX5_potWith_1 4 rfl rfl)
theorem dX5_potWith_29 : decode cX5_potWith 29 = .ok (.ldc2_w 206, 3) := dk_20 0 206 (dk_at dksX5_potWith_1 5 rfl rfl)
theorem dX5_potWith_32 : decode cX5_potWith 32 = .ok (.ldiv, 1) := dk_109 (dk_at dksX5_potWith_1 8 rfl rfl)
theorem dX5_potWith_33 : decode cX5_potWith 33 = .ok (.ladd, 1) := dk_97 (dk_at dksX5_potWith_1 9 rfl rfl)
theorem dX5_potWith_34 : decode cX5_potWith 34 = .ok (.lreturn, 1) := dk_173 (dk_at dksX5_potWith_1 10 rfl rfl)
abbrev cX5_shareOf : ByteArray := prog_24_method_46_code
def yX5_shareOf : MethodName := ⟨RX5, "shareOf", "(JI)J"⟩
def dkwX5_shareOf_0 : List UInt8 := [31, 42, 180, 0, 7, 16, 16, 29, 100, 46, 133, 105, 20, 0, 206, 109, 173]
abbrev dktX5_shareOf_0 : List UInt8 := dkwX5_shareOf_0 ++ []
theorem dksX5_shareOf_0 : cX5_shareOf.data.toList.drop 0 = dktX5_shareOf_0 := by decide +kernel
theorem dX5_shareOf_0 : decode cX5_shareOf 0 = .ok (.lload_n 1, 1) := dk_31 (dk_at dksX5_shareOf_0 0 rfl rfl)
theorem dX5_shareOf_1 : decode cX5_shareOf 1 = .ok (.aload_n 0, 1) := dk_42 (dk_at dksX5_shareOf_0 1 rfl rfl)
theorem dX5_shareOf_2 : decode cX5_shareOf 2 = .ok (.getfield 7, 3) := dk_180 0 7 (dk_at dksX5_shareOf_0 2 rfl rfl)
theorem dX5_shareOf_5 : decode cX5_shareOf 5 = .ok (.bipush 16, 2) := dk_16 16 (dk_at dksX5_shareOf_0 5 rfl rfl)
theorem dX5_shareOf_7 : decode cX5_shareOf 7 = .ok (.iload_n 3, 1) := dk_29 (dk_at dksX5_shareOf_0 7 rfl rfl)
theorem dX5_shareOf_8 : decode cX5_shareOf 8 = .ok (.isub, 1) := dk_100 (dk_at dksX5_shareOf_0 8 rfl rfl)
theorem dX5_shareOf_9 : decode cX5_shareOf 9 = .ok (.iaload, 1) := dk_46 (dk_at dksX5_shareOf_0 9 rfl rfl)
theorem dX5_shareOf_10 : decode cX5_shareOf 10 = .ok (.i2l, 1) := dk_133 (dk_at dksX5_shareOf_0 10 rfl rfl)
theorem dX5_shareOf_11 : decode cX5_shareOf 11 = .ok (.lmul, 1) := dk_105 (dk_at dksX5_shareOf_0 11 rfl rfl)
theorem dX5_shareOf_12 : decode cX5_shareOf 12 = .ok (.ldc2_w 206, 3) := dk_20 0 206 (dk_at dksX5_shareOf_0 12 rfl rfl)
theorem dX5_shareOf_15 : decode cX5_shareOf 15 = .ok (.ldiv, 1) := dk_109 (dk_at dksX5_shareOf_0 15 rfl rfl)
theorem dX5_shareOf_16 : decode cX5_shareOf 16 = .ok (.lreturn, 1) := dk_173 (dk_at dksX5_shareOf_0 16 rfl rfl)
abbrev cX5_told : ByteArray := prog_24_method_49_code
def yX5_told : MethodName := ⟨RX5, "told", "(I)I"⟩
def dkwX5_told_3 : List UInt8 := [172]
abbrev dktX5_told_3 : List UInt8 := dkwX5_told_3 ++ []
def dkwX5_told_2 : List UInt8 := [182, 0, 219, 42, 180, 0, 7, 16, 104, 16, 8, 42, 180, 0, 7, 4, 46, 4, 100, 104, 96, 4, 96, 46]
abbrev dktX5_told_2 : List UInt8 := dkwX5_told_2 ++ dktX5_told_3
def dkwX5_told_1 : List UInt8 := [182, 0, 88, 172, 42, 180, 0, 7, 4, 46, 16, 40, 160, 0, 10, 42, 18, 104, 182, 0, 88, 172, 42, 27]
abbrev dktX5_told_1 : List UInt8 := dkwX5_told_1 ++ dktX5_told_2
def dkwX5_told_0 : List UInt8 := [27, 155, 0, 19, 27, 17, 15, 255, 163, 0, 12, 42, 180, 0, 22, 27, 46, 156, 0, 10, 42, 18, 87]
abbrev dktX5_told_0 : List UInt8 := dkwX5_told_0 ++ dktX5_told_1
theorem dksX5_told_0 : cX5_told.data.toList.drop 0 = dktX5_told_0 := by decide +kernel
theorem dksX5_told_1 : cX5_told.data.toList.drop 23 = dktX5_told_1 := dk_seg dksX5_told_0 23 rfl rfl
theorem dksX5_told_2 : cX5_told.data.toList.drop 47 = dktX5_told_2 := dk_seg dksX5_told_1 24 rfl rfl
theorem dksX5_told_3 : cX5_told.data.toList.drop 71 = dktX5_told_3 := dk_seg dksX5_told_2 24 rfl rfl
theorem dX5_told_0 : decode cX5_told 0 = .ok (.iload_n 1, 1) := dk_27 (dk_at dksX5_told_0 0 rfl rfl)
theorem dX5_told_1 : decode cX5_told 1 = .ok (.ifCond .lt 19, 3) := dk_155 0 19 (dk_at dksX5_told_0 1 rfl rfl)
theorem dX5_told_4 : decode cX5_told 4 = .ok (.iload_n 1, 1) := dk_27 (dk_at dksX5_told_0 4 rfl rfl)
theorem dX5_told_5 : decode cX5_told 5 = .ok (.sipush 4095, 3) := dk_17 15 255 (dk_at dksX5_told_0 5 rfl rfl)
theorem dX5_told_8 : decode cX5_told 8 = .ok (.if_icmp .gt 12, 3) := dk_163 0 12 (dk_at dksX5_told_0 8 rfl rfl)
theorem dX5_told_11 : decode cX5_told 11 = .ok (.aload_n 0, 1) := dk_42 (dk_at dksX5_told_0 11 rfl rfl)
theorem dX5_told_12 : decode cX5_told 12 = .ok (.getfield 22, 3) := dk_180 0 22 (dk_at dksX5_told_0 12 rfl rfl)
theorem dX5_told_15 : decode cX5_told 15 = .ok (.iload_n 1, 1) := dk_27 (dk_at dksX5_told_0 15 rfl rfl)
theorem dX5_told_16 : decode cX5_told 16 = .ok (.iaload, 1) := dk_46 (dk_at dksX5_told_0 16 rfl rfl)
theorem dX5_told_17 : decode cX5_told 17 = .ok (.ifCond .ge 10, 3) := dk_156 0 10 (dk_at dksX5_told_0 17 rfl rfl)
theorem dX5_told_20 : decode cX5_told 20 = .ok (.aload_n 0, 1) := dk_42 (dk_at dksX5_told_0 20 rfl rfl)
theorem dX5_told_21 : decode cX5_told 21 = .ok (.ldc 87, 2) := dk_18 87 (dk_at dksX5_told_0 21 rfl rfl)
theorem dX5_told_23 : decode cX5_told 23 = .ok (.invokevirtual 88, 3) := dk_182 0 88 (dk_at dksX5_told_1 0 rfl rfl)
theorem dX5_told_26 : decode cX5_told 26 = .ok (.ireturn, 1) := dk_172 (dk_at dksX5_told_1 3 rfl rfl)
theorem dX5_told_27 : decode cX5_told 27 = .ok (.aload_n 0, 1) := dk_42 (dk_at dksX5_told_1 4 rfl rfl)
theorem dX5_told_28 : decode cX5_told 28 = .ok (.getfield 7, 3) := dk_180 0 7 (dk_at dksX5_told_1 5 rfl rfl)
theorem dX5_told_31 : decode cX5_told 31 = .ok (.iconst 1, 1) := dk_4 (dk_at dksX5_told_1 8 rfl rfl)
theorem dX5_told_32 : decode cX5_told 32 = .ok (.iaload, 1) := dk_46 (dk_at dksX5_told_1 9 rfl rfl)
theorem dX5_told_33 : decode cX5_told 33 = .ok (.bipush 40, 2) := dk_16 40 (dk_at dksX5_told_1 10 rfl rfl)
theorem dX5_told_35 : decode cX5_told 35 = .ok (.if_icmp .ne 10, 3) := dk_160 0 10 (dk_at dksX5_told_1 12 rfl rfl)
theorem dX5_told_38 : decode cX5_told 38 = .ok (.aload_n 0, 1) := dk_42 (dk_at dksX5_told_1 15 rfl rfl)
theorem dX5_told_39 : decode cX5_told 39 = .ok (.ldc 104, 2) := dk_18 104 (dk_at dksX5_told_1 16 rfl rfl)
theorem dX5_told_41 : decode cX5_told 41 = .ok (.invokevirtual 88, 3) := dk_182 0 88 (dk_at dksX5_told_1 18 rfl rfl)
theorem dX5_told_44 : decode cX5_told 44 = .ok (.ireturn, 1) := dk_172 (dk_at dksX5_told_1 21 rfl rfl)
theorem dX5_told_45 : decode cX5_told 45 = .ok (.aload_n 0, 1) := dk_42 (dk_at dksX5_told_1 22 rfl rfl)
theorem dX5_told_46 : decode cX5_told 46 = .ok (.iload_n 1, 1) := dk_27 (dk_at dksX5_told_1 23 rfl rfl)
theorem dX5_told_47 : decode cX5_told 47 = .ok (.invokevirtual 219, 3) := dk_182 0 219 (dk_at dksX5_told_2 0 rfl rfl)
theorem dX5_told_50 : decode cX5_told 50 = .ok (.aload_n 0, 1) := dk_42 (dk_at dksX5_told_2 3 rfl rfl)
theorem dX5_told_51 : decode cX5_told 51 = .ok (.getfield 7, 3) := dk_180 0 7 (dk_at dksX5_told_2 4 rfl rfl)
theorem dX5_told_54 : decode cX5_told 54 = .ok (.bipush 104, 2) := dk_16 104 (dk_at dksX5_told_2 7 rfl rfl)
theorem dX5_told_56 : decode cX5_told 56 = .ok (.bipush 8, 2) := dk_16 8 (dk_at dksX5_told_2 9 rfl rfl)
theorem dX5_told_58 : decode cX5_told 58 = .ok (.aload_n 0, 1) := dk_42 (dk_at dksX5_told_2 11 rfl rfl)
theorem dX5_told_59 : decode cX5_told 59 = .ok (.getfield 7, 3) := dk_180 0 7 (dk_at dksX5_told_2 12 rfl rfl)
theorem dX5_told_62 : decode cX5_told 62 = .ok (.iconst 1, 1) := dk_4 (dk_at dksX5_told_2 15 rfl rfl)
theorem dX5_told_63 : decode cX5_told 63 = .ok (.iaload, 1) := dk_46 (dk_at dksX5_told_2 16 rfl rfl)
theorem dX5_told_64 : decode cX5_told 64 = .ok (.iconst 1, 1) := dk_4 (dk_at dksX5_told_2 17 rfl rfl)
theorem dX5_told_65 : decode cX5_told 65 = .ok (.isub, 1) := dk_100 (dk_at dksX5_told_2 18 rfl rfl)
theorem dX5_told_66 : decode cX5_told 66 = .ok (.imul, 1) := dk_104 (dk_at dksX5_told_2 19 rfl rfl)
theorem dX5_told_67 : decode cX5_told 67 = .ok (.iadd, 1) := dk_96 (dk_at dksX5_told_2 20 rfl rfl)
theorem dX5_told_68 : decode cX5_told 68 = .ok (.iconst 1, 1) := dk_4 (dk_at dksX5_told_2 21 rfl rfl)
theorem dX5_told_69 : decode cX5_told 69 = .ok (.iadd, 1) := dk_96 (dk_at dksX5_told_2 22 rfl rfl)
theorem dX5_told_70 : decode cX5_told 70 = .ok (.iaload, 1) := dk_46 (dk_at dksX5_told_2 23 rfl rfl)
theorem dX5_told_71 : decode cX5_told 71 = .ok (.ireturn, 1) := dk_172 (dk_at dksX5_told_3 0 rfl rfl)
abbrev cX5_book : ByteArray := prog_24_method_50_code
def yX5_book : MethodName := ⟨RX5, "book", "(II)I"⟩
def dkwX5_book_2 : List UInt8 := [18, 87, 182, 0, 88, 172]
abbrev dktX5_book_2 : List UInt8 := dkwX5_book_2 ++ []
def dkwX5_book_1 : List UInt8 := [184, 0, 98, 153, 0, 20, 42, 180, 0, 7, 16, 104, 16, 8, 27, 104, 96, 28, 96, 46, 167, 0, 9, 42]
abbrev dktX5_book_1 : List UInt8 := dkwX5_book_1 ++ dktX5_book_2
def dkwX5_book_0 : List UInt8 := [27, 133, 9, 42, 180, 0, 7, 4, 46, 4, 100, 133, 184, 0, 98, 153, 0, 32, 28, 133, 9, 20, 0, 96]
abbrev dktX5_book_0 : List UInt8 := dkwX5_book_0 ++ dktX5_book_1
theorem dksX5_book_0 : cX5_book.data.toList.drop 0 = dktX5_book_0 := by decide +kernel
theorem dksX5_book_1 : cX5_book.data.toList.drop 24 = dktX5_book_1 := dk_seg dksX5_book_0 24 rfl rfl
theorem dksX5_book_2 : cX5_book.data.toList.drop 48 = dktX5_book_2 := dk_seg dksX5_book_1 24 rfl rfl
theorem dX5_book_0 : decode cX5_book 0 = .ok (.iload_n 1, 1) := dk_27 (dk_at dksX5_book_0 0 rfl rfl)
theorem dX5_book_1 : decode cX5_book 1 = .ok (.i2l, 1) := dk_133 (dk_at dksX5_book_0 1 rfl rfl)
theorem dX5_book_2 : decode cX5_book 2 = .ok (.lconst 0, 1) := dk_9 (dk_at dksX5_book_0 2 rfl rfl)
theorem dX5_book_3 : decode cX5_book 3 = .ok (.aload_n 0, 1) := dk_42 (dk_at dksX5_book_0 3 rfl rfl)
theorem dX5_book_4 : decode cX5_book 4 = .ok (.getfield 7, 3) := dk_180 0 7 (dk_at dksX5_book_0 4 rfl rfl)
theorem dX5_book_7 : decode cX5_book 7 = .ok (.iconst 1, 1) := dk_4 (dk_at dksX5_book_0 7 rfl rfl)
theorem dX5_book_8 : decode cX5_book 8 = .ok (.iaload, 1) := dk_46 (dk_at dksX5_book_0 8 rfl rfl)
theorem dX5_book_9 : decode cX5_book 9 = .ok (.iconst 1, 1) := dk_4 (dk_at dksX5_book_0 9 rfl rfl)
theorem dX5_book_10 : decode cX5_book 10 = .ok (.isub, 1) := dk_100 (dk_at dksX5_book_0 10 rfl rfl)
theorem dX5_book_11 : decode cX5_book 11 = .ok (.i2l, 1) := dk_133 (dk_at dksX5_book_0 11 rfl rfl)
theorem dX5_book_12 : decode cX5_book 12 = .ok (.invokestatic 98, 3) := dk_184 0 98 (dk_at dksX5_book_0 12 rfl rfl)
theorem dX5_book_15 : decode cX5_book 15 = .ok (.ifCond .eq 32, 3) := dk_153 0 32 (dk_at dksX5_book_0 15 rfl rfl)
theorem dX5_book_18 : decode cX5_book 18 = .ok (.iload_n 2, 1) := dk_28 (dk_at dksX5_book_0 18 rfl rfl)
theorem dX5_book_19 : decode cX5_book 19 = .ok (.i2l, 1) := dk_133 (dk_at dksX5_book_0 19 rfl rfl)
theorem dX5_book_20 : decode cX5_book 20 = .ok (.lconst 0, 1) := dk_9 (dk_at dksX5_book_0 20 rfl rfl)
theorem dX5_book_21 : decode cX5_book 21 = .ok (.ldc2_w 96, 3) := dk_20 0 96 (dk_at dksX5_book_0 21 rfl rfl)
theorem dX5_book_24 : decode cX5_book 24 = .ok (.invokestatic 98, 3) := dk_184 0 98 (dk_at dksX5_book_1 0 rfl rfl)
theorem dX5_book_27 : decode cX5_book 27 = .ok (.ifCond .eq 20, 3) := dk_153 0 20 (dk_at dksX5_book_1 3 rfl rfl)
theorem dX5_book_30 : decode cX5_book 30 = .ok (.aload_n 0, 1) := dk_42 (dk_at dksX5_book_1 6 rfl rfl)
theorem dX5_book_31 : decode cX5_book 31 = .ok (.getfield 7, 3) := dk_180 0 7 (dk_at dksX5_book_1 7 rfl rfl)
theorem dX5_book_34 : decode cX5_book 34 = .ok (.bipush 104, 2) := dk_16 104 (dk_at dksX5_book_1 10 rfl rfl)
theorem dX5_book_36 : decode cX5_book 36 = .ok (.bipush 8, 2) := dk_16 8 (dk_at dksX5_book_1 12 rfl rfl)
theorem dX5_book_38 : decode cX5_book 38 = .ok (.iload_n 1, 1) := dk_27 (dk_at dksX5_book_1 14 rfl rfl)
theorem dX5_book_39 : decode cX5_book 39 = .ok (.imul, 1) := dk_104 (dk_at dksX5_book_1 15 rfl rfl)
theorem dX5_book_40 : decode cX5_book 40 = .ok (.iadd, 1) := dk_96 (dk_at dksX5_book_1 16 rfl rfl)
theorem dX5_book_41 : decode cX5_book 41 = .ok (.iload_n 2, 1) := dk_28 (dk_at dksX5_book_1 17 rfl rfl)
theorem dX5_book_42 : decode cX5_book 42 = .ok (.iadd, 1) := dk_96 (dk_at dksX5_book_1 18 rfl rfl)
theorem dX5_book_43 : decode cX5_book 43 = .ok (.iaload, 1) := dk_46 (dk_at dksX5_book_1 19 rfl rfl)
theorem dX5_book_44 : decode cX5_book 44 = .ok (.goto 9, 3) := dk_167 0 9 (dk_at dksX5_book_1 20 rfl rfl)
theorem dX5_book_47 : decode cX5_book 47 = .ok (.aload_n 0, 1) := dk_42 (dk_at dksX5_book_1 23 rfl rfl)
theorem dX5_book_48 : decode cX5_book 48 = .ok (.ldc 87, 2) := dk_18 87 (dk_at dksX5_book_2 0 rfl rfl)
theorem dX5_book_50 : decode cX5_book 50 = .ok (.invokevirtual 88, 3) := dk_182 0 88 (dk_at dksX5_book_2 2 rfl rfl)
theorem dX5_book_53 : decode cX5_book 53 = .ok (.ireturn, 1) := dk_172 (dk_at dksX5_book_2 5 rfl rfl)
abbrev cX5_now : ByteArray := prog_24_method_51_code
def yX5_now : MethodName := ⟨RX5, "now", "()I"⟩
def dkwX5_now_0 : List UInt8 := [42, 42, 180, 0, 7, 16, 17, 46, 182, 0, 208, 136, 172]
abbrev dktX5_now_0 : List UInt8 := dkwX5_now_0 ++ []
theorem dksX5_now_0 : cX5_now.data.toList.drop 0 = dktX5_now_0 := by decide +kernel
theorem dX5_now_0 : decode cX5_now 0 = .ok (.aload_n 0, 1) := dk_42 (dk_at dksX5_now_0 0 rfl rfl)
theorem dX5_now_1 : decode cX5_now 1 = .ok (.aload_n 0, 1) := dk_42 (dk_at dksX5_now_0 1 rfl rfl)
theorem dX5_now_2 : decode cX5_now 2 = .ok (.getfield 7, 3) := dk_180 0 7 (dk_at dksX5_now_0 2 rfl rfl)
theorem dX5_now_5 : decode cX5_now 5 = .ok (.bipush 17, 2) := dk_16 17 (dk_at dksX5_now_0 5 rfl rfl)
theorem dX5_now_7 : decode cX5_now 7 = .ok (.iaload, 1) := dk_46 (dk_at dksX5_now_0 7 rfl rfl)
theorem dX5_now_8 : decode cX5_now 8 = .ok (.invokevirtual 208, 3) := dk_182 0 208 (dk_at dksX5_now_0 8 rfl rfl)
theorem dX5_now_11 : decode cX5_now 11 = .ok (.l2i, 1) := dk_136 (dk_at dksX5_now_0 11 rfl rfl)
theorem dX5_now_12 : decode cX5_now 12 = .ok (.ireturn, 1) := dk_172 (dk_at dksX5_now_0 12 rfl rfl)
abbrev cX5_worth : ByteArray := prog_24_method_55_code
def yX5_worth : MethodName := ⟨RX5, "worth", "(I)I"⟩
def dkwX5_worth_1 : List UInt8 := [167, 0, 9, 42, 18, 87, 182, 0, 88, 172]
abbrev dktX5_worth_1 : List UInt8 := dkwX5_worth_1 ++ []
def dkwX5_worth_0 : List UInt8 := [27, 184, 0, 92, 153, 0, 22, 42, 27, 42, 42, 180, 0, 7, 16, 17, 46, 182, 0, 208, 182, 0, 235]
abbrev dktX5_worth_0 : List UInt8 := dkwX5_worth_0 ++ dktX5_worth_1
theorem dksX5_worth_0 : cX5_worth.data.toList.drop 0 = dktX5_worth_0 := by decide +kernel
theorem dksX5_worth_1 : cX5_worth.data.toList.drop 23 = dktX5_worth_1 := dk_seg dksX5_worth_0 23 rfl rfl
theorem dX5_worth_0 : decode cX5_worth 0 = .ok (.iload_n 1, 1) := dk_27 (dk_at dksX5_worth_0 0 rfl rfl)
theorem dX5_worth_1 : decode cX5_worth 1 = .ok (.invokestatic 92, 3) := dk_184 0 92 (dk_at dksX5_worth_0 1 rfl rfl)
theorem dX5_worth_4 : decode cX5_worth 4 = .ok (.ifCond .eq 22, 3) := dk_153 0 22 (dk_at dksX5_worth_0 4 rfl rfl)
theorem dX5_worth_7 : decode cX5_worth 7 = .ok (.aload_n 0, 1) := dk_42 (dk_at dksX5_worth_0 7 rfl rfl)
theorem dX5_worth_8 : decode cX5_worth 8 = .ok (.iload_n 1, 1) := dk_27 (dk_at dksX5_worth_0 8 rfl rfl)
theorem dX5_worth_9 : decode cX5_worth 9 = .ok (.aload_n 0, 1) := dk_42 (dk_at dksX5_worth_0 9 rfl rfl)
theorem dX5_worth_10 : decode cX5_worth 10 = .ok (.aload_n 0, 1) := dk_42 (dk_at dksX5_worth_0 10 rfl rfl)
theorem dX5_worth_11 : decode cX5_worth 11 = .ok (.getfield 7, 3) := dk_180 0 7 (dk_at dksX5_worth_0 11 rfl rfl)
theorem dX5_worth_14 : decode cX5_worth 14 = .ok (.bipush 17, 2) := dk_16 17 (dk_at dksX5_worth_0 14 rfl rfl)
theorem dX5_worth_16 : decode cX5_worth 16 = .ok (.iaload, 1) := dk_46 (dk_at dksX5_worth_0 16 rfl rfl)
theorem dX5_worth_17 : decode cX5_worth 17 = .ok (.invokevirtual 208, 3) := dk_182 0 208 (dk_at dksX5_worth_0 17 rfl rfl)
theorem dX5_worth_20 : decode cX5_worth 20 = .ok (.invokevirtual 235, 3) := dk_182 0 235 (dk_at dksX5_worth_0 20 rfl rfl)
theorem dX5_worth_23 : decode cX5_worth 23 = .ok (.goto 9, 3) := dk_167 0 9 (dk_at dksX5_worth_1 0 rfl rfl)
theorem dX5_worth_26 : decode cX5_worth 26 = .ok (.aload_n 0, 1) := dk_42 (dk_at dksX5_worth_1 3 rfl rfl)
theorem dX5_worth_27 : decode cX5_worth 27 = .ok (.ldc 87, 2) := dk_18 87 (dk_at dksX5_worth_1 4 rfl rfl)
theorem dX5_worth_29 : decode cX5_worth 29 = .ok (.invokevirtual 88, 3) := dk_182 0 88 (dk_at dksX5_worth_1 6 rfl rfl)
theorem dX5_worth_32 : decode cX5_worth 32 = .ok (.ireturn, 1) := dk_172 (dk_at dksX5_worth_1 9 rfl rfl)
abbrev cX5_worthOf : ByteArray := prog_24_method_54_code
def yX5_worthOf : MethodName := ⟨RX5, "worthOf", "(IJ)I"⟩
def dkwX5_worthOf_0 : List UInt8 := [42, 27, 32, 182, 0, 229, 20, 0, 233, 109, 136, 172]
abbrev dktX5_worthOf_0 : List UInt8 := dkwX5_worthOf_0 ++ []
theorem dksX5_worthOf_0 : cX5_worthOf.data.toList.drop 0 = dktX5_worthOf_0 := by decide +kernel
theorem dX5_worthOf_0 : decode cX5_worthOf 0 = .ok (.aload_n 0, 1) := dk_42 (dk_at dksX5_worthOf_0 0 rfl rfl)
theorem dX5_worthOf_1 : decode cX5_worthOf 1 = .ok (.iload_n 1, 1) := dk_27 (dk_at dksX5_worthOf_0 1 rfl rfl)
theorem dX5_worthOf_2 : decode cX5_worthOf 2 = .ok (.lload_n 2, 1) := dk_32 (dk_at dksX5_worthOf_0 2 rfl rfl)
theorem dX5_worthOf_3 : decode cX5_worthOf 3 = .ok (.invokevirtual 229, 3) := dk_182 0 229 (dk_at dksX5_worthOf_0 3 rfl rfl)
theorem dX5_worthOf_6 : decode cX5_worthOf 6 = .ok (.ldc2_w 233, 3) := dk_20 0 233 (dk_at dksX5_worthOf_0 6 rfl rfl)
theorem dX5_worthOf_9 : decode cX5_worthOf 9 = .ok (.ldiv, 1) := dk_109 (dk_at dksX5_worthOf_0 9 rfl rfl)
theorem dX5_worthOf_10 : decode cX5_worthOf 10 = .ok (.l2i, 1) := dk_136 (dk_at dksX5_worthOf_0 10 rfl rfl)
theorem dX5_worthOf_11 : decode cX5_worthOf 11 = .ok (.ireturn, 1) := dk_172 (dk_at dksX5_worthOf_0 11 rfl rfl)
abbrev cX5_getsAll : ByteArray := prog_24_method_53_code
def yX5_getsAll : MethodName := ⟨RX5, "getsAll", "(IJ)J"⟩
def dkwX5_getsAll_3 : List UInt8 := [182, 0, 225, 97, 55, 4, 132, 6, 1, 167, 255, 185, 22, 4, 173]
abbrev dktX5_getsAll_3 : List UInt8 := dkwX5_getsAll_3 ++ []
def dkwX5_getsAll_2 : List UInt8 := [32, 21, 7, 182, 0, 212, 42, 180, 0, 63, 6, 21, 6, 104, 21, 7, 96, 5, 100, 46, 4, 96, 133, 109]
abbrev dktX5_getsAll_2 : List UInt8 := dkwX5_getsAll_2 ++ dktX5_getsAll_3
def dkwX5_getsAll_1 : List UInt8 := [46, 42, 180, 0, 19, 21, 6, 46, 126, 182, 0, 132, 54, 7, 21, 7, 4, 164, 0, 37, 22, 4, 42, 42]
abbrev dktX5_getsAll_1 : List UInt8 := dkwX5_getsAll_1 ++ dktX5_getsAll_2
def dkwX5_getsAll_0 : List UInt8 := [42, 182, 0, 222, 9, 55, 4, 3, 54, 6, 21, 6, 17, 1, 239, 162, 0, 69, 42, 42, 180, 0, 19, 27]
abbrev dktX5_getsAll_0 : List UInt8 := dkwX5_getsAll_0 ++ dktX5_getsAll_1
theorem dksX5_getsAll_0 : cX5_getsAll.data.toList.drop 0 = dktX5_getsAll_0 := by decide +kernel
theorem dksX5_getsAll_1 : cX5_getsAll.data.toList.drop 24 = dktX5_getsAll_1 := dk_seg dksX5_getsAll_0 24 rfl rfl
theorem dksX5_getsAll_2 : cX5_getsAll.data.toList.drop 48 = dktX5_getsAll_2 := dk_seg dksX5_getsAll_1 24 rfl rfl
theorem dksX5_getsAll_3 : cX5_getsAll.data.toList.drop 72 = dktX5_getsAll_3 := dk_seg dksX5_getsAll_2 24 rfl rfl
theorem dX5_getsAll_0 : decode cX5_getsAll 0 = .ok (.aload_n 0, 1) := dk_42 (dk_at dksX5_getsAll_0 0 rfl rfl)
theorem dX5_getsAll_1 : decode cX5_getsAll 1 = .ok (.invokevirtual 222, 3) := dk_182 0 222 (dk_at dksX5_getsAll_0 1 rfl rfl)
theorem dX5_getsAll_4 : decode cX5_getsAll 4 = .ok (.lconst 0, 1) := dk_9 (dk_at dksX5_getsAll_0 4 rfl rfl)
theorem dX5_getsAll_5 : decode cX5_getsAll 5 = .ok (.lstore 4, 2) := dk_55 4 (dk_at dksX5_getsAll_0 5 rfl rfl)
theorem dX5_getsAll_7 : decode cX5_getsAll 7 = .ok (.iconst 0, 1) := dk_3 (dk_at dksX5_getsAll_0 7 rfl rfl)
theorem dX5_getsAll_8 : decode cX5_getsAll 8 = .ok (.istore 6, 2) := dk_54 6 (dk_at dksX5_getsAll_0 8 rfl rfl)
theorem dX5_getsAll_10 : decode cX5_getsAll 10 = .ok (.iload 6, 2) := dk_21 6 (dk_at dksX5_getsAll_0 10 rfl rfl)
theorem dX5_getsAll_12 : decode cX5_getsAll 12 = .ok (.sipush 495, 3) := dk_17 1 239 (dk_at dksX5_getsAll_0 12 rfl rfl)
theorem dX5_getsAll_15 : decode cX5_getsAll 15 = .ok (.if_icmp .ge 69, 3) := dk_162 0 69 (dk_at dksX5_getsAll_0 15 rfl rfl)
theorem dX5_getsAll_18 : decode cX5_getsAll 18 = .ok (.aload_n 0, 1) := dk_42 (dk_at dksX5_getsAll_0 18 rfl rfl)
theorem dX5_getsAll_19 : decode cX5_getsAll 19 = .ok (.aload_n 0, 1) := dk_42 (dk_at dksX5_getsAll_0 19 rfl rfl)
theorem dX5_getsAll_20 : decode cX5_getsAll 20 = .ok (.getfield 19, 3) := dk_180 0 19 (dk_at dksX5_getsAll_0 20 rfl rfl)
theorem dX5_getsAll_23 : decode cX5_getsAll 23 = .ok (.iload_n 1, 1) := dk_27 (dk_at dksX5_getsAll_0 23 rfl rfl)
theorem dX5_getsAll_24 : decode cX5_getsAll 24 = .ok (.iaload, 1) := dk_46 (dk_at dksX5_getsAll_1 0 rfl rfl)
theorem dX5_getsAll_25 : decode cX5_getsAll 25 = .ok (.aload_n 0, 1) := dk_42 (dk_at dksX5_getsAll_1 1 rfl rfl)
theorem dX5_getsAll_26 : decode cX5_getsAll 26 = .ok (.getfield 19, 3) := dk_180 0 19 (dk_at dksX5_getsAll_1 2 rfl rfl)
theorem dX5_getsAll_29 : decode cX5_getsAll 29 = .ok (.iload 6, 2) := dk_21 6 (dk_at dksX5_getsAll_1 5 rfl rfl)
theorem dX5_getsAll_31 : decode cX5_getsAll 31 = .ok (.iaload, 1) := dk_46 (dk_at dksX5_getsAll_1 7 rfl rfl)
theorem dX5_getsAll_32 : decode cX5_getsAll 32 = .ok (.iand, 1) := dk_126 (dk_at dksX5_getsAll_1 8 rfl rfl)
theorem dX5_getsAll_33 : decode cX5_getsAll 33 = .ok (.invokevirtual 132, 3) := dk_182 0 132 (dk_at dksX5_getsAll_1 9 rfl rfl)
theorem dX5_getsAll_36 : decode cX5_getsAll 36 = .ok (.istore 7, 2) := dk_54 7 (dk_at dksX5_getsAll_1 12 rfl rfl)
theorem dX5_getsAll_38 : decode cX5_getsAll 38 = .ok (.iload 7, 2) := dk_21 7 (dk_at dksX5_getsAll_1 14 rfl rfl)
theorem dX5_getsAll_40 : decode cX5_getsAll 40 = .ok (.iconst 1, 1) := dk_4 (dk_at dksX5_getsAll_1 16 rfl rfl)
theorem dX5_getsAll_41 : decode cX5_getsAll 41 = .ok (.if_icmp .le 37, 3) := dk_164 0 37 (dk_at dksX5_getsAll_1 17 rfl rfl)
theorem dX5_getsAll_44 : decode cX5_getsAll 44 = .ok (.lload 4, 2) := dk_22 4 (dk_at dksX5_getsAll_1 20 rfl rfl)
theorem dX5_getsAll_46 : decode cX5_getsAll 46 = .ok (.aload_n 0, 1) := dk_42 (dk_at dksX5_getsAll_1 22 rfl rfl)
theorem dX5_getsAll_47 : decode cX5_getsAll 47 = .ok (.aload_n 0, 1) := dk_42 (dk_at dksX5_getsAll_1 23 rfl rfl)
theorem dX5_getsAll_48 : decode cX5_getsAll 48 = .ok (.lload_n 2, 1) := dk_32 (dk_at dksX5_getsAll_2 0 rfl rfl)
theorem dX5_getsAll_49 : decode cX5_getsAll 49 = .ok (.iload 7, 2) := dk_21 7 (dk_at dksX5_getsAll_2 1 rfl rfl)
theorem dX5_getsAll_51 : decode cX5_getsAll 51 = .ok (.invokevirtual 212, 3) := dk_182 0 212 (dk_at dksX5_getsAll_2 3 rfl rfl)
theorem dX5_getsAll_54 : decode cX5_getsAll 54 = .ok (.aload_n 0, 1) := dk_42 (dk_at dksX5_getsAll_2 6 rfl rfl)
theorem dX5_getsAll_55 : decode cX5_getsAll 55 = .ok (.getfield 63, 3) := dk_180 0 63 (dk_at dksX5_getsAll_2 7 rfl rfl)
theorem dX5_getsAll_58 : decode cX5_getsAll 58 = .ok (.iconst 3, 1) := dk_6 (dk_at dksX5_getsAll_2 10 rfl rfl)
theorem dX5_getsAll_59 : decode cX5_getsAll 59 = .ok (.iload 6, 2) := dk_21 6 (dk_at dksX5_getsAll_2 11 rfl rfl)
theorem dX5_getsAll_61 : decode cX5_getsAll 61 = .ok (.imul, 1) := dk_104 (dk_at dksX5_getsAll_2 13 rfl rfl)
theorem dX5_getsAll_62 : decode cX5_getsAll 62 = .ok (.iload 7, 2) := dk_21 7 (dk_at dksX5_getsAll_2 14 rfl rfl)
theorem dX5_getsAll_64 : decode cX5_getsAll 64 = .ok (.iadd, 1) := dk_96 (dk_at dksX5_getsAll_2 16 rfl rfl)
theorem dX5_getsAll_65 : decode cX5_getsAll 65 = .ok (.iconst 2, 1) := dk_5 (dk_at dksX5_getsAll_2 17 rfl rfl)
theorem dX5_getsAll_66 : decode cX5_getsAll 66 = .ok (.isub, 1) := dk_100 (dk_at dksX5_getsAll_2 18 rfl rfl)
theorem dX5_getsAll_67 : decode cX5_getsAll 67 = .ok (.iaload, 1) := dk_46 (dk_at dksX5_getsAll_2 19 rfl rfl)
theorem dX5_getsAll_68 : decode cX5_getsAll 68 = .ok (.iconst 1, 1) := dk_4 (dk_at dksX5_getsAll_2 20 rfl rfl)
theorem dX5_getsAll_69 : decode cX5_getsAll 69 = .ok (.iadd, 1) := dk_96 (dk_at dksX5_getsAll_2 21 rfl rfl)
theorem dX5_getsAll_70 : decode cX5_getsAll 70 = .ok (.i2l, 1) := dk_133 (dk_at dksX5_getsAll_2 22 rfl rfl)
theorem dX5_getsAll_71 : decode cX5_getsAll 71 = .ok (.ldiv, 1) := dk_109 (dk_at dksX5_getsAll_2 23 rfl rfl)
theorem dX5_getsAll_72 : decode cX5_getsAll 72 = .ok (.invokevirtual 225, 3) := dk_182 0 225 (dk_at dksX5_getsAll_3 0 rfl rfl)
theorem dX5_getsAll_75 : decode cX5_getsAll 75 = .ok (.ladd, 1) := dk_97 (dk_at dksX5_getsAll_3 3 rfl rfl)
theorem dX5_getsAll_76 : decode cX5_getsAll 76 = .ok (.lstore 4, 2) := dk_55 4 (dk_at dksX5_getsAll_3 4 rfl rfl)
theorem dX5_getsAll_78 : decode cX5_getsAll 78 = .ok (.iinc 6 1, 3) := dk_132 6 1 (dk_at dksX5_getsAll_3 6 rfl rfl)
theorem dX5_getsAll_81 : decode cX5_getsAll 81 = .ok (.goto (-71), 3) := dk_167 255 185 (dk_at dksX5_getsAll_3 9 rfl rfl)
theorem dX5_getsAll_84 : decode cX5_getsAll 84 = .ok (.lload 4, 2) := dk_22 4 (dk_at dksX5_getsAll_3 12 rfl rfl)
theorem dX5_getsAll_86 : decode cX5_getsAll 86 = .ok (.lreturn, 1) := dk_173 (dk_at dksX5_getsAll_3 14 rfl rfl)
abbrev cX5_counts : ByteArray := prog_24_method_44_code
def yX5_counts : MethodName := ⟨RX5, "counts", "()V"⟩
def dkwX5_counts_4 : List UInt8 := [92, 46, 42, 180, 0, 57, 28, 46, 96, 79, 132, 2, 1, 167, 255, 201, 132, 1, 1, 167, 255, 162, 177]
abbrev dktX5_counts_4 : List UInt8 := dkwX5_counts_4 ++ []
def dkwX5_counts_3 : List UInt8 := [180, 0, 19, 27, 46, 126, 46, 62, 29, 4, 164, 0, 24, 42, 180, 0, 63, 6, 27, 104, 29, 96, 5, 100]
abbrev dktX5_counts_3 : List UInt8 := dkwX5_counts_3 ++ dktX5_counts_4
def dkwX5_counts_2 : List UInt8 := [167, 255, 237, 3, 61, 28, 17, 1, 239, 162, 0, 54, 42, 180, 0, 25, 42, 180, 0, 19, 28, 46, 42]
abbrev dktX5_counts_2 : List UInt8 := dkwX5_counts_2 ++ dktX5_counts_3
def dkwX5_counts_1 : List UInt8 := [162, 0, 93, 3, 61, 28, 6, 162, 0, 20, 42, 180, 0, 63, 6, 27, 104, 28, 96, 3, 79, 132, 2, 1]
abbrev dktX5_counts_1 : List UInt8 := dkwX5_counts_1 ++ dktX5_counts_2
def dkwX5_counts_0 : List UInt8 := [42, 182, 0, 198, 42, 180, 0, 51, 154, 0, 4, 177, 42, 3, 181, 0, 51, 3, 60, 27, 17, 1, 239]
abbrev dktX5_counts_0 : List UInt8 := dkwX5_counts_0 ++ dktX5_counts_1
theorem dksX5_counts_0 : cX5_counts.data.toList.drop 0 = dktX5_counts_0 := by decide +kernel
theorem dksX5_counts_1 : cX5_counts.data.toList.drop 23 = dktX5_counts_1 := dk_seg dksX5_counts_0 23 rfl rfl
theorem dksX5_counts_2 : cX5_counts.data.toList.drop 47 = dktX5_counts_2 := dk_seg dksX5_counts_1 24 rfl rfl
theorem dksX5_counts_3 : cX5_counts.data.toList.drop 70 = dktX5_counts_3 := dk_seg dksX5_counts_2 23 rfl rfl
theorem dksX5_counts_4 : cX5_counts.data.toList.drop 94 = dktX5_counts_4 := dk_seg dksX5_counts_3 24 rfl rfl
theorem dX5_counts_0 : decode cX5_counts 0 = .ok (.aload_n 0, 1) := dk_42 (dk_at dksX5_counts_0 0 rfl rfl)
theorem dX5_counts_1 : decode cX5_counts 1 = .ok (.invokevirtual 198, 3) := dk_182 0 198 (dk_at dksX5_counts_0 1 rfl rfl)
theorem dX5_counts_4 : decode cX5_counts 4 = .ok (.aload_n 0, 1) := dk_42 (dk_at dksX5_counts_0 4 rfl rfl)
theorem dX5_counts_5 : decode cX5_counts 5 = .ok (.getfield 51, 3) := dk_180 0 51 (dk_at dksX5_counts_0 5 rfl rfl)
theorem dX5_counts_8 : decode cX5_counts 8 = .ok (.ifCond .ne 4, 3) := dk_154 0 4 (dk_at dksX5_counts_0 8 rfl rfl)
theorem dX5_counts_11 : decode cX5_counts 11 = .ok (.return_, 1) := dk_177 (dk_at dksX5_counts_0 11 rfl rfl)
theorem dX5_counts_12 : decode cX5_counts 12 = .ok (.aload_n 0, 1) := dk_42 (dk_at dksX5_counts_0 12 rfl rfl)
theorem dX5_counts_13 : decode cX5_counts 13 = .ok (.iconst 0, 1) := dk_3 (dk_at dksX5_counts_0 13 rfl rfl)
theorem dX5_counts_14 : decode cX5_counts 14 = .ok (.putfield 51, 3) := dk_181 0 51 (dk_at dksX5_counts_0 14 rfl rfl)
theorem dX5_counts_17 : decode cX5_counts 17 = .ok (.iconst 0, 1) := dk_3 (dk_at dksX5_counts_0 17 rfl rfl)
theorem dX5_counts_18 : decode cX5_counts 18 = .ok (.istore_n 1, 1) := dk_60 (dk_at dksX5_counts_0 18 rfl rfl)
theorem dX5_counts_19 : decode cX5_counts 19 = .ok (.iload_n 1, 1) := dk_27 (dk_at dksX5_counts_0 19 rfl rfl)
theorem dX5_counts_20 : decode cX5_counts 20 = .ok (.sipush 495, 3) := dk_17 1 239 (dk_at dksX5_counts_0 20 rfl rfl)
theorem dX5_counts_23 : decode cX5_counts 23 = .ok (.if_icmp .ge 93, 3) := dk_162 0 93 (dk_at dksX5_counts_1 0 rfl rfl)
theorem dX5_counts_26 : decode cX5_counts 26 = .ok (.iconst 0, 1) := dk_3 (dk_at dksX5_counts_1 3 rfl rfl)
theorem dX5_counts_27 : decode cX5_counts 27 = .ok (.istore_n 2, 1) := dk_61 (dk_at dksX5_counts_1 4 rfl rfl)
theorem dX5_counts_28 : decode cX5_counts 28 = .ok (.iload_n 2, 1) := dk_28 (dk_at dksX5_counts_1 5 rfl rfl)
theorem dX5_counts_29 : decode cX5_counts 29 = .ok (.iconst 3, 1) := dk_6 (dk_at dksX5_counts_1 6 rfl rfl)
theorem dX5_counts_30 : decode cX5_counts 30 = .ok (.if_icmp .ge 20, 3) := dk_162 0 20 (dk_at dksX5_counts_1 7 rfl rfl)
theorem dX5_counts_33 : decode cX5_counts 33 = .ok (.aload_n 0, 1) := dk_42 (dk_at dksX5_counts_1 10 rfl rfl)
theorem dX5_counts_34 : decode cX5_counts 34 = .ok (.getfield 63, 3) := dk_180 0 63 (dk_at dksX5_counts_1 11 rfl rfl)
theorem dX5_counts_37 : decode cX5_counts 37 = .ok (.iconst 3, 1) := dk_6 (dk_at dksX5_counts_1 14 rfl rfl)
theorem dX5_counts_38 : decode cX5_counts 38 = .ok (.iload_n 1, 1) := dk_27 (dk_at dksX5_counts_1 15 rfl rfl)
theorem dX5_counts_39 : decode cX5_counts 39 = .ok (.imul, 1) := dk_104 (dk_at dksX5_counts_1 16 rfl rfl)
theorem dX5_counts_40 : decode cX5_counts 40 = .ok (.iload_n 2, 1) := dk_28 (dk_at dksX5_counts_1 17 rfl rfl)
theorem dX5_counts_41 : decode cX5_counts 41 = .ok (.iadd, 1) := dk_96 (dk_at dksX5_counts_1 18 rfl rfl)
theorem dX5_counts_42 : decode cX5_counts 42 = .ok (.iconst 0, 1) := dk_3 (dk_at dksX5_counts_1 19 rfl rfl)
theorem dX5_counts_43 : decode cX5_counts 43 = .ok (.iastore, 1) := dk_79 (dk_at dksX5_counts_1 20 rfl rfl)
theorem dX5_counts_44 : decode cX5_counts 44 = .ok (.iinc 2 1, 3) := dk_132 2 1 (dk_at dksX5_counts_1 21 rfl rfl)
theorem dX5_counts_47 : decode cX5_counts 47 = .ok (.goto (-19), 3) := dk_167 255 237 (dk_at dksX5_counts_2 0 rfl rfl)
theorem dX5_counts_50 : decode cX5_counts 50 = .ok (.iconst 0, 1) := dk_3 (dk_at dksX5_counts_2 3 rfl rfl)
theorem dX5_counts_51 : decode cX5_counts 51 = .ok (.istore_n 2, 1) := dk_61 (dk_at dksX5_counts_2 4 rfl rfl)
theorem dX5_counts_52 : decode cX5_counts 52 = .ok (.iload_n 2, 1) := dk_28 (dk_at dksX5_counts_2 5 rfl rfl)
theorem dX5_counts_53 : decode cX5_counts 53 = .ok (.sipush 495, 3) := dk_17 1 239 (dk_at dksX5_counts_2 6 rfl rfl)
theorem dX5_counts_56 : decode cX5_counts 56 = .ok (.if_icmp .ge 54, 3) := dk_162 0 54 (dk_at dksX5_counts_2 9 rfl rfl)
theorem dX5_counts_59 : decode cX5_counts 59 = .ok (.aload_n 0, 1) := dk_42 (dk_at dksX5_counts_2 12 rfl rfl)
theorem dX5_counts_60 : decode cX5_counts 60 = .ok (.getfield 25, 3) := dk_180 0 25 (dk_at dksX5_counts_2 13 rfl rfl)
theorem dX5_counts_63 : decode cX5_counts 63 = .ok (.aload_n 0, 1) := dk_42 (dk_at dksX5_counts_2 16 rfl rfl)
theorem dX5_counts_64 : decode cX5_counts 64 = .ok (.getfield 19, 3) := dk_180 0 19 (dk_at dksX5_counts_2 17 rfl rfl)
theorem dX5_counts_67 : decode cX5_counts 67 = .ok (.iload_n 2, 1) := dk_28 (dk_at dksX5_counts_2 20 rfl rfl)
theorem dX5_counts_68 : decode cX5_counts 68 = .ok (.iaload, 1) := dk_46 (dk_at dksX5_counts_2 21 rfl rfl)
theorem dX5_counts_69 : decode cX5_counts 69 = .ok (.aload_n 0, 1) := dk_42 (dk_at dksX5_counts_2 22 rfl rfl)
theorem dX5_counts_70 : decode cX5_counts 70 = .ok (.getfield 19, 3) := dk_180 0 19 (dk_at dksX5_counts_3 0 rfl rfl)
theorem dX5_counts_73 : decode cX5_counts 73 = .ok (.iload_n 1, 1) := dk_27 (dk_at dksX5_counts_3 3 rfl rfl)
theorem dX5_counts_74 : decode cX5_counts 74 = .ok (.iaload, 1) := dk_46 (dk_at dksX5_counts_3 4 rfl rfl)
theorem dX5_counts_75 : decode cX5_counts 75 = .ok (.iand, 1) := dk_126 (dk_at dksX5_counts_3 5 rfl rfl)
theorem dX5_counts_76 : decode cX5_counts 76 = .ok (.iaload, 1) := dk_46 (dk_at dksX5_counts_3 6 rfl rfl)
theorem dX5_counts_77 : decode cX5_counts 77 = .ok (.istore_n 3, 1) := dk_62 (dk_at dksX5_counts_3 7 rfl rfl)
theorem dX5_counts_78 : decode cX5_counts 78 = .ok (.iload_n 3, 1) := dk_29 (dk_at dksX5_counts_3 8 rfl rfl)
theorem dX5_counts_79 : decode cX5_counts 79 = .ok (.iconst 1, 1) := dk_4 (dk_at dksX5_counts_3 9 rfl rfl)
theorem dX5_counts_80 : decode cX5_counts 80 = .ok (.if_icmp .le 24, 3) := dk_164 0 24 (dk_at dksX5_counts_3 10 rfl rfl)
theorem dX5_counts_83 : decode cX5_counts 83 = .ok (.aload_n 0, 1) := dk_42 (dk_at dksX5_counts_3 13 rfl rfl)
theorem dX5_counts_84 : decode cX5_counts 84 = .ok (.getfield 63, 3) := dk_180 0 63 (dk_at dksX5_counts_3 14 rfl rfl)
theorem dX5_counts_87 : decode cX5_counts 87 = .ok (.iconst 3, 1) := dk_6 (dk_at dksX5_counts_3 17 rfl rfl)
theorem dX5_counts_88 : decode cX5_counts 88 = .ok (.iload_n 1, 1) := dk_27 (dk_at dksX5_counts_3 18 rfl rfl)
theorem dX5_counts_89 : decode cX5_counts 89 = .ok (.imul, 1) := dk_104 (dk_at dksX5_counts_3 19 rfl rfl)
theorem dX5_counts_90 : decode cX5_counts 90 = .ok (.iload_n 3, 1) := dk_29 (dk_at dksX5_counts_3 20 rfl rfl)
theorem dX5_counts_91 : decode cX5_counts 91 = .ok (.iadd, 1) := dk_96 (dk_at dksX5_counts_3 21 rfl rfl)
theorem dX5_counts_92 : decode cX5_counts 92 = .ok (.iconst 2, 1) := dk_5 (dk_at dksX5_counts_3 22 rfl rfl)
theorem dX5_counts_93 : decode cX5_counts 93 = .ok (.isub, 1) := dk_100 (dk_at dksX5_counts_3 23 rfl rfl)
theorem dX5_counts_94 : decode cX5_counts 94 = .ok (.dup2, 1) := dk_92 (dk_at dksX5_counts_4 0 rfl rfl)
theorem dX5_counts_95 : decode cX5_counts 95 = .ok (.iaload, 1) := dk_46 (dk_at dksX5_counts_4 1 rfl rfl)
theorem dX5_counts_96 : decode cX5_counts 96 = .ok (.aload_n 0, 1) := dk_42 (dk_at dksX5_counts_4 2 rfl rfl)
theorem dX5_counts_97 : decode cX5_counts 97 = .ok (.getfield 57, 3) := dk_180 0 57 (dk_at dksX5_counts_4 3 rfl rfl)
theorem dX5_counts_100 : decode cX5_counts 100 = .ok (.iload_n 2, 1) := dk_28 (dk_at dksX5_counts_4 6 rfl rfl)
theorem dX5_counts_101 : decode cX5_counts 101 = .ok (.iaload, 1) := dk_46 (dk_at dksX5_counts_4 7 rfl rfl)
theorem dX5_counts_102 : decode cX5_counts 102 = .ok (.iadd, 1) := dk_96 (dk_at dksX5_counts_4 8 rfl rfl)
theorem dX5_counts_103 : decode cX5_counts 103 = .ok (.iastore, 1) := dk_79 (dk_at dksX5_counts_4 9 rfl rfl)
theorem dX5_counts_104 : decode cX5_counts 104 = .ok (.iinc 2 1, 3) := dk_132 2 1 (dk_at dksX5_counts_4 10 rfl rfl)
theorem dX5_counts_107 : decode cX5_counts 107 = .ok (.goto (-55), 3) := dk_167 255 201 (dk_at dksX5_counts_4 13 rfl rfl)
theorem dX5_counts_110 : decode cX5_counts 110 = .ok (.iinc 1 1, 3) := dk_132 1 1 (dk_at dksX5_counts_4 16 rfl rfl)
theorem dX5_counts_113 : decode cX5_counts 113 = .ok (.goto (-94), 3) := dk_167 255 162 (dk_at dksX5_counts_4 19 rfl rfl)
theorem dX5_counts_116 : decode cX5_counts 116 = .ok (.return_, 1) := dk_177 (dk_at dksX5_counts_4 22 rfl rfl)
abbrev cX5_taxed : ByteArray := prog_24_method_52_code
def yX5_taxed : MethodName := ⟨RX5, "taxed", "(J)J"⟩
def dkwX5_taxed_1 : List UInt8 := [42, 180, 0, 7, 16, 15, 46, 133, 105, 20, 0, 206, 109, 101, 167, 0, 4, 31, 173]
abbrev dktX5_taxed_1 : List UInt8 := dkwX5_taxed_1 ++ []
def dkwX5_taxed_0 : List UInt8 := [31, 42, 180, 0, 7, 16, 16, 46, 133, 148, 158, 0, 31, 31, 31, 42, 180, 0, 7, 16, 16, 46, 133, 101]
abbrev dktX5_taxed_0 : List UInt8 := dkwX5_taxed_0 ++ dktX5_taxed_1
theorem dksX5_taxed_0 : cX5_taxed.data.toList.drop 0 = dktX5_taxed_0 := by decide +kernel
theorem dksX5_taxed_1 : cX5_taxed.data.toList.drop 24 = dktX5_taxed_1 := dk_seg dksX5_taxed_0 24 rfl rfl
theorem dX5_taxed_0 : decode cX5_taxed 0 = .ok (.lload_n 1, 1) := dk_31 (dk_at dksX5_taxed_0 0 rfl rfl)
theorem dX5_taxed_1 : decode cX5_taxed 1 = .ok (.aload_n 0, 1) := dk_42 (dk_at dksX5_taxed_0 1 rfl rfl)
theorem dX5_taxed_2 : decode cX5_taxed 2 = .ok (.getfield 7, 3) := dk_180 0 7 (dk_at dksX5_taxed_0 2 rfl rfl)
theorem dX5_taxed_5 : decode cX5_taxed 5 = .ok (.bipush 16, 2) := dk_16 16 (dk_at dksX5_taxed_0 5 rfl rfl)
theorem dX5_taxed_7 : decode cX5_taxed 7 = .ok (.iaload, 1) := dk_46 (dk_at dksX5_taxed_0 7 rfl rfl)
theorem dX5_taxed_8 : decode cX5_taxed 8 = .ok (.i2l, 1) := dk_133 (dk_at dksX5_taxed_0 8 rfl rfl)
theorem dX5_taxed_9 : decode cX5_taxed 9 = .ok (.lcmp, 1) := dk_148 (dk_at dksX5_taxed_0 9 rfl rfl)
theorem dX5_taxed_10 : decode cX5_taxed 10 = .ok (.ifCond .le 31, 3) := dk_158 0 31 (dk_at dksX5_taxed_0 10 rfl rfl)
theorem dX5_taxed_13 : decode cX5_taxed 13 = .ok (.lload_n 1, 1) := dk_31 (dk_at dksX5_taxed_0 13 rfl rfl)
theorem dX5_taxed_14 : decode cX5_taxed 14 = .ok (.lload_n 1, 1) := dk_31 (dk_at dksX5_taxed_0 14 rfl rfl)
theorem dX5_taxed_15 : decode cX5_taxed 15 = .ok (.aload_n 0, 1) := dk_42 (dk_at dksX5_taxed_0 15 rfl rfl)
theorem dX5_taxed_16 : decode cX5_taxed 16 = .ok (.getfield 7, 3) := dk_180 0 7 (dk_at dksX5_taxed_0 16 rfl rfl)
theorem dX5_taxed_19 : decode cX5_taxed 19 = .ok (.bipush 16, 2) := dk_16 16 (dk_at dksX5_taxed_0 19 rfl rfl)
theorem dX5_taxed_21 : decode cX5_taxed 21 = .ok (.iaload, 1) := dk_46 (dk_at dksX5_taxed_0 21 rfl rfl)
theorem dX5_taxed_22 : decode cX5_taxed 22 = .ok (.i2l, 1) := dk_133 (dk_at dksX5_taxed_0 22 rfl rfl)
theorem dX5_taxed_23 : decode cX5_taxed 23 = .ok (.lsub, 1) := dk_101 (dk_at dksX5_taxed_0 23 rfl rfl)
theorem dX5_taxed_24 : decode cX5_taxed 24 = .ok (.aload_n 0, 1) := dk_42 (dk_at dksX5_taxed_1 0 rfl rfl)
theorem dX5_taxed_25 : decode cX5_taxed 25 = .ok (.getfield 7, 3) := dk_180 0 7 (dk_at dksX5_taxed_1 1 rfl rfl)
theorem dX5_taxed_28 : decode cX5_taxed 28 = .ok (.bipush 15, 2) := dk_16 15 (dk_at dksX5_taxed_1 4 rfl rfl)
theorem dX5_taxed_30 : decode cX5_taxed 30 = .ok (.iaload, 1) := dk_46 (dk_at dksX5_taxed_1 6 rfl rfl)
theorem dX5_taxed_31 : decode cX5_taxed 31 = .ok (.i2l, 1) := dk_133 (dk_at dksX5_taxed_1 7 rfl rfl)
theorem dX5_taxed_32 : decode cX5_taxed 32 = .ok (.lmul, 1) := dk_105 (dk_at dksX5_taxed_1 8 rfl rfl)
theorem dX5_taxed_33 : decode cX5_taxed 33 = .ok (.ldc2_w 206, 3) := dk_20 0 206 (dk_at dksX5_taxed_1 9 rfl rfl)
theorem dX5_taxed_36 : decode cX5_taxed 36 = .ok (.ldiv, 1) := dk_109 (dk_at dksX5_taxed_1 12 rfl rfl)
theorem dX5_taxed_37 : decode cX5_taxed 37 = .ok (.lsub, 1) := dk_101 (dk_at dksX5_taxed_1 13 rfl rfl)
theorem dX5_taxed_38 : decode cX5_taxed 38 = .ok (.goto 4, 3) := dk_167 0 4 (dk_at dksX5_taxed_1 14 rfl rfl)
theorem dX5_taxed_41 : decode cX5_taxed 41 = .ok (.lload_n 1, 1) := dk_31 (dk_at dksX5_taxed_1 17 rfl rfl)
theorem dX5_taxed_42 : decode cX5_taxed 42 = .ok (.lreturn, 1) := dk_173 (dk_at dksX5_taxed_1 18 rfl rfl)
abbrev cX5_best : ByteArray := prog_24_method_56_code
def yX5_best : MethodName := ⟨RX5, "best", "(I)I"⟩
def dkwX5_best_4 : List UInt8 := [167, 255, 204, 27, 154, 0, 8, 21, 4, 167, 0, 5, 21, 5, 172]
abbrev dktX5_best_4 : List UInt8 := dkwX5_best_4 ++ []
def dkwX5_best_3 : List UInt8 := [21, 4, 54, 4, 21, 7, 21, 5, 164, 0, 8, 21, 7, 167, 0, 5, 21, 5, 54, 5, 132, 6, 1]
abbrev dktX5_best_3 : List UInt8 := dkwX5_best_3 ++ dktX5_best_4
def dkwX5_best_2 : List UInt8 := [162, 0, 50, 42, 21, 6, 32, 182, 0, 235, 54, 7, 21, 7, 21, 5, 164, 0, 8, 21, 6, 167, 0, 5]
abbrev dktX5_best_2 : List UInt8 := dkwX5_best_2 ++ dktX5_best_3
def dkwX5_best_1 : List UInt8 := [46, 182, 0, 208, 65, 3, 54, 4, 42, 3, 32, 182, 0, 235, 54, 5, 4, 54, 6, 21, 6, 17, 1, 239]
abbrev dktX5_best_1 : List UInt8 := dkwX5_best_1 ++ dktX5_best_2
def dkwX5_best_0 : List UInt8 := [27, 133, 9, 10, 184, 0, 98, 154, 0, 10, 42, 18, 87, 182, 0, 88, 172, 42, 42, 180, 0, 7, 16, 17]
abbrev dktX5_best_0 : List UInt8 := dkwX5_best_0 ++ dktX5_best_1
theorem dksX5_best_0 : cX5_best.data.toList.drop 0 = dktX5_best_0 := by decide +kernel
theorem dksX5_best_1 : cX5_best.data.toList.drop 24 = dktX5_best_1 := dk_seg dksX5_best_0 24 rfl rfl
theorem dksX5_best_2 : cX5_best.data.toList.drop 48 = dktX5_best_2 := dk_seg dksX5_best_1 24 rfl rfl
theorem dksX5_best_3 : cX5_best.data.toList.drop 72 = dktX5_best_3 := dk_seg dksX5_best_2 24 rfl rfl
theorem dksX5_best_4 : cX5_best.data.toList.drop 95 = dktX5_best_4 := dk_seg dksX5_best_3 23 rfl rfl
theorem dX5_best_0 : decode cX5_best 0 = .ok (.iload_n 1, 1) := dk_27 (dk_at dksX5_best_0 0 rfl rfl)
theorem dX5_best_1 : decode cX5_best 1 = .ok (.i2l, 1) := dk_133 (dk_at dksX5_best_0 1 rfl rfl)
theorem dX5_best_2 : decode cX5_best 2 = .ok (.lconst 0, 1) := dk_9 (dk_at dksX5_best_0 2 rfl rfl)
theorem dX5_best_3 : decode cX5_best 3 = .ok (.lconst 1, 1) := dk_10 (dk_at dksX5_best_0 3 rfl rfl)
theorem dX5_best_4 : decode cX5_best 4 = .ok (.invokestatic 98, 3) := dk_184 0 98 (dk_at dksX5_best_0 4 rfl rfl)
theorem dX5_best_7 : decode cX5_best 7 = .ok (.ifCond .ne 10, 3) := dk_154 0 10 (dk_at dksX5_best_0 7 rfl rfl)
theorem dX5_best_10 : decode cX5_best 10 = .ok (.aload_n 0, 1) := dk_42 (dk_at dksX5_best_0 10 rfl rfl)
theorem dX5_best_11 : decode cX5_best 11 = .ok (.ldc 87, 2) := dk_18 87 (dk_at dksX5_best_0 11 rfl rfl)
theorem dX5_best_13 : decode cX5_best 13 = .ok (.invokevirtual 88, 3) := dk_182 0 88 (dk_at dksX5_best_0 13 rfl rfl)
theorem dX5_best_16 : decode cX5_best 16 = .ok (.ireturn, 1) := dk_172 (dk_at dksX5_best_0 16 rfl rfl)
theorem dX5_best_17 : decode cX5_best 17 = .ok (.aload_n 0, 1) := dk_42 (dk_at dksX5_best_0 17 rfl rfl)
theorem dX5_best_18 : decode cX5_best 18 = .ok (.aload_n 0, 1) := dk_42 (dk_at dksX5_best_0 18 rfl rfl)
theorem dX5_best_19 : decode cX5_best 19 = .ok (.getfield 7, 3) := dk_180 0 7 (dk_at dksX5_best_0 19 rfl rfl)
theorem dX5_best_22 : decode cX5_best 22 = .ok (.bipush 17, 2) := dk_16 17 (dk_at dksX5_best_0 22 rfl rfl)
theorem dX5_best_24 : decode cX5_best 24 = .ok (.iaload, 1) := dk_46 (dk_at dksX5_best_1 0 rfl rfl)
theorem dX5_best_25 : decode cX5_best 25 = .ok (.invokevirtual 208, 3) := dk_182 0 208 (dk_at dksX5_best_1 1 rfl rfl)
theorem dX5_best_28 : decode cX5_best 28 = .ok (.lstore_n 2, 1) := dk_65 (dk_at dksX5_best_1 4 rfl rfl)
theorem dX5_best_29 : decode cX5_best 29 = .ok (.iconst 0, 1) := dk_3 (dk_at dksX5_best_1 5 rfl rfl)
theorem dX5_best_30 : decode cX5_best 30 = .ok (.istore 4, 2) := dk_54 4 (dk_at dksX5_best_1 6 rfl rfl)
theorem dX5_best_32 : decode cX5_best 32 = .ok (.aload_n 0, 1) := dk_42 (dk_at dksX5_best_1 8 rfl rfl)
theorem dX5_best_33 : decode cX5_best 33 = .ok (.iconst 0, 1) := dk_3 (dk_at dksX5_best_1 9 rfl rfl)
theorem dX5_best_34 : decode cX5_best 34 = .ok (.lload_n 2, 1) := dk_32 (dk_at dksX5_best_1 10 rfl rfl)
theorem dX5_best_35 : decode cX5_best 35 = .ok (.invokevirtual 235, 3) := dk_182 0 235 (dk_at dksX5_best_1 11 rfl rfl)
theorem dX5_best_38 : decode cX5_best 38 = .ok (.istore 5, 2) := dk_54 5 (dk_at dksX5_best_1 14 rfl rfl)
theorem dX5_best_40 : decode cX5_best 40 = .ok (.iconst 1, 1) := dk_4 (dk_at dksX5_best_1 16 rfl rfl)
theorem dX5_best_41 : decode cX5_best 41 = .ok (.istore 6, 2) := dk_54 6 (dk_at dksX5_best_1 17 rfl rfl)
theorem dX5_best_43 : decode cX5_best 43 = .ok (.iload 6, 2) := dk_21 6 (dk_at dksX5_best_1 19 rfl rfl)
theorem dX5_best_45 : decode cX5_best 45 = .ok (.sipush 495, 3) := dk_17 1 239 (dk_at dksX5_best_1 21 rfl rfl)
theorem dX5_best_48 : decode cX5_best 48 = .ok (.if_icmp .ge 50, 3) := dk_162 0 50 (dk_at dksX5_best_2 0 rfl rfl)
theorem dX5_best_51 : decode cX5_best 51 = .ok (.aload_n 0, 1) := dk_42 (dk_at dksX5_best_2 3 rfl rfl)
theorem dX5_best_52 : decode cX5_best 52 = .ok (.iload 6, 2) := dk_21 6 (dk_at dksX5_best_2 4 rfl rfl)
theorem dX5_best_54 : decode cX5_best 54 = .ok (.lload_n 2, 1) := dk_32 (dk_at dksX5_best_2 6 rfl rfl)
theorem dX5_best_55 : decode cX5_best 55 = .ok (.invokevirtual 235, 3) := dk_182 0 235 (dk_at dksX5_best_2 7 rfl rfl)
theorem dX5_best_58 : decode cX5_best 58 = .ok (.istore 7, 2) := dk_54 7 (dk_at dksX5_best_2 10 rfl rfl)
theorem dX5_best_60 : decode cX5_best 60 = .ok (.iload 7, 2) := dk_21 7 (dk_at dksX5_best_2 12 rfl rfl)
theorem dX5_best_62 : decode cX5_best 62 = .ok (.iload 5, 2) := dk_21 5 (dk_at dksX5_best_2 14 rfl rfl)
theorem dX5_best_64 : decode cX5_best 64 = .ok (.if_icmp .le 8, 3) := dk_164 0 8 (dk_at dksX5_best_2 16 rfl rfl)
theorem dX5_best_67 : decode cX5_best 67 = .ok (.iload 6, 2) := dk_21 6 (dk_at dksX5_best_2 19 rfl rfl)
theorem dX5_best_69 : decode cX5_best 69 = .ok (.goto 5, 3) := dk_167 0 5 (dk_at dksX5_best_2 21 rfl rfl)
theorem dX5_best_72 : decode cX5_best 72 = .ok (.iload 4, 2) := dk_21 4 (dk_at dksX5_best_3 0 rfl rfl)
theorem dX5_best_74 : decode cX5_best 74 = .ok (.istore 4, 2) := dk_54 4 (dk_at dksX5_best_3 2 rfl rfl)
theorem dX5_best_76 : decode cX5_best 76 = .ok (.iload 7, 2) := dk_21 7 (dk_at dksX5_best_3 4 rfl rfl)
theorem dX5_best_78 : decode cX5_best 78 = .ok (.iload 5, 2) := dk_21 5 (dk_at dksX5_best_3 6 rfl rfl)
theorem dX5_best_80 : decode cX5_best 80 = .ok (.if_icmp .le 8, 3) := dk_164 0 8 (dk_at dksX5_best_3 8 rfl rfl)
theorem dX5_best_83 : decode cX5_best 83 = .ok (.iload 7, 2) := dk_21 7 (dk_at dksX5_best_3 11 rfl rfl)
theorem dX5_best_85 : decode cX5_best 85 = .ok (.goto 5, 3) := dk_167 0 5 (dk_at dksX5_best_3 13 rfl rfl)
theorem dX5_best_88 : decode cX5_best 88 = .ok (.iload 5, 2) := dk_21 5 (dk_at dksX5_best_3 16 rfl rfl)
theorem dX5_best_90 : decode cX5_best 90 = .ok (.istore 5, 2) := dk_54 5 (dk_at dksX5_best_3 18 rfl rfl)
theorem dX5_best_92 : decode cX5_best 92 = .ok (.iinc 6 1, 3) := dk_132 6 1 (dk_at dksX5_best_3 20 rfl rfl)
theorem dX5_best_95 : decode cX5_best 95 = .ok (.goto (-52), 3) := dk_167 255 204 (dk_at dksX5_best_4 0 rfl rfl)
theorem dX5_best_98 : decode cX5_best 98 = .ok (.iload_n 1, 1) := dk_27 (dk_at dksX5_best_4 3 rfl rfl)
theorem dX5_best_99 : decode cX5_best 99 = .ok (.ifCond .ne 8, 3) := dk_154 0 8 (dk_at dksX5_best_4 4 rfl rfl)
theorem dX5_best_102 : decode cX5_best 102 = .ok (.iload 4, 2) := dk_21 4 (dk_at dksX5_best_4 7 rfl rfl)
theorem dX5_best_104 : decode cX5_best 104 = .ok (.goto 5, 3) := dk_167 0 5 (dk_at dksX5_best_4 9 rfl rfl)
theorem dX5_best_107 : decode cX5_best 107 = .ok (.iload 5, 2) := dk_21 5 (dk_at dksX5_best_4 12 rfl rfl)
theorem dX5_best_109 : decode cX5_best 109 = .ok (.ireturn, 1) := dk_172 (dk_at dksX5_best_4 14 rfl rfl)
abbrev cX5_alone : ByteArray := prog_24_method_57_code
def yX5_alone : MethodName := ⟨RX5, "alone", "(I)I"⟩
def dkwX5_alone_4 : List UInt8 := [42, 18, 239, 182, 0, 88, 167, 0, 4, 29, 172]
abbrev dktX5_alone_4 : List UInt8 := dkwX5_alone_4 ++ []
def dkwX5_alone_3 : List UInt8 := [167, 0, 4, 3, 96, 61, 132, 4, 1, 167, 255, 206, 27, 154, 0, 7, 28, 167, 0, 17, 29, 156, 0, 12]
abbrev dktX5_alone_3 : List UInt8 := dkwX5_alone_3 ++ dktX5_alone_4
def dkwX5_alone_2 : List UInt8 := [156, 0, 8, 21, 4, 167, 0, 4, 29, 62, 28, 42, 180, 0, 57, 21, 4, 46, 154, 0, 7, 4]
abbrev dktX5_alone_2 : List UInt8 := dkwX5_alone_2 ++ dktX5_alone_3
def dkwX5_alone_1 : List UInt8 := [62, 3, 54, 4, 21, 4, 17, 1, 239, 162, 0, 48, 42, 180, 0, 57, 21, 4, 46, 154, 0, 12, 29]
abbrev dktX5_alone_1 : List UInt8 := dkwX5_alone_1 ++ dktX5_alone_2
def dkwX5_alone_0 : List UInt8 := [27, 133, 9, 10, 184, 0, 98, 154, 0, 10, 42, 18, 87, 182, 0, 88, 172, 42, 182, 0, 198, 3, 61, 2]
abbrev dktX5_alone_0 : List UInt8 := dkwX5_alone_0 ++ dktX5_alone_1
theorem dksX5_alone_0 : cX5_alone.data.toList.drop 0 = dktX5_alone_0 := by decide +kernel
theorem dksX5_alone_1 : cX5_alone.data.toList.drop 24 = dktX5_alone_1 := dk_seg dksX5_alone_0 24 rfl rfl
theorem dksX5_alone_2 : cX5_alone.data.toList.drop 47 = dktX5_alone_2 := dk_seg dksX5_alone_1 23 rfl rfl
theorem dksX5_alone_3 : cX5_alone.data.toList.drop 69 = dktX5_alone_3 := dk_seg dksX5_alone_2 22 rfl rfl
theorem dksX5_alone_4 : cX5_alone.data.toList.drop 93 = dktX5_alone_4 := dk_seg dksX5_alone_3 24 rfl rfl
theorem dX5_alone_0 : decode cX5_alone 0 = .ok (.iload_n 1, 1) := dk_27 (dk_at dksX5_alone_0 0 rfl rfl)
theorem dX5_alone_1 : decode cX5_alone 1 = .ok (.i2l, 1) := dk_133 (dk_at dksX5_alone_0 1 rfl rfl)
theorem dX5_alone_2 : decode cX5_alone 2 = .ok (.lconst 0, 1) := dk_9 (dk_at dksX5_alone_0 2 rfl rfl)
theorem dX5_alone_3 : decode cX5_alone 3 = .ok (.lconst 1, 1) := dk_10 (dk_at dksX5_alone_0 3 rfl rfl)
theorem dX5_alone_4 : decode cX5_alone 4 = .ok (.invokestatic 98, 3) := dk_184 0 98 (dk_at dksX5_alone_0 4 rfl rfl)
theorem dX5_alone_7 : decode cX5_alone 7 = .ok (.ifCond .ne 10, 3) := dk_154 0 10 (dk_at dksX5_alone_0 7 rfl rfl)
theorem dX5_alone_10 : decode cX5_alone 10 = .ok (.aload_n 0, 1) := dk_42 (dk_at dksX5_alone_0 10 rfl rfl)
theorem dX5_alone_11 : decode cX5_alone 11 = .ok (.ldc 87, 2) := dk_18 87 (dk_at dksX5_alone_0 11 rfl rfl)
theorem dX5_alone_13 : decode cX5_alone 13 = .ok (.invokevirtual 88, 3) := dk_182 0 88 (dk_at dksX5_alone_0 13 rfl rfl)
theorem dX5_alone_16 : decode cX5_alone 16 = .ok (.ireturn, 1) := dk_172 (dk_at dksX5_alone_0 16 rfl rfl)
theorem dX5_alone_17 : decode cX5_alone 17 = .ok (.aload_n 0, 1) := dk_42 (dk_at dksX5_alone_0 17 rfl rfl)
theorem dX5_alone_18 : decode cX5_alone 18 = .ok (.invokevirtual 198, 3) := dk_182 0 198 (dk_at dksX5_alone_0 18 rfl rfl)
theorem dX5_alone_21 : decode cX5_alone 21 = .ok (.iconst 0, 1) := dk_3 (dk_at dksX5_alone_0 21 rfl rfl)
theorem dX5_alone_22 : decode cX5_alone 22 = .ok (.istore_n 2, 1) := dk_61 (dk_at dksX5_alone_0 22 rfl rfl)
theorem dX5_alone_23 : decode cX5_alone 23 = .ok (.iconst (-1), 1) := dk_2 (dk_at dksX5_alone_0 23 rfl rfl)
theorem dX5_alone_24 : decode cX5_alone 24 = .ok (.istore_n 3, 1) := dk_62 (dk_at dksX5_alone_1 0 rfl rfl)
theorem dX5_alone_25 : decode cX5_alone 25 = .ok (.iconst 0, 1) := dk_3 (dk_at dksX5_alone_1 1 rfl rfl)
theorem dX5_alone_26 : decode cX5_alone 26 = .ok (.istore 4, 2) := dk_54 4 (dk_at dksX5_alone_1 2 rfl rfl)
theorem dX5_alone_28 : decode cX5_alone 28 = .ok (.iload 4, 2) := dk_21 4 (dk_at dksX5_alone_1 4 rfl rfl)
theorem dX5_alone_30 : decode cX5_alone 30 = .ok (.sipush 495, 3) := dk_17 1 239 (dk_at dksX5_alone_1 6 rfl rfl)
theorem dX5_alone_33 : decode cX5_alone 33 = .ok (.if_icmp .ge 48, 3) := dk_162 0 48 (dk_at dksX5_alone_1 9 rfl rfl)
theorem dX5_alone_36 : decode cX5_alone 36 = .ok (.aload_n 0, 1) := dk_42 (dk_at dksX5_alone_1 12 rfl rfl)
theorem dX5_alone_37 : decode cX5_alone 37 = .ok (.getfield 57, 3) := dk_180 0 57 (dk_at dksX5_alone_1 13 rfl rfl)
theorem dX5_alone_40 : decode cX5_alone 40 = .ok (.iload 4, 2) := dk_21 4 (dk_at dksX5_alone_1 16 rfl rfl)
theorem dX5_alone_42 : decode cX5_alone 42 = .ok (.iaload, 1) := dk_46 (dk_at dksX5_alone_1 18 rfl rfl)
theorem dX5_alone_43 : decode cX5_alone 43 = .ok (.ifCond .ne 12, 3) := dk_154 0 12 (dk_at dksX5_alone_1 19 rfl rfl)
theorem dX5_alone_46 : decode cX5_alone 46 = .ok (.iload_n 3, 1) := dk_29 (dk_at dksX5_alone_1 22 rfl rfl)
theorem dX5_alone_47 : decode cX5_alone 47 = .ok (.ifCond .ge 8, 3) := dk_156 0 8 (dk_at dksX5_alone_2 0 rfl rfl)
theorem dX5_alone_50 : decode cX5_alone 50 = .ok (.iload 4, 2) := dk_21 4 (dk_at dksX5_alone_2 3 rfl rfl)
theorem dX5_alone_52 : decode cX5_alone 52 = .ok (.goto 4, 3) := dk_167 0 4 (dk_at dksX5_alone_2 5 rfl rfl)
theorem dX5_alone_55 : decode cX5_alone 55 = .ok (.iload_n 3, 1) := dk_29 (dk_at dksX5_alone_2 8 rfl rfl)
theorem dX5_alone_56 : decode cX5_alone 56 = .ok (.istore_n 3, 1) := dk_62 (dk_at dksX5_alone_2 9 rfl rfl)
theorem dX5_alone_57 : decode cX5_alone 57 = .ok (.iload_n 2, 1) := dk_28 (dk_at dksX5_alone_2 10 rfl rfl)
theorem dX5_alone_58 : decode cX5_alone 58 = .ok (.aload_n 0, 1) := dk_42 (dk_at dksX5_alone_2 11 rfl rfl)
theorem dX5_alone_59 : decode cX5_alone 59 = .ok (.getfield 57, 3) := dk_180 0 57 (dk_at dksX5_alone_2 12 rfl rfl)
theorem dX5_alone_62 : decode cX5_alone 62 = .ok (.iload 4, 2) := dk_21 4 (dk_at dksX5_alone_2 15 rfl rfl)
theorem dX5_alone_64 : decode cX5_alone 64 = .ok (.iaload, 1) := dk_46 (dk_at dksX5_alone_2 17 rfl rfl)
theorem dX5_alone_65 : decode cX5_alone 65 = .ok (.ifCond .ne 7, 3) := dk_154 0 7 (dk_at dksX5_alone_2 18 rfl rfl)
theorem dX5_alone_68 : decode cX5_alone 68 = .ok (.iconst 1, 1) := dk_4 (dk_at dksX5_alone_2 21 rfl rfl)
theorem dX5_alone_69 : decode cX5_alone 69 = .ok (.goto 4, 3) := dk_167 0 4 (dk_at dksX5_alone_3 0 rfl rfl)
theorem dX5_alone_72 : decode cX5_alone 72 = .ok (.iconst 0, 1) := dk_3 (dk_at dksX5_alone_3 3 rfl rfl)
theorem dX5_alone_73 : decode cX5_alone 73 = .ok (.iadd, 1) := dk_96 (dk_at dksX5_alone_3 4 rfl rfl)
theorem dX5_alone_74 : decode cX5_alone 74 = .ok (.istore_n 2, 1) := dk_61 (dk_at dksX5_alone_3 5 rfl rfl)
theorem dX5_alone_75 : decode cX5_alone 75 = .ok (.iinc 4 1, 3) := dk_132 4 1 (dk_at dksX5_alone_3 6 rfl rfl)
theorem dX5_alone_78 : decode cX5_alone 78 = .ok (.goto (-50), 3) := dk_167 255 206 (dk_at dksX5_alone_3 9 rfl rfl)
theorem dX5_alone_81 : decode cX5_alone 81 = .ok (.iload_n 1, 1) := dk_27 (dk_at dksX5_alone_3 12 rfl rfl)
theorem dX5_alone_82 : decode cX5_alone 82 = .ok (.ifCond .ne 7, 3) := dk_154 0 7 (dk_at dksX5_alone_3 13 rfl rfl)
theorem dX5_alone_85 : decode cX5_alone 85 = .ok (.iload_n 2, 1) := dk_28 (dk_at dksX5_alone_3 16 rfl rfl)
theorem dX5_alone_86 : decode cX5_alone 86 = .ok (.goto 17, 3) := dk_167 0 17 (dk_at dksX5_alone_3 17 rfl rfl)
theorem dX5_alone_89 : decode cX5_alone 89 = .ok (.iload_n 3, 1) := dk_29 (dk_at dksX5_alone_3 20 rfl rfl)
theorem dX5_alone_90 : decode cX5_alone 90 = .ok (.ifCond .ge 12, 3) := dk_156 0 12 (dk_at dksX5_alone_3 21 rfl rfl)
theorem dX5_alone_93 : decode cX5_alone 93 = .ok (.aload_n 0, 1) := dk_42 (dk_at dksX5_alone_4 0 rfl rfl)
theorem dX5_alone_94 : decode cX5_alone 94 = .ok (.ldc 239, 2) := dk_18 239 (dk_at dksX5_alone_4 1 rfl rfl)
theorem dX5_alone_96 : decode cX5_alone 96 = .ok (.invokevirtual 88, 3) := dk_182 0 88 (dk_at dksX5_alone_4 3 rfl rfl)
theorem dX5_alone_99 : decode cX5_alone 99 = .ok (.goto 4, 3) := dk_167 0 4 (dk_at dksX5_alone_4 6 rfl rfl)
theorem dX5_alone_102 : decode cX5_alone 102 = .ok (.iload_n 3, 1) := dk_29 (dk_at dksX5_alone_4 9 rfl rfl)
theorem dX5_alone_103 : decode cX5_alone 103 = .ok (.ireturn, 1) := dk_172 (dk_at dksX5_alone_4 10 rfl rfl)
abbrev cX5_line : ByteArray := prog_24_method_58_code
def yX5_line : MethodName := ⟨RX5, "line", "(I)I"⟩
def dkwX5_line_4 : List UInt8 := [167, 0, 4, 29, 62, 21, 5, 153, 0, 7, 28, 167, 0, 7, 21, 4, 4, 96, 61, 167, 255, 190, 28, 172]
abbrev dktX5_line_4 : List UInt8 := dkwX5_line_4 ++ []
def dkwX5_line_3 : List UInt8 := [42, 180, 0, 7, 16, 10, 46, 161, 0, 7, 4, 167, 0, 4, 3, 54, 5, 21, 5, 153, 0, 8, 21, 4]
abbrev dktX5_line_3 : List UInt8 := dkwX5_line_3 ++ dktX5_line_4
def dkwX5_line_2 : List UInt8 := [62, 28, 29, 162, 0, 67, 28, 29, 96, 5, 108, 54, 4, 42, 27, 42, 21, 4, 182, 0, 208, 182, 0, 235]
abbrev dktX5_line_2 : List UInt8 := dkwX5_line_2 ++ dktX5_line_3
def dkwX5_line_1 : List UInt8 := [182, 0, 235, 42, 180, 0, 7, 16, 10, 46, 162, 0, 10, 42, 18, 239, 182, 0, 88, 172, 3, 61, 18, 205]
abbrev dktX5_line_1 : List UInt8 := dkwX5_line_1 ++ dktX5_line_2
def dkwX5_line_0 : List UInt8 := [27, 184, 0, 92, 154, 0, 10, 42, 18, 87, 182, 0, 88, 172, 42, 27, 42, 18, 205, 182, 0, 208]
abbrev dktX5_line_0 : List UInt8 := dkwX5_line_0 ++ dktX5_line_1
theorem dksX5_line_0 : cX5_line.data.toList.drop 0 = dktX5_line_0 := by decide +kernel
theorem dksX5_line_1 : cX5_line.data.toList.drop 22 = dktX5_line_1 := dk_seg dksX5_line_0 22 rfl rfl
theorem dksX5_line_2 : cX5_line.data.toList.drop 46 = dktX5_line_2 := dk_seg dksX5_line_1 24 rfl rfl
theorem dksX5_line_3 : cX5_line.data.toList.drop 70 = dktX5_line_3 := dk_seg dksX5_line_2 24 rfl rfl
theorem dksX5_line_4 : cX5_line.data.toList.drop 94 = dktX5_line_4 := dk_seg dksX5_line_3 24 rfl rfl
theorem dX5_line_0 : decode cX5_line 0 = .ok (.iload_n 1, 1) := dk_27 (dk_at dksX5_line_0 0 rfl rfl)
theorem dX5_line_1 : decode cX5_line 1 = .ok (.invokestatic 92, 3) := dk_184 0 92 (dk_at dksX5_line_0 1 rfl rfl)
theorem dX5_line_4 : decode cX5_line 4 = .ok (.ifCond .ne 10, 3) := dk_154 0 10 (dk_at dksX5_line_0 4 rfl rfl)
theorem dX5_line_7 : decode cX5_line 7 = .ok (.aload_n 0, 1) := dk_42 (dk_at dksX5_line_0 7 rfl rfl)
theorem dX5_line_8 : decode cX5_line 8 = .ok (.ldc 87, 2) := dk_18 87 (dk_at dksX5_line_0 8 rfl rfl)
theorem dX5_line_10 : decode cX5_line 10 = .ok (.invokevirtual 88, 3) := dk_182 0 88 (dk_at dksX5_line_0 10 rfl rfl)
theorem dX5_line_13 : decode cX5_line 13 = .ok (.ireturn, 1) := dk_172 (dk_at dksX5_line_0 13 rfl rfl)
theorem dX5_line_14 : decode cX5_line 14 = .ok (.aload_n 0, 1) := dk_42 (dk_at dksX5_line_0 14 rfl rfl)
theorem dX5_line_15 : decode cX5_line 15 = .ok (.iload_n 1, 1) := dk_27 (dk_at dksX5_line_0 15 rfl rfl)
theorem dX5_line_16 : decode cX5_line 16 = .ok (.aload_n 0, 1) := dk_42 (dk_at dksX5_line_0 16 rfl rfl)
theorem dX5_line_17 : decode cX5_line 17 = .ok (.ldc 205, 2) := dk_18 205 (dk_at dksX5_line_0 17 rfl rfl)
theorem dX5_line_19 : decode cX5_line 19 = .ok (.invokevirtual 208, 3) := dk_182 0 208 (dk_at dksX5_line_0 19 rfl rfl)
theorem dX5_line_22 : decode cX5_line 22 = .ok (.invokevirtual 235, 3) := dk_182 0 235 (dk_at dksX5_line_1 0 rfl rfl)
theorem dX5_line_25 : decode cX5_line 25 = .ok (.aload_n 0, 1) := dk_42 (dk_at dksX5_line_1 3 rfl rfl)
theorem dX5_line_26 : decode cX5_line 26 = .ok (.getfield 7, 3) := dk_180 0 7 (dk_at dksX5_line_1 4 rfl rfl)
theorem dX5_line_29 : decode cX5_line 29 = .ok (.bipush 10, 2) := dk_16 10 (dk_at dksX5_line_1 7 rfl rfl)
theorem dX5_line_31 : decode cX5_line 31 = .ok (.iaload, 1) := dk_46 (dk_at dksX5_line_1 9 rfl rfl)
theorem dX5_line_32 : decode cX5_line 32 = .ok (.if_icmp .ge 10, 3) := dk_162 0 10 (dk_at dksX5_line_1 10 rfl rfl)
theorem dX5_line_35 : decode cX5_line 35 = .ok (.aload_n 0, 1) := dk_42 (dk_at dksX5_line_1 13 rfl rfl)
theorem dX5_line_36 : decode cX5_line 36 = .ok (.ldc 239, 2) := dk_18 239 (dk_at dksX5_line_1 14 rfl rfl)
theorem dX5_line_38 : decode cX5_line 38 = .ok (.invokevirtual 88, 3) := dk_182 0 88 (dk_at dksX5_line_1 16 rfl rfl)
theorem dX5_line_41 : decode cX5_line 41 = .ok (.ireturn, 1) := dk_172 (dk_at dksX5_line_1 19 rfl rfl)
theorem dX5_line_42 : decode cX5_line 42 = .ok (.iconst 0, 1) := dk_3 (dk_at dksX5_line_1 20 rfl rfl)
theorem dX5_line_43 : decode cX5_line 43 = .ok (.istore_n 2, 1) := dk_61 (dk_at dksX5_line_1 21 rfl rfl)
theorem dX5_line_44 : decode cX5_line 44 = .ok (.ldc 205, 2) := dk_18 205 (dk_at dksX5_line_1 22 rfl rfl)
theorem dX5_line_46 : decode cX5_line 46 = .ok (.istore_n 3, 1) := dk_62 (dk_at dksX5_line_2 0 rfl rfl)
theorem dX5_line_47 : decode cX5_line 47 = .ok (.iload_n 2, 1) := dk_28 (dk_at dksX5_line_2 1 rfl rfl)
theorem dX5_line_48 : decode cX5_line 48 = .ok (.iload_n 3, 1) := dk_29 (dk_at dksX5_line_2 2 rfl rfl)
theorem dX5_line_49 : decode cX5_line 49 = .ok (.if_icmp .ge 67, 3) := dk_162 0 67 (dk_at dksX5_line_2 3 rfl rfl)
theorem dX5_line_52 : decode cX5_line 52 = .ok (.iload_n 2, 1) := dk_28 (dk_at dksX5_line_2 6 rfl rfl)
theorem dX5_line_53 : decode cX5_line 53 = .ok (.iload_n 3, 1) := dk_29 (dk_at dksX5_line_2 7 rfl rfl)
theorem dX5_line_54 : decode cX5_line 54 = .ok (.iadd, 1) := dk_96 (dk_at dksX5_line_2 8 rfl rfl)
theorem dX5_line_55 : decode cX5_line 55 = .ok (.iconst 2, 1) := dk_5 (dk_at dksX5_line_2 9 rfl rfl)
theorem dX5_line_56 : decode cX5_line 56 = .ok (.idiv, 1) := dk_108 (dk_at dksX5_line_2 10 rfl rfl)
theorem dX5_line_57 : decode cX5_line 57 = .ok (.istore 4, 2) := dk_54 4 (dk_at dksX5_line_2 11 rfl rfl)
theorem dX5_line_59 : decode cX5_line 59 = .ok (.aload_n 0, 1) := dk_42 (dk_at dksX5_line_2 13 rfl rfl)
theorem dX5_line_60 : decode cX5_line 60 = .ok (.iload_n 1, 1) := dk_27 (dk_at dksX5_line_2 14 rfl rfl)
theorem dX5_line_61 : decode cX5_line 61 = .ok (.aload_n 0, 1) := dk_42 (dk_at dksX5_line_2 15 rfl rfl)
theorem dX5_line_62 : decode cX5_line 62 = .ok (.iload 4, 2) := dk_21 4 (dk_at dksX5_line_2 16 rfl rfl)
theorem dX5_line_64 : decode cX5_line 64 = .ok (.invokevirtual 208, 3) := dk_182 0 208 (dk_at dksX5_line_2 18 rfl rfl)
theorem dX5_line_67 : decode cX5_line 67 = .ok (.invokevirtual 235, 3) := dk_182 0 235 (dk_at dksX5_line_2 21 rfl rfl)
theorem dX5_line_70 : decode cX5_line 70 = .ok (.aload_n 0, 1) := dk_42 (dk_at dksX5_line_3 0 rfl rfl)
theorem dX5_line_71 : decode cX5_line 71 = .ok (.getfield 7, 3) := dk_180 0 7 (dk_at dksX5_line_3 1 rfl rfl)
theorem dX5_line_74 : decode cX5_line 74 = .ok (.bipush 10, 2) := dk_16 10 (dk_at dksX5_line_3 4 rfl rfl)
theorem dX5_line_76 : decode cX5_line 76 = .ok (.iaload, 1) := dk_46 (dk_at dksX5_line_3 6 rfl rfl)
theorem dX5_line_77 : decode cX5_line 77 = .ok (.if_icmp .lt 7, 3) := dk_161 0 7 (dk_at dksX5_line_3 7 rfl rfl)
theorem dX5_line_80 : decode cX5_line 80 = .ok (.iconst 1, 1) := dk_4 (dk_at dksX5_line_3 10 rfl rfl)
theorem dX5_line_81 : decode cX5_line 81 = .ok (.goto 4, 3) := dk_167 0 4 (dk_at dksX5_line_3 11 rfl rfl)
theorem dX5_line_84 : decode cX5_line 84 = .ok (.iconst 0, 1) := dk_3 (dk_at dksX5_line_3 14 rfl rfl)
theorem dX5_line_85 : decode cX5_line 85 = .ok (.istore 5, 2) := dk_54 5 (dk_at dksX5_line_3 15 rfl rfl)
theorem dX5_line_87 : decode cX5_line 87 = .ok (.iload 5, 2) := dk_21 5 (dk_at dksX5_line_3 17 rfl rfl)
theorem dX5_line_89 : decode cX5_line 89 = .ok (.ifCond .eq 8, 3) := dk_153 0 8 (dk_at dksX5_line_3 19 rfl rfl)
theorem dX5_line_92 : decode cX5_line 92 = .ok (.iload 4, 2) := dk_21 4 (dk_at dksX5_line_3 22 rfl rfl)
theorem dX5_line_94 : decode cX5_line 94 = .ok (.goto 4, 3) := dk_167 0 4 (dk_at dksX5_line_4 0 rfl rfl)
theorem dX5_line_97 : decode cX5_line 97 = .ok (.iload_n 3, 1) := dk_29 (dk_at dksX5_line_4 3 rfl rfl)
theorem dX5_line_98 : decode cX5_line 98 = .ok (.istore_n 3, 1) := dk_62 (dk_at dksX5_line_4 4 rfl rfl)
theorem dX5_line_99 : decode cX5_line 99 = .ok (.iload 5, 2) := dk_21 5 (dk_at dksX5_line_4 5 rfl rfl)
theorem dX5_line_101 : decode cX5_line 101 = .ok (.ifCond .eq 7, 3) := dk_153 0 7 (dk_at dksX5_line_4 7 rfl rfl)
theorem dX5_line_104 : decode cX5_line 104 = .ok (.iload_n 2, 1) := dk_28 (dk_at dksX5_line_4 10 rfl rfl)
theorem dX5_line_105 : decode cX5_line 105 = .ok (.goto 7, 3) := dk_167 0 7 (dk_at dksX5_line_4 11 rfl rfl)
theorem dX5_line_108 : decode cX5_line 108 = .ok (.iload 4, 2) := dk_21 4 (dk_at dksX5_line_4 14 rfl rfl)
theorem dX5_line_110 : decode cX5_line 110 = .ok (.iconst 1, 1) := dk_4 (dk_at dksX5_line_4 16 rfl rfl)
theorem dX5_line_111 : decode cX5_line 111 = .ok (.iadd, 1) := dk_96 (dk_at dksX5_line_4 17 rfl rfl)
theorem dX5_line_112 : decode cX5_line 112 = .ok (.istore_n 2, 1) := dk_61 (dk_at dksX5_line_4 18 rfl rfl)
theorem dX5_line_113 : decode cX5_line 113 = .ok (.goto (-66), 3) := dk_167 255 190 (dk_at dksX5_line_4 19 rfl rfl)
theorem dX5_line_116 : decode cX5_line 116 = .ok (.iload_n 2, 1) := dk_28 (dk_at dksX5_line_4 22 rfl rfl)
theorem dX5_line_117 : decode cX5_line 117 = .ok (.ireturn, 1) := dk_172 (dk_at dksX5_line_4 23 rfl rfl)
abbrev cX5_house : ByteArray := prog_24_method_61_code
def yX5_house : MethodName := ⟨RX5, "house", "(I)J"⟩
def dkwX5_house_11 : List UInt8 := [173]
abbrev dktX5_house_11 : List UInt8 := dkwX5_house_11 ++ []
def dkwX5_house_10 : List UInt8 := [132, 6, 1, 167, 255, 101, 22, 4, 20, 0, 233, 109, 27, 133, 42, 180, 0, 7, 16, 10, 46, 133, 105, 101]
abbrev dktX5_house_10 : List UInt8 := dkwX5_house_10 ++ dktX5_house_11
def dkwX5_house_9 : List UInt8 := [180, 0, 76, 21, 7, 46, 96, 133, 109, 182, 0, 225, 105, 97, 55, 4, 132, 7, 1, 167, 255, 184]
abbrev dktX5_house_9 : List UInt8 := dkwX5_house_9 ++ dktX5_house_10
def dkwX5_house_8 : List UInt8 := [42, 42, 32, 21, 7, 182, 0, 212, 42, 180, 0, 63, 6, 21, 6, 104, 21, 7, 96, 5, 100, 46, 42]
abbrev dktX5_house_8 : List UInt8 := dkwX5_house_8 ++ dktX5_house_9
def dkwX5_house_7 : List UInt8 := [22, 4, 42, 180, 0, 76, 21, 7, 46, 154, 0, 7, 9, 167, 0, 47, 42, 180, 0, 76, 21, 7, 46, 133]
abbrev dktX5_house_7 : List UInt8 := dkwX5_house_7 ++ dktX5_house_8
def dkwX5_house_6 : List UInt8 := [182, 0, 132, 92, 46, 4, 96, 79, 132, 7, 1, 167, 255, 219, 5, 54, 7, 21, 7, 8, 162, 0, 72]
abbrev dktX5_house_6 : List UInt8 := dkwX5_house_6 ++ dktX5_house_7
def dkwX5_house_5 : List UInt8 := [162, 0, 37, 42, 180, 0, 76, 42, 42, 180, 0, 73, 21, 7, 46, 42, 180, 0, 19, 21, 6, 46, 126]
abbrev dktX5_house_5 : List UInt8 := dkwX5_house_5 ++ dktX5_house_6
def dkwX5_house_4 : List UInt8 := [8, 162, 0, 17, 42, 180, 0, 76, 21, 7, 3, 79, 132, 7, 1, 167, 255, 239, 3, 54, 7, 21, 7, 27]
abbrev dktX5_house_4 : List UInt8 := dkwX5_house_4 ++ dktX5_house_5
def dkwX5_house_3 : List UInt8 := [46, 182, 0, 208, 65, 9, 55, 4, 3, 54, 6, 21, 6, 17, 1, 239, 162, 0, 153, 3, 54, 7, 21, 7]
abbrev dktX5_house_3 : List UInt8 := dkwX5_house_3 ++ dktX5_house_4
def dkwX5_house_2 : List UInt8 := [42, 180, 0, 19, 29, 46, 79, 132, 2, 1, 167, 255, 224, 42, 182, 0, 222, 42, 42, 180, 0, 7, 16, 17]
abbrev dktX5_house_2 : List UInt8 := dkwX5_house_2 ++ dktX5_house_3
def dkwX5_house_1 : List UInt8 := [3, 61, 28, 27, 162, 0, 33, 42, 182, 0, 243, 62, 42, 180, 0, 69, 29, 4, 84, 42, 180, 0, 73, 28]
abbrev dktX5_house_1 : List UInt8 := dkwX5_house_1 ++ dktX5_house_2
def dkwX5_house_0 : List UInt8 := [27, 133, 10, 20, 0, 233, 184, 0, 98, 154, 0, 11, 42, 18, 87, 182, 0, 88, 133, 173, 42, 182, 0, 240]
abbrev dktX5_house_0 : List UInt8 := dkwX5_house_0 ++ dktX5_house_1
theorem dksX5_house_0 : cX5_house.data.toList.drop 0 = dktX5_house_0 := by decide +kernel
theorem dksX5_house_1 : cX5_house.data.toList.drop 24 = dktX5_house_1 := dk_seg dksX5_house_0 24 rfl rfl
theorem dksX5_house_2 : cX5_house.data.toList.drop 48 = dktX5_house_2 := dk_seg dksX5_house_1 24 rfl rfl
theorem dksX5_house_3 : cX5_house.data.toList.drop 72 = dktX5_house_3 := dk_seg dksX5_house_2 24 rfl rfl
theorem dksX5_house_4 : cX5_house.data.toList.drop 96 = dktX5_house_4 := dk_seg dksX5_house_3 24 rfl rfl
theorem dksX5_house_5 : cX5_house.data.toList.drop 120 = dktX5_house_5 := dk_seg dksX5_house_4 24 rfl rfl
theorem dksX5_house_6 : cX5_house.data.toList.drop 143 = dktX5_house_6 := dk_seg dksX5_house_5 23 rfl rfl
theorem dksX5_house_7 : cX5_house.data.toList.drop 166 = dktX5_house_7 := dk_seg dksX5_house_6 23 rfl rfl
theorem dksX5_house_8 : cX5_house.data.toList.drop 190 = dktX5_house_8 := dk_seg dksX5_house_7 24 rfl rfl
theorem dksX5_house_9 : cX5_house.data.toList.drop 213 = dktX5_house_9 := dk_seg dksX5_house_8 23 rfl rfl
theorem dksX5_house_10 : cX5_house.data.toList.drop 235 = dktX5_house_10 := dk_seg dksX5_house_9 22 rfl rfl
theorem dksX5_house_11 : cX5_house.data.toList.drop 259 = dktX5_house_11 := dk_seg dksX5_house_10 24 rfl rfl
theorem dX5_house_0 : decode cX5_house 0 = .ok (.iload_n 1, 1) := dk_27 (dk_at dksX5_house_0 0 rfl rfl)
theorem dX5_house_1 : decode cX5_house 1 = .ok (.i2l, 1) := dk_133 (dk_at dksX5_house_0 1 rfl rfl)
theorem dX5_house_2 : decode cX5_house 2 = .ok (.lconst 1, 1) := dk_10 (dk_at dksX5_house_0 2 rfl rfl)
theorem dX5_house_3 : decode cX5_house 3 = .ok (.ldc2_w 233, 3) := dk_20 0 233 (dk_at dksX5_house_0 3 rfl rfl)
theorem dX5_house_6 : decode cX5_house 6 = .ok (.invokestatic 98, 3) := dk_184 0 98 (dk_at dksX5_house_0 6 rfl rfl)
theorem dX5_house_9 : decode cX5_house 9 = .ok (.ifCond .ne 11, 3) := dk_154 0 11 (dk_at dksX5_house_0 9 rfl rfl)
theorem dX5_house_12 : decode cX5_house 12 = .ok (.aload_n 0, 1) := dk_42 (dk_at dksX5_house_0 12 rfl rfl)
theorem dX5_house_13 : decode cX5_house 13 = .ok (.ldc 87, 2) := dk_18 87 (dk_at dksX5_house_0 13 rfl rfl)
theorem dX5_house_15 : decode cX5_house 15 = .ok (.invokevirtual 88, 3) := dk_182 0 88 (dk_at dksX5_house_0 15 rfl rfl)
theorem dX5_house_18 : decode cX5_house 18 = .ok (.i2l, 1) := dk_133 (dk_at dksX5_house_0 18 rfl rfl)
theorem dX5_house_19 : decode cX5_house 19 = .ok (.lreturn, 1) := dk_173 (dk_at dksX5_house_0 19 rfl rfl)
theorem dX5_house_20 : decode cX5_house 20 = .ok (.aload_n 0, 1) := dk_42 (dk_at dksX5_house_0 20 rfl rfl)
theorem dX5_house_21 : decode cX5_house 21 = .ok (.invokevirtual 240, 3) := dk_182 0 240 (dk_at dksX5_house_0 21 rfl rfl)
theorem dX5_house_24 : decode cX5_house 24 = .ok (.iconst 0, 1) := dk_3 (dk_at dksX5_house_1 0 rfl rfl)
theorem dX5_house_25 : decode cX5_house 25 = .ok (.istore_n 2, 1) := dk_61 (dk_at dksX5_house_1 1 rfl rfl)
theorem dX5_house_26 : decode cX5_house 26 = .ok (.iload_n 2, 1) := dk_28 (dk_at dksX5_house_1 2 rfl rfl)
theorem dX5_house_27 : decode cX5_house 27 = .ok (.iload_n 1, 1) := dk_27 (dk_at dksX5_house_1 3 rfl rfl)
theorem dX5_house_28 : decode cX5_house 28 = .ok (.if_icmp .ge 33, 3) := dk_162 0 33 (dk_at dksX5_house_1 4 rfl rfl)
theorem dX5_house_31 : decode cX5_house 31 = .ok (.aload_n 0, 1) := dk_42 (dk_at dksX5_house_1 7 rfl rfl)
theorem dX5_house_32 : decode cX5_house 32 = .ok (.invokevirtual 243, 3) := dk_182 0 243 (dk_at dksX5_house_1 8 rfl rfl)
theorem dX5_house_35 : decode cX5_house 35 = .ok (.istore_n 3, 1) := dk_62 (dk_at dksX5_house_1 11 rfl rfl)
theorem dX5_house_36 : decode cX5_house 36 = .ok (.aload_n 0, 1) := dk_42 (dk_at dksX5_house_1 12 rfl rfl)
theorem dX5_house_37 : decode cX5_house 37 = .ok (.getfield 69, 3) := dk_180 0 69 (dk_at dksX5_house_1 13 rfl rfl)
theorem dX5_house_40 : decode cX5_house 40 = .ok (.iload_n 3, 1) := dk_29 (dk_at dksX5_house_1 16 rfl rfl)
theorem dX5_house_41 : decode cX5_house 41 = .ok (.iconst 1, 1) := dk_4 (dk_at dksX5_house_1 17 rfl rfl)
theorem dX5_house_42 : decode cX5_house 42 = .ok (.bastore, 1) := dk_84 (dk_at dksX5_house_1 18 rfl rfl)
theorem dX5_house_43 : decode cX5_house 43 = .ok (.aload_n 0, 1) := dk_42 (dk_at dksX5_house_1 19 rfl rfl)
theorem dX5_house_44 : decode cX5_house 44 = .ok (.getfield 73, 3) := dk_180 0 73 (dk_at dksX5_house_1 20 rfl rfl)
theorem dX5_house_47 : decode cX5_house 47 = .ok (.iload_n 2, 1) := dk_28 (dk_at dksX5_house_1 23 rfl rfl)
theorem dX5_house_48 : decode cX5_house 48 = .ok (.aload_n 0, 1) := dk_42 (dk_at dksX5_house_2 0 rfl rfl)
theorem dX5_house_49 : decode cX5_house 49 = .ok (.getfield 19, 3) := dk_180 0 19 (dk_at dksX5_house_2 1 rfl rfl)
theorem dX5_house_52 : decode cX5_house 52 = .ok (.iload_n 3, 1) := dk_29 (dk_at dksX5_house_2 4 rfl rfl)
theorem dX5_house_53 : decode cX5_house 53 = .ok (.iaload, 1) := dk_46 (dk_at dksX5_house_2 5 rfl rfl)
theorem dX5_house_54 : decode cX5_house 54 = .ok (.iastore, 1) := dk_79 (dk_at dksX5_house_2 6 rfl rfl)
theorem dX5_house_55 : decode cX5_house 55 = .ok (.iinc 2 1, 3) := dk_132 2 1 (dk_at dksX5_house_2 7 rfl rfl)
theorem dX5_house_58 : decode cX5_house 58 = .ok (.goto (-32), 3) := dk_167 255 224 (dk_at dksX5_house_2 10 rfl rfl)
theorem dX5_house_61 : decode cX5_house 61 = .ok (.aload_n 0, 1) := dk_42 (dk_at dksX5_house_2 13 rfl rfl)
theorem dX5_house_62 : decode cX5_house 62 = .ok (.invokevirtual 222, 3) := dk_182 0 222 (dk_at dksX5_house_2 14 rfl rfl)
theorem dX5_house_65 : decode cX5_house 65 = .ok (.aload_n 0, 1) := dk_42 (dk_at dksX5_house_2 17 rfl rfl)
theorem dX5_house_66 : decode cX5_house 66 = .ok (.aload_n 0, 1) := dk_42 (dk_at dksX5_house_2 18 rfl rfl)
theorem dX5_house_67 : decode cX5_house 67 = .ok (.getfield 7, 3) := dk_180 0 7 (dk_at dksX5_house_2 19 rfl rfl)
theorem dX5_house_70 : decode cX5_house 70 = .ok (.bipush 17, 2) := dk_16 17 (dk_at dksX5_house_2 22 rfl rfl)
theorem dX5_house_72 : decode cX5_house 72 = .ok (.iaload, 1) := dk_46 (dk_at dksX5_house_3 0 rfl rfl)
theorem dX5_house_73 : decode cX5_house 73 = .ok (.invokevirtual 208, 3) := dk_182 0 208 (dk_at dksX5_house_3 1 rfl rfl)
theorem dX5_house_76 : decode cX5_house 76 = .ok (.lstore_n 2, 1) := dk_65 (dk_at dksX5_house_3 4 rfl rfl)
theorem dX5_house_77 : decode cX5_house 77 = .ok (.lconst 0, 1) := dk_9 (dk_at dksX5_house_3 5 rfl rfl)
theorem dX5_house_78 : decode cX5_house 78 = .ok (.lstore 4, 2) := dk_55 4 (dk_at dksX5_house_3 6 rfl rfl)
theorem dX5_house_80 : decode cX5_house 80 = .ok (.iconst 0, 1) := dk_3 (dk_at dksX5_house_3 8 rfl rfl)
theorem dX5_house_81 : decode cX5_house 81 = .ok (.istore 6, 2) := dk_54 6 (dk_at dksX5_house_3 9 rfl rfl)
theorem dX5_house_83 : decode cX5_house 83 = .ok (.iload 6, 2) := dk_21 6 (dk_at dksX5_house_3 11 rfl rfl)
theorem dX5_house_85 : decode cX5_house 85 = .ok (.sipush 495, 3) := dk_17 1 239 (dk_at dksX5_house_3 13 rfl rfl)
theorem dX5_house_88 : decode cX5_house 88 = .ok (.if_icmp .ge 153, 3) := dk_162 0 153 (dk_at dksX5_house_3 16 rfl rfl)
theorem dX5_house_91 : decode cX5_house 91 = .ok (.iconst 0, 1) := dk_3 (dk_at dksX5_house_3 19 rfl rfl)
theorem dX5_house_92 : decode cX5_house 92 = .ok (.istore 7, 2) := dk_54 7 (dk_at dksX5_house_3 20 rfl rfl)
theorem dX5_house_94 : decode cX5_house 94 = .ok (.iload 7, 2) := dk_21 7 (dk_at dksX5_house_3 22 rfl rfl)
theorem dX5_house_96 : decode cX5_house 96 = .ok (.iconst 5, 1) := dk_8 (dk_at dksX5_house_4 0 rfl rfl)
theorem dX5_house_97 : decode cX5_house 97 = .ok (.if_icmp .ge 17, 3) := dk_162 0 17 (dk_at dksX5_house_4 1 rfl rfl)
theorem dX5_house_100 : decode cX5_house 100 = .ok (.aload_n 0, 1) := dk_42 (dk_at dksX5_house_4 4 rfl rfl)
theorem dX5_house_101 : decode cX5_house 101 = .ok (.getfield 76, 3) := dk_180 0 76 (dk_at dksX5_house_4 5 rfl rfl)
theorem dX5_house_104 : decode cX5_house 104 = .ok (.iload 7, 2) := dk_21 7 (dk_at dksX5_house_4 8 rfl rfl)
theorem dX5_house_106 : decode cX5_house 106 = .ok (.iconst 0, 1) := dk_3 (dk_at dksX5_house_4 10 rfl rfl)
theorem dX5_house_107 : decode cX5_house 107 = .ok (.iastore, 1) := dk_79 (dk_at dksX5_house_4 11 rfl rfl)
theorem dX5_house_108 : decode cX5_house 108 = .ok (.iinc 7 1, 3) := dk_132 7 1 (dk_at dksX5_house_4 12 rfl rfl)
theorem dX5_house_111 : decode cX5_house 111 = .ok (.goto (-17), 3) := dk_167 255 239 (dk_at dksX5_house_4 15 rfl rfl)
theorem dX5_house_114 : decode cX5_house 114 = .ok (.iconst 0, 1) := dk_3 (dk_at dksX5_house_4 18 rfl rfl)
theorem dX5_house_115 : decode cX5_house 115 = .ok (.istore 7, 2) := dk_54 7 (dk_at dksX5_house_4 19 rfl rfl)
theorem dX5_house_117 : decode cX5_house 117 = .ok (.iload 7, 2) := dk_21 7 (dk_at dksX5_house_4 21 rfl rfl)
theorem dX5_house_119 : decode cX5_house 119 = .ok (.iload_n 1, 1) := dk_27 (dk_at dksX5_house_4 23 rfl rfl)
theorem dX5_house_120 : decode cX5_house 120 = .ok (.if_icmp .ge 37, 3) := dk_162 0 37 (dk_at dksX5_house_5 0 rfl rfl)
theorem dX5_house_123 : decode cX5_house 123 = .ok (.aload_n 0, 1) := dk_42 (dk_at dksX5_house_5 3 rfl rfl)
theorem dX5_house_124 : decode cX5_house 124 = .ok (.getfield 76, 3) := dk_180 0 76 (dk_at dksX5_house_5 4 rfl rfl)
theorem dX5_house_127 : decode cX5_house 127 = .ok (.aload_n 0, 1) := dk_42 (dk_at dksX5_house_5 7 rfl rfl)
theorem dX5_house_128 : decode cX5_house 128 = .ok (.aload_n 0, 1) := dk_42 (dk_at dksX5_house_5 8 rfl rfl)
theorem dX5_house_129 : decode cX5_house 129 = .ok (.getfield 73, 3) := dk_180 0 73 (dk_at dksX5_house_5 9 rfl rfl)
theorem dX5_house_132 : decode cX5_house 132 = .ok (.iload 7, 2) := dk_21 7 (dk_at dksX5_house_5 12 rfl rfl)
theorem dX5_house_134 : decode cX5_house 134 = .ok (.iaload, 1) := dk_46 (dk_at dksX5_house_5 14 rfl rfl)
theorem dX5_house_135 : decode cX5_house 135 = .ok (.aload_n 0, 1) := dk_42 (dk_at dksX5_house_5 15 rfl rfl)
theorem dX5_house_136 : decode cX5_house 136 = .ok (.getfield 19, 3) := dk_180 0 19 (dk_at dksX5_house_5 16 rfl rfl)
theorem dX5_house_139 : decode cX5_house 139 = .ok (.iload 6, 2) := dk_21 6 (dk_at dksX5_house_5 19 rfl rfl)
theorem dX5_house_141 : decode cX5_house 141 = .ok (.iaload, 1) := dk_46 (dk_at dksX5_house_5 21 rfl rfl)
theorem dX5_house_142 : decode cX5_house 142 = .ok (.iand, 1) := dk_126 (dk_at dksX5_house_5 22 rfl rfl)
theorem dX5_house_143 : decode cX5_house 143 = .ok (.invokevirtual 132, 3) := dk_182 0 132 (dk_at dksX5_house_6 0 rfl rfl)
theorem dX5_house_146 : decode cX5_house 146 = .ok (.dup2, 1) := dk_92 (dk_at dksX5_house_6 3 rfl rfl)
theorem dX5_house_147 : decode cX5_house 147 = .ok (.iaload, 1) := dk_46 (dk_at dksX5_house_6 4 rfl rfl)
theorem dX5_house_148 : decode cX5_house 148 = .ok (.iconst 1, 1) := dk_4 (dk_at dksX5_house_6 5 rfl rfl)
theorem dX5_house_149 : decode cX5_house 149 = .ok (.iadd, 1) := dk_96 (dk_at dksX5_house_6 6 rfl rfl)
theorem dX5_house_150 : decode cX5_house 150 = .ok (.iastore, 1) := dk_79 (dk_at dksX5_house_6 7 rfl rfl)
theorem dX5_house_151 : decode cX5_house 151 = .ok (.iinc 7 1, 3) := dk_132 7 1 (dk_at dksX5_house_6 8 rfl rfl)
theorem dX5_house_154 : decode cX5_house 154 = .ok (.goto (-37), 3) := dk_167 255 219 (dk_at dksX5_house_6 11 rfl rfl)
theorem dX5_house_157 : decode cX5_house 157 = .ok (.iconst 2, 1) := dk_5 (dk_at dksX5_house_6 14 rfl rfl)
theorem dX5_house_158 : decode cX5_house 158 = .ok (.istore 7, 2) := dk_54 7 (dk_at dksX5_house_6 15 rfl rfl)
theorem dX5_house_160 : decode cX5_house 160 = .ok (.iload 7, 2) := dk_21 7 (dk_at dksX5_house_6 17 rfl rfl)
theorem dX5_house_162 : decode cX5_house 162 = .ok (.iconst 5, 1) := dk_8 (dk_at dksX5_house_6 19 rfl rfl)
theorem dX5_house_163 : decode cX5_house 163 = .ok (.if_icmp .ge 72, 3) := dk_162 0 72 (dk_at dksX5_house_6 20 rfl rfl)
theorem dX5_house_166 : decode cX5_house 166 = .ok (.lload 4, 2) := dk_22 4 (dk_at dksX5_house_7 0 rfl rfl)
theorem dX5_house_168 : decode cX5_house 168 = .ok (.aload_n 0, 1) := dk_42 (dk_at dksX5_house_7 2 rfl rfl)
theorem dX5_house_169 : decode cX5_house 169 = .ok (.getfield 76, 3) := dk_180 0 76 (dk_at dksX5_house_7 3 rfl rfl)
theorem dX5_house_172 : decode cX5_house 172 = .ok (.iload 7, 2) := dk_21 7 (dk_at dksX5_house_7 6 rfl rfl)
theorem dX5_house_174 : decode cX5_house 174 = .ok (.iaload, 1) := dk_46 (dk_at dksX5_house_7 8 rfl rfl)
theorem dX5_house_175 : decode cX5_house 175 = .ok (.ifCond .ne 7, 3) := dk_154 0 7 (dk_at dksX5_house_7 9 rfl rfl)
theorem dX5_house_178 : decode cX5_house 178 = .ok (.lconst 0, 1) := dk_9 (dk_at dksX5_house_7 12 rfl rfl)
theorem dX5_house_179 : decode cX5_house 179 = .ok (.goto 47, 3) := dk_167 0 47 (dk_at dksX5_house_7 13 rfl rfl)
theorem dX5_house_182 : decode cX5_house 182 = .ok (.aload_n 0, 1) := dk_42 (dk_at dksX5_house_7 16 rfl rfl)
theorem dX5_house_183 : decode cX5_house 183 = .ok (.getfield 76, 3) := dk_180 0 76 (dk_at dksX5_house_7 17 rfl rfl)
theorem dX5_house_186 : decode cX5_house 186 = .ok (.iload 7, 2) := dk_21 7 (dk_at dksX5_house_7 20 rfl rfl)
theorem dX5_house_188 : decode cX5_house 188 = .ok (.iaload, 1) := dk_46 (dk_at dksX5_house_7 22 rfl rfl)
theorem dX5_house_189 : decode cX5_house 189 = .ok (.i2l, 1) := dk_133 (dk_at dksX5_house_7 23 rfl rfl)
theorem dX5_house_190 : decode cX5_house 190 = .ok (.aload_n 0, 1) := dk_42 (dk_at dksX5_house_8 0 rfl rfl)
theorem dX5_house_191 : decode cX5_house 191 = .ok (.aload_n 0, 1) := dk_42 (dk_at dksX5_house_8 1 rfl rfl)
theorem dX5_house_192 : decode cX5_house 192 = .ok (.lload_n 2, 1) := dk_32 (dk_at dksX5_house_8 2 rfl rfl)
theorem dX5_house_193 : decode cX5_house 193 = .ok (.iload 7, 2) := dk_21 7 (dk_at dksX5_house_8 3 rfl rfl)
theorem dX5_house_195 : decode cX5_house 195 = .ok (.invokevirtual 212, 3) := dk_182 0 212 (dk_at dksX5_house_8 5 rfl rfl)
theorem dX5_house_198 : decode cX5_house 198 = .ok (.aload_n 0, 1) := dk_42 (dk_at dksX5_house_8 8 rfl rfl)
theorem dX5_house_199 : decode cX5_house 199 = .ok (.getfield 63, 3) := dk_180 0 63 (dk_at dksX5_house_8 9 rfl rfl)
theorem dX5_house_202 : decode cX5_house 202 = .ok (.iconst 3, 1) := dk_6 (dk_at dksX5_house_8 12 rfl rfl)
theorem dX5_house_203 : decode cX5_house 203 = .ok (.iload 6, 2) := dk_21 6 (dk_at dksX5_house_8 13 rfl rfl)
theorem dX5_house_205 : decode cX5_house 205 = .ok (.imul, 1) := dk_104 (dk_at dksX5_house_8 15 rfl rfl)
theorem dX5_house_206 : decode cX5_house 206 = .ok (.iload 7, 2) := dk_21 7 (dk_at dksX5_house_8 16 rfl rfl)
theorem dX5_house_208 : decode cX5_house 208 = .ok (.iadd, 1) := dk_96 (dk_at dksX5_house_8 18 rfl rfl)
theorem dX5_house_209 : decode cX5_house 209 = .ok (.iconst 2, 1) := dk_5 (dk_at dksX5_house_8 19 rfl rfl)
theorem dX5_house_210 : decode cX5_house 210 = .ok (.isub, 1) := dk_100 (dk_at dksX5_house_8 20 rfl rfl)
theorem dX5_house_211 : decode cX5_house 211 = .ok (.iaload, 1) := dk_46 (dk_at dksX5_house_8 21 rfl rfl)
theorem dX5_house_212 : decode cX5_house 212 = .ok (.aload_n 0, 1) := dk_42 (dk_at dksX5_house_8 22 rfl rfl)
theorem dX5_house_213 : decode cX5_house 213 = .ok (.getfield 76, 3) := dk_180 0 76 (dk_at dksX5_house_9 0 rfl rfl)
theorem dX5_house_216 : decode cX5_house 216 = .ok (.iload 7, 2) := dk_21 7 (dk_at dksX5_house_9 3 rfl rfl)
theorem dX5_house_218 : decode cX5_house 218 = .ok (.iaload, 1) := dk_46 (dk_at dksX5_house_9 5 rfl rfl)
theorem dX5_house_219 : decode cX5_house 219 = .ok (.iadd, 1) := dk_96 (dk_at dksX5_house_9 6 rfl rfl)
theorem dX5_house_220 : decode cX5_house 220 = .ok (.i2l, 1) := dk_133 (dk_at dksX5_house_9 7 rfl rfl)
theorem dX5_house_221 : decode cX5_house 221 = .ok (.ldiv, 1) := dk_109 (dk_at dksX5_house_9 8 rfl rfl)
theorem dX5_house_222 : decode cX5_house 222 = .ok (.invokevirtual 225, 3) := dk_182 0 225 (dk_at dksX5_house_9 9 rfl rfl)
theorem dX5_house_225 : decode cX5_house 225 = .ok (.lmul, 1) := dk_105 (dk_at dksX5_house_9 12 rfl rfl)
theorem dX5_house_226 : decode cX5_house 226 = .ok (.ladd, 1) := dk_97 (dk_at dksX5_house_9 13 rfl rfl)
theorem dX5_house_227 : decode cX5_house 227 = .ok (.lstore 4, 2) := dk_55 4 (dk_at dksX5_house_9 14 rfl rfl)
theorem dX5_house_229 : decode cX5_house 229 = .ok (.iinc 7 1, 3) := dk_132 7 1 (dk_at dksX5_house_9 16 rfl rfl)
theorem dX5_house_232 : decode cX5_house 232 = .ok (.goto (-72), 3) := dk_167 255 184 (dk_at dksX5_house_9 19 rfl rfl)
theorem dX5_house_235 : decode cX5_house 235 = .ok (.iinc 6 1, 3) := dk_132 6 1 (dk_at dksX5_house_10 0 rfl rfl)
theorem dX5_house_238 : decode cX5_house 238 = .ok (.goto (-155), 3) := dk_167 255 101 (dk_at dksX5_house_10 3 rfl rfl)
theorem dX5_house_241 : decode cX5_house 241 = .ok (.lload 4, 2) := dk_22 4 (dk_at dksX5_house_10 6 rfl rfl)
theorem dX5_house_243 : decode cX5_house 243 = .ok (.ldc2_w 233, 3) := dk_20 0 233 (dk_at dksX5_house_10 8 rfl rfl)
theorem dX5_house_246 : decode cX5_house 246 = .ok (.ldiv, 1) := dk_109 (dk_at dksX5_house_10 11 rfl rfl)
theorem dX5_house_247 : decode cX5_house 247 = .ok (.iload_n 1, 1) := dk_27 (dk_at dksX5_house_10 12 rfl rfl)
theorem dX5_house_248 : decode cX5_house 248 = .ok (.i2l, 1) := dk_133 (dk_at dksX5_house_10 13 rfl rfl)
theorem dX5_house_249 : decode cX5_house 249 = .ok (.aload_n 0, 1) := dk_42 (dk_at dksX5_house_10 14 rfl rfl)
theorem dX5_house_250 : decode cX5_house 250 = .ok (.getfield 7, 3) := dk_180 0 7 (dk_at dksX5_house_10 15 rfl rfl)
theorem dX5_house_253 : decode cX5_house 253 = .ok (.bipush 10, 2) := dk_16 10 (dk_at dksX5_house_10 18 rfl rfl)
theorem dX5_house_255 : decode cX5_house 255 = .ok (.iaload, 1) := dk_46 (dk_at dksX5_house_10 20 rfl rfl)
theorem dX5_house_256 : decode cX5_house 256 = .ok (.i2l, 1) := dk_133 (dk_at dksX5_house_10 21 rfl rfl)
theorem dX5_house_257 : decode cX5_house 257 = .ok (.lmul, 1) := dk_105 (dk_at dksX5_house_10 22 rfl rfl)
theorem dX5_house_258 : decode cX5_house 258 = .ok (.lsub, 1) := dk_101 (dk_at dksX5_house_10 23 rfl rfl)
theorem dX5_house_259 : decode cX5_house 259 = .ok (.lreturn, 1) := dk_173 (dk_at dksX5_house_11 0 rfl rfl)
abbrev cX5_begins : ByteArray := prog_24_method_60_code
def yX5_begins : MethodName := ⟨RX5, "begins", "()V"⟩
def dkwX5_begins_1 : List UInt8 := [79, 42, 180, 0, 69, 27, 3, 84, 132, 1, 1, 167, 255, 227, 177]
abbrev dktX5_begins_1 : List UInt8 := dkwX5_begins_1 ++ []
def dkwX5_begins_0 : List UInt8 := [42, 182, 0, 198, 3, 60, 27, 17, 1, 239, 162, 0, 28, 42, 180, 0, 66, 27, 42, 180, 0, 57, 27, 46]
abbrev dktX5_begins_0 : List UInt8 := dkwX5_begins_0 ++ dktX5_begins_1
theorem dksX5_begins_0 : cX5_begins.data.toList.drop 0 = dktX5_begins_0 := by decide +kernel
theorem dksX5_begins_1 : cX5_begins.data.toList.drop 24 = dktX5_begins_1 := dk_seg dksX5_begins_0 24 rfl rfl
theorem dX5_begins_0 : decode cX5_begins 0 = .ok (.aload_n 0, 1) := dk_42 (dk_at dksX5_begins_0 0 rfl rfl)
theorem dX5_begins_1 : decode cX5_begins 1 = .ok (.invokevirtual 198, 3) := dk_182 0 198 (dk_at dksX5_begins_0 1 rfl rfl)
theorem dX5_begins_4 : decode cX5_begins 4 = .ok (.iconst 0, 1) := dk_3 (dk_at dksX5_begins_0 4 rfl rfl)
theorem dX5_begins_5 : decode cX5_begins 5 = .ok (.istore_n 1, 1) := dk_60 (dk_at dksX5_begins_0 5 rfl rfl)
theorem dX5_begins_6 : decode cX5_begins 6 = .ok (.iload_n 1, 1) := dk_27 (dk_at dksX5_begins_0 6 rfl rfl)
theorem dX5_begins_7 : decode cX5_begins 7 = .ok (.sipush 495, 3) := dk_17 1 239 (dk_at dksX5_begins_0 7 rfl rfl)
theorem dX5_begins_10 : decode cX5_begins 10 = .ok (.if_icmp .ge 28, 3) := dk_162 0 28 (dk_at dksX5_begins_0 10 rfl rfl)
theorem dX5_begins_13 : decode cX5_begins 13 = .ok (.aload_n 0, 1) := dk_42 (dk_at dksX5_begins_0 13 rfl rfl)
theorem dX5_begins_14 : decode cX5_begins 14 = .ok (.getfield 66, 3) := dk_180 0 66 (dk_at dksX5_begins_0 14 rfl rfl)
theorem dX5_begins_17 : decode cX5_begins 17 = .ok (.iload_n 1, 1) := dk_27 (dk_at dksX5_begins_0 17 rfl rfl)
theorem dX5_begins_18 : decode cX5_begins 18 = .ok (.aload_n 0, 1) := dk_42 (dk_at dksX5_begins_0 18 rfl rfl)
theorem dX5_begins_19 : decode cX5_begins 19 = .ok (.getfield 57, 3) := dk_180 0 57 (dk_at dksX5_begins_0 19 rfl rfl)
theorem dX5_begins_22 : decode cX5_begins 22 = .ok (.iload_n 1, 1) := dk_27 (dk_at dksX5_begins_0 22 rfl rfl)
theorem dX5_begins_23 : decode cX5_begins 23 = .ok (.iaload, 1) := dk_46 (dk_at dksX5_begins_0 23 rfl rfl)
theorem dX5_begins_24 : decode cX5_begins 24 = .ok (.iastore, 1) := dk_79 (dk_at dksX5_begins_1 0 rfl rfl)
theorem dX5_begins_25 : decode cX5_begins 25 = .ok (.aload_n 0, 1) := dk_42 (dk_at dksX5_begins_1 1 rfl rfl)
theorem dX5_begins_26 : decode cX5_begins 26 = .ok (.getfield 69, 3) := dk_180 0 69 (dk_at dksX5_begins_1 2 rfl rfl)
theorem dX5_begins_29 : decode cX5_begins 29 = .ok (.iload_n 1, 1) := dk_27 (dk_at dksX5_begins_1 5 rfl rfl)
theorem dX5_begins_30 : decode cX5_begins 30 = .ok (.iconst 0, 1) := dk_3 (dk_at dksX5_begins_1 6 rfl rfl)
theorem dX5_begins_31 : decode cX5_begins 31 = .ok (.bastore, 1) := dk_84 (dk_at dksX5_begins_1 7 rfl rfl)
theorem dX5_begins_32 : decode cX5_begins 32 = .ok (.iinc 1 1, 3) := dk_132 1 1 (dk_at dksX5_begins_1 8 rfl rfl)
theorem dX5_begins_35 : decode cX5_begins 35 = .ok (.goto (-29), 3) := dk_167 255 227 (dk_at dksX5_begins_1 11 rfl rfl)
theorem dX5_begins_38 : decode cX5_begins 38 = .ok (.return_, 1) := dk_177 (dk_at dksX5_begins_1 14 rfl rfl)
abbrev cX5_rarest : ByteArray := prog_24_method_59_code
def yX5_rarest : MethodName := ⟨RX5, "rarest", "()I"⟩
def dkwX5_rarest_2 : List UInt8 := [167, 255, 212, 27, 172]
abbrev dktX5_rarest_2 : List UInt8 := dkwX5_rarest_2 ++ []
def dkwX5_rarest_1 : List UInt8 := [42, 180, 0, 66, 28, 46, 42, 180, 0, 66, 27, 46, 162, 0, 7, 28, 167, 0, 4, 27, 60, 132, 2, 1]
abbrev dktX5_rarest_1 : List UInt8 := dkwX5_rarest_1 ++ dktX5_rarest_2
def dkwX5_rarest_0 : List UInt8 := [2, 60, 3, 61, 28, 17, 1, 239, 162, 0, 43, 42, 180, 0, 69, 28, 51, 154, 0, 26, 27, 155, 0, 18]
abbrev dktX5_rarest_0 : List UInt8 := dkwX5_rarest_0 ++ dktX5_rarest_1
theorem dksX5_rarest_0 : cX5_rarest.data.toList.drop 0 = dktX5_rarest_0 := by decide +kernel
theorem dksX5_rarest_1 : cX5_rarest.data.toList.drop 24 = dktX5_rarest_1 := dk_seg dksX5_rarest_0 24 rfl rfl
theorem dksX5_rarest_2 : cX5_rarest.data.toList.drop 48 = dktX5_rarest_2 := dk_seg dksX5_rarest_1 24 rfl rfl
theorem dX5_rarest_0 : decode cX5_rarest 0 = .ok (.iconst (-1), 1) := dk_2 (dk_at dksX5_rarest_0 0 rfl rfl)
theorem dX5_rarest_1 : decode cX5_rarest 1 = .ok (.istore_n 1, 1) := dk_60 (dk_at dksX5_rarest_0 1 rfl rfl)
theorem dX5_rarest_2 : decode cX5_rarest 2 = .ok (.iconst 0, 1) := dk_3 (dk_at dksX5_rarest_0 2 rfl rfl)
theorem dX5_rarest_3 : decode cX5_rarest 3 = .ok (.istore_n 2, 1) := dk_61 (dk_at dksX5_rarest_0 3 rfl rfl)
theorem dX5_rarest_4 : decode cX5_rarest 4 = .ok (.iload_n 2, 1) := dk_28 (dk_at dksX5_rarest_0 4 rfl rfl)
theorem dX5_rarest_5 : decode cX5_rarest 5 = .ok (.sipush 495, 3) := dk_17 1 239 (dk_at dksX5_rarest_0 5 rfl rfl)
theorem dX5_rarest_8 : decode cX5_rarest 8 = .ok (.if_icmp .ge 43, 3) := dk_162 0 43 (dk_at dksX5_rarest_0 8 rfl rfl)
theorem dX5_rarest_11 : decode cX5_rarest 11 = .ok (.aload_n 0, 1) := dk_42 (dk_at dksX5_rarest_0 11 rfl rfl)
theorem dX5_rarest_12 : decode cX5_rarest 12 = .ok (.getfield 69, 3) := dk_180 0 69 (dk_at dksX5_rarest_0 12 rfl rfl)
theorem dX5_rarest_15 : decode cX5_rarest 15 = .ok (.iload_n 2, 1) := dk_28 (dk_at dksX5_rarest_0 15 rfl rfl)
theorem dX5_rarest_16 : decode cX5_rarest 16 = .ok (.baload, 1) := dk_51 (dk_at dksX5_rarest_0 16 rfl rfl)
theorem dX5_rarest_17 : decode cX5_rarest 17 = .ok (.ifCond .ne 26, 3) := dk_154 0 26 (dk_at dksX5_rarest_0 17 rfl rfl)
theorem dX5_rarest_20 : decode cX5_rarest 20 = .ok (.iload_n 1, 1) := dk_27 (dk_at dksX5_rarest_0 20 rfl rfl)
theorem dX5_rarest_21 : decode cX5_rarest 21 = .ok (.ifCond .lt 18, 3) := dk_155 0 18 (dk_at dksX5_rarest_0 21 rfl rfl)
theorem dX5_rarest_24 : decode cX5_rarest 24 = .ok (.aload_n 0, 1) := dk_42 (dk_at dksX5_rarest_1 0 rfl rfl)
theorem dX5_rarest_25 : decode cX5_rarest 25 = .ok (.getfield 66, 3) := dk_180 0 66 (dk_at dksX5_rarest_1 1 rfl rfl)
theorem dX5_rarest_28 : decode cX5_rarest 28 = .ok (.iload_n 2, 1) := dk_28 (dk_at dksX5_rarest_1 4 rfl rfl)
theorem dX5_rarest_29 : decode cX5_rarest 29 = .ok (.iaload, 1) := dk_46 (dk_at dksX5_rarest_1 5 rfl rfl)
theorem dX5_rarest_30 : decode cX5_rarest 30 = .ok (.aload_n 0, 1) := dk_42 (dk_at dksX5_rarest_1 6 rfl rfl)
theorem dX5_rarest_31 : decode cX5_rarest 31 = .ok (.getfield 66, 3) := dk_180 0 66 (dk_at dksX5_rarest_1 7 rfl rfl)
theorem dX5_rarest_34 : decode cX5_rarest 34 = .ok (.iload_n 1, 1) := dk_27 (dk_at dksX5_rarest_1 10 rfl rfl)
theorem dX5_rarest_35 : decode cX5_rarest 35 = .ok (.iaload, 1) := dk_46 (dk_at dksX5_rarest_1 11 rfl rfl)
theorem dX5_rarest_36 : decode cX5_rarest 36 = .ok (.if_icmp .ge 7, 3) := dk_162 0 7 (dk_at dksX5_rarest_1 12 rfl rfl)
theorem dX5_rarest_39 : decode cX5_rarest 39 = .ok (.iload_n 2, 1) := dk_28 (dk_at dksX5_rarest_1 15 rfl rfl)
theorem dX5_rarest_40 : decode cX5_rarest 40 = .ok (.goto 4, 3) := dk_167 0 4 (dk_at dksX5_rarest_1 16 rfl rfl)
theorem dX5_rarest_43 : decode cX5_rarest 43 = .ok (.iload_n 1, 1) := dk_27 (dk_at dksX5_rarest_1 19 rfl rfl)
theorem dX5_rarest_44 : decode cX5_rarest 44 = .ok (.istore_n 1, 1) := dk_60 (dk_at dksX5_rarest_1 20 rfl rfl)
theorem dX5_rarest_45 : decode cX5_rarest 45 = .ok (.iinc 2 1, 3) := dk_132 2 1 (dk_at dksX5_rarest_1 21 rfl rfl)
theorem dX5_rarest_48 : decode cX5_rarest 48 = .ok (.goto (-44), 3) := dk_167 255 212 (dk_at dksX5_rarest_2 0 rfl rfl)
theorem dX5_rarest_51 : decode cX5_rarest 51 = .ok (.iload_n 1, 1) := dk_27 (dk_at dksX5_rarest_2 3 rfl rfl)
theorem dX5_rarest_52 : decode cX5_rarest 52 = .ok (.ireturn, 1) := dk_172 (dk_at dksX5_rarest_2 4 rfl rfl)
abbrev cX5_seek : ByteArray := prog_24_method_62_code
def yX5_seek : MethodName := ⟨RX5, "seek", "(II)I"⟩
def dkwX5_seek_4 : List UInt8 := [154, 0, 15, 42, 180, 0, 66, 42, 182, 0, 243, 46, 167, 0, 4, 29, 172]
abbrev dktX5_seek_4 : List UInt8 := dkwX5_seek_4 ++ []
def dkwX5_seek_3 : List UInt8 := [167, 0, 4, 3, 96, 62, 42, 180, 0, 66, 21, 5, 92, 46, 4, 96, 79, 132, 4, 1, 167, 255, 205, 28]
abbrev dktX5_seek_3 : List UInt8 := dkwX5_seek_3 ++ dktX5_seek_4
def dkwX5_seek_2 : List UInt8 := [182, 0, 243, 54, 5, 29, 42, 180, 0, 66, 21, 5, 46, 42, 180, 0, 57, 21, 5, 46, 160, 0, 7, 4]
abbrev dktX5_seek_2 : List UInt8 := dkwX5_seek_2 ++ dktX5_seek_3
def dkwX5_seek_1 : List UInt8 := [18, 87, 182, 0, 88, 172, 42, 182, 0, 240, 3, 62, 3, 54, 4, 21, 4, 27, 162, 0, 51, 42]
abbrev dktX5_seek_1 : List UInt8 := dkwX5_seek_1 ++ dktX5_seek_2
def dkwX5_seek_0 : List UInt8 := [27, 133, 10, 20, 0, 246, 184, 0, 98, 153, 0, 13, 28, 133, 9, 10, 184, 0, 98, 154, 0, 10, 42]
abbrev dktX5_seek_0 : List UInt8 := dkwX5_seek_0 ++ dktX5_seek_1
theorem dksX5_seek_0 : cX5_seek.data.toList.drop 0 = dktX5_seek_0 := by decide +kernel
theorem dksX5_seek_1 : cX5_seek.data.toList.drop 23 = dktX5_seek_1 := dk_seg dksX5_seek_0 23 rfl rfl
theorem dksX5_seek_2 : cX5_seek.data.toList.drop 45 = dktX5_seek_2 := dk_seg dksX5_seek_1 22 rfl rfl
theorem dksX5_seek_3 : cX5_seek.data.toList.drop 69 = dktX5_seek_3 := dk_seg dksX5_seek_2 24 rfl rfl
theorem dksX5_seek_4 : cX5_seek.data.toList.drop 93 = dktX5_seek_4 := dk_seg dksX5_seek_3 24 rfl rfl
theorem dX5_seek_0 : decode cX5_seek 0 = .ok (.iload_n 1, 1) := dk_27 (dk_at dksX5_seek_0 0 rfl rfl)
theorem dX5_seek_1 : decode cX5_seek 1 = .ok (.i2l, 1) := dk_133 (dk_at dksX5_seek_0 1 rfl rfl)
theorem dX5_seek_2 : decode cX5_seek 2 = .ok (.lconst 1, 1) := dk_10 (dk_at dksX5_seek_0 2 rfl rfl)
theorem dX5_seek_3 : decode cX5_seek 3 = .ok (.ldc2_w 246, 3) := dk_20 0 246 (dk_at dksX5_seek_0 3 rfl rfl)
theorem dX5_seek_6 : decode cX5_seek 6 = .ok (.invokestatic 98, 3) := dk_184 0 98 (dk_at dksX5_seek_0 6 rfl rfl)
theorem dX5_seek_9 : decode cX5_seek 9 = .ok (.ifCond .eq 13, 3) := dk_153 0 13 (dk_at dksX5_seek_0 9 rfl rfl)
theorem dX5_seek_12 : decode cX5_seek 12 = .ok (.iload_n 2, 1) := dk_28 (dk_at dksX5_seek_0 12 rfl rfl)
theorem dX5_seek_13 : decode cX5_seek 13 = .ok (.i2l, 1) := dk_133 (dk_at dksX5_seek_0 13 rfl rfl)
theorem dX5_seek_14 : decode cX5_seek 14 = .ok (.lconst 0, 1) := dk_9 (dk_at dksX5_seek_0 14 rfl rfl)
theorem dX5_seek_15 : decode cX5_seek 15 = .ok (.lconst 1, 1) := dk_10 (dk_at dksX5_seek_0 15 rfl rfl)
theorem dX5_seek_16 : decode cX5_seek 16 = .ok (.invokestatic 98, 3) := dk_184 0 98 (dk_at dksX5_seek_0 16 rfl rfl)
theorem dX5_seek_19 : decode cX5_seek 19 = .ok (.ifCond .ne 10, 3) := dk_154 0 10 (dk_at dksX5_seek_0 19 rfl rfl)
theorem dX5_seek_22 : decode cX5_seek 22 = .ok (.aload_n 0, 1) := dk_42 (dk_at dksX5_seek_0 22 rfl rfl)
theorem dX5_seek_23 : decode cX5_seek 23 = .ok (.ldc 87, 2) := dk_18 87 (dk_at dksX5_seek_1 0 rfl rfl)
theorem dX5_seek_25 : decode cX5_seek 25 = .ok (.invokevirtual 88, 3) := dk_182 0 88 (dk_at dksX5_seek_1 2 rfl rfl)
theorem dX5_seek_28 : decode cX5_seek 28 = .ok (.ireturn, 1) := dk_172 (dk_at dksX5_seek_1 5 rfl rfl)
theorem dX5_seek_29 : decode cX5_seek 29 = .ok (.aload_n 0, 1) := dk_42 (dk_at dksX5_seek_1 6 rfl rfl)
theorem dX5_seek_30 : decode cX5_seek 30 = .ok (.invokevirtual 240, 3) := dk_182 0 240 (dk_at dksX5_seek_1 7 rfl rfl)
theorem dX5_seek_33 : decode cX5_seek 33 = .ok (.iconst 0, 1) := dk_3 (dk_at dksX5_seek_1 10 rfl rfl)
theorem dX5_seek_34 : decode cX5_seek 34 = .ok (.istore_n 3, 1) := dk_62 (dk_at dksX5_seek_1 11 rfl rfl)
theorem dX5_seek_35 : decode cX5_seek 35 = .ok (.iconst 0, 1) := dk_3 (dk_at dksX5_seek_1 12 rfl rfl)
theorem dX5_seek_36 : decode cX5_seek 36 = .ok (.istore 4, 2) := dk_54 4 (dk_at dksX5_seek_1 13 rfl rfl)
theorem dX5_seek_38 : decode cX5_seek 38 = .ok (.iload 4, 2) := dk_21 4 (dk_at dksX5_seek_1 15 rfl rfl)
theorem dX5_seek_40 : decode cX5_seek 40 = .ok (.iload_n 1, 1) := dk_27 (dk_at dksX5_seek_1 17 rfl rfl)
theorem dX5_seek_41 : decode cX5_seek 41 = .ok (.if_icmp .ge 51, 3) := dk_162 0 51 (dk_at dksX5_seek_1 18 rfl rfl)
theorem dX5_seek_44 : decode cX5_seek 44 = .ok (.aload_n 0, 1) := dk_42 (dk_at dksX5_seek_1 21 rfl rfl)
theorem dX5_seek_45 : decode cX5_seek 45 = .ok (.invokevirtual 243, 3) := dk_182 0 243 (dk_at dksX5_seek_2 0 rfl rfl)
theorem dX5_seek_48 : decode cX5_seek 48 = .ok (.istore 5, 2) := dk_54 5 (dk_at dksX5_seek_2 3 rfl rfl)
theorem dX5_seek_50 : decode cX5_seek 50 = .ok (.iload_n 3, 1) := dk_29 (dk_at dksX5_seek_2 5 rfl rfl)
theorem dX5_seek_51 : decode cX5_seek 51 = .ok (.aload_n 0, 1) := dk_42 (dk_at dksX5_seek_2 6 rfl rfl)
theorem dX5_seek_52 : decode cX5_seek 52 = .ok (.getfield 66, 3) := dk_180 0 66 (dk_at dksX5_seek_2 7 rfl rfl)
theorem dX5_seek_55 : decode cX5_seek 55 = .ok (.iload 5, 2) := dk_21 5 (dk_at dksX5_seek_2 10 rfl rfl)
theorem dX5_seek_57 : decode cX5_seek 57 = .ok (.iaload, 1) := dk_46 (dk_at dksX5_seek_2 12 rfl rfl)
theorem dX5_seek_58 : decode cX5_seek 58 = .ok (.aload_n 0, 1) := dk_42 (dk_at dksX5_seek_2 13 rfl rfl)
theorem dX5_seek_59 : decode cX5_seek 59 = .ok (.getfield 57, 3) := dk_180 0 57 (dk_at dksX5_seek_2 14 rfl rfl)
theorem dX5_seek_62 : decode cX5_seek 62 = .ok (.iload 5, 2) := dk_21 5 (dk_at dksX5_seek_2 17 rfl rfl)
theorem dX5_seek_64 : decode cX5_seek 64 = .ok (.iaload, 1) := dk_46 (dk_at dksX5_seek_2 19 rfl rfl)
theorem dX5_seek_65 : decode cX5_seek 65 = .ok (.if_icmp .ne 7, 3) := dk_160 0 7 (dk_at dksX5_seek_2 20 rfl rfl)
theorem dX5_seek_68 : decode cX5_seek 68 = .ok (.iconst 1, 1) := dk_4 (dk_at dksX5_seek_2 23 rfl rfl)
theorem dX5_seek_69 : decode cX5_seek 69 = .ok (.goto 4, 3) := dk_167 0 4 (dk_at dksX5_seek_3 0 rfl rfl)
theorem dX5_seek_72 : decode cX5_seek 72 = .ok (.iconst 0, 1) := dk_3 (dk_at dksX5_seek_3 3 rfl rfl)
theorem dX5_seek_73 : decode cX5_seek 73 = .ok (.iadd, 1) := dk_96 (dk_at dksX5_seek_3 4 rfl rfl)
theorem dX5_seek_74 : decode cX5_seek 74 = .ok (.istore_n 3, 1) := dk_62 (dk_at dksX5_seek_3 5 rfl rfl)
theorem dX5_seek_75 : decode cX5_seek 75 = .ok (.aload_n 0, 1) := dk_42 (dk_at dksX5_seek_3 6 rfl rfl)
theorem dX5_seek_76 : decode cX5_seek 76 = .ok (.getfield 66, 3) := dk_180 0 66 (dk_at dksX5_seek_3 7 rfl rfl)
theorem dX5_seek_79 : decode cX5_seek 79 = .ok (.iload 5, 2) := dk_21 5 (dk_at dksX5_seek_3 10 rfl rfl)
theorem dX5_seek_81 : decode cX5_seek 81 = .ok (.dup2, 1) := dk_92 (dk_at dksX5_seek_3 12 rfl rfl)
theorem dX5_seek_82 : decode cX5_seek 82 = .ok (.iaload, 1) := dk_46 (dk_at dksX5_seek_3 13 rfl rfl)
theorem dX5_seek_83 : decode cX5_seek 83 = .ok (.iconst 1, 1) := dk_4 (dk_at dksX5_seek_3 14 rfl rfl)
theorem dX5_seek_84 : decode cX5_seek 84 = .ok (.iadd, 1) := dk_96 (dk_at dksX5_seek_3 15 rfl rfl)
theorem dX5_seek_85 : decode cX5_seek 85 = .ok (.iastore, 1) := dk_79 (dk_at dksX5_seek_3 16 rfl rfl)
theorem dX5_seek_86 : decode cX5_seek 86 = .ok (.iinc 4 1, 3) := dk_132 4 1 (dk_at dksX5_seek_3 17 rfl rfl)
theorem dX5_seek_89 : decode cX5_seek 89 = .ok (.goto (-51), 3) := dk_167 255 205 (dk_at dksX5_seek_3 20 rfl rfl)
theorem dX5_seek_92 : decode cX5_seek 92 = .ok (.iload_n 2, 1) := dk_28 (dk_at dksX5_seek_3 23 rfl rfl)
theorem dX5_seek_93 : decode cX5_seek 93 = .ok (.ifCond .ne 15, 3) := dk_154 0 15 (dk_at dksX5_seek_4 0 rfl rfl)
theorem dX5_seek_96 : decode cX5_seek 96 = .ok (.aload_n 0, 1) := dk_42 (dk_at dksX5_seek_4 3 rfl rfl)
theorem dX5_seek_97 : decode cX5_seek 97 = .ok (.getfield 66, 3) := dk_180 0 66 (dk_at dksX5_seek_4 4 rfl rfl)
theorem dX5_seek_100 : decode cX5_seek 100 = .ok (.aload_n 0, 1) := dk_42 (dk_at dksX5_seek_4 7 rfl rfl)
theorem dX5_seek_101 : decode cX5_seek 101 = .ok (.invokevirtual 243, 3) := dk_182 0 243 (dk_at dksX5_seek_4 8 rfl rfl)
theorem dX5_seek_104 : decode cX5_seek 104 = .ok (.iaload, 1) := dk_46 (dk_at dksX5_seek_4 11 rfl rfl)
theorem dX5_seek_105 : decode cX5_seek 105 = .ok (.goto 4, 3) := dk_167 0 4 (dk_at dksX5_seek_4 12 rfl rfl)
theorem dX5_seek_108 : decode cX5_seek 108 = .ok (.iload_n 3, 1) := dk_29 (dk_at dksX5_seek_4 15 rfl rfl)
theorem dX5_seek_109 : decode cX5_seek 109 = .ok (.ireturn, 1) := dk_172 (dk_at dksX5_seek_4 16 rfl rfl)
abbrev cX5_shares : ByteArray := prog_24_method_63_code
def yX5_shares : MethodName := ⟨RX5, "shares", "(I)I"⟩
def dkwX5_shares_1 : List UInt8 := [172]
abbrev dktX5_shares_1 : List UInt8 := dkwX5_shares_1 ++ []
def dkwX5_shares_0 : List UInt8 := [27, 184, 0, 92, 154, 0, 10, 42, 18, 87, 182, 0, 88, 172, 42, 182, 0, 198, 42, 180, 0, 57, 27, 46]
abbrev dktX5_shares_0 : List UInt8 := dkwX5_shares_0 ++ dktX5_shares_1
theorem dksX5_shares_0 : cX5_shares.data.toList.drop 0 = dktX5_shares_0 := by decide +kernel
theorem dksX5_shares_1 : cX5_shares.data.toList.drop 24 = dktX5_shares_1 := dk_seg dksX5_shares_0 24 rfl rfl
theorem dX5_shares_0 : decode cX5_shares 0 = .ok (.iload_n 1, 1) := dk_27 (dk_at dksX5_shares_0 0 rfl rfl)
theorem dX5_shares_1 : decode cX5_shares 1 = .ok (.invokestatic 92, 3) := dk_184 0 92 (dk_at dksX5_shares_0 1 rfl rfl)
theorem dX5_shares_4 : decode cX5_shares 4 = .ok (.ifCond .ne 10, 3) := dk_154 0 10 (dk_at dksX5_shares_0 4 rfl rfl)
theorem dX5_shares_7 : decode cX5_shares 7 = .ok (.aload_n 0, 1) := dk_42 (dk_at dksX5_shares_0 7 rfl rfl)
theorem dX5_shares_8 : decode cX5_shares 8 = .ok (.ldc 87, 2) := dk_18 87 (dk_at dksX5_shares_0 8 rfl rfl)
theorem dX5_shares_10 : decode cX5_shares 10 = .ok (.invokevirtual 88, 3) := dk_182 0 88 (dk_at dksX5_shares_0 10 rfl rfl)
theorem dX5_shares_13 : decode cX5_shares 13 = .ok (.ireturn, 1) := dk_172 (dk_at dksX5_shares_0 13 rfl rfl)
theorem dX5_shares_14 : decode cX5_shares 14 = .ok (.aload_n 0, 1) := dk_42 (dk_at dksX5_shares_0 14 rfl rfl)
theorem dX5_shares_15 : decode cX5_shares 15 = .ok (.invokevirtual 198, 3) := dk_182 0 198 (dk_at dksX5_shares_0 15 rfl rfl)
theorem dX5_shares_18 : decode cX5_shares 18 = .ok (.aload_n 0, 1) := dk_42 (dk_at dksX5_shares_0 18 rfl rfl)
theorem dX5_shares_19 : decode cX5_shares 19 = .ok (.getfield 57, 3) := dk_180 0 57 (dk_at dksX5_shares_0 19 rfl rfl)
theorem dX5_shares_22 : decode cX5_shares 22 = .ok (.iload_n 1, 1) := dk_27 (dk_at dksX5_shares_0 22 rfl rfl)
theorem dX5_shares_23 : decode cX5_shares 23 = .ok (.iaload, 1) := dk_46 (dk_at dksX5_shares_0 23 rfl rfl)
theorem dX5_shares_24 : decode cX5_shares 24 = .ok (.ireturn, 1) := dk_172 (dk_at dksX5_shares_1 0 rfl rfl)
abbrev cX5_due : ByteArray := prog_24_method_66_code
def yX5_due : MethodName := ⟨RX5, "due", "(I)I"⟩
def dkwX5_due_2 : List UInt8 := [184, 0, 83, 154, 0, 9, 132, 2, 1, 167, 255, 222, 28, 172]
abbrev dktX5_due_2 : List UInt8 := dkwX5_due_2 ++ []
def dkwX5_due_1 : List UInt8 := [180, 0, 7, 4, 46, 162, 0, 30, 42, 42, 180, 0, 7, 4, 46, 4, 100, 28, 100, 182, 0, 248, 27]
abbrev dktX5_due_1 : List UInt8 := dkwX5_due_1 ++ dktX5_due_2
def dkwX5_due_0 : List UInt8 := [27, 133, 9, 20, 0, 251, 184, 0, 98, 154, 0, 10, 42, 18, 87, 182, 0, 88, 172, 3, 61, 28, 42]
abbrev dktX5_due_0 : List UInt8 := dkwX5_due_0 ++ dktX5_due_1
theorem dksX5_due_0 : cX5_due.data.toList.drop 0 = dktX5_due_0 := by decide +kernel
theorem dksX5_due_1 : cX5_due.data.toList.drop 23 = dktX5_due_1 := dk_seg dksX5_due_0 23 rfl rfl
theorem dksX5_due_2 : cX5_due.data.toList.drop 46 = dktX5_due_2 := dk_seg dksX5_due_1 23 rfl rfl
theorem dX5_due_0 : decode cX5_due 0 = .ok (.iload_n 1, 1) := dk_27 (dk_at dksX5_due_0 0 rfl rfl)
theorem dX5_due_1 : decode cX5_due 1 = .ok (.i2l, 1) := dk_133 (dk_at dksX5_due_0 1 rfl rfl)
theorem dX5_due_2 : decode cX5_due 2 = .ok (.lconst 0, 1) := dk_9 (dk_at dksX5_due_0 2 rfl rfl)
theorem dX5_due_3 : decode cX5_due 3 = .ok (.ldc2_w 251, 3) := dk_20 0 251 (dk_at dksX5_due_0 3 rfl rfl)
theorem dX5_due_6 : decode cX5_due 6 = .ok (.invokestatic 98, 3) := dk_184 0 98 (dk_at dksX5_due_0 6 rfl rfl)
theorem dX5_due_9 : decode cX5_due 9 = .ok (.ifCond .ne 10, 3) := dk_154 0 10 (dk_at dksX5_due_0 9 rfl rfl)
theorem dX5_due_12 : decode cX5_due 12 = .ok (.aload_n 0, 1) := dk_42 (dk_at dksX5_due_0 12 rfl rfl)
theorem dX5_due_13 : decode cX5_due 13 = .ok (.ldc 87, 2) := dk_18 87 (dk_at dksX5_due_0 13 rfl rfl)
theorem dX5_due_15 : decode cX5_due 15 = .ok (.invokevirtual 88, 3) := dk_182 0 88 (dk_at dksX5_due_0 15 rfl rfl)
theorem dX5_due_18 : decode cX5_due 18 = .ok (.ireturn, 1) := dk_172 (dk_at dksX5_due_0 18 rfl rfl)
theorem dX5_due_19 : decode cX5_due 19 = .ok (.iconst 0, 1) := dk_3 (dk_at dksX5_due_0 19 rfl rfl)
theorem dX5_due_20 : decode cX5_due 20 = .ok (.istore_n 2, 1) := dk_61 (dk_at dksX5_due_0 20 rfl rfl)
theorem dX5_due_21 : decode cX5_due 21 = .ok (.iload_n 2, 1) := dk_28 (dk_at dksX5_due_0 21 rfl rfl)
theorem dX5_due_22 : decode cX5_due 22 = .ok (.aload_n 0, 1) := dk_42 (dk_at dksX5_due_0 22 rfl rfl)
theorem dX5_due_23 : decode cX5_due 23 = .ok (.getfield 7, 3) := dk_180 0 7 (dk_at dksX5_due_1 0 rfl rfl)
theorem dX5_due_26 : decode cX5_due 26 = .ok (.iconst 1, 1) := dk_4 (dk_at dksX5_due_1 3 rfl rfl)
theorem dX5_due_27 : decode cX5_due 27 = .ok (.iaload, 1) := dk_46 (dk_at dksX5_due_1 4 rfl rfl)
theorem dX5_due_28 : decode cX5_due 28 = .ok (.if_icmp .ge 30, 3) := dk_162 0 30 (dk_at dksX5_due_1 5 rfl rfl)
theorem dX5_due_31 : decode cX5_due 31 = .ok (.aload_n 0, 1) := dk_42 (dk_at dksX5_due_1 8 rfl rfl)
theorem dX5_due_32 : decode cX5_due 32 = .ok (.aload_n 0, 1) := dk_42 (dk_at dksX5_due_1 9 rfl rfl)
theorem dX5_due_33 : decode cX5_due 33 = .ok (.getfield 7, 3) := dk_180 0 7 (dk_at dksX5_due_1 10 rfl rfl)
theorem dX5_due_36 : decode cX5_due 36 = .ok (.iconst 1, 1) := dk_4 (dk_at dksX5_due_1 13 rfl rfl)
theorem dX5_due_37 : decode cX5_due 37 = .ok (.iaload, 1) := dk_46 (dk_at dksX5_due_1 14 rfl rfl)
theorem dX5_due_38 : decode cX5_due 38 = .ok (.iconst 1, 1) := dk_4 (dk_at dksX5_due_1 15 rfl rfl)
theorem dX5_due_39 : decode cX5_due 39 = .ok (.isub, 1) := dk_100 (dk_at dksX5_due_1 16 rfl rfl)
theorem dX5_due_40 : decode cX5_due 40 = .ok (.iload_n 2, 1) := dk_28 (dk_at dksX5_due_1 17 rfl rfl)
theorem dX5_due_41 : decode cX5_due 41 = .ok (.isub, 1) := dk_100 (dk_at dksX5_due_1 18 rfl rfl)
theorem dX5_due_42 : decode cX5_due 42 = .ok (.invokevirtual 248, 3) := dk_182 0 248 (dk_at dksX5_due_1 19 rfl rfl)
theorem dX5_due_45 : decode cX5_due 45 = .ok (.iload_n 1, 1) := dk_27 (dk_at dksX5_due_1 22 rfl rfl)
theorem dX5_due_46 : decode cX5_due 46 = .ok (.invokestatic 83, 3) := dk_184 0 83 (dk_at dksX5_due_2 0 rfl rfl)
theorem dX5_due_49 : decode cX5_due 49 = .ok (.ifCond .ne 9, 3) := dk_154 0 9 (dk_at dksX5_due_2 3 rfl rfl)
theorem dX5_due_52 : decode cX5_due 52 = .ok (.iinc 2 1, 3) := dk_132 2 1 (dk_at dksX5_due_2 6 rfl rfl)
theorem dX5_due_55 : decode cX5_due 55 = .ok (.goto (-34), 3) := dk_167 255 222 (dk_at dksX5_due_2 9 rfl rfl)
theorem dX5_due_58 : decode cX5_due 58 = .ok (.iload_n 2, 1) := dk_28 (dk_at dksX5_due_2 12 rfl rfl)
theorem dX5_due_59 : decode cX5_due 59 = .ok (.ireturn, 1) := dk_172 (dk_at dksX5_due_2 13 rfl rfl)
abbrev cX5_drawAt : ByteArray := prog_24_method_64_code
def yX5_drawAt : MethodName := ⟨RX5, "drawAt", "(I)I"⟩
def dkwX5_drawAt_0 : List UInt8 := [42, 180, 0, 7, 16, 104, 16, 8, 27, 104, 96, 46, 172]
abbrev dktX5_drawAt_0 : List UInt8 := dkwX5_drawAt_0 ++ []
theorem dksX5_drawAt_0 : cX5_drawAt.data.toList.drop 0 = dktX5_drawAt_0 := by decide +kernel
theorem dX5_drawAt_0 : decode cX5_drawAt 0 = .ok (.aload_n 0, 1) := dk_42 (dk_at dksX5_drawAt_0 0 rfl rfl)
theorem dX5_drawAt_1 : decode cX5_drawAt 1 = .ok (.getfield 7, 3) := dk_180 0 7 (dk_at dksX5_drawAt_0 1 rfl rfl)
theorem dX5_drawAt_4 : decode cX5_drawAt 4 = .ok (.bipush 104, 2) := dk_16 104 (dk_at dksX5_drawAt_0 4 rfl rfl)
theorem dX5_drawAt_6 : decode cX5_drawAt 6 = .ok (.bipush 8, 2) := dk_16 8 (dk_at dksX5_drawAt_0 6 rfl rfl)
theorem dX5_drawAt_8 : decode cX5_drawAt 8 = .ok (.iload_n 1, 1) := dk_27 (dk_at dksX5_drawAt_0 8 rfl rfl)
theorem dX5_drawAt_9 : decode cX5_drawAt 9 = .ok (.imul, 1) := dk_104 (dk_at dksX5_drawAt_0 9 rfl rfl)
theorem dX5_drawAt_10 : decode cX5_drawAt 10 = .ok (.iadd, 1) := dk_96 (dk_at dksX5_drawAt_0 10 rfl rfl)
theorem dX5_drawAt_11 : decode cX5_drawAt 11 = .ok (.iaload, 1) := dk_46 (dk_at dksX5_drawAt_0 11 rfl rfl)
theorem dX5_drawAt_12 : decode cX5_drawAt 12 = .ok (.ireturn, 1) := dk_172 (dk_at dksX5_drawAt_0 12 rfl rfl)
abbrev cX5_came : ByteArray := prog_24_method_67_code
def yX5_came : MethodName := ⟨RX5, "came", "(I)I"⟩
def dkwX5_came_1 : List UInt8 := [182, 0, 88, 172]
abbrev dktX5_came_1 : List UInt8 := dkwX5_came_1 ++ []
def dkwX5_came_0 : List UInt8 := [27, 133, 9, 20, 0, 251, 184, 0, 98, 153, 0, 11, 42, 27, 182, 0, 253, 167, 0, 9, 42, 18, 87]
abbrev dktX5_came_0 : List UInt8 := dkwX5_came_0 ++ dktX5_came_1
theorem dksX5_came_0 : cX5_came.data.toList.drop 0 = dktX5_came_0 := by decide +kernel
theorem dksX5_came_1 : cX5_came.data.toList.drop 23 = dktX5_came_1 := dk_seg dksX5_came_0 23 rfl rfl
theorem dX5_came_0 : decode cX5_came 0 = .ok (.iload_n 1, 1) := dk_27 (dk_at dksX5_came_0 0 rfl rfl)
theorem dX5_came_1 : decode cX5_came 1 = .ok (.i2l, 1) := dk_133 (dk_at dksX5_came_0 1 rfl rfl)
theorem dX5_came_2 : decode cX5_came 2 = .ok (.lconst 0, 1) := dk_9 (dk_at dksX5_came_0 2 rfl rfl)
theorem dX5_came_3 : decode cX5_came 3 = .ok (.ldc2_w 251, 3) := dk_20 0 251 (dk_at dksX5_came_0 3 rfl rfl)
theorem dX5_came_6 : decode cX5_came 6 = .ok (.invokestatic 98, 3) := dk_184 0 98 (dk_at dksX5_came_0 6 rfl rfl)
theorem dX5_came_9 : decode cX5_came 9 = .ok (.ifCond .eq 11, 3) := dk_153 0 11 (dk_at dksX5_came_0 9 rfl rfl)
theorem dX5_came_12 : decode cX5_came 12 = .ok (.aload_n 0, 1) := dk_42 (dk_at dksX5_came_0 12 rfl rfl)
theorem dX5_came_13 : decode cX5_came 13 = .ok (.iload_n 1, 1) := dk_27 (dk_at dksX5_came_0 13 rfl rfl)
theorem dX5_came_14 : decode cX5_came 14 = .ok (.invokevirtual 253, 3) := dk_182 0 253 (dk_at dksX5_came_0 14 rfl rfl)
theorem dX5_came_17 : decode cX5_came 17 = .ok (.goto 9, 3) := dk_167 0 9 (dk_at dksX5_came_0 17 rfl rfl)
theorem dX5_came_20 : decode cX5_came 20 = .ok (.aload_n 0, 1) := dk_42 (dk_at dksX5_came_0 20 rfl rfl)
theorem dX5_came_21 : decode cX5_came 21 = .ok (.ldc 87, 2) := dk_18 87 (dk_at dksX5_came_0 21 rfl rfl)
theorem dX5_came_23 : decode cX5_came 23 = .ok (.invokevirtual 88, 3) := dk_182 0 88 (dk_at dksX5_came_1 0 rfl rfl)
theorem dX5_came_26 : decode cX5_came 26 = .ok (.ireturn, 1) := dk_172 (dk_at dksX5_came_1 3 rfl rfl)
abbrev cX5_timesOf : ByteArray := prog_24_method_65_code
def yX5_timesOf : MethodName := ⟨RX5, "timesOf", "(I)I"⟩
def dkwX5_timesOf_1 : List UInt8 := [153, 0, 7, 4, 167, 0, 4, 3, 96, 61, 132, 3, 1, 167, 255, 223, 28, 172]
abbrev dktX5_timesOf_1 : List UInt8 := dkwX5_timesOf_1 ++ []
def dkwX5_timesOf_0 : List UInt8 := [3, 61, 3, 62, 29, 42, 180, 0, 7, 4, 46, 162, 0, 29, 28, 42, 29, 182, 0, 248, 27, 184, 0, 83]
abbrev dktX5_timesOf_0 : List UInt8 := dkwX5_timesOf_0 ++ dktX5_timesOf_1
theorem dksX5_timesOf_0 : cX5_timesOf.data.toList.drop 0 = dktX5_timesOf_0 := by decide +kernel
theorem dksX5_timesOf_1 : cX5_timesOf.data.toList.drop 24 = dktX5_timesOf_1 := dk_seg dksX5_timesOf_0 24 rfl rfl
theorem dX5_timesOf_0 : decode cX5_timesOf 0 = .ok (.iconst 0, 1) := dk_3 (dk_at dksX5_timesOf_0 0 rfl rfl)
theorem dX5_timesOf_1 : decode cX5_timesOf 1 = .ok (.istore_n 2, 1) := dk_61 (dk_at dksX5_timesOf_0 1 rfl rfl)
theorem dX5_timesOf_2 : decode cX5_timesOf 2 = .ok (.iconst 0, 1) := dk_3 (dk_at dksX5_timesOf_0 2 rfl rfl)
theorem dX5_timesOf_3 : decode cX5_timesOf 3 = .ok (.istore_n 3, 1) := dk_62 (dk_at dksX5_timesOf_0 3 rfl rfl)
theorem dX5_timesOf_4 : decode cX5_timesOf 4 = .ok (.iload_n 3, 1) := dk_29 (dk_at dksX5_timesOf_0 4 rfl rfl)
theorem dX5_timesOf_5 : decode cX5_timesOf 5 = .ok (.aload_n 0, 1) := dk_42 (dk_at dksX5_timesOf_0 5 rfl rfl)
theorem dX5_timesOf_6 : decode cX5_timesOf 6 = .ok (.getfield 7, 3) := dk_180 0 7 (dk_at dksX5_timesOf_0 6 rfl rfl)
theorem dX5_timesOf_9 : decode cX5_timesOf 9 = .ok (.iconst 1, 1) := dk_4 (dk_at dksX5_timesOf_0 9 rfl rfl)
theorem dX5_timesOf_10 : decode cX5_timesOf 10 = .ok (.iaload, 1) := dk_46 (dk_at dksX5_timesOf_0 10 rfl rfl)
theorem dX5_timesOf_11 : decode cX5_timesOf 11 = .ok (.if_icmp .ge 29, 3) := dk_162 0 29 (dk_at dksX5_timesOf_0 11 rfl rfl)
theorem dX5_timesOf_14 : decode cX5_timesOf 14 = .ok (.iload_n 2, 1) := dk_28 (dk_at dksX5_timesOf_0 14 rfl rfl)
theorem dX5_timesOf_15 : decode cX5_timesOf 15 = .ok (.aload_n 0, 1) := dk_42 (dk_at dksX5_timesOf_0 15 rfl rfl)
theorem dX5_timesOf_16 : decode cX5_timesOf 16 = .ok (.iload_n 3, 1) := dk_29 (dk_at dksX5_timesOf_0 16 rfl rfl)
theorem dX5_timesOf_17 : decode cX5_timesOf 17 = .ok (.invokevirtual 248, 3) := dk_182 0 248 (dk_at dksX5_timesOf_0 17 rfl rfl)
theorem dX5_timesOf_20 : decode cX5_timesOf 20 = .ok (.iload_n 1, 1) := dk_27 (dk_at dksX5_timesOf_0 20 rfl rfl)
theorem dX5_timesOf_21 : decode cX5_timesOf 21 = .ok (.invokestatic 83, 3) := dk_184 0 83 (dk_at dksX5_timesOf_0 21 rfl rfl)
theorem dX5_timesOf_24 : decode cX5_timesOf 24 = .ok (.ifCond .eq 7, 3) := dk_153 0 7 (dk_at dksX5_timesOf_1 0 rfl rfl)
theorem dX5_timesOf_27 : decode cX5_timesOf 27 = .ok (.iconst 1, 1) := dk_4 (dk_at dksX5_timesOf_1 3 rfl rfl)
theorem dX5_timesOf_28 : decode cX5_timesOf 28 = .ok (.goto 4, 3) := dk_167 0 4 (dk_at dksX5_timesOf_1 4 rfl rfl)
theorem dX5_timesOf_31 : decode cX5_timesOf 31 = .ok (.iconst 0, 1) := dk_3 (dk_at dksX5_timesOf_1 7 rfl rfl)
theorem dX5_timesOf_32 : decode cX5_timesOf 32 = .ok (.iadd, 1) := dk_96 (dk_at dksX5_timesOf_1 8 rfl rfl)
theorem dX5_timesOf_33 : decode cX5_timesOf 33 = .ok (.istore_n 2, 1) := dk_61 (dk_at dksX5_timesOf_1 9 rfl rfl)
theorem dX5_timesOf_34 : decode cX5_timesOf 34 = .ok (.iinc 3 1, 3) := dk_132 3 1 (dk_at dksX5_timesOf_1 10 rfl rfl)
theorem dX5_timesOf_37 : decode cX5_timesOf 37 = .ok (.goto (-33), 3) := dk_167 255 223 (dk_at dksX5_timesOf_1 13 rfl rfl)
theorem dX5_timesOf_40 : decode cX5_timesOf 40 = .ok (.iload_n 2, 1) := dk_28 (dk_at dksX5_timesOf_1 16 rfl rfl)
theorem dX5_timesOf_41 : decode cX5_timesOf 41 = .ok (.ireturn, 1) := dk_172 (dk_at dksX5_timesOf_1 17 rfl rfl)
abbrev cX5_drum : ByteArray := prog_24_method_68_code
def yX5_drum : MethodName := ⟨RX5, "drum", "()J"⟩
def dkwX5_drum_2 : List UInt8 := [31, 173]
abbrev dktX5_drum_2 : List UInt8 := dkwX5_drum_2 ++ []
def dkwX5_drum_1 : List UInt8 := [180, 0, 7, 4, 46, 133, 105, 101, 55, 4, 31, 22, 4, 22, 4, 105, 97, 64, 132, 3, 1, 167, 255, 215]
abbrev dktX5_drum_1 : List UInt8 := dkwX5_drum_1 ++ dktX5_drum_2
def dkwX5_drum_0 : List UInt8 := [9, 64, 3, 62, 29, 16, 12, 162, 0, 41, 20, 1, 0, 42, 29, 182, 0, 253, 133, 105, 20, 0, 173, 42]
abbrev dktX5_drum_0 : List UInt8 := dkwX5_drum_0 ++ dktX5_drum_1
theorem dksX5_drum_0 : cX5_drum.data.toList.drop 0 = dktX5_drum_0 := by decide +kernel
theorem dksX5_drum_1 : cX5_drum.data.toList.drop 24 = dktX5_drum_1 := dk_seg dksX5_drum_0 24 rfl rfl
theorem dksX5_drum_2 : cX5_drum.data.toList.drop 48 = dktX5_drum_2 := dk_seg dksX5_drum_1 24 rfl rfl
theorem dX5_drum_0 : decode cX5_drum 0 = .ok (.lconst 0, 1) := dk_9 (dk_at dksX5_drum_0 0 rfl rfl)
theorem dX5_drum_1 : decode cX5_drum 1 = .ok (.lstore_n 1, 1) := dk_64 (dk_at dksX5_drum_0 1 rfl rfl)
theorem dX5_drum_2 : decode cX5_drum 2 = .ok (.iconst 0, 1) := dk_3 (dk_at dksX5_drum_0 2 rfl rfl)
theorem dX5_drum_3 : decode cX5_drum 3 = .ok (.istore_n 3, 1) := dk_62 (dk_at dksX5_drum_0 3 rfl rfl)
theorem dX5_drum_4 : decode cX5_drum 4 = .ok (.iload_n 3, 1) := dk_29 (dk_at dksX5_drum_0 4 rfl rfl)
theorem dX5_drum_5 : decode cX5_drum 5 = .ok (.bipush 12, 2) := dk_16 12 (dk_at dksX5_drum_0 5 rfl rfl)
theorem dX5_drum_7 : decode cX5_drum 7 = .ok (.if_icmp .ge 41, 3) := dk_162 0 41 (dk_at dksX5_drum_0 7 rfl rfl)
theorem dX5_drum_10 : decode cX5_drum 10 = .ok (.ldc2_w 256, 3) := dk_20 1 0 (dk_at dksX5_drum_0 10 rfl rfl)
theorem dX5_drum_13 : decode cX5_drum 13 = .ok (.aload_n 0, 1) := dk_42 (dk_at dksX5_drum_0 13 rfl rfl)
theorem dX5_drum_14 : decode cX5_drum 14 = .ok (.iload_n 3, 1) := dk_29 (dk_at dksX5_drum_0 14 rfl rfl)
theorem dX5_drum_15 : decode cX5_drum 15 = .ok (.invokevirtual 253, 3) := dk_182 0 253 (dk_at dksX5_drum_0 15 rfl rfl)
theorem dX5_drum_18 : decode cX5_drum 18 = .ok (.i2l, 1) := dk_133 (dk_at dksX5_drum_0 18 rfl rfl)
theorem dX5_drum_19 : decode cX5_drum 19 = .ok (.lmul, 1) := dk_105 (dk_at dksX5_drum_0 19 rfl rfl)
theorem dX5_drum_20 : decode cX5_drum 20 = .ok (.ldc2_w 173, 3) := dk_20 0 173 (dk_at dksX5_drum_0 20 rfl rfl)
theorem dX5_drum_23 : decode cX5_drum 23 = .ok (.aload_n 0, 1) := dk_42 (dk_at dksX5_drum_0 23 rfl rfl)
theorem dX5_drum_24 : decode cX5_drum 24 = .ok (.getfield 7, 3) := dk_180 0 7 (dk_at dksX5_drum_1 0 rfl rfl)
theorem dX5_drum_27 : decode cX5_drum 27 = .ok (.iconst 1, 1) := dk_4 (dk_at dksX5_drum_1 3 rfl rfl)
theorem dX5_drum_28 : decode cX5_drum 28 = .ok (.iaload, 1) := dk_46 (dk_at dksX5_drum_1 4 rfl rfl)
theorem dX5_drum_29 : decode cX5_drum 29 = .ok (.i2l, 1) := dk_133 (dk_at dksX5_drum_1 5 rfl rfl)
theorem dX5_drum_30 : decode cX5_drum 30 = .ok (.lmul, 1) := dk_105 (dk_at dksX5_drum_1 6 rfl rfl)
theorem dX5_drum_31 : decode cX5_drum 31 = .ok (.lsub, 1) := dk_101 (dk_at dksX5_drum_1 7 rfl rfl)
theorem dX5_drum_32 : decode cX5_drum 32 = .ok (.lstore 4, 2) := dk_55 4 (dk_at dksX5_drum_1 8 rfl rfl)
theorem dX5_drum_34 : decode cX5_drum 34 = .ok (.lload_n 1, 1) := dk_31 (dk_at dksX5_drum_1 10 rfl rfl)
theorem dX5_drum_35 : decode cX5_drum 35 = .ok (.lload 4, 2) := dk_22 4 (dk_at dksX5_drum_1 11 rfl rfl)
theorem dX5_drum_37 : decode cX5_drum 37 = .ok (.lload 4, 2) := dk_22 4 (dk_at dksX5_drum_1 13 rfl rfl)
theorem dX5_drum_39 : decode cX5_drum 39 = .ok (.lmul, 1) := dk_105 (dk_at dksX5_drum_1 15 rfl rfl)
theorem dX5_drum_40 : decode cX5_drum 40 = .ok (.ladd, 1) := dk_97 (dk_at dksX5_drum_1 16 rfl rfl)
theorem dX5_drum_41 : decode cX5_drum 41 = .ok (.lstore_n 1, 1) := dk_64 (dk_at dksX5_drum_1 17 rfl rfl)
theorem dX5_drum_42 : decode cX5_drum 42 = .ok (.iinc 3 1, 3) := dk_132 3 1 (dk_at dksX5_drum_1 18 rfl rfl)
theorem dX5_drum_45 : decode cX5_drum 45 = .ok (.goto (-41), 3) := dk_167 255 215 (dk_at dksX5_drum_1 21 rfl rfl)
theorem dX5_drum_48 : decode cX5_drum 48 = .ok (.lload_n 1, 1) := dk_31 (dk_at dksX5_drum_2 0 rfl rfl)
theorem dX5_drum_49 : decode cX5_drum 49 = .ok (.lreturn, 1) := dk_173 (dk_at dksX5_drum_2 1 rfl rfl)
abbrev cX5_felt : ByteArray := prog_24_method_69_code
def yX5_felt : MethodName := ⟨RX5, "felt", "(I)I"⟩
def dkwX5_felt_6 : List UInt8 := [180, 0, 7, 4, 46, 28, 100, 108, 100, 172]
abbrev dktX5_felt_6 : List UInt8 := dkwX5_felt_6 ++ []
def dkwX5_felt_5 : List UInt8 := [153, 0, 7, 3, 167, 0, 5, 21, 6, 96, 54, 4, 132, 5, 1, 167, 255, 179, 29, 28, 108, 21, 4, 42]
abbrev dktX5_felt_5 : List UInt8 := dkwX5_felt_5 ++ dktX5_felt_6
def dkwX5_felt_4 : List UInt8 := [153, 0, 8, 21, 6, 167, 0, 4, 3, 96, 62, 21, 4, 42, 21, 5, 182, 0, 248, 27, 184, 0, 83]
abbrev dktX5_felt_4 : List UInt8 := dkwX5_felt_4 ++ dktX5_felt_5
def dkwX5_felt_3 : List UInt8 := [16, 8, 21, 5, 104, 96, 6, 96, 46, 54, 6, 29, 42, 21, 5, 182, 0, 248, 27, 184, 0, 83]
abbrev dktX5_felt_3 : List UInt8 := dkwX5_felt_3 ++ dktX5_felt_4
def dkwX5_felt_2 : List UInt8 := [3, 54, 4, 3, 54, 5, 21, 5, 42, 180, 0, 7, 4, 46, 162, 0, 72, 42, 180, 0, 7, 16, 104]
abbrev dktX5_felt_2 : List UInt8 := dkwX5_felt_2 ++ dktX5_felt_3
def dkwX5_felt_1 : List UInt8 := [61, 28, 153, 0, 13, 28, 42, 180, 0, 7, 4, 46, 160, 0, 10, 42, 18, 239, 182, 0, 88, 172, 3, 62]
abbrev dktX5_felt_1 : List UInt8 := dkwX5_felt_1 ++ dktX5_felt_2
def dkwX5_felt_0 : List UInt8 := [27, 133, 9, 20, 0, 251, 184, 0, 98, 154, 0, 10, 42, 18, 87, 182, 0, 88, 172, 42, 27, 182, 0, 253]
abbrev dktX5_felt_0 : List UInt8 := dkwX5_felt_0 ++ dktX5_felt_1
theorem dksX5_felt_0 : cX5_felt.data.toList.drop 0 = dktX5_felt_0 := by decide +kernel
theorem dksX5_felt_1 : cX5_felt.data.toList.drop 24 = dktX5_felt_1 := dk_seg dksX5_felt_0 24 rfl rfl
theorem dksX5_felt_2 : cX5_felt.data.toList.drop 48 = dktX5_felt_2 := dk_seg dksX5_felt_1 24 rfl rfl
theorem dksX5_felt_3 : cX5_felt.data.toList.drop 71 = dktX5_felt_3 := dk_seg dksX5_felt_2 23 rfl rfl
theorem dksX5_felt_4 : cX5_felt.data.toList.drop 93 = dktX5_felt_4 := dk_seg dksX5_felt_3 22 rfl rfl
theorem dksX5_felt_5 : cX5_felt.data.toList.drop 116 = dktX5_felt_5 := dk_seg dksX5_felt_4 23 rfl rfl
theorem dksX5_felt_6 : cX5_felt.data.toList.drop 140 = dktX5_felt_6 := dk_seg dksX5_felt_5 24 rfl rfl
theorem dX5_felt_0 : decode cX5_felt 0 = .ok (.iload_n 1, 1) := dk_27 (dk_at dksX5_felt_0 0 rfl rfl)
theorem dX5_felt_1 : decode cX5_felt 1 = .ok (.i2l, 1) := dk_133 (dk_at dksX5_felt_0 1 rfl rfl)
theorem dX5_felt_2 : decode cX5_felt 2 = .ok (.lconst 0, 1) := dk_9 (dk_at dksX5_felt_0 2 rfl rfl)
theorem dX5_felt_3 : decode cX5_felt 3 = .ok (.ldc2_w 251, 3) := dk_20 0 251 (dk_at dksX5_felt_0 3 rfl rfl)
theorem dX5_felt_6 : decode cX5_felt 6 = .ok (.invokestatic 98, 3) := dk_184 0 98 (dk_at dksX5_felt_0 6 rfl rfl)
theorem dX5_felt_9 : decode cX5_felt 9 = .ok (.ifCond .ne 10, 3) := dk_154 0 10 (dk_at dksX5_felt_0 9 rfl rfl)
theorem dX5_felt_12 : decode cX5_felt 12 = .ok (.aload_n 0, 1) := dk_42 (dk_at dksX5_felt_0 12 rfl rfl)
theorem dX5_felt_13 : decode cX5_felt 13 = .ok (.ldc 87, 2) := dk_18 87 (dk_at dksX5_felt_0 13 rfl rfl)
theorem dX5_felt_15 : decode cX5_felt 15 = .ok (.invokevirtual 88, 3) := dk_182 0 88 (dk_at dksX5_felt_0 15 rfl rfl)
theorem dX5_felt_18 : decode cX5_felt 18 = .ok (.ireturn, 1) := dk_172 (dk_at dksX5_felt_0 18 rfl rfl)
theorem dX5_felt_19 : decode cX5_felt 19 = .ok (.aload_n 0, 1) := dk_42 (dk_at dksX5_felt_0 19 rfl rfl)
theorem dX5_felt_20 : decode cX5_felt 20 = .ok (.iload_n 1, 1) := dk_27 (dk_at dksX5_felt_0 20 rfl rfl)
theorem dX5_felt_21 : decode cX5_felt 21 = .ok (.invokevirtual 253, 3) := dk_182 0 253 (dk_at dksX5_felt_0 21 rfl rfl)
theorem dX5_felt_24 : decode cX5_felt 24 = .ok (.istore_n 2, 1) := dk_61 (dk_at dksX5_felt_1 0 rfl rfl)
theorem dX5_felt_25 : decode cX5_felt 25 = .ok (.iload_n 2, 1) := dk_28 (dk_at dksX5_felt_1 1 rfl rfl)
theorem dX5_felt_26 : decode cX5_felt 26 = .ok (.ifCond .eq 13, 3) := dk_153 0 13 (dk_at dksX5_felt_1 2 rfl rfl)
theorem dX5_felt_29 : decode cX5_felt 29 = .ok (.iload_n 2, 1) := dk_28 (dk_at dksX5_felt_1 5 rfl rfl)
theorem dX5_felt_30 : decode cX5_felt 30 = .ok (.aload_n 0, 1) := dk_42 (dk_at dksX5_felt_1 6 rfl rfl)
theorem dX5_felt_31 : decode cX5_felt 31 = .ok (.getfield 7, 3) := dk_180 0 7 (dk_at dksX5_felt_1 7 rfl rfl)
theorem dX5_felt_34 : decode cX5_felt 34 = .ok (.iconst 1, 1) := dk_4 (dk_at dksX5_felt_1 10 rfl rfl)
theorem dX5_felt_35 : decode cX5_felt 35 = .ok (.iaload, 1) := dk_46 (dk_at dksX5_felt_1 11 rfl rfl)
theorem dX5_felt_36 : decode cX5_felt 36 = .ok (.if_icmp .ne 10, 3) := dk_160 0 10 (dk_at dksX5_felt_1 12 rfl rfl)
theorem dX5_felt_39 : decode cX5_felt 39 = .ok (.aload_n 0, 1) := dk_42 (dk_at dksX5_felt_1 15 rfl rfl)
theorem dX5_felt_40 : decode cX5_felt 40 = .ok (.ldc 239, 2) := dk_18 239 (dk_at dksX5_felt_1 16 rfl rfl)
theorem dX5_felt_42 : decode cX5_felt 42 = .ok (.invokevirtual 88, 3) := dk_182 0 88 (dk_at dksX5_felt_1 18 rfl rfl)
theorem dX5_felt_45 : decode cX5_felt 45 = .ok (.ireturn, 1) := dk_172 (dk_at dksX5_felt_1 21 rfl rfl)
theorem dX5_felt_46 : decode cX5_felt 46 = .ok (.iconst 0, 1) := dk_3 (dk_at dksX5_felt_1 22 rfl rfl)
theorem dX5_felt_47 : decode cX5_felt 47 = .ok (.istore_n 3, 1) := dk_62 (dk_at dksX5_felt_1 23 rfl rfl)
theorem dX5_felt_48 : decode cX5_felt 48 = .ok (.iconst 0, 1) := dk_3 (dk_at dksX5_felt_2 0 rfl rfl)
theorem dX5_felt_49 : decode cX5_felt 49 = .ok (.istore 4, 2) := dk_54 4 (dk_at dksX5_felt_2 1 rfl rfl)
theorem dX5_felt_51 : decode cX5_felt 51 = .ok (.iconst 0, 1) := dk_3 (dk_at dksX5_felt_2 3 rfl rfl)
theorem dX5_felt_52 : decode cX5_felt 52 = .ok (.istore 5, 2) := dk_54 5 (dk_at dksX5_felt_2 4 rfl rfl)
theorem dX5_felt_54 : decode cX5_felt 54 = .ok (.iload 5, 2) := dk_21 5 (dk_at dksX5_felt_2 6 rfl rfl)
theorem dX5_felt_56 : decode cX5_felt 56 = .ok (.aload_n 0, 1) := dk_42 (dk_at dksX5_felt_2 8 rfl rfl)
theorem dX5_felt_57 : decode cX5_felt 57 = .ok (.getfield 7, 3) := dk_180 0 7 (dk_at dksX5_felt_2 9 rfl rfl)
theorem dX5_felt_60 : decode cX5_felt 60 = .ok (.iconst 1, 1) := dk_4 (dk_at dksX5_felt_2 12 rfl rfl)
theorem dX5_felt_61 : decode cX5_felt 61 = .ok (.iaload, 1) := dk_46 (dk_at dksX5_felt_2 13 rfl rfl)
theorem dX5_felt_62 : decode cX5_felt 62 = .ok (.if_icmp .ge 72, 3) := dk_162 0 72 (dk_at dksX5_felt_2 14 rfl rfl)
theorem dX5_felt_65 : decode cX5_felt 65 = .ok (.aload_n 0, 1) := dk_42 (dk_at dksX5_felt_2 17 rfl rfl)
theorem dX5_felt_66 : decode cX5_felt 66 = .ok (.getfield 7, 3) := dk_180 0 7 (dk_at dksX5_felt_2 18 rfl rfl)
theorem dX5_felt_69 : decode cX5_felt 69 = .ok (.bipush 104, 2) := dk_16 104 (dk_at dksX5_felt_2 21 rfl rfl)
theorem dX5_felt_71 : decode cX5_felt 71 = .ok (.bipush 8, 2) := dk_16 8 (dk_at dksX5_felt_3 0 rfl rfl)
theorem dX5_felt_73 : decode cX5_felt 73 = .ok (.iload 5, 2) := dk_21 5 (dk_at dksX5_felt_3 2 rfl rfl)
theorem dX5_felt_75 : decode cX5_felt 75 = .ok (.imul, 1) := dk_104 (dk_at dksX5_felt_3 4 rfl rfl)
theorem dX5_felt_76 : decode cX5_felt 76 = .ok (.iadd, 1) := dk_96 (dk_at dksX5_felt_3 5 rfl rfl)
theorem dX5_felt_77 : decode cX5_felt 77 = .ok (.iconst 3, 1) := dk_6 (dk_at dksX5_felt_3 6 rfl rfl)
theorem dX5_felt_78 : decode cX5_felt 78 = .ok (.iadd, 1) := dk_96 (dk_at dksX5_felt_3 7 rfl rfl)
theorem dX5_felt_79 : decode cX5_felt 79 = .ok (.iaload, 1) := dk_46 (dk_at dksX5_felt_3 8 rfl rfl)
theorem dX5_felt_80 : decode cX5_felt 80 = .ok (.istore 6, 2) := dk_54 6 (dk_at dksX5_felt_3 9 rfl rfl)
theorem dX5_felt_82 : decode cX5_felt 82 = .ok (.iload_n 3, 1) := dk_29 (dk_at dksX5_felt_3 11 rfl rfl)
theorem dX5_felt_83 : decode cX5_felt 83 = .ok (.aload_n 0, 1) := dk_42 (dk_at dksX5_felt_3 12 rfl rfl)
theorem dX5_felt_84 : decode cX5_felt 84 = .ok (.iload 5, 2) := dk_21 5 (dk_at dksX5_felt_3 13 rfl rfl)
theorem dX5_felt_86 : decode cX5_felt 86 = .ok (.invokevirtual 248, 3) := dk_182 0 248 (dk_at dksX5_felt_3 15 rfl rfl)
theorem dX5_felt_89 : decode cX5_felt 89 = .ok (.iload_n 1, 1) := dk_27 (dk_at dksX5_felt_3 18 rfl rfl)
theorem dX5_felt_90 : decode cX5_felt 90 = .ok (.invokestatic 83, 3) := dk_184 0 83 (dk_at dksX5_felt_3 19 rfl rfl)
theorem dX5_felt_93 : decode cX5_felt 93 = .ok (.ifCond .eq 8, 3) := dk_153 0 8 (dk_at dksX5_felt_4 0 rfl rfl)
theorem dX5_felt_96 : decode cX5_felt 96 = .ok (.iload 6, 2) := dk_21 6 (dk_at dksX5_felt_4 3 rfl rfl)
theorem dX5_felt_98 : decode cX5_felt 98 = .ok (.goto 4, 3) := dk_167 0 4 (dk_at dksX5_felt_4 5 rfl rfl)
theorem dX5_felt_101 : decode cX5_felt 101 = .ok (.iconst 0, 1) := dk_3 (dk_at dksX5_felt_4 8 rfl rfl)
theorem dX5_felt_102 : decode cX5_felt 102 = .ok (.iadd, 1) := dk_96 (dk_at dksX5_felt_4 9 rfl rfl)
theorem dX5_felt_103 : decode cX5_felt 103 = .ok (.istore_n 3, 1) := dk_62 (dk_at dksX5_felt_4 10 rfl rfl)
theorem dX5_felt_104 : decode cX5_felt 104 = .ok (.iload 4, 2) := dk_21 4 (dk_at dksX5_felt_4 11 rfl rfl)
theorem dX5_felt_106 : decode cX5_felt 106 = .ok (.aload_n 0, 1) := dk_42 (dk_at dksX5_felt_4 13 rfl rfl)
theorem dX5_felt_107 : decode cX5_felt 107 = .ok (.iload 5, 2) := dk_21 5 (dk_at dksX5_felt_4 14 rfl rfl)
theorem dX5_felt_109 : decode cX5_felt 109 = .ok (.invokevirtual 248, 3) := dk_182 0 248 (dk_at dksX5_felt_4 16 rfl rfl)
theorem dX5_felt_112 : decode cX5_felt 112 = .ok (.iload_n 1, 1) := dk_27 (dk_at dksX5_felt_4 19 rfl rfl)
theorem dX5_felt_113 : decode cX5_felt 113 = .ok (.invokestatic 83, 3) := dk_184 0 83 (dk_at dksX5_felt_4 20 rfl rfl)
theorem dX5_felt_116 : decode cX5_felt 116 = .ok (.ifCond .eq 7, 3) := dk_153 0 7 (dk_at dksX5_felt_5 0 rfl rfl)
theorem dX5_felt_119 : decode cX5_felt 119 = .ok (.iconst 0, 1) := dk_3 (dk_at dksX5_felt_5 3 rfl rfl)
theorem dX5_felt_120 : decode cX5_felt 120 = .ok (.goto 5, 3) := dk_167 0 5 (dk_at dksX5_felt_5 4 rfl rfl)
theorem dX5_felt_123 : decode cX5_felt 123 = .ok (.iload 6, 2) := dk_21 6 (dk_at dksX5_felt_5 7 rfl rfl)
theorem dX5_felt_125 : decode cX5_felt 125 = .ok (.iadd, 1) := dk_96 (dk_at dksX5_felt_5 9 rfl rfl)
theorem dX5_felt_126 : decode cX5_felt 126 = .ok (.istore 4, 2) := dk_54 4 (dk_at dksX5_felt_5 10 rfl rfl)
theorem dX5_felt_128 : decode cX5_felt 128 = .ok (.iinc 5 1, 3) := dk_132 5 1 (dk_at dksX5_felt_5 12 rfl rfl)
theorem dX5_felt_131 : decode cX5_felt 131 = .ok (.goto (-77), 3) := dk_167 255 179 (dk_at dksX5_felt_5 15 rfl rfl)
theorem dX5_felt_134 : decode cX5_felt 134 = .ok (.iload_n 3, 1) := dk_29 (dk_at dksX5_felt_5 18 rfl rfl)
theorem dX5_felt_135 : decode cX5_felt 135 = .ok (.iload_n 2, 1) := dk_28 (dk_at dksX5_felt_5 19 rfl rfl)
theorem dX5_felt_136 : decode cX5_felt 136 = .ok (.idiv, 1) := dk_108 (dk_at dksX5_felt_5 20 rfl rfl)
theorem dX5_felt_137 : decode cX5_felt 137 = .ok (.iload 4, 2) := dk_21 4 (dk_at dksX5_felt_5 21 rfl rfl)
theorem dX5_felt_139 : decode cX5_felt 139 = .ok (.aload_n 0, 1) := dk_42 (dk_at dksX5_felt_5 23 rfl rfl)
theorem dX5_felt_140 : decode cX5_felt 140 = .ok (.getfield 7, 3) := dk_180 0 7 (dk_at dksX5_felt_6 0 rfl rfl)
theorem dX5_felt_143 : decode cX5_felt 143 = .ok (.iconst 1, 1) := dk_4 (dk_at dksX5_felt_6 3 rfl rfl)
theorem dX5_felt_144 : decode cX5_felt 144 = .ok (.iaload, 1) := dk_46 (dk_at dksX5_felt_6 4 rfl rfl)
theorem dX5_felt_145 : decode cX5_felt 145 = .ok (.iload_n 2, 1) := dk_28 (dk_at dksX5_felt_6 5 rfl rfl)
theorem dX5_felt_146 : decode cX5_felt 146 = .ok (.isub, 1) := dk_100 (dk_at dksX5_felt_6 6 rfl rfl)
theorem dX5_felt_147 : decode cX5_felt 147 = .ok (.idiv, 1) := dk_108 (dk_at dksX5_felt_6 7 rfl rfl)
theorem dX5_felt_148 : decode cX5_felt 148 = .ok (.isub, 1) := dk_100 (dk_at dksX5_felt_6 8 rfl rfl)
theorem dX5_felt_149 : decode cX5_felt 149 = .ok (.ireturn, 1) := dk_172 (dk_at dksX5_felt_6 9 rfl rfl)
abbrev cX5_sheet : ByteArray := prog_24_method_72_code
def yX5_sheet : MethodName := ⟨RX5, "sheet", "(III)I"⟩
def dkwX5_sheet_5 : List UInt8 := [167, 255, 233, 42, 180, 0, 37, 27, 46, 172]
abbrev dktX5_sheet_5 : List UInt8 := dkwX5_sheet_5 ++ []
def dkwX5_sheet_4 : List UInt8 := [21, 4, 16, 40, 162, 0, 22, 42, 180, 0, 40, 16, 40, 27, 104, 21, 4, 96, 9, 80, 132, 4, 1]
abbrev dktX5_sheet_4 : List UInt8 := dkwX5_sheet_4 ++ dktX5_sheet_5
def dkwX5_sheet_3 : List UInt8 := [167, 0, 4, 28, 79, 42, 180, 0, 37, 27, 28, 154, 0, 7, 3, 167, 0, 4, 29, 79, 3, 54, 4]
abbrev dktX5_sheet_3 : List UInt8 := dkwX5_sheet_3 ++ dktX5_sheet_4
def dkwX5_sheet_2 : List UInt8 := [29, 16, 40, 164, 0, 10, 42, 18, 87, 182, 0, 88, 172, 42, 180, 0, 34, 27, 28, 154, 0, 7, 2]
abbrev dktX5_sheet_2 : List UInt8 := dkwX5_sheet_2 ++ dktX5_sheet_3
def dkwX5_sheet_1 : List UInt8 := [16, 64, 159, 0, 10, 42, 18, 87, 182, 0, 88, 172, 29, 156, 0, 11, 42, 19, 1, 5, 182, 0, 88, 172]
abbrev dktX5_sheet_1 : List UInt8 := dkwX5_sheet_1 ++ dktX5_sheet_2
def dkwX5_sheet_0 : List UInt8 := [27, 184, 1, 2, 153, 0, 25, 28, 153, 0, 28, 28, 16, 8, 159, 0, 22, 28, 16, 16, 159, 0, 16, 28]
abbrev dktX5_sheet_0 : List UInt8 := dkwX5_sheet_0 ++ dktX5_sheet_1
theorem dksX5_sheet_0 : cX5_sheet.data.toList.drop 0 = dktX5_sheet_0 := by decide +kernel
theorem dksX5_sheet_1 : cX5_sheet.data.toList.drop 24 = dktX5_sheet_1 := dk_seg dksX5_sheet_0 24 rfl rfl
theorem dksX5_sheet_2 : cX5_sheet.data.toList.drop 48 = dktX5_sheet_2 := dk_seg dksX5_sheet_1 24 rfl rfl
theorem dksX5_sheet_3 : cX5_sheet.data.toList.drop 71 = dktX5_sheet_3 := dk_seg dksX5_sheet_2 23 rfl rfl
theorem dksX5_sheet_4 : cX5_sheet.data.toList.drop 94 = dktX5_sheet_4 := dk_seg dksX5_sheet_3 23 rfl rfl
theorem dksX5_sheet_5 : cX5_sheet.data.toList.drop 117 = dktX5_sheet_5 := dk_seg dksX5_sheet_4 23 rfl rfl
theorem dX5_sheet_0 : decode cX5_sheet 0 = .ok (.iload_n 1, 1) := dk_27 (dk_at dksX5_sheet_0 0 rfl rfl)
theorem dX5_sheet_1 : decode cX5_sheet 1 = .ok (.invokestatic 258, 3) := dk_184 1 2 (dk_at dksX5_sheet_0 1 rfl rfl)
theorem dX5_sheet_4 : decode cX5_sheet 4 = .ok (.ifCond .eq 25, 3) := dk_153 0 25 (dk_at dksX5_sheet_0 4 rfl rfl)
theorem dX5_sheet_7 : decode cX5_sheet 7 = .ok (.iload_n 2, 1) := dk_28 (dk_at dksX5_sheet_0 7 rfl rfl)
theorem dX5_sheet_8 : decode cX5_sheet 8 = .ok (.ifCond .eq 28, 3) := dk_153 0 28 (dk_at dksX5_sheet_0 8 rfl rfl)
theorem dX5_sheet_11 : decode cX5_sheet 11 = .ok (.iload_n 2, 1) := dk_28 (dk_at dksX5_sheet_0 11 rfl rfl)
theorem dX5_sheet_12 : decode cX5_sheet 12 = .ok (.bipush 8, 2) := dk_16 8 (dk_at dksX5_sheet_0 12 rfl rfl)
theorem dX5_sheet_14 : decode cX5_sheet 14 = .ok (.if_icmp .eq 22, 3) := dk_159 0 22 (dk_at dksX5_sheet_0 14 rfl rfl)
theorem dX5_sheet_17 : decode cX5_sheet 17 = .ok (.iload_n 2, 1) := dk_28 (dk_at dksX5_sheet_0 17 rfl rfl)
theorem dX5_sheet_18 : decode cX5_sheet 18 = .ok (.bipush 16, 2) := dk_16 16 (dk_at dksX5_sheet_0 18 rfl rfl)
theorem dX5_sheet_20 : decode cX5_sheet 20 = .ok (.if_icmp .eq 16, 3) := dk_159 0 16 (dk_at dksX5_sheet_0 20 rfl rfl)
theorem dX5_sheet_23 : decode cX5_sheet 23 = .ok (.iload_n 2, 1) := dk_28 (dk_at dksX5_sheet_0 23 rfl rfl)
theorem dX5_sheet_24 : decode cX5_sheet 24 = .ok (.bipush 64, 2) := dk_16 64 (dk_at dksX5_sheet_1 0 rfl rfl)
theorem dX5_sheet_26 : decode cX5_sheet 26 = .ok (.if_icmp .eq 10, 3) := dk_159 0 10 (dk_at dksX5_sheet_1 2 rfl rfl)
theorem dX5_sheet_29 : decode cX5_sheet 29 = .ok (.aload_n 0, 1) := dk_42 (dk_at dksX5_sheet_1 5 rfl rfl)
theorem dX5_sheet_30 : decode cX5_sheet 30 = .ok (.ldc 87, 2) := dk_18 87 (dk_at dksX5_sheet_1 6 rfl rfl)
theorem dX5_sheet_32 : decode cX5_sheet 32 = .ok (.invokevirtual 88, 3) := dk_182 0 88 (dk_at dksX5_sheet_1 8 rfl rfl)
theorem dX5_sheet_35 : decode cX5_sheet 35 = .ok (.ireturn, 1) := dk_172 (dk_at dksX5_sheet_1 11 rfl rfl)
theorem dX5_sheet_36 : decode cX5_sheet 36 = .ok (.iload_n 3, 1) := dk_29 (dk_at dksX5_sheet_1 12 rfl rfl)
theorem dX5_sheet_37 : decode cX5_sheet 37 = .ok (.ifCond .ge 11, 3) := dk_156 0 11 (dk_at dksX5_sheet_1 13 rfl rfl)
theorem dX5_sheet_40 : decode cX5_sheet 40 = .ok (.aload_n 0, 1) := dk_42 (dk_at dksX5_sheet_1 16 rfl rfl)
theorem dX5_sheet_41 : decode cX5_sheet 41 = .ok (.ldc_w 261, 3) := dk_19 1 5 (dk_at dksX5_sheet_1 17 rfl rfl)
theorem dX5_sheet_44 : decode cX5_sheet 44 = .ok (.invokevirtual 88, 3) := dk_182 0 88 (dk_at dksX5_sheet_1 20 rfl rfl)
theorem dX5_sheet_47 : decode cX5_sheet 47 = .ok (.ireturn, 1) := dk_172 (dk_at dksX5_sheet_1 23 rfl rfl)
theorem dX5_sheet_48 : decode cX5_sheet 48 = .ok (.iload_n 3, 1) := dk_29 (dk_at dksX5_sheet_2 0 rfl rfl)
theorem dX5_sheet_49 : decode cX5_sheet 49 = .ok (.bipush 40, 2) := dk_16 40 (dk_at dksX5_sheet_2 1 rfl rfl)
theorem dX5_sheet_51 : decode cX5_sheet 51 = .ok (.if_icmp .le 10, 3) := dk_164 0 10 (dk_at dksX5_sheet_2 3 rfl rfl)
theorem dX5_sheet_54 : decode cX5_sheet 54 = .ok (.aload_n 0, 1) := dk_42 (dk_at dksX5_sheet_2 6 rfl rfl)
theorem dX5_sheet_55 : decode cX5_sheet 55 = .ok (.ldc 87, 2) := dk_18 87 (dk_at dksX5_sheet_2 7 rfl rfl)
theorem dX5_sheet_57 : decode cX5_sheet 57 = .ok (.invokevirtual 88, 3) := dk_182 0 88 (dk_at dksX5_sheet_2 9 rfl rfl)
theorem dX5_sheet_60 : decode cX5_sheet 60 = .ok (.ireturn, 1) := dk_172 (dk_at dksX5_sheet_2 12 rfl rfl)
theorem dX5_sheet_61 : decode cX5_sheet 61 = .ok (.aload_n 0, 1) := dk_42 (dk_at dksX5_sheet_2 13 rfl rfl)
theorem dX5_sheet_62 : decode cX5_sheet 62 = .ok (.getfield 34, 3) := dk_180 0 34 (dk_at dksX5_sheet_2 14 rfl rfl)
theorem dX5_sheet_65 : decode cX5_sheet 65 = .ok (.iload_n 1, 1) := dk_27 (dk_at dksX5_sheet_2 17 rfl rfl)
theorem dX5_sheet_66 : decode cX5_sheet 66 = .ok (.iload_n 2, 1) := dk_28 (dk_at dksX5_sheet_2 18 rfl rfl)
theorem dX5_sheet_67 : decode cX5_sheet 67 = .ok (.ifCond .ne 7, 3) := dk_154 0 7 (dk_at dksX5_sheet_2 19 rfl rfl)
theorem dX5_sheet_70 : decode cX5_sheet 70 = .ok (.iconst (-1), 1) := dk_2 (dk_at dksX5_sheet_2 22 rfl rfl)
theorem dX5_sheet_71 : decode cX5_sheet 71 = .ok (.goto 4, 3) := dk_167 0 4 (dk_at dksX5_sheet_3 0 rfl rfl)
theorem dX5_sheet_74 : decode cX5_sheet 74 = .ok (.iload_n 2, 1) := dk_28 (dk_at dksX5_sheet_3 3 rfl rfl)
theorem dX5_sheet_75 : decode cX5_sheet 75 = .ok (.iastore, 1) := dk_79 (dk_at dksX5_sheet_3 4 rfl rfl)
theorem dX5_sheet_76 : decode cX5_sheet 76 = .ok (.aload_n 0, 1) := dk_42 (dk_at dksX5_sheet_3 5 rfl rfl)
theorem dX5_sheet_77 : decode cX5_sheet 77 = .ok (.getfield 37, 3) := dk_180 0 37 (dk_at dksX5_sheet_3 6 rfl rfl)
theorem dX5_sheet_80 : decode cX5_sheet 80 = .ok (.iload_n 1, 1) := dk_27 (dk_at dksX5_sheet_3 9 rfl rfl)
theorem dX5_sheet_81 : decode cX5_sheet 81 = .ok (.iload_n 2, 1) := dk_28 (dk_at dksX5_sheet_3 10 rfl rfl)
theorem dX5_sheet_82 : decode cX5_sheet 82 = .ok (.ifCond .ne 7, 3) := dk_154 0 7 (dk_at dksX5_sheet_3 11 rfl rfl)
theorem dX5_sheet_85 : decode cX5_sheet 85 = .ok (.iconst 0, 1) := dk_3 (dk_at dksX5_sheet_3 14 rfl rfl)
theorem dX5_sheet_86 : decode cX5_sheet 86 = .ok (.goto 4, 3) := dk_167 0 4 (dk_at dksX5_sheet_3 15 rfl rfl)
theorem dX5_sheet_89 : decode cX5_sheet 89 = .ok (.iload_n 3, 1) := dk_29 (dk_at dksX5_sheet_3 18 rfl rfl)
theorem dX5_sheet_90 : decode cX5_sheet 90 = .ok (.iastore, 1) := dk_79 (dk_at dksX5_sheet_3 19 rfl rfl)
theorem dX5_sheet_91 : decode cX5_sheet 91 = .ok (.iconst 0, 1) := dk_3 (dk_at dksX5_sheet_3 20 rfl rfl)
theorem dX5_sheet_92 : decode cX5_sheet 92 = .ok (.istore 4, 2) := dk_54 4 (dk_at dksX5_sheet_3 21 rfl rfl)
theorem dX5_sheet_94 : decode cX5_sheet 94 = .ok (.iload 4, 2) := dk_21 4 (dk_at dksX5_sheet_4 0 rfl rfl)
theorem dX5_sheet_96 : decode cX5_sheet 96 = .ok (.bipush 40, 2) := dk_16 40 (dk_at dksX5_sheet_4 2 rfl rfl)
theorem dX5_sheet_98 : decode cX5_sheet 98 = .ok (.if_icmp .ge 22, 3) := dk_162 0 22 (dk_at dksX5_sheet_4 4 rfl rfl)
theorem dX5_sheet_101 : decode cX5_sheet 101 = .ok (.aload_n 0, 1) := dk_42 (dk_at dksX5_sheet_4 7 rfl rfl)
theorem dX5_sheet_102 : decode cX5_sheet 102 = .ok (.getfield 40, 3) := dk_180 0 40 (dk_at dksX5_sheet_4 8 rfl rfl)
theorem dX5_sheet_105 : decode cX5_sheet 105 = .ok (.bipush 40, 2) := dk_16 40 (dk_at dksX5_sheet_4 11 rfl rfl)
theorem dX5_sheet_107 : decode cX5_sheet 107 = .ok (.iload_n 1, 1) := dk_27 (dk_at dksX5_sheet_4 13 rfl rfl)
theorem dX5_sheet_108 : decode cX5_sheet 108 = .ok (.imul, 1) := dk_104 (dk_at dksX5_sheet_4 14 rfl rfl)
theorem dX5_sheet_109 : decode cX5_sheet 109 = .ok (.iload 4, 2) := dk_21 4 (dk_at dksX5_sheet_4 15 rfl rfl)
theorem dX5_sheet_111 : decode cX5_sheet 111 = .ok (.iadd, 1) := dk_96 (dk_at dksX5_sheet_4 17 rfl rfl)
theorem dX5_sheet_112 : decode cX5_sheet 112 = .ok (.lconst 0, 1) := dk_9 (dk_at dksX5_sheet_4 18 rfl rfl)
theorem dX5_sheet_113 : decode cX5_sheet 113 = .ok (.lastore, 1) := dk_80 (dk_at dksX5_sheet_4 19 rfl rfl)
theorem dX5_sheet_114 : decode cX5_sheet 114 = .ok (.iinc 4 1, 3) := dk_132 4 1 (dk_at dksX5_sheet_4 20 rfl rfl)
theorem dX5_sheet_117 : decode cX5_sheet 117 = .ok (.goto (-23), 3) := dk_167 255 233 (dk_at dksX5_sheet_5 0 rfl rfl)
theorem dX5_sheet_120 : decode cX5_sheet 120 = .ok (.aload_n 0, 1) := dk_42 (dk_at dksX5_sheet_5 3 rfl rfl)
theorem dX5_sheet_121 : decode cX5_sheet 121 = .ok (.getfield 37, 3) := dk_180 0 37 (dk_at dksX5_sheet_5 4 rfl rfl)
theorem dX5_sheet_124 : decode cX5_sheet 124 = .ok (.iload_n 1, 1) := dk_27 (dk_at dksX5_sheet_5 7 rfl rfl)
theorem dX5_sheet_125 : decode cX5_sheet 125 = .ok (.iaload, 1) := dk_46 (dk_at dksX5_sheet_5 8 rfl rfl)
theorem dX5_sheet_126 : decode cX5_sheet 126 = .ok (.ireturn, 1) := dk_172 (dk_at dksX5_sheet_5 9 rfl rfl)
abbrev cX5_isSheet : ByteArray := prog_24_method_70_code
def yX5_isSheet : MethodName := ⟨RX5, "isSheet", "(I)Z"⟩
def dkwX5_isSheet_0 : List UInt8 := [26, 155, 0, 12, 26, 7, 162, 0, 7, 4, 167, 0, 4, 3, 172]
abbrev dktX5_isSheet_0 : List UInt8 := dkwX5_isSheet_0 ++ []
theorem dksX5_isSheet_0 : cX5_isSheet.data.toList.drop 0 = dktX5_isSheet_0 := by decide +kernel
theorem dX5_isSheet_0 : decode cX5_isSheet 0 = .ok (.iload_n 0, 1) := dk_26 (dk_at dksX5_isSheet_0 0 rfl rfl)
theorem dX5_isSheet_1 : decode cX5_isSheet 1 = .ok (.ifCond .lt 12, 3) := dk_155 0 12 (dk_at dksX5_isSheet_0 1 rfl rfl)
theorem dX5_isSheet_4 : decode cX5_isSheet 4 = .ok (.iload_n 0, 1) := dk_26 (dk_at dksX5_isSheet_0 4 rfl rfl)
theorem dX5_isSheet_5 : decode cX5_isSheet 5 = .ok (.iconst 4, 1) := dk_7 (dk_at dksX5_isSheet_0 5 rfl rfl)
theorem dX5_isSheet_6 : decode cX5_isSheet 6 = .ok (.if_icmp .ge 7, 3) := dk_162 0 7 (dk_at dksX5_isSheet_0 6 rfl rfl)
theorem dX5_isSheet_9 : decode cX5_isSheet 9 = .ok (.iconst 1, 1) := dk_4 (dk_at dksX5_isSheet_0 9 rfl rfl)
theorem dX5_isSheet_10 : decode cX5_isSheet 10 = .ok (.goto 4, 3) := dk_167 0 4 (dk_at dksX5_isSheet_0 10 rfl rfl)
theorem dX5_isSheet_13 : decode cX5_isSheet 13 = .ok (.iconst 0, 1) := dk_3 (dk_at dksX5_isSheet_0 13 rfl rfl)
theorem dX5_isSheet_14 : decode cX5_isSheet 14 = .ok (.ireturn, 1) := dk_172 (dk_at dksX5_isSheet_0 14 rfl rfl)
abbrev cX5_write : ByteArray := prog_24_method_73_code
def yX5_write : MethodName := ⟨RX5, "write", "(IIJ)J"⟩
def dkwX5_write_3 : List UInt8 := [42, 180, 0, 40, 16, 40, 27, 104, 28, 96, 42, 180, 0, 34, 27, 46, 33, 184, 1, 7, 80, 22, 5, 173]
abbrev dktX5_write_3 : List UInt8 := dkwX5_write_3 ++ []
def dkwX5_write_2 : List UInt8 := [154, 0, 11, 42, 18, 87, 182, 0, 88, 133, 173, 42, 180, 0, 40, 16, 40, 27, 104, 28, 96, 47, 55, 5]
abbrev dktX5_write_2 : List UInt8 := dkwX5_write_2 ++ dktX5_write_3
def dkwX5_write_1 : List UInt8 := [42, 19, 1, 6, 182, 0, 88, 133, 173, 28, 133, 9, 42, 180, 0, 37, 27, 46, 4, 100, 133, 184, 0, 98]
abbrev dktX5_write_1 : List UInt8 := dkwX5_write_1 ++ dktX5_write_2
def dkwX5_write_0 : List UInt8 := [27, 184, 1, 2, 154, 0, 11, 42, 18, 87, 182, 0, 88, 133, 173, 42, 180, 0, 34, 27, 46, 156, 0, 12]
abbrev dktX5_write_0 : List UInt8 := dkwX5_write_0 ++ dktX5_write_1
theorem dksX5_write_0 : cX5_write.data.toList.drop 0 = dktX5_write_0 := by decide +kernel
theorem dksX5_write_1 : cX5_write.data.toList.drop 24 = dktX5_write_1 := dk_seg dksX5_write_0 24 rfl rfl
theorem dksX5_write_2 : cX5_write.data.toList.drop 48 = dktX5_write_2 := dk_seg dksX5_write_1 24 rfl rfl
theorem dksX5_write_3 : cX5_write.data.toList.drop 72 = dktX5_write_3 := dk_seg dksX5_write_2 24 rfl rfl
theorem dX5_write_0 : decode cX5_write 0 = .ok (.iload_n 1, 1) := dk_27 (dk_at dksX5_write_0 0 rfl rfl)
theorem dX5_write_1 : decode cX5_write 1 = .ok (.invokestatic 258, 3) := dk_184 1 2 (dk_at dksX5_write_0 1 rfl rfl)
theorem dX5_write_4 : decode cX5_write 4 = .ok (.ifCond .ne 11, 3) := dk_154 0 11 (dk_at dksX5_write_0 4 rfl rfl)
theorem dX5_write_7 : decode cX5_write 7 = .ok (.aload_n 0, 1) := dk_42 (dk_at dksX5_write_0 7 rfl rfl)
theorem dX5_write_8 : decode cX5_write 8 = .ok (.ldc 87, 2) := dk_18 87 (dk_at dksX5_write_0 8 rfl rfl)
theorem dX5_write_10 : decode cX5_write 10 = .ok (.invokevirtual 88, 3) := dk_182 0 88 (dk_at dksX5_write_0 10 rfl rfl)
theorem dX5_write_13 : decode cX5_write 13 = .ok (.i2l, 1) := dk_133 (dk_at dksX5_write_0 13 rfl rfl)
theorem dX5_write_14 : decode cX5_write 14 = .ok (.lreturn, 1) := dk_173 (dk_at dksX5_write_0 14 rfl rfl)
theorem dX5_write_15 : decode cX5_write 15 = .ok (.aload_n 0, 1) := dk_42 (dk_at dksX5_write_0 15 rfl rfl)
theorem dX5_write_16 : decode cX5_write 16 = .ok (.getfield 34, 3) := dk_180 0 34 (dk_at dksX5_write_0 16 rfl rfl)
theorem dX5_write_19 : decode cX5_write 19 = .ok (.iload_n 1, 1) := dk_27 (dk_at dksX5_write_0 19 rfl rfl)
theorem dX5_write_20 : decode cX5_write 20 = .ok (.iaload, 1) := dk_46 (dk_at dksX5_write_0 20 rfl rfl)
theorem dX5_write_21 : decode cX5_write 21 = .ok (.ifCond .ge 12, 3) := dk_156 0 12 (dk_at dksX5_write_0 21 rfl rfl)
theorem dX5_write_24 : decode cX5_write 24 = .ok (.aload_n 0, 1) := dk_42 (dk_at dksX5_write_1 0 rfl rfl)
theorem dX5_write_25 : decode cX5_write 25 = .ok (.ldc_w 262, 3) := dk_19 1 6 (dk_at dksX5_write_1 1 rfl rfl)
theorem dX5_write_28 : decode cX5_write 28 = .ok (.invokevirtual 88, 3) := dk_182 0 88 (dk_at dksX5_write_1 4 rfl rfl)
theorem dX5_write_31 : decode cX5_write 31 = .ok (.i2l, 1) := dk_133 (dk_at dksX5_write_1 7 rfl rfl)
theorem dX5_write_32 : decode cX5_write 32 = .ok (.lreturn, 1) := dk_173 (dk_at dksX5_write_1 8 rfl rfl)
theorem dX5_write_33 : decode cX5_write 33 = .ok (.iload_n 2, 1) := dk_28 (dk_at dksX5_write_1 9 rfl rfl)
theorem dX5_write_34 : decode cX5_write 34 = .ok (.i2l, 1) := dk_133 (dk_at dksX5_write_1 10 rfl rfl)
theorem dX5_write_35 : decode cX5_write 35 = .ok (.lconst 0, 1) := dk_9 (dk_at dksX5_write_1 11 rfl rfl)
theorem dX5_write_36 : decode cX5_write 36 = .ok (.aload_n 0, 1) := dk_42 (dk_at dksX5_write_1 12 rfl rfl)
theorem dX5_write_37 : decode cX5_write 37 = .ok (.getfield 37, 3) := dk_180 0 37 (dk_at dksX5_write_1 13 rfl rfl)
theorem dX5_write_40 : decode cX5_write 40 = .ok (.iload_n 1, 1) := dk_27 (dk_at dksX5_write_1 16 rfl rfl)
theorem dX5_write_41 : decode cX5_write 41 = .ok (.iaload, 1) := dk_46 (dk_at dksX5_write_1 17 rfl rfl)
theorem dX5_write_42 : decode cX5_write 42 = .ok (.iconst 1, 1) := dk_4 (dk_at dksX5_write_1 18 rfl rfl)
theorem dX5_write_43 : decode cX5_write 43 = .ok (.isub, 1) := dk_100 (dk_at dksX5_write_1 19 rfl rfl)
theorem dX5_write_44 : decode cX5_write 44 = .ok (.i2l, 1) := dk_133 (dk_at dksX5_write_1 20 rfl rfl)
theorem dX5_write_45 : decode cX5_write 45 = .ok (.invokestatic 98, 3) := dk_184 0 98 (dk_at dksX5_write_1 21 rfl rfl)
theorem dX5_write_48 : decode cX5_write 48 = .ok (.ifCond .ne 11, 3) := dk_154 0 11 (dk_at dksX5_write_2 0 rfl rfl)
theorem dX5_write_51 : decode cX5_write 51 = .ok (.aload_n 0, 1) := dk_42 (dk_at dksX5_write_2 3 rfl rfl)
theorem dX5_write_52 : decode cX5_write 52 = .ok (.ldc 87, 2) := dk_18 87 (dk_at dksX5_write_2 4 rfl rfl)
theorem dX5_write_54 : decode cX5_write 54 = .ok (.invokevirtual 88, 3) := dk_182 0 88 (dk_at dksX5_write_2 6 rfl rfl)
theorem dX5_write_57 : decode cX5_write 57 = .ok (.i2l, 1) := dk_133 (dk_at dksX5_write_2 9 rfl rfl)
theorem dX5_write_58 : decode cX5_write 58 = .ok (.lreturn, 1) := dk_173 (dk_at dksX5_write_2 10 rfl rfl)
theorem dX5_write_59 : decode cX5_write 59 = .ok (.aload_n 0, 1) := dk_42 (dk_at dksX5_write_2 11 rfl rfl)
theorem dX5_write_60 : decode cX5_write 60 = .ok (.getfield 40, 3) := dk_180 0 40 (dk_at dksX5_write_2 12 rfl rfl)
theorem dX5_write_63 : decode cX5_write 63 = .ok (.bipush 40, 2) := dk_16 40 (dk_at dksX5_write_2 15 rfl rfl)
theorem dX5_write_65 : decode cX5_write 65 = .ok (.iload_n 1, 1) := dk_27 (dk_at dksX5_write_2 17 rfl rfl)
theorem dX5_write_66 : decode cX5_write 66 = .ok (.imul, 1) := dk_104 (dk_at dksX5_write_2 18 rfl rfl)
theorem dX5_write_67 : decode cX5_write 67 = .ok (.iload_n 2, 1) := dk_28 (dk_at dksX5_write_2 19 rfl rfl)
theorem dX5_write_68 : decode cX5_write 68 = .ok (.iadd, 1) := dk_96 (dk_at dksX5_write_2 20 rfl rfl)
theorem dX5_write_69 : decode cX5_write 69 = .ok (.laload, 1) := dk_47 (dk_at dksX5_write_2 21 rfl rfl)
theorem dX5_write_70 : decode cX5_write 70 = .ok (.lstore 5, 2) := dk_55 5 (dk_at dksX5_write_2 22 rfl rfl)
theorem dX5_write_72 : decode cX5_write 72 = .ok (.aload_n 0, 1) := dk_42 (dk_at dksX5_write_3 0 rfl rfl)
theorem dX5_write_73 : decode cX5_write 73 = .ok (.getfield 40, 3) := dk_180 0 40 (dk_at dksX5_write_3 1 rfl rfl)
theorem dX5_write_76 : decode cX5_write 76 = .ok (.bipush 40, 2) := dk_16 40 (dk_at dksX5_write_3 4 rfl rfl)
theorem dX5_write_78 : decode cX5_write 78 = .ok (.iload_n 1, 1) := dk_27 (dk_at dksX5_write_3 6 rfl rfl)
theorem dX5_write_79 : decode cX5_write 79 = .ok (.imul, 1) := dk_104 (dk_at dksX5_write_3 7 rfl rfl)
theorem dX5_write_80 : decode cX5_write 80 = .ok (.iload_n 2, 1) := dk_28 (dk_at dksX5_write_3 8 rfl rfl)
theorem dX5_write_81 : decode cX5_write 81 = .ok (.iadd, 1) := dk_96 (dk_at dksX5_write_3 9 rfl rfl)
theorem dX5_write_82 : decode cX5_write 82 = .ok (.aload_n 0, 1) := dk_42 (dk_at dksX5_write_3 10 rfl rfl)
theorem dX5_write_83 : decode cX5_write 83 = .ok (.getfield 34, 3) := dk_180 0 34 (dk_at dksX5_write_3 11 rfl rfl)
theorem dX5_write_86 : decode cX5_write 86 = .ok (.iload_n 1, 1) := dk_27 (dk_at dksX5_write_3 14 rfl rfl)
theorem dX5_write_87 : decode cX5_write 87 = .ok (.iaload, 1) := dk_46 (dk_at dksX5_write_3 15 rfl rfl)
theorem dX5_write_88 : decode cX5_write 88 = .ok (.lload_n 3, 1) := dk_33 (dk_at dksX5_write_3 16 rfl rfl)
theorem dX5_write_89 : decode cX5_write 89 = .ok (.invokestatic 263, 3) := dk_184 1 7 (dk_at dksX5_write_3 17 rfl rfl)
theorem dX5_write_92 : decode cX5_write 92 = .ok (.lastore, 1) := dk_80 (dk_at dksX5_write_3 20 rfl rfl)
theorem dX5_write_93 : decode cX5_write 93 = .ok (.lload 5, 2) := dk_22 5 (dk_at dksX5_write_3 21 rfl rfl)
theorem dX5_write_95 : decode cX5_write 95 = .ok (.lreturn, 1) := dk_173 (dk_at dksX5_write_3 23 rfl rfl)
abbrev cX5_narrow : ByteArray := prog_24_method_71_code
def yX5_narrow : MethodName := ⟨RX5, "narrow", "(IJ)J"⟩
def dkwX5_narrow_1 : List UInt8 := [167, 0, 4, 31, 173]
abbrev dktX5_narrow_1 : List UInt8 := dkwX5_narrow_1 ++ []
def dkwX5_narrow_0 : List UInt8 := [26, 16, 8, 160, 0, 10, 31, 136, 145, 133, 167, 0, 17, 26, 16, 16, 160, 0, 10, 31, 136, 147, 133]
abbrev dktX5_narrow_0 : List UInt8 := dkwX5_narrow_0 ++ dktX5_narrow_1
theorem dksX5_narrow_0 : cX5_narrow.data.toList.drop 0 = dktX5_narrow_0 := by decide +kernel
theorem dksX5_narrow_1 : cX5_narrow.data.toList.drop 23 = dktX5_narrow_1 := dk_seg dksX5_narrow_0 23 rfl rfl
theorem dX5_narrow_0 : decode cX5_narrow 0 = .ok (.iload_n 0, 1) := dk_26 (dk_at dksX5_narrow_0 0 rfl rfl)
theorem dX5_narrow_1 : decode cX5_narrow 1 = .ok (.bipush 8, 2) := dk_16 8 (dk_at dksX5_narrow_0 1 rfl rfl)
theorem dX5_narrow_3 : decode cX5_narrow 3 = .ok (.if_icmp .ne 10, 3) := dk_160 0 10 (dk_at dksX5_narrow_0 3 rfl rfl)
theorem dX5_narrow_6 : decode cX5_narrow 6 = .ok (.lload_n 1, 1) := dk_31 (dk_at dksX5_narrow_0 6 rfl rfl)
theorem dX5_narrow_7 : decode cX5_narrow 7 = .ok (.l2i, 1) := dk_136 (dk_at dksX5_narrow_0 7 rfl rfl)
theorem dX5_narrow_8 : decode cX5_narrow 8 = .ok (.i2b, 1) := dk_145 (dk_at dksX5_narrow_0 8 rfl rfl)
theorem dX5_narrow_9 : decode cX5_narrow 9 = .ok (.i2l, 1) := dk_133 (dk_at dksX5_narrow_0 9 rfl rfl)
theorem dX5_narrow_10 : decode cX5_narrow 10 = .ok (.goto 17, 3) := dk_167 0 17 (dk_at dksX5_narrow_0 10 rfl rfl)
theorem dX5_narrow_13 : decode cX5_narrow 13 = .ok (.iload_n 0, 1) := dk_26 (dk_at dksX5_narrow_0 13 rfl rfl)
theorem dX5_narrow_14 : decode cX5_narrow 14 = .ok (.bipush 16, 2) := dk_16 16 (dk_at dksX5_narrow_0 14 rfl rfl)
theorem dX5_narrow_16 : decode cX5_narrow 16 = .ok (.if_icmp .ne 10, 3) := dk_160 0 10 (dk_at dksX5_narrow_0 16 rfl rfl)
theorem dX5_narrow_19 : decode cX5_narrow 19 = .ok (.lload_n 1, 1) := dk_31 (dk_at dksX5_narrow_0 19 rfl rfl)
theorem dX5_narrow_20 : decode cX5_narrow 20 = .ok (.l2i, 1) := dk_136 (dk_at dksX5_narrow_0 20 rfl rfl)
theorem dX5_narrow_21 : decode cX5_narrow 21 = .ok (.i2s, 1) := dk_147 (dk_at dksX5_narrow_0 21 rfl rfl)
theorem dX5_narrow_22 : decode cX5_narrow 22 = .ok (.i2l, 1) := dk_133 (dk_at dksX5_narrow_0 22 rfl rfl)
theorem dX5_narrow_23 : decode cX5_narrow 23 = .ok (.goto 4, 3) := dk_167 0 4 (dk_at dksX5_narrow_1 0 rfl rfl)
theorem dX5_narrow_26 : decode cX5_narrow 26 = .ok (.lload_n 1, 1) := dk_31 (dk_at dksX5_narrow_1 3 rfl rfl)
theorem dX5_narrow_27 : decode cX5_narrow 27 = .ok (.lreturn, 1) := dk_173 (dk_at dksX5_narrow_1 4 rfl rfl)
abbrev cX5_copy : ByteArray := prog_24_method_74_code
def yX5_copy : MethodName := ⟨RX5, "copy", "(IIIII)I"⟩
def dkwX5_copy_8 : List UInt8 := [167, 255, 205, 21, 5, 172]
abbrev dktX5_copy_8 : List UInt8 := dkwX5_copy_8 ++ []
def dkwX5_copy_7 : List UInt8 := [42, 180, 0, 40, 21, 7, 21, 9, 96, 42, 180, 0, 40, 21, 6, 21, 9, 96, 47, 80, 132, 8, 1]
abbrev dktX5_copy_7 : List UInt8 := dkwX5_copy_7 ++ dktX5_copy_8
def dkwX5_copy_6 : List UInt8 := [162, 0, 50, 21, 6, 21, 7, 162, 0, 13, 21, 5, 4, 100, 21, 8, 100, 167, 0, 5, 21, 8, 54, 9]
abbrev dktX5_copy_6 : List UInt8 := dkwX5_copy_6 ++ dktX5_copy_7
def dkwX5_copy_5 : List UInt8 := [16, 40, 27, 104, 28, 96, 54, 6, 16, 40, 29, 104, 21, 4, 96, 54, 7, 3, 54, 8, 21, 8, 21, 5]
abbrev dktX5_copy_5 : List UInt8 := dkwX5_copy_5 ++ dktX5_copy_6
def dkwX5_copy_4 : List UInt8 := [163, 0, 17, 21, 5, 42, 180, 0, 37, 29, 46, 21, 4, 100, 164, 0, 10, 42, 18, 87, 182, 0, 88, 172]
abbrev dktX5_copy_4 : List UInt8 := dkwX5_copy_4 ++ dktX5_copy_5
def dkwX5_copy_3 : List UInt8 := [155, 0, 40, 21, 4, 155, 0, 35, 21, 5, 155, 0, 30, 21, 5, 42, 180, 0, 37, 27, 46, 28, 100]
abbrev dktX5_copy_3 : List UInt8 := dkwX5_copy_3 ++ dktX5_copy_4
def dkwX5_copy_2 : List UInt8 := [172, 42, 180, 0, 34, 27, 46, 42, 180, 0, 34, 29, 46, 159, 0, 10, 42, 18, 111, 182, 0, 88, 172, 28]
abbrev dktX5_copy_2 : List UInt8 := dkwX5_copy_2 ++ dktX5_copy_3
def dkwX5_copy_1 : List UInt8 := [180, 0, 34, 27, 46, 155, 0, 12, 42, 180, 0, 34, 29, 46, 156, 0, 11, 42, 19, 1, 6, 182, 0, 88]
abbrev dktX5_copy_1 : List UInt8 := dkwX5_copy_1 ++ dktX5_copy_2
def dkwX5_copy_0 : List UInt8 := [27, 184, 1, 2, 153, 0, 10, 29, 184, 1, 2, 154, 0, 10, 42, 18, 87, 182, 0, 88, 172, 42]
abbrev dktX5_copy_0 : List UInt8 := dkwX5_copy_0 ++ dktX5_copy_1
theorem dksX5_copy_0 : cX5_copy.data.toList.drop 0 = dktX5_copy_0 := by decide +kernel
theorem dksX5_copy_1 : cX5_copy.data.toList.drop 22 = dktX5_copy_1 := dk_seg dksX5_copy_0 22 rfl rfl
theorem dksX5_copy_2 : cX5_copy.data.toList.drop 46 = dktX5_copy_2 := dk_seg dksX5_copy_1 24 rfl rfl
theorem dksX5_copy_3 : cX5_copy.data.toList.drop 70 = dktX5_copy_3 := dk_seg dksX5_copy_2 24 rfl rfl
theorem dksX5_copy_4 : cX5_copy.data.toList.drop 93 = dktX5_copy_4 := dk_seg dksX5_copy_3 23 rfl rfl
theorem dksX5_copy_5 : cX5_copy.data.toList.drop 117 = dktX5_copy_5 := dk_seg dksX5_copy_4 24 rfl rfl
theorem dksX5_copy_6 : cX5_copy.data.toList.drop 141 = dktX5_copy_6 := dk_seg dksX5_copy_5 24 rfl rfl
theorem dksX5_copy_7 : cX5_copy.data.toList.drop 165 = dktX5_copy_7 := dk_seg dksX5_copy_6 24 rfl rfl
theorem dksX5_copy_8 : cX5_copy.data.toList.drop 188 = dktX5_copy_8 := dk_seg dksX5_copy_7 23 rfl rfl
theorem dX5_copy_0 : decode cX5_copy 0 = .ok (.iload_n 1, 1) := dk_27 (dk_at dksX5_copy_0 0 rfl rfl)
theorem dX5_copy_1 : decode cX5_copy 1 = .ok (.invokestatic 258, 3) := dk_184 1 2 (dk_at dksX5_copy_0 1 rfl rfl)
theorem dX5_copy_4 : decode cX5_copy 4 = .ok (.ifCond .eq 10, 3) := dk_153 0 10 (dk_at dksX5_copy_0 4 rfl rfl)
theorem dX5_copy_7 : decode cX5_copy 7 = .ok (.iload_n 3, 1) := dk_29 (dk_at dksX5_copy_0 7 rfl rfl)
theorem dX5_copy_8 : decode cX5_copy 8 = .ok (.invokestatic 258, 3) := dk_184 1 2 (dk_at dksX5_copy_0 8 rfl rfl)
theorem dX5_copy_11 : decode cX5_copy 11 = .ok (.ifCond .ne 10, 3) := dk_154 0 10 (dk_at dksX5_copy_0 11 rfl rfl)
theorem dX5_copy_14 : decode cX5_copy 14 = .ok (.aload_n 0, 1) := dk_42 (dk_at dksX5_copy_0 14 rfl rfl)
theorem dX5_copy_15 : decode cX5_copy 15 = .ok (.ldc 87, 2) := dk_18 87 (dk_at dksX5_copy_0 15 rfl rfl)
theorem dX5_copy_17 : decode cX5_copy 17 = .ok (.invokevirtual 88, 3) := dk_182 0 88 (dk_at dksX5_copy_0 17 rfl rfl)
theorem dX5_copy_20 : decode cX5_copy 20 = .ok (.ireturn, 1) := dk_172 (dk_at dksX5_copy_0 20 rfl rfl)
theorem dX5_copy_21 : decode cX5_copy 21 = .ok (.aload_n 0, 1) := dk_42 (dk_at dksX5_copy_0 21 rfl rfl)
theorem dX5_copy_22 : decode cX5_copy 22 = .ok (.getfield 34, 3) := dk_180 0 34 (dk_at dksX5_copy_1 0 rfl rfl)
theorem dX5_copy_25 : decode cX5_copy 25 = .ok (.iload_n 1, 1) := dk_27 (dk_at dksX5_copy_1 3 rfl rfl)
theorem dX5_copy_26 : decode cX5_copy 26 = .ok (.iaload, 1) := dk_46 (dk_at dksX5_copy_1 4 rfl rfl)
theorem dX5_copy_27 : decode cX5_copy 27 = .ok (.ifCond .lt 12, 3) := dk_155 0 12 (dk_at dksX5_copy_1 5 rfl rfl)
theorem dX5_copy_30 : decode cX5_copy 30 = .ok (.aload_n 0, 1) := dk_42 (dk_at dksX5_copy_1 8 rfl rfl)
theorem dX5_copy_31 : decode cX5_copy 31 = .ok (.getfield 34, 3) := dk_180 0 34 (dk_at dksX5_copy_1 9 rfl rfl)
theorem dX5_copy_34 : decode cX5_copy 34 = .ok (.iload_n 3, 1) := dk_29 (dk_at dksX5_copy_1 12 rfl rfl)
theorem dX5_copy_35 : decode cX5_copy 35 = .ok (.iaload, 1) := dk_46 (dk_at dksX5_copy_1 13 rfl rfl)
theorem dX5_copy_36 : decode cX5_copy 36 = .ok (.ifCond .ge 11, 3) := dk_156 0 11 (dk_at dksX5_copy_1 14 rfl rfl)
theorem dX5_copy_39 : decode cX5_copy 39 = .ok (.aload_n 0, 1) := dk_42 (dk_at dksX5_copy_1 17 rfl rfl)
theorem dX5_copy_40 : decode cX5_copy 40 = .ok (.ldc_w 262, 3) := dk_19 1 6 (dk_at dksX5_copy_1 18 rfl rfl)
theorem dX5_copy_43 : decode cX5_copy 43 = .ok (.invokevirtual 88, 3) := dk_182 0 88 (dk_at dksX5_copy_1 21 rfl rfl)
theorem dX5_copy_46 : decode cX5_copy 46 = .ok (.ireturn, 1) := dk_172 (dk_at dksX5_copy_2 0 rfl rfl)
theorem dX5_copy_47 : decode cX5_copy 47 = .ok (.aload_n 0, 1) := dk_42 (dk_at dksX5_copy_2 1 rfl rfl)
theorem dX5_copy_48 : decode cX5_copy 48 = .ok (.getfield 34, 3) := dk_180 0 34 (dk_at dksX5_copy_2 2 rfl rfl)
theorem dX5_copy_51 : decode cX5_copy 51 = .ok (.iload_n 1, 1) := dk_27 (dk_at dksX5_copy_2 5 rfl rfl)
theorem dX5_copy_52 : decode cX5_copy 52 = .ok (.iaload, 1) := dk_46 (dk_at dksX5_copy_2 6 rfl rfl)
theorem dX5_copy_53 : decode cX5_copy 53 = .ok (.aload_n 0, 1) := dk_42 (dk_at dksX5_copy_2 7 rfl rfl)
theorem dX5_copy_54 : decode cX5_copy 54 = .ok (.getfield 34, 3) := dk_180 0 34 (dk_at dksX5_copy_2 8 rfl rfl)
theorem dX5_copy_57 : decode cX5_copy 57 = .ok (.iload_n 3, 1) := dk_29 (dk_at dksX5_copy_2 11 rfl rfl)
theorem dX5_copy_58 : decode cX5_copy 58 = .ok (.iaload, 1) := dk_46 (dk_at dksX5_copy_2 12 rfl rfl)
theorem dX5_copy_59 : decode cX5_copy 59 = .ok (.if_icmp .eq 10, 3) := dk_159 0 10 (dk_at dksX5_copy_2 13 rfl rfl)
theorem dX5_copy_62 : decode cX5_copy 62 = .ok (.aload_n 0, 1) := dk_42 (dk_at dksX5_copy_2 16 rfl rfl)
theorem dX5_copy_63 : decode cX5_copy 63 = .ok (.ldc 111, 2) := dk_18 111 (dk_at dksX5_copy_2 17 rfl rfl)
theorem dX5_copy_65 : decode cX5_copy 65 = .ok (.invokevirtual 88, 3) := dk_182 0 88 (dk_at dksX5_copy_2 19 rfl rfl)
theorem dX5_copy_68 : decode cX5_copy 68 = .ok (.ireturn, 1) := dk_172 (dk_at dksX5_copy_2 22 rfl rfl)
theorem dX5_copy_69 : decode cX5_copy 69 = .ok (.iload_n 2, 1) := dk_28 (dk_at dksX5_copy_2 23 rfl rfl)
theorem dX5_copy_70 : decode cX5_copy 70 = .ok (.ifCond .lt 40, 3) := dk_155 0 40 (dk_at dksX5_copy_3 0 rfl rfl)
theorem dX5_copy_73 : decode cX5_copy 73 = .ok (.iload 4, 2) := dk_21 4 (dk_at dksX5_copy_3 3 rfl rfl)
theorem dX5_copy_75 : decode cX5_copy 75 = .ok (.ifCond .lt 35, 3) := dk_155 0 35 (dk_at dksX5_copy_3 5 rfl rfl)
theorem dX5_copy_78 : decode cX5_copy 78 = .ok (.iload 5, 2) := dk_21 5 (dk_at dksX5_copy_3 8 rfl rfl)
theorem dX5_copy_80 : decode cX5_copy 80 = .ok (.ifCond .lt 30, 3) := dk_155 0 30 (dk_at dksX5_copy_3 10 rfl rfl)
theorem dX5_copy_83 : decode cX5_copy 83 = .ok (.iload 5, 2) := dk_21 5 (dk_at dksX5_copy_3 13 rfl rfl)
theorem dX5_copy_85 : decode cX5_copy 85 = .ok (.aload_n 0, 1) := dk_42 (dk_at dksX5_copy_3 15 rfl rfl)
theorem dX5_copy_86 : decode cX5_copy 86 = .ok (.getfield 37, 3) := dk_180 0 37 (dk_at dksX5_copy_3 16 rfl rfl)
theorem dX5_copy_89 : decode cX5_copy 89 = .ok (.iload_n 1, 1) := dk_27 (dk_at dksX5_copy_3 19 rfl rfl)
theorem dX5_copy_90 : decode cX5_copy 90 = .ok (.iaload, 1) := dk_46 (dk_at dksX5_copy_3 20 rfl rfl)
theorem dX5_copy_91 : decode cX5_copy 91 = .ok (.iload_n 2, 1) := dk_28 (dk_at dksX5_copy_3 21 rfl rfl)
theorem dX5_copy_92 : decode cX5_copy 92 = .ok (.isub, 1) := dk_100 (dk_at dksX5_copy_3 22 rfl rfl)
theorem dX5_copy_93 : decode cX5_copy 93 = .ok (.if_icmp .gt 17, 3) := dk_163 0 17 (dk_at dksX5_copy_4 0 rfl rfl)
theorem dX5_copy_96 : decode cX5_copy 96 = .ok (.iload 5, 2) := dk_21 5 (dk_at dksX5_copy_4 3 rfl rfl)
theorem dX5_copy_98 : decode cX5_copy 98 = .ok (.aload_n 0, 1) := dk_42 (dk_at dksX5_copy_4 5 rfl rfl)
theorem dX5_copy_99 : decode cX5_copy 99 = .ok (.getfield 37, 3) := dk_180 0 37 (dk_at dksX5_copy_4 6 rfl rfl)
theorem dX5_copy_102 : decode cX5_copy 102 = .ok (.iload_n 3, 1) := dk_29 (dk_at dksX5_copy_4 9 rfl rfl)
theorem dX5_copy_103 : decode cX5_copy 103 = .ok (.iaload, 1) := dk_46 (dk_at dksX5_copy_4 10 rfl rfl)
theorem dX5_copy_104 : decode cX5_copy 104 = .ok (.iload 4, 2) := dk_21 4 (dk_at dksX5_copy_4 11 rfl rfl)
theorem dX5_copy_106 : decode cX5_copy 106 = .ok (.isub, 1) := dk_100 (dk_at dksX5_copy_4 13 rfl rfl)
theorem dX5_copy_107 : decode cX5_copy 107 = .ok (.if_icmp .le 10, 3) := dk_164 0 10 (dk_at dksX5_copy_4 14 rfl rfl)
theorem dX5_copy_110 : decode cX5_copy 110 = .ok (.aload_n 0, 1) := dk_42 (dk_at dksX5_copy_4 17 rfl rfl)
theorem dX5_copy_111 : decode cX5_copy 111 = .ok (.ldc 87, 2) := dk_18 87 (dk_at dksX5_copy_4 18 rfl rfl)
theorem dX5_copy_113 : decode cX5_copy 113 = .ok (.invokevirtual 88, 3) := dk_182 0 88 (dk_at dksX5_copy_4 20 rfl rfl)
theorem dX5_copy_116 : decode cX5_copy 116 = .ok (.ireturn, 1) := dk_172 (dk_at dksX5_copy_4 23 rfl rfl)
theorem dX5_copy_117 : decode cX5_copy 117 = .ok (.bipush 40, 2) := dk_16 40 (dk_at dksX5_copy_5 0 rfl rfl)
theorem dX5_copy_119 : decode cX5_copy 119 = .ok (.iload_n 1, 1) := dk_27 (dk_at dksX5_copy_5 2 rfl rfl)
theorem dX5_copy_120 : decode cX5_copy 120 = .ok (.imul, 1) := dk_104 (dk_at dksX5_copy_5 3 rfl rfl)
theorem dX5_copy_121 : decode cX5_copy 121 = .ok (.iload_n 2, 1) := dk_28 (dk_at dksX5_copy_5 4 rfl rfl)
theorem dX5_copy_122 : decode cX5_copy 122 = .ok (.iadd, 1) := dk_96 (dk_at dksX5_copy_5 5 rfl rfl)
theorem dX5_copy_123 : decode cX5_copy 123 = .ok (.istore 6, 2) := dk_54 6 (dk_at dksX5_copy_5 6 rfl rfl)
theorem dX5_copy_125 : decode cX5_copy 125 = .ok (.bipush 40, 2) := dk_16 40 (dk_at dksX5_copy_5 8 rfl rfl)
theorem dX5_copy_127 : decode cX5_copy 127 = .ok (.iload_n 3, 1) := dk_29 (dk_at dksX5_copy_5 10 rfl rfl)
theorem dX5_copy_128 : decode cX5_copy 128 = .ok (.imul, 1) := dk_104 (dk_at dksX5_copy_5 11 rfl rfl)
theorem dX5_copy_129 : decode cX5_copy 129 = .ok (.iload 4, 2) := dk_21 4 (dk_at dksX5_copy_5 12 rfl rfl)
theorem dX5_copy_131 : decode cX5_copy 131 = .ok (.iadd, 1) := dk_96 (dk_at dksX5_copy_5 14 rfl rfl)
theorem dX5_copy_132 : decode cX5_copy 132 = .ok (.istore 7, 2) := dk_54 7 (dk_at dksX5_copy_5 15 rfl rfl)
theorem dX5_copy_134 : decode cX5_copy 134 = .ok (.iconst 0, 1) := dk_3 (dk_at dksX5_copy_5 17 rfl rfl)
theorem dX5_copy_135 : decode cX5_copy 135 = .ok (.istore 8, 2) := dk_54 8 (dk_at dksX5_copy_5 18 rfl rfl)
theorem dX5_copy_137 : decode cX5_copy 137 = .ok (.iload 8, 2) := dk_21 8 (dk_at dksX5_copy_5 20 rfl rfl)
theorem dX5_copy_139 : decode cX5_copy 139 = .ok (.iload 5, 2) := dk_21 5 (dk_at dksX5_copy_5 22 rfl rfl)
theorem dX5_copy_141 : decode cX5_copy 141 = .ok (.if_icmp .ge 50, 3) := dk_162 0 50 (dk_at dksX5_copy_6 0 rfl rfl)
theorem dX5_copy_144 : decode cX5_copy 144 = .ok (.iload 6, 2) := dk_21 6 (dk_at dksX5_copy_6 3 rfl rfl)
theorem dX5_copy_146 : decode cX5_copy 146 = .ok (.iload 7, 2) := dk_21 7 (dk_at dksX5_copy_6 5 rfl rfl)
theorem dX5_copy_148 : decode cX5_copy 148 = .ok (.if_icmp .ge 13, 3) := dk_162 0 13 (dk_at dksX5_copy_6 7 rfl rfl)
theorem dX5_copy_151 : decode cX5_copy 151 = .ok (.iload 5, 2) := dk_21 5 (dk_at dksX5_copy_6 10 rfl rfl)
theorem dX5_copy_153 : decode cX5_copy 153 = .ok (.iconst 1, 1) := dk_4 (dk_at dksX5_copy_6 12 rfl rfl)
theorem dX5_copy_154 : decode cX5_copy 154 = .ok (.isub, 1) := dk_100 (dk_at dksX5_copy_6 13 rfl rfl)
theorem dX5_copy_155 : decode cX5_copy 155 = .ok (.iload 8, 2) := dk_21 8 (dk_at dksX5_copy_6 14 rfl rfl)
theorem dX5_copy_157 : decode cX5_copy 157 = .ok (.isub, 1) := dk_100 (dk_at dksX5_copy_6 16 rfl rfl)
theorem dX5_copy_158 : decode cX5_copy 158 = .ok (.goto 5, 3) := dk_167 0 5 (dk_at dksX5_copy_6 17 rfl rfl)
theorem dX5_copy_161 : decode cX5_copy 161 = .ok (.iload 8, 2) := dk_21 8 (dk_at dksX5_copy_6 20 rfl rfl)
theorem dX5_copy_163 : decode cX5_copy 163 = .ok (.istore 9, 2) := dk_54 9 (dk_at dksX5_copy_6 22 rfl rfl)
theorem dX5_copy_165 : decode cX5_copy 165 = .ok (.aload_n 0, 1) := dk_42 (dk_at dksX5_copy_7 0 rfl rfl)
theorem dX5_copy_166 : decode cX5_copy 166 = .ok (.getfield 40, 3) := dk_180 0 40 (dk_at dksX5_copy_7 1 rfl rfl)
theorem dX5_copy_169 : decode cX5_copy 169 = .ok (.iload 7, 2) := dk_21 7 (dk_at dksX5_copy_7 4 rfl rfl)
theorem dX5_copy_171 : decode cX5_copy 171 = .ok (.iload 9, 2) := dk_21 9 (dk_at dksX5_copy_7 6 rfl rfl)
theorem dX5_copy_173 : decode cX5_copy 173 = .ok (.iadd, 1) := dk_96 (dk_at dksX5_copy_7 8 rfl rfl)
theorem dX5_copy_174 : decode cX5_copy 174 = .ok (.aload_n 0, 1) := dk_42 (dk_at dksX5_copy_7 9 rfl rfl)
theorem dX5_copy_175 : decode cX5_copy 175 = .ok (.getfield 40, 3) := dk_180 0 40 (dk_at dksX5_copy_7 10 rfl rfl)
theorem dX5_copy_178 : decode cX5_copy 178 = .ok (.iload 6, 2) := dk_21 6 (dk_at dksX5_copy_7 13 rfl rfl)
theorem dX5_copy_180 : decode cX5_copy 180 = .ok (.iload 9, 2) := dk_21 9 (dk_at dksX5_copy_7 15 rfl rfl)
theorem dX5_copy_182 : decode cX5_copy 182 = .ok (.iadd, 1) := dk_96 (dk_at dksX5_copy_7 17 rfl rfl)
theorem dX5_copy_183 : decode cX5_copy 183 = .ok (.laload, 1) := dk_47 (dk_at dksX5_copy_7 18 rfl rfl)
theorem dX5_copy_184 : decode cX5_copy 184 = .ok (.lastore, 1) := dk_80 (dk_at dksX5_copy_7 19 rfl rfl)
theorem dX5_copy_185 : decode cX5_copy 185 = .ok (.iinc 8 1, 3) := dk_132 8 1 (dk_at dksX5_copy_7 20 rfl rfl)
theorem dX5_copy_188 : decode cX5_copy 188 = .ok (.goto (-51), 3) := dk_167 255 205 (dk_at dksX5_copy_8 0 rfl rfl)
theorem dX5_copy_191 : decode cX5_copy 191 = .ok (.iload 5, 2) := dk_21 5 (dk_at dksX5_copy_8 3 rfl rfl)
theorem dX5_copy_193 : decode cX5_copy 193 = .ok (.ireturn, 1) := dk_172 (dk_at dksX5_copy_8 5 rfl rfl)
abbrev cX5_weeks : ByteArray := prog_24_method_75_code
def yX5_weeks : MethodName := ⟨RX5, "weeks", "(I)I"⟩
def dkwX5_weeks_4 : List UInt8 := [22, 4, 136, 182, 0, 219, 132, 2, 1, 132, 3, 1, 167, 255, 186, 28, 172]
abbrev dktX5_weeks_4 : List UInt8 := dkwX5_weeks_4 ++ []
def dkwX5_weeks_3 : List UInt8 := [42, 180, 0, 22, 22, 4, 136, 46, 155, 0, 24, 42, 180, 0, 7, 4, 46, 16, 40, 162, 0, 13, 42]
abbrev dktX5_weeks_3 : List UInt8 := dkwX5_weeks_3 ++ dktX5_weeks_4
def dkwX5_weeks_2 : List UInt8 := [180, 0, 40, 16, 40, 27, 104, 29, 96, 47, 55, 4, 22, 4, 9, 20, 1, 10, 184, 0, 98, 153, 0, 35]
abbrev dktX5_weeks_2 : List UInt8 := dkwX5_weeks_2 ++ dktX5_weeks_3
def dkwX5_weeks_1 : List UInt8 := [19, 1, 6, 182, 0, 88, 172, 3, 61, 3, 62, 29, 42, 180, 0, 37, 27, 46, 162, 0, 66, 42]
abbrev dktX5_weeks_1 : List UInt8 := dkwX5_weeks_1 ++ dktX5_weeks_2
def dkwX5_weeks_0 : List UInt8 := [27, 184, 1, 2, 154, 0, 10, 42, 18, 87, 182, 0, 88, 172, 42, 180, 0, 34, 27, 46, 156, 0, 11, 42]
abbrev dktX5_weeks_0 : List UInt8 := dkwX5_weeks_0 ++ dktX5_weeks_1
theorem dksX5_weeks_0 : cX5_weeks.data.toList.drop 0 = dktX5_weeks_0 := by decide +kernel
theorem dksX5_weeks_1 : cX5_weeks.data.toList.drop 24 = dktX5_weeks_1 := dk_seg dksX5_weeks_0 24 rfl rfl
theorem dksX5_weeks_2 : cX5_weeks.data.toList.drop 46 = dktX5_weeks_2 := dk_seg dksX5_weeks_1 22 rfl rfl
theorem dksX5_weeks_3 : cX5_weeks.data.toList.drop 70 = dktX5_weeks_3 := dk_seg dksX5_weeks_2 24 rfl rfl
theorem dksX5_weeks_4 : cX5_weeks.data.toList.drop 93 = dktX5_weeks_4 := dk_seg dksX5_weeks_3 23 rfl rfl
theorem dX5_weeks_0 : decode cX5_weeks 0 = .ok (.iload_n 1, 1) := dk_27 (dk_at dksX5_weeks_0 0 rfl rfl)
theorem dX5_weeks_1 : decode cX5_weeks 1 = .ok (.invokestatic 258, 3) := dk_184 1 2 (dk_at dksX5_weeks_0 1 rfl rfl)
theorem dX5_weeks_4 : decode cX5_weeks 4 = .ok (.ifCond .ne 10, 3) := dk_154 0 10 (dk_at dksX5_weeks_0 4 rfl rfl)
theorem dX5_weeks_7 : decode cX5_weeks 7 = .ok (.aload_n 0, 1) := dk_42 (dk_at dksX5_weeks_0 7 rfl rfl)
theorem dX5_weeks_8 : decode cX5_weeks 8 = .ok (.ldc 87, 2) := dk_18 87 (dk_at dksX5_weeks_0 8 rfl rfl)
theorem dX5_weeks_10 : decode cX5_weeks 10 = .ok (.invokevirtual 88, 3) := dk_182 0 88 (dk_at dksX5_weeks_0 10 rfl rfl)
theorem dX5_weeks_13 : decode cX5_weeks 13 = .ok (.ireturn, 1) := dk_172 (dk_at dksX5_weeks_0 13 rfl rfl)
theorem dX5_weeks_14 : decode cX5_weeks 14 = .ok (.aload_n 0, 1) := dk_42 (dk_at dksX5_weeks_0 14 rfl rfl)
theorem dX5_weeks_15 : decode cX5_weeks 15 = .ok (.getfield 34, 3) := dk_180 0 34 (dk_at dksX5_weeks_0 15 rfl rfl)
theorem dX5_weeks_18 : decode cX5_weeks 18 = .ok (.iload_n 1, 1) := dk_27 (dk_at dksX5_weeks_0 18 rfl rfl)
theorem dX5_weeks_19 : decode cX5_weeks 19 = .ok (.iaload, 1) := dk_46 (dk_at dksX5_weeks_0 19 rfl rfl)
theorem dX5_weeks_20 : decode cX5_weeks 20 = .ok (.ifCond .ge 11, 3) := dk_156 0 11 (dk_at dksX5_weeks_0 20 rfl rfl)
theorem dX5_weeks_23 : decode cX5_weeks 23 = .ok (.aload_n 0, 1) := dk_42 (dk_at dksX5_weeks_0 23 rfl rfl)
theorem dX5_weeks_24 : decode cX5_weeks 24 = .ok (.ldc_w 262, 3) := dk_19 1 6 (dk_at dksX5_weeks_1 0 rfl rfl)
theorem dX5_weeks_27 : decode cX5_weeks 27 = .ok (.invokevirtual 88, 3) := dk_182 0 88 (dk_at dksX5_weeks_1 3 rfl rfl)
theorem dX5_weeks_30 : decode cX5_weeks 30 = .ok (.ireturn, 1) := dk_172 (dk_at dksX5_weeks_1 6 rfl rfl)
theorem dX5_weeks_31 : decode cX5_weeks 31 = .ok (.iconst 0, 1) := dk_3 (dk_at dksX5_weeks_1 7 rfl rfl)
theorem dX5_weeks_32 : decode cX5_weeks 32 = .ok (.istore_n 2, 1) := dk_61 (dk_at dksX5_weeks_1 8 rfl rfl)
theorem dX5_weeks_33 : decode cX5_weeks 33 = .ok (.iconst 0, 1) := dk_3 (dk_at dksX5_weeks_1 9 rfl rfl)
theorem dX5_weeks_34 : decode cX5_weeks 34 = .ok (.istore_n 3, 1) := dk_62 (dk_at dksX5_weeks_1 10 rfl rfl)
theorem dX5_weeks_35 : decode cX5_weeks 35 = .ok (.iload_n 3, 1) := dk_29 (dk_at dksX5_weeks_1 11 rfl rfl)
theorem dX5_weeks_36 : decode cX5_weeks 36 = .ok (.aload_n 0, 1) := dk_42 (dk_at dksX5_weeks_1 12 rfl rfl)
theorem dX5_weeks_37 : decode cX5_weeks 37 = .ok (.getfield 37, 3) := dk_180 0 37 (dk_at dksX5_weeks_1 13 rfl rfl)
theorem dX5_weeks_40 : decode cX5_weeks 40 = .ok (.iload_n 1, 1) := dk_27 (dk_at dksX5_weeks_1 16 rfl rfl)
theorem dX5_weeks_41 : decode cX5_weeks 41 = .ok (.iaload, 1) := dk_46 (dk_at dksX5_weeks_1 17 rfl rfl)
theorem dX5_weeks_42 : decode cX5_weeks 42 = .ok (.if_icmp .ge 66, 3) := dk_162 0 66 (dk_at dksX5_weeks_1 18 rfl rfl)
theorem dX5_weeks_45 : decode cX5_weeks 45 = .ok (.aload_n 0, 1) := dk_42 (dk_at dksX5_weeks_1 21 rfl rfl)
theorem dX5_weeks_46 : decode cX5_weeks 46 = .ok (.getfield 40, 3) := dk_180 0 40 (dk_at dksX5_weeks_2 0 rfl rfl)
theorem dX5_weeks_49 : decode cX5_weeks 49 = .ok (.bipush 40, 2) := dk_16 40 (dk_at dksX5_weeks_2 3 rfl rfl)
theorem dX5_weeks_51 : decode cX5_weeks 51 = .ok (.iload_n 1, 1) := dk_27 (dk_at dksX5_weeks_2 5 rfl rfl)
theorem dX5_weeks_52 : decode cX5_weeks 52 = .ok (.imul, 1) := dk_104 (dk_at dksX5_weeks_2 6 rfl rfl)
theorem dX5_weeks_53 : decode cX5_weeks 53 = .ok (.iload_n 3, 1) := dk_29 (dk_at dksX5_weeks_2 7 rfl rfl)
theorem dX5_weeks_54 : decode cX5_weeks 54 = .ok (.iadd, 1) := dk_96 (dk_at dksX5_weeks_2 8 rfl rfl)
theorem dX5_weeks_55 : decode cX5_weeks 55 = .ok (.laload, 1) := dk_47 (dk_at dksX5_weeks_2 9 rfl rfl)
theorem dX5_weeks_56 : decode cX5_weeks 56 = .ok (.lstore 4, 2) := dk_55 4 (dk_at dksX5_weeks_2 10 rfl rfl)
theorem dX5_weeks_58 : decode cX5_weeks 58 = .ok (.lload 4, 2) := dk_22 4 (dk_at dksX5_weeks_2 12 rfl rfl)
theorem dX5_weeks_60 : decode cX5_weeks 60 = .ok (.lconst 0, 1) := dk_9 (dk_at dksX5_weeks_2 14 rfl rfl)
theorem dX5_weeks_61 : decode cX5_weeks 61 = .ok (.ldc2_w 266, 3) := dk_20 1 10 (dk_at dksX5_weeks_2 15 rfl rfl)
theorem dX5_weeks_64 : decode cX5_weeks 64 = .ok (.invokestatic 98, 3) := dk_184 0 98 (dk_at dksX5_weeks_2 18 rfl rfl)
theorem dX5_weeks_67 : decode cX5_weeks 67 = .ok (.ifCond .eq 35, 3) := dk_153 0 35 (dk_at dksX5_weeks_2 21 rfl rfl)
theorem dX5_weeks_70 : decode cX5_weeks 70 = .ok (.aload_n 0, 1) := dk_42 (dk_at dksX5_weeks_3 0 rfl rfl)
theorem dX5_weeks_71 : decode cX5_weeks 71 = .ok (.getfield 22, 3) := dk_180 0 22 (dk_at dksX5_weeks_3 1 rfl rfl)
theorem dX5_weeks_74 : decode cX5_weeks 74 = .ok (.lload 4, 2) := dk_22 4 (dk_at dksX5_weeks_3 4 rfl rfl)
theorem dX5_weeks_76 : decode cX5_weeks 76 = .ok (.l2i, 1) := dk_136 (dk_at dksX5_weeks_3 6 rfl rfl)
theorem dX5_weeks_77 : decode cX5_weeks 77 = .ok (.iaload, 1) := dk_46 (dk_at dksX5_weeks_3 7 rfl rfl)
theorem dX5_weeks_78 : decode cX5_weeks 78 = .ok (.ifCond .lt 24, 3) := dk_155 0 24 (dk_at dksX5_weeks_3 8 rfl rfl)
theorem dX5_weeks_81 : decode cX5_weeks 81 = .ok (.aload_n 0, 1) := dk_42 (dk_at dksX5_weeks_3 11 rfl rfl)
theorem dX5_weeks_82 : decode cX5_weeks 82 = .ok (.getfield 7, 3) := dk_180 0 7 (dk_at dksX5_weeks_3 12 rfl rfl)
theorem dX5_weeks_85 : decode cX5_weeks 85 = .ok (.iconst 1, 1) := dk_4 (dk_at dksX5_weeks_3 15 rfl rfl)
theorem dX5_weeks_86 : decode cX5_weeks 86 = .ok (.iaload, 1) := dk_46 (dk_at dksX5_weeks_3 16 rfl rfl)
theorem dX5_weeks_87 : decode cX5_weeks 87 = .ok (.bipush 40, 2) := dk_16 40 (dk_at dksX5_weeks_3 17 rfl rfl)
theorem dX5_weeks_89 : decode cX5_weeks 89 = .ok (.if_icmp .ge 13, 3) := dk_162 0 13 (dk_at dksX5_weeks_3 19 rfl rfl)
theorem dX5_weeks_92 : decode cX5_weeks 92 = .ok (.aload_n 0, 1) := dk_42 (dk_at dksX5_weeks_3 22 rfl rfl)
theorem dX5_weeks_93 : decode cX5_weeks 93 = .ok (.lload 4, 2) := dk_22 4 (dk_at dksX5_weeks_4 0 rfl rfl)
theorem dX5_weeks_95 : decode cX5_weeks 95 = .ok (.l2i, 1) := dk_136 (dk_at dksX5_weeks_4 2 rfl rfl)
theorem dX5_weeks_96 : decode cX5_weeks 96 = .ok (.invokevirtual 219, 3) := dk_182 0 219 (dk_at dksX5_weeks_4 3 rfl rfl)
theorem dX5_weeks_99 : decode cX5_weeks 99 = .ok (.iinc 2 1, 3) := dk_132 2 1 (dk_at dksX5_weeks_4 6 rfl rfl)
theorem dX5_weeks_102 : decode cX5_weeks 102 = .ok (.iinc 3 1, 3) := dk_132 3 1 (dk_at dksX5_weeks_4 9 rfl rfl)
theorem dX5_weeks_105 : decode cX5_weeks 105 = .ok (.goto (-70), 3) := dk_167 255 186 (dk_at dksX5_weeks_4 12 rfl rfl)
theorem dX5_weeks_108 : decode cX5_weeks 108 = .ok (.iload_n 2, 1) := dk_28 (dk_at dksX5_weeks_4 15 rfl rfl)
theorem dX5_weeks_109 : decode cX5_weeks 109 = .ok (.ireturn, 1) := dk_172 (dk_at dksX5_weeks_4 16 rfl rfl)
abbrev cX5_read : ByteArray := prog_24_method_76_code
def yX5_read : MethodName := ⟨RX5, "read", "(I)I"⟩
def dkwX5_read_3 : List UInt8 := [28, 104, 96, 6, 96, 46, 133, 148, 153, 0, 7, 28, 4, 96, 172, 132, 2, 1, 167, 255, 199, 3, 172]
abbrev dktX5_read_3 : List UInt8 := dkwX5_read_3 ++ []
def dkwX5_read_2 : List UInt8 := [4, 46, 162, 0, 33, 42, 180, 0, 40, 16, 40, 27, 104, 28, 96, 47, 42, 180, 0, 7, 16, 104, 16, 8]
abbrev dktX5_read_2 : List UInt8 := dkwX5_read_2 ++ dktX5_read_3
def dkwX5_read_1 : List UInt8 := [19, 1, 6, 182, 0, 88, 172, 3, 61, 28, 42, 180, 0, 37, 27, 46, 162, 0, 53, 28, 42, 180, 0, 7]
abbrev dktX5_read_1 : List UInt8 := dkwX5_read_1 ++ dktX5_read_2
def dkwX5_read_0 : List UInt8 := [27, 184, 1, 2, 154, 0, 10, 42, 18, 87, 182, 0, 88, 172, 42, 180, 0, 34, 27, 46, 156, 0, 11, 42]
abbrev dktX5_read_0 : List UInt8 := dkwX5_read_0 ++ dktX5_read_1
theorem dksX5_read_0 : cX5_read.data.toList.drop 0 = dktX5_read_0 := by decide +kernel
theorem dksX5_read_1 : cX5_read.data.toList.drop 24 = dktX5_read_1 := dk_seg dksX5_read_0 24 rfl rfl
theorem dksX5_read_2 : cX5_read.data.toList.drop 48 = dktX5_read_2 := dk_seg dksX5_read_1 24 rfl rfl
theorem dksX5_read_3 : cX5_read.data.toList.drop 72 = dktX5_read_3 := dk_seg dksX5_read_2 24 rfl rfl
theorem dX5_read_0 : decode cX5_read 0 = .ok (.iload_n 1, 1) := dk_27 (dk_at dksX5_read_0 0 rfl rfl)
theorem dX5_read_1 : decode cX5_read 1 = .ok (.invokestatic 258, 3) := dk_184 1 2 (dk_at dksX5_read_0 1 rfl rfl)
theorem dX5_read_4 : decode cX5_read 4 = .ok (.ifCond .ne 10, 3) := dk_154 0 10 (dk_at dksX5_read_0 4 rfl rfl)
theorem dX5_read_7 : decode cX5_read 7 = .ok (.aload_n 0, 1) := dk_42 (dk_at dksX5_read_0 7 rfl rfl)
theorem dX5_read_8 : decode cX5_read 8 = .ok (.ldc 87, 2) := dk_18 87 (dk_at dksX5_read_0 8 rfl rfl)
theorem dX5_read_10 : decode cX5_read 10 = .ok (.invokevirtual 88, 3) := dk_182 0 88 (dk_at dksX5_read_0 10 rfl rfl)
theorem dX5_read_13 : decode cX5_read 13 = .ok (.ireturn, 1) := dk_172 (dk_at dksX5_read_0 13 rfl rfl)
theorem dX5_read_14 : decode cX5_read 14 = .ok (.aload_n 0, 1) := dk_42 (dk_at dksX5_read_0 14 rfl rfl)
theorem dX5_read_15 : decode cX5_read 15 = .ok (.getfield 34, 3) := dk_180 0 34 (dk_at dksX5_read_0 15 rfl rfl)
theorem dX5_read_18 : decode cX5_read 18 = .ok (.iload_n 1, 1) := dk_27 (dk_at dksX5_read_0 18 rfl rfl)
theorem dX5_read_19 : decode cX5_read 19 = .ok (.iaload, 1) := dk_46 (dk_at dksX5_read_0 19 rfl rfl)
theorem dX5_read_20 : decode cX5_read 20 = .ok (.ifCond .ge 11, 3) := dk_156 0 11 (dk_at dksX5_read_0 20 rfl rfl)
theorem dX5_read_23 : decode cX5_read 23 = .ok (.aload_n 0, 1) := dk_42 (dk_at dksX5_read_0 23 rfl rfl)
theorem dX5_read_24 : decode cX5_read 24 = .ok (.ldc_w 262, 3) := dk_19 1 6 (dk_at dksX5_read_1 0 rfl rfl)
theorem dX5_read_27 : decode cX5_read 27 = .ok (.invokevirtual 88, 3) := dk_182 0 88 (dk_at dksX5_read_1 3 rfl rfl)
theorem dX5_read_30 : decode cX5_read 30 = .ok (.ireturn, 1) := dk_172 (dk_at dksX5_read_1 6 rfl rfl)
theorem dX5_read_31 : decode cX5_read 31 = .ok (.iconst 0, 1) := dk_3 (dk_at dksX5_read_1 7 rfl rfl)
theorem dX5_read_32 : decode cX5_read 32 = .ok (.istore_n 2, 1) := dk_61 (dk_at dksX5_read_1 8 rfl rfl)
theorem dX5_read_33 : decode cX5_read 33 = .ok (.iload_n 2, 1) := dk_28 (dk_at dksX5_read_1 9 rfl rfl)
theorem dX5_read_34 : decode cX5_read 34 = .ok (.aload_n 0, 1) := dk_42 (dk_at dksX5_read_1 10 rfl rfl)
theorem dX5_read_35 : decode cX5_read 35 = .ok (.getfield 37, 3) := dk_180 0 37 (dk_at dksX5_read_1 11 rfl rfl)
theorem dX5_read_38 : decode cX5_read 38 = .ok (.iload_n 1, 1) := dk_27 (dk_at dksX5_read_1 14 rfl rfl)
theorem dX5_read_39 : decode cX5_read 39 = .ok (.iaload, 1) := dk_46 (dk_at dksX5_read_1 15 rfl rfl)
theorem dX5_read_40 : decode cX5_read 40 = .ok (.if_icmp .ge 53, 3) := dk_162 0 53 (dk_at dksX5_read_1 16 rfl rfl)
theorem dX5_read_43 : decode cX5_read 43 = .ok (.iload_n 2, 1) := dk_28 (dk_at dksX5_read_1 19 rfl rfl)
theorem dX5_read_44 : decode cX5_read 44 = .ok (.aload_n 0, 1) := dk_42 (dk_at dksX5_read_1 20 rfl rfl)
theorem dX5_read_45 : decode cX5_read 45 = .ok (.getfield 7, 3) := dk_180 0 7 (dk_at dksX5_read_1 21 rfl rfl)
theorem dX5_read_48 : decode cX5_read 48 = .ok (.iconst 1, 1) := dk_4 (dk_at dksX5_read_2 0 rfl rfl)
theorem dX5_read_49 : decode cX5_read 49 = .ok (.iaload, 1) := dk_46 (dk_at dksX5_read_2 1 rfl rfl)
theorem dX5_read_50 : decode cX5_read 50 = .ok (.if_icmp .ge 33, 3) := dk_162 0 33 (dk_at dksX5_read_2 2 rfl rfl)
theorem dX5_read_53 : decode cX5_read 53 = .ok (.aload_n 0, 1) := dk_42 (dk_at dksX5_read_2 5 rfl rfl)
theorem dX5_read_54 : decode cX5_read 54 = .ok (.getfield 40, 3) := dk_180 0 40 (dk_at dksX5_read_2 6 rfl rfl)
theorem dX5_read_57 : decode cX5_read 57 = .ok (.bipush 40, 2) := dk_16 40 (dk_at dksX5_read_2 9 rfl rfl)
theorem dX5_read_59 : decode cX5_read 59 = .ok (.iload_n 1, 1) := dk_27 (dk_at dksX5_read_2 11 rfl rfl)
theorem dX5_read_60 : decode cX5_read 60 = .ok (.imul, 1) := dk_104 (dk_at dksX5_read_2 12 rfl rfl)
theorem dX5_read_61 : decode cX5_read 61 = .ok (.iload_n 2, 1) := dk_28 (dk_at dksX5_read_2 13 rfl rfl)
theorem dX5_read_62 : decode cX5_read 62 = .ok (.iadd, 1) := dk_96 (dk_at dksX5_read_2 14 rfl rfl)
theorem dX5_read_63 : decode cX5_read 63 = .ok (.laload, 1) := dk_47 (dk_at dksX5_read_2 15 rfl rfl)
theorem dX5_read_64 : decode cX5_read 64 = .ok (.aload_n 0, 1) := dk_42 (dk_at dksX5_read_2 16 rfl rfl)
theorem dX5_read_65 : decode cX5_read 65 = .ok (.getfield 7, 3) := dk_180 0 7 (dk_at dksX5_read_2 17 rfl rfl)
theorem dX5_read_68 : decode cX5_read 68 = .ok (.bipush 104, 2) := dk_16 104 (dk_at dksX5_read_2 20 rfl rfl)
theorem dX5_read_70 : decode cX5_read 70 = .ok (.bipush 8, 2) := dk_16 8 (dk_at dksX5_read_2 22 rfl rfl)
theorem dX5_read_72 : decode cX5_read 72 = .ok (.iload_n 2, 1) := dk_28 (dk_at dksX5_read_3 0 rfl rfl)
theorem dX5_read_73 : decode cX5_read 73 = .ok (.imul, 1) := dk_104 (dk_at dksX5_read_3 1 rfl rfl)
theorem dX5_read_74 : decode cX5_read 74 = .ok (.iadd, 1) := dk_96 (dk_at dksX5_read_3 2 rfl rfl)
theorem dX5_read_75 : decode cX5_read 75 = .ok (.iconst 3, 1) := dk_6 (dk_at dksX5_read_3 3 rfl rfl)
theorem dX5_read_76 : decode cX5_read 76 = .ok (.iadd, 1) := dk_96 (dk_at dksX5_read_3 4 rfl rfl)
theorem dX5_read_77 : decode cX5_read 77 = .ok (.iaload, 1) := dk_46 (dk_at dksX5_read_3 5 rfl rfl)
theorem dX5_read_78 : decode cX5_read 78 = .ok (.i2l, 1) := dk_133 (dk_at dksX5_read_3 6 rfl rfl)
theorem dX5_read_79 : decode cX5_read 79 = .ok (.lcmp, 1) := dk_148 (dk_at dksX5_read_3 7 rfl rfl)
theorem dX5_read_80 : decode cX5_read 80 = .ok (.ifCond .eq 7, 3) := dk_153 0 7 (dk_at dksX5_read_3 8 rfl rfl)
theorem dX5_read_83 : decode cX5_read 83 = .ok (.iload_n 2, 1) := dk_28 (dk_at dksX5_read_3 11 rfl rfl)
theorem dX5_read_84 : decode cX5_read 84 = .ok (.iconst 1, 1) := dk_4 (dk_at dksX5_read_3 12 rfl rfl)
theorem dX5_read_85 : decode cX5_read 85 = .ok (.iadd, 1) := dk_96 (dk_at dksX5_read_3 13 rfl rfl)
theorem dX5_read_86 : decode cX5_read 86 = .ok (.ireturn, 1) := dk_172 (dk_at dksX5_read_3 14 rfl rfl)
theorem dX5_read_87 : decode cX5_read 87 = .ok (.iinc 2 1, 3) := dk_132 2 1 (dk_at dksX5_read_3 15 rfl rfl)
theorem dX5_read_90 : decode cX5_read 90 = .ok (.goto (-57), 3) := dk_167 255 199 (dk_at dksX5_read_3 18 rfl rfl)
theorem dX5_read_93 : decode cX5_read 93 = .ok (.iconst 0, 1) := dk_3 (dk_at dksX5_read_3 21 rfl rfl)
theorem dX5_read_94 : decode cX5_read 94 = .ok (.ireturn, 1) := dk_172 (dk_at dksX5_read_3 22 rfl rfl)
abbrev cX5_image : ByteArray := prog_24_method_77_code
def yX5_image : MethodName := ⟨RX5, "image", "()I"⟩
def dkwX5_image_1 : List UInt8 := [167, 255, 234, 42, 4, 181, 1, 12, 4, 172]
abbrev dktX5_image_1 : List UInt8 := dkwX5_image_1 ++ []
def dkwX5_image_0 : List UInt8 := [3, 60, 27, 17, 3, 151, 162, 0, 21, 42, 180, 0, 13, 27, 42, 180, 0, 7, 27, 46, 79, 132, 1, 1]
abbrev dktX5_image_0 : List UInt8 := dkwX5_image_0 ++ dktX5_image_1
theorem dksX5_image_0 : cX5_image.data.toList.drop 0 = dktX5_image_0 := by decide +kernel
theorem dksX5_image_1 : cX5_image.data.toList.drop 24 = dktX5_image_1 := dk_seg dksX5_image_0 24 rfl rfl
theorem dX5_image_0 : decode cX5_image 0 = .ok (.iconst 0, 1) := dk_3 (dk_at dksX5_image_0 0 rfl rfl)
theorem dX5_image_1 : decode cX5_image 1 = .ok (.istore_n 1, 1) := dk_60 (dk_at dksX5_image_0 1 rfl rfl)
theorem dX5_image_2 : decode cX5_image 2 = .ok (.iload_n 1, 1) := dk_27 (dk_at dksX5_image_0 2 rfl rfl)
theorem dX5_image_3 : decode cX5_image 3 = .ok (.sipush 919, 3) := dk_17 3 151 (dk_at dksX5_image_0 3 rfl rfl)
theorem dX5_image_6 : decode cX5_image 6 = .ok (.if_icmp .ge 21, 3) := dk_162 0 21 (dk_at dksX5_image_0 6 rfl rfl)
theorem dX5_image_9 : decode cX5_image 9 = .ok (.aload_n 0, 1) := dk_42 (dk_at dksX5_image_0 9 rfl rfl)
theorem dX5_image_10 : decode cX5_image 10 = .ok (.getfield 13, 3) := dk_180 0 13 (dk_at dksX5_image_0 10 rfl rfl)
theorem dX5_image_13 : decode cX5_image 13 = .ok (.iload_n 1, 1) := dk_27 (dk_at dksX5_image_0 13 rfl rfl)
theorem dX5_image_14 : decode cX5_image 14 = .ok (.aload_n 0, 1) := dk_42 (dk_at dksX5_image_0 14 rfl rfl)
theorem dX5_image_15 : decode cX5_image 15 = .ok (.getfield 7, 3) := dk_180 0 7 (dk_at dksX5_image_0 15 rfl rfl)
theorem dX5_image_18 : decode cX5_image 18 = .ok (.iload_n 1, 1) := dk_27 (dk_at dksX5_image_0 18 rfl rfl)
theorem dX5_image_19 : decode cX5_image 19 = .ok (.iaload, 1) := dk_46 (dk_at dksX5_image_0 19 rfl rfl)
theorem dX5_image_20 : decode cX5_image 20 = .ok (.iastore, 1) := dk_79 (dk_at dksX5_image_0 20 rfl rfl)
theorem dX5_image_21 : decode cX5_image 21 = .ok (.iinc 1 1, 3) := dk_132 1 1 (dk_at dksX5_image_0 21 rfl rfl)
theorem dX5_image_24 : decode cX5_image 24 = .ok (.goto (-22), 3) := dk_167 255 234 (dk_at dksX5_image_1 0 rfl rfl)
theorem dX5_image_27 : decode cX5_image 27 = .ok (.aload_n 0, 1) := dk_42 (dk_at dksX5_image_1 3 rfl rfl)
theorem dX5_image_28 : decode cX5_image 28 = .ok (.iconst 1, 1) := dk_4 (dk_at dksX5_image_1 4 rfl rfl)
theorem dX5_image_29 : decode cX5_image 29 = .ok (.putfield 268, 3) := dk_181 1 12 (dk_at dksX5_image_1 5 rfl rfl)
theorem dX5_image_32 : decode cX5_image 32 = .ok (.iconst 1, 1) := dk_4 (dk_at dksX5_image_1 8 rfl rfl)
theorem dX5_image_33 : decode cX5_image 33 = .ok (.ireturn, 1) := dk_172 (dk_at dksX5_image_1 9 rfl rfl)
abbrev cX5_undo : ByteArray := prog_24_method_78_code
def yX5_undo : MethodName := ⟨RX5, "undo", "()I"⟩
def dkwX5_undo_2 : List UInt8 := [181, 0, 48, 42, 180, 0, 7, 4, 46, 172]
abbrev dktX5_undo_2 : List UInt8 := dkwX5_undo_2 ++ []
def dkwX5_undo_1 : List UInt8 := [180, 0, 7, 27, 42, 180, 0, 13, 27, 46, 79, 132, 1, 1, 167, 255, 234, 42, 4, 181, 0, 44, 42, 4]
abbrev dktX5_undo_1 : List UInt8 := dkwX5_undo_1 ++ dktX5_undo_2
def dkwX5_undo_0 : List UInt8 := [42, 180, 1, 12, 154, 0, 10, 42, 18, 239, 182, 0, 88, 172, 3, 60, 27, 17, 3, 151, 162, 0, 21, 42]
abbrev dktX5_undo_0 : List UInt8 := dkwX5_undo_0 ++ dktX5_undo_1
theorem dksX5_undo_0 : cX5_undo.data.toList.drop 0 = dktX5_undo_0 := by decide +kernel
theorem dksX5_undo_1 : cX5_undo.data.toList.drop 24 = dktX5_undo_1 := dk_seg dksX5_undo_0 24 rfl rfl
theorem dksX5_undo_2 : cX5_undo.data.toList.drop 48 = dktX5_undo_2 := dk_seg dksX5_undo_1 24 rfl rfl
theorem dX5_undo_0 : decode cX5_undo 0 = .ok (.aload_n 0, 1) := dk_42 (dk_at dksX5_undo_0 0 rfl rfl)
theorem dX5_undo_1 : decode cX5_undo 1 = .ok (.getfield 268, 3) := dk_180 1 12 (dk_at dksX5_undo_0 1 rfl rfl)
theorem dX5_undo_4 : decode cX5_undo 4 = .ok (.ifCond .ne 10, 3) := dk_154 0 10 (dk_at dksX5_undo_0 4 rfl rfl)
theorem dX5_undo_7 : decode cX5_undo 7 = .ok (.aload_n 0, 1) := dk_42 (dk_at dksX5_undo_0 7 rfl rfl)
theorem dX5_undo_8 : decode cX5_undo 8 = .ok (.ldc 239, 2) := dk_18 239 (dk_at dksX5_undo_0 8 rfl rfl)
theorem dX5_undo_10 : decode cX5_undo 10 = .ok (.invokevirtual 88, 3) := dk_182 0 88 (dk_at dksX5_undo_0 10 rfl rfl)
theorem dX5_undo_13 : decode cX5_undo 13 = .ok (.ireturn, 1) := dk_172 (dk_at dksX5_undo_0 13 rfl rfl)
theorem dX5_undo_14 : decode cX5_undo 14 = .ok (.iconst 0, 1) := dk_3 (dk_at dksX5_undo_0 14 rfl rfl)
theorem dX5_undo_15 : decode cX5_undo 15 = .ok (.istore_n 1, 1) := dk_60 (dk_at dksX5_undo_0 15 rfl rfl)
theorem dX5_undo_16 : decode cX5_undo 16 = .ok (.iload_n 1, 1) := dk_27 (dk_at dksX5_undo_0 16 rfl rfl)
theorem dX5_undo_17 : decode cX5_undo 17 = .ok (.sipush 919, 3) := dk_17 3 151 (dk_at dksX5_undo_0 17 rfl rfl)
theorem dX5_undo_20 : decode cX5_undo 20 = .ok (.if_icmp .ge 21, 3) := dk_162 0 21 (dk_at dksX5_undo_0 20 rfl rfl)
theorem dX5_undo_23 : decode cX5_undo 23 = .ok (.aload_n 0, 1) := dk_42 (dk_at dksX5_undo_0 23 rfl rfl)
theorem dX5_undo_24 : decode cX5_undo 24 = .ok (.getfield 7, 3) := dk_180 0 7 (dk_at dksX5_undo_1 0 rfl rfl)
theorem dX5_undo_27 : decode cX5_undo 27 = .ok (.iload_n 1, 1) := dk_27 (dk_at dksX5_undo_1 3 rfl rfl)
theorem dX5_undo_28 : decode cX5_undo 28 = .ok (.aload_n 0, 1) := dk_42 (dk_at dksX5_undo_1 4 rfl rfl)
theorem dX5_undo_29 : decode cX5_undo 29 = .ok (.getfield 13, 3) := dk_180 0 13 (dk_at dksX5_undo_1 5 rfl rfl)
theorem dX5_undo_32 : decode cX5_undo 32 = .ok (.iload_n 1, 1) := dk_27 (dk_at dksX5_undo_1 8 rfl rfl)
theorem dX5_undo_33 : decode cX5_undo 33 = .ok (.iaload, 1) := dk_46 (dk_at dksX5_undo_1 9 rfl rfl)
theorem dX5_undo_34 : decode cX5_undo 34 = .ok (.iastore, 1) := dk_79 (dk_at dksX5_undo_1 10 rfl rfl)
theorem dX5_undo_35 : decode cX5_undo 35 = .ok (.iinc 1 1, 3) := dk_132 1 1 (dk_at dksX5_undo_1 11 rfl rfl)
theorem dX5_undo_38 : decode cX5_undo 38 = .ok (.goto (-22), 3) := dk_167 255 234 (dk_at dksX5_undo_1 14 rfl rfl)
theorem dX5_undo_41 : decode cX5_undo 41 = .ok (.aload_n 0, 1) := dk_42 (dk_at dksX5_undo_1 17 rfl rfl)
theorem dX5_undo_42 : decode cX5_undo 42 = .ok (.iconst 1, 1) := dk_4 (dk_at dksX5_undo_1 18 rfl rfl)
theorem dX5_undo_43 : decode cX5_undo 43 = .ok (.putfield 44, 3) := dk_181 0 44 (dk_at dksX5_undo_1 19 rfl rfl)
theorem dX5_undo_46 : decode cX5_undo 46 = .ok (.aload_n 0, 1) := dk_42 (dk_at dksX5_undo_1 22 rfl rfl)
theorem dX5_undo_47 : decode cX5_undo 47 = .ok (.iconst 1, 1) := dk_4 (dk_at dksX5_undo_1 23 rfl rfl)
theorem dX5_undo_48 : decode cX5_undo 48 = .ok (.putfield 48, 3) := dk_181 0 48 (dk_at dksX5_undo_2 0 rfl rfl)
theorem dX5_undo_51 : decode cX5_undo 51 = .ok (.aload_n 0, 1) := dk_42 (dk_at dksX5_undo_2 3 rfl rfl)
theorem dX5_undo_52 : decode cX5_undo 52 = .ok (.getfield 7, 3) := dk_180 0 7 (dk_at dksX5_undo_2 4 rfl rfl)
theorem dX5_undo_55 : decode cX5_undo 55 = .ok (.iconst 1, 1) := dk_4 (dk_at dksX5_undo_2 7 rfl rfl)
theorem dX5_undo_56 : decode cX5_undo 56 = .ok (.iaload, 1) := dk_46 (dk_at dksX5_undo_2 8 rfl rfl)
theorem dX5_undo_57 : decode cX5_undo 57 = .ok (.ireturn, 1) := dk_172 (dk_at dksX5_undo_2 9 rfl rfl)
abbrev cX5_tear : ByteArray := prog_24_method_79_code
def yX5_tear : MethodName := ⟨RX5, "tear", "()I"⟩
def dkwX5_tear_0 : List UInt8 := [42, 180, 1, 12, 60, 42, 3, 181, 1, 12, 27, 153, 0, 7, 4, 167, 0, 4, 3, 172]
abbrev dktX5_tear_0 : List UInt8 := dkwX5_tear_0 ++ []
theorem dksX5_tear_0 : cX5_tear.data.toList.drop 0 = dktX5_tear_0 := by decide +kernel
theorem dX5_tear_0 : decode cX5_tear 0 = .ok (.aload_n 0, 1) := dk_42 (dk_at dksX5_tear_0 0 rfl rfl)
theorem dX5_tear_1 : decode cX5_tear 1 = .ok (.getfield 268, 3) := dk_180 1 12 (dk_at dksX5_tear_0 1 rfl rfl)
theorem dX5_tear_4 : decode cX5_tear 4 = .ok (.istore_n 1, 1) := dk_60 (dk_at dksX5_tear_0 4 rfl rfl)
theorem dX5_tear_5 : decode cX5_tear 5 = .ok (.aload_n 0, 1) := dk_42 (dk_at dksX5_tear_0 5 rfl rfl)
theorem dX5_tear_6 : decode cX5_tear 6 = .ok (.iconst 0, 1) := dk_3 (dk_at dksX5_tear_0 6 rfl rfl)
theorem dX5_tear_7 : decode cX5_tear 7 = .ok (.putfield 268, 3) := dk_181 1 12 (dk_at dksX5_tear_0 7 rfl rfl)
theorem dX5_tear_10 : decode cX5_tear 10 = .ok (.iload_n 1, 1) := dk_27 (dk_at dksX5_tear_0 10 rfl rfl)
theorem dX5_tear_11 : decode cX5_tear 11 = .ok (.ifCond .eq 7, 3) := dk_153 0 7 (dk_at dksX5_tear_0 11 rfl rfl)
theorem dX5_tear_14 : decode cX5_tear 14 = .ok (.iconst 1, 1) := dk_4 (dk_at dksX5_tear_0 14 rfl rfl)
theorem dX5_tear_15 : decode cX5_tear 15 = .ok (.goto 4, 3) := dk_167 0 4 (dk_at dksX5_tear_0 15 rfl rfl)
theorem dX5_tear_18 : decode cX5_tear 18 = .ok (.iconst 0, 1) := dk_3 (dk_at dksX5_tear_0 18 rfl rfl)
theorem dX5_tear_19 : decode cX5_tear 19 = .ok (.ireturn, 1) := dk_172 (dk_at dksX5_tear_0 19 rfl rfl)
abbrev cX5_count : ByteArray := prog_24_method_80_code
def yX5_count : MethodName := ⟨RX5, "count", "(I)I"⟩
def dkwX5_count_4 : List UInt8 := [180, 0, 7, 16, 17, 46, 172]
abbrev dktX5_count_4 : List UInt8 := dkwX5_count_4 ++ []
def dkwX5_count_3 : List UInt8 := [46, 172, 42, 180, 0, 7, 6, 46, 172, 42, 180, 0, 115, 172, 42, 180, 0, 7, 5, 46, 172, 42]
abbrev dktX5_count_3 : List UInt8 := dkwX5_count_3 ++ dktX5_count_4
def dkwX5_count_2 : List UInt8 := [42, 180, 0, 7, 3, 46, 172, 42, 180, 0, 7, 4, 46, 172, 42, 180, 0, 192, 172, 42, 180, 0, 7, 8]
abbrev dktX5_count_2 : List UInt8 := dkwX5_count_2 ++ dktX5_count_3
def dkwX5_count_1 : List UInt8 := [170, 0, 0, 0, 0, 0, 0, 89, 0, 0, 0, 0, 0, 0, 0, 6, 0, 0, 0, 44, 0, 0, 0, 51, 0, 0, 0, 58, 0, 0, 0, 63, 0, 0, 0, 70, 0, 0, 0, 77, 0, 0, 0, 82]
abbrev dktX5_count_1 : List UInt8 := dkwX5_count_1 ++ dktX5_count_2
def dkwX5_count_0 : List UInt8 := [27, 133, 9, 20, 0, 96, 184, 0, 98, 154, 0, 10, 42, 18, 87, 182, 0, 88, 172, 42, 182, 0, 198, 27]
abbrev dktX5_count_0 : List UInt8 := dkwX5_count_0 ++ dktX5_count_1
theorem dksX5_count_0 : cX5_count.data.toList.drop 0 = dktX5_count_0 := by decide +kernel
theorem dksX5_count_1 : cX5_count.data.toList.drop 24 = dktX5_count_1 := dk_seg dksX5_count_0 24 rfl rfl
theorem dksX5_count_2 : cX5_count.data.toList.drop 68 = dktX5_count_2 := dk_seg dksX5_count_1 44 rfl rfl
theorem dksX5_count_3 : cX5_count.data.toList.drop 92 = dktX5_count_3 := dk_seg dksX5_count_2 24 rfl rfl
theorem dksX5_count_4 : cX5_count.data.toList.drop 114 = dktX5_count_4 := dk_seg dksX5_count_3 22 rfl rfl
theorem dX5_count_0 : decode cX5_count 0 = .ok (.iload_n 1, 1) := dk_27 (dk_at dksX5_count_0 0 rfl rfl)
theorem dX5_count_1 : decode cX5_count 1 = .ok (.i2l, 1) := dk_133 (dk_at dksX5_count_0 1 rfl rfl)
theorem dX5_count_2 : decode cX5_count 2 = .ok (.lconst 0, 1) := dk_9 (dk_at dksX5_count_0 2 rfl rfl)
theorem dX5_count_3 : decode cX5_count 3 = .ok (.ldc2_w 96, 3) := dk_20 0 96 (dk_at dksX5_count_0 3 rfl rfl)
theorem dX5_count_6 : decode cX5_count 6 = .ok (.invokestatic 98, 3) := dk_184 0 98 (dk_at dksX5_count_0 6 rfl rfl)
theorem dX5_count_9 : decode cX5_count 9 = .ok (.ifCond .ne 10, 3) := dk_154 0 10 (dk_at dksX5_count_0 9 rfl rfl)
theorem dX5_count_12 : decode cX5_count 12 = .ok (.aload_n 0, 1) := dk_42 (dk_at dksX5_count_0 12 rfl rfl)
theorem dX5_count_13 : decode cX5_count 13 = .ok (.ldc 87, 2) := dk_18 87 (dk_at dksX5_count_0 13 rfl rfl)
theorem dX5_count_15 : decode cX5_count 15 = .ok (.invokevirtual 88, 3) := dk_182 0 88 (dk_at dksX5_count_0 15 rfl rfl)
theorem dX5_count_18 : decode cX5_count 18 = .ok (.ireturn, 1) := dk_172 (dk_at dksX5_count_0 18 rfl rfl)
theorem dX5_count_19 : decode cX5_count 19 = .ok (.aload_n 0, 1) := dk_42 (dk_at dksX5_count_0 19 rfl rfl)
theorem dX5_count_20 : decode cX5_count 20 = .ok (.invokevirtual 198, 3) := dk_182 0 198 (dk_at dksX5_count_0 20 rfl rfl)
theorem dX5_count_23 : decode cX5_count 23 = .ok (.iload_n 1, 1) := dk_27 (dk_at dksX5_count_0 23 rfl rfl)
theorem dX5_count_24 : decode cX5_count 24 = .ok (.tableswitch 89 0 6 #[44, 51, 58, 63, 70, 77, 82], 44) := by decide +kernel
theorem dX5_count_68 : decode cX5_count 68 = .ok (.aload_n 0, 1) := dk_42 (dk_at dksX5_count_2 0 rfl rfl)
theorem dX5_count_69 : decode cX5_count 69 = .ok (.getfield 7, 3) := dk_180 0 7 (dk_at dksX5_count_2 1 rfl rfl)
theorem dX5_count_72 : decode cX5_count 72 = .ok (.iconst 0, 1) := dk_3 (dk_at dksX5_count_2 4 rfl rfl)
theorem dX5_count_73 : decode cX5_count 73 = .ok (.iaload, 1) := dk_46 (dk_at dksX5_count_2 5 rfl rfl)
theorem dX5_count_74 : decode cX5_count 74 = .ok (.ireturn, 1) := dk_172 (dk_at dksX5_count_2 6 rfl rfl)
theorem dX5_count_75 : decode cX5_count 75 = .ok (.aload_n 0, 1) := dk_42 (dk_at dksX5_count_2 7 rfl rfl)
theorem dX5_count_76 : decode cX5_count 76 = .ok (.getfield 7, 3) := dk_180 0 7 (dk_at dksX5_count_2 8 rfl rfl)
theorem dX5_count_79 : decode cX5_count 79 = .ok (.iconst 1, 1) := dk_4 (dk_at dksX5_count_2 11 rfl rfl)
theorem dX5_count_80 : decode cX5_count 80 = .ok (.iaload, 1) := dk_46 (dk_at dksX5_count_2 12 rfl rfl)
theorem dX5_count_81 : decode cX5_count 81 = .ok (.ireturn, 1) := dk_172 (dk_at dksX5_count_2 13 rfl rfl)
theorem dX5_count_82 : decode cX5_count 82 = .ok (.aload_n 0, 1) := dk_42 (dk_at dksX5_count_2 14 rfl rfl)
theorem dX5_count_83 : decode cX5_count 83 = .ok (.getfield 192, 3) := dk_180 0 192 (dk_at dksX5_count_2 15 rfl rfl)
theorem dX5_count_86 : decode cX5_count 86 = .ok (.ireturn, 1) := dk_172 (dk_at dksX5_count_2 18 rfl rfl)
theorem dX5_count_87 : decode cX5_count 87 = .ok (.aload_n 0, 1) := dk_42 (dk_at dksX5_count_2 19 rfl rfl)
theorem dX5_count_88 : decode cX5_count 88 = .ok (.getfield 7, 3) := dk_180 0 7 (dk_at dksX5_count_2 20 rfl rfl)
theorem dX5_count_91 : decode cX5_count 91 = .ok (.iconst 5, 1) := dk_8 (dk_at dksX5_count_2 23 rfl rfl)
theorem dX5_count_92 : decode cX5_count 92 = .ok (.iaload, 1) := dk_46 (dk_at dksX5_count_3 0 rfl rfl)
theorem dX5_count_93 : decode cX5_count 93 = .ok (.ireturn, 1) := dk_172 (dk_at dksX5_count_3 1 rfl rfl)
theorem dX5_count_94 : decode cX5_count 94 = .ok (.aload_n 0, 1) := dk_42 (dk_at dksX5_count_3 2 rfl rfl)
theorem dX5_count_95 : decode cX5_count 95 = .ok (.getfield 7, 3) := dk_180 0 7 (dk_at dksX5_count_3 3 rfl rfl)
theorem dX5_count_98 : decode cX5_count 98 = .ok (.iconst 3, 1) := dk_6 (dk_at dksX5_count_3 6 rfl rfl)
theorem dX5_count_99 : decode cX5_count 99 = .ok (.iaload, 1) := dk_46 (dk_at dksX5_count_3 7 rfl rfl)
theorem dX5_count_100 : decode cX5_count 100 = .ok (.ireturn, 1) := dk_172 (dk_at dksX5_count_3 8 rfl rfl)
theorem dX5_count_101 : decode cX5_count 101 = .ok (.aload_n 0, 1) := dk_42 (dk_at dksX5_count_3 9 rfl rfl)
theorem dX5_count_102 : decode cX5_count 102 = .ok (.getfield 115, 3) := dk_180 0 115 (dk_at dksX5_count_3 10 rfl rfl)
theorem dX5_count_105 : decode cX5_count 105 = .ok (.ireturn, 1) := dk_172 (dk_at dksX5_count_3 13 rfl rfl)
theorem dX5_count_106 : decode cX5_count 106 = .ok (.aload_n 0, 1) := dk_42 (dk_at dksX5_count_3 14 rfl rfl)
theorem dX5_count_107 : decode cX5_count 107 = .ok (.getfield 7, 3) := dk_180 0 7 (dk_at dksX5_count_3 15 rfl rfl)
theorem dX5_count_110 : decode cX5_count 110 = .ok (.iconst 2, 1) := dk_5 (dk_at dksX5_count_3 18 rfl rfl)
theorem dX5_count_111 : decode cX5_count 111 = .ok (.iaload, 1) := dk_46 (dk_at dksX5_count_3 19 rfl rfl)
theorem dX5_count_112 : decode cX5_count 112 = .ok (.ireturn, 1) := dk_172 (dk_at dksX5_count_3 20 rfl rfl)
theorem dX5_count_113 : decode cX5_count 113 = .ok (.aload_n 0, 1) := dk_42 (dk_at dksX5_count_3 21 rfl rfl)
theorem dX5_count_114 : decode cX5_count 114 = .ok (.getfield 7, 3) := dk_180 0 7 (dk_at dksX5_count_4 0 rfl rfl)
theorem dX5_count_117 : decode cX5_count 117 = .ok (.bipush 17, 2) := dk_16 17 (dk_at dksX5_count_4 3 rfl rfl)
theorem dX5_count_119 : decode cX5_count 119 = .ok (.iaload, 1) := dk_46 (dk_at dksX5_count_4 5 rfl rfl)
theorem dX5_count_120 : decode cX5_count 120 = .ok (.ireturn, 1) := dk_172 (dk_at dksX5_count_4 6 rfl rfl)
abbrev cX5_status : ByteArray := prog_24_method_81_code
def yX5_status : MethodName := ⟨RX5, "status", "(I)I"⟩
def dkwX5_status_1 : List UInt8 := [167, 0, 9, 42, 18, 87, 182, 0, 88, 172]
abbrev dktX5_status_1 : List UInt8 := dkwX5_status_1 ++ []
def dkwX5_status_0 : List UInt8 := [27, 133, 20, 1, 15, 20, 1, 17, 184, 0, 98, 153, 0, 14, 42, 180, 0, 16, 27, 4, 96, 46]
abbrev dktX5_status_0 : List UInt8 := dkwX5_status_0 ++ dktX5_status_1
theorem dksX5_status_0 : cX5_status.data.toList.drop 0 = dktX5_status_0 := by decide +kernel
theorem dksX5_status_1 : cX5_status.data.toList.drop 22 = dktX5_status_1 := dk_seg dksX5_status_0 22 rfl rfl
theorem dX5_status_0 : decode cX5_status 0 = .ok (.iload_n 1, 1) := dk_27 (dk_at dksX5_status_0 0 rfl rfl)
theorem dX5_status_1 : decode cX5_status 1 = .ok (.i2l, 1) := dk_133 (dk_at dksX5_status_0 1 rfl rfl)
theorem dX5_status_2 : decode cX5_status 2 = .ok (.ldc2_w 271, 3) := dk_20 1 15 (dk_at dksX5_status_0 2 rfl rfl)
theorem dX5_status_5 : decode cX5_status 5 = .ok (.ldc2_w 273, 3) := dk_20 1 17 (dk_at dksX5_status_0 5 rfl rfl)
theorem dX5_status_8 : decode cX5_status 8 = .ok (.invokestatic 98, 3) := dk_184 0 98 (dk_at dksX5_status_0 8 rfl rfl)
theorem dX5_status_11 : decode cX5_status 11 = .ok (.ifCond .eq 14, 3) := dk_153 0 14 (dk_at dksX5_status_0 11 rfl rfl)
theorem dX5_status_14 : decode cX5_status 14 = .ok (.aload_n 0, 1) := dk_42 (dk_at dksX5_status_0 14 rfl rfl)
theorem dX5_status_15 : decode cX5_status 15 = .ok (.getfield 16, 3) := dk_180 0 16 (dk_at dksX5_status_0 15 rfl rfl)
theorem dX5_status_18 : decode cX5_status 18 = .ok (.iload_n 1, 1) := dk_27 (dk_at dksX5_status_0 18 rfl rfl)
theorem dX5_status_19 : decode cX5_status 19 = .ok (.iconst 1, 1) := dk_4 (dk_at dksX5_status_0 19 rfl rfl)
theorem dX5_status_20 : decode cX5_status 20 = .ok (.iadd, 1) := dk_96 (dk_at dksX5_status_0 20 rfl rfl)
theorem dX5_status_21 : decode cX5_status 21 = .ok (.iaload, 1) := dk_46 (dk_at dksX5_status_0 21 rfl rfl)
theorem dX5_status_22 : decode cX5_status 22 = .ok (.goto 9, 3) := dk_167 0 9 (dk_at dksX5_status_1 0 rfl rfl)
theorem dX5_status_25 : decode cX5_status 25 = .ok (.aload_n 0, 1) := dk_42 (dk_at dksX5_status_1 3 rfl rfl)
theorem dX5_status_26 : decode cX5_status 26 = .ok (.ldc 87, 2) := dk_18 87 (dk_at dksX5_status_1 4 rfl rfl)
theorem dX5_status_28 : decode cX5_status 28 = .ok (.invokevirtual 88, 3) := dk_182 0 88 (dk_at dksX5_status_1 6 rfl rfl)
theorem dX5_status_31 : decode cX5_status 31 = .ok (.ireturn, 1) := dk_172 (dk_at dksX5_status_1 9 rfl rfl)
theorem q68 : (Jvm.Cond.initialized "SlipWeeksModel") ∈ lw_all := lw_g (lw_at lw_m1 7 rfl) rfl
theorem q1096 : (Jvm.Cond.instantiable "SlipWeeksModel" (30 : Nat)) ∈ lw_all := lw_g (lw_at lw_m5 75 rfl) rfl
theorem q1098 : (Jvm.Cond.instanceMethod ({ cls := "SlipWeeksModel", name := "<init>", desc := "()V" } : Jvm.MethodName)) ∈ lw_all := lw_g (lw_at lw_m5 77 rfl) rfl
theorem q1099 : (Jvm.Cond.code ({ cls := "SlipWeeksModel", name := "<init>", desc := "()V" } : Jvm.MethodName) prog_24_method_1_code (4 : Nat) (Option.none : Option Jvm.ClassFile.FieldType)) ∈ lw_all := lw_g (lw_at lw_m5 78 rfl) rfl
theorem q1100 : (Jvm.Cond.methodLink "SlipWeeksModel" (1 : Nat) ({ cls := "java/lang/Object", name := "<init>", desc := "()V" } : Jvm.MethodName)) ∈ lw_all := lw_g (lw_at lw_m5 79 rfl) rfl
theorem q1101 : (Jvm.Cond.methodLink "SlipWeeksModel" (79 : Nat) ({ cls := "SlipWeeksModel", name := "looksAt", desc := "(II)V" } : Jvm.MethodName)) ∈ lw_all := lw_g (lw_at lw_m5 80 rfl) rfl
theorem q1102 : (Jvm.Cond.privateMethod ({ cls := "SlipWeeksModel", name := "looksAt", desc := "(II)V" } : Jvm.MethodName)) ∈ lw_tbl := lw_at lw_m5 81 rfl
theorem q1103 : (Jvm.Cond.instanceMethod ({ cls := "SlipWeeksModel", name := "looksAt", desc := "(II)V" } : Jvm.MethodName)) ∈ lw_all := lw_g (lw_at lw_m5 82 rfl) rfl
theorem q1104 : (Jvm.Cond.code ({ cls := "SlipWeeksModel", name := "looksAt", desc := "(II)V" } : Jvm.MethodName) prog_24_method_3_code (7 : Nat) (Option.none : Option Jvm.ClassFile.FieldType)) ∈ lw_all := lw_g (lw_at lw_m5 83 rfl) rfl
theorem q1105 : (Jvm.Cond.methodLink "SlipWeeksModel" (83 : Nat) ({ cls := "SlipWeeksModel", name := "has", desc := "(II)Z" } : Jvm.MethodName)) ∈ lw_all := lw_g (lw_at lw_m5 84 rfl) rfl
theorem q1106 : (Jvm.Cond.static ({ cls := "SlipWeeksModel", name := "has", desc := "(II)Z" } : Jvm.MethodName)) ∈ lw_all := lw_g (lw_at lw_m5 85 rfl) rfl
theorem q1107 : (Jvm.Cond.code ({ cls := "SlipWeeksModel", name := "has", desc := "(II)Z" } : Jvm.MethodName) prog_24_method_8_code (2 : Nat) (Option.some Jvm.ClassFile.FieldType.boolean)) ∈ lw_all := lw_g (lw_at lw_m5 86 rfl) rfl
theorem q1108 : (Jvm.Cond.fieldLink "SlipWeeksModel" (7 : Nat) "SlipWeeksModel" "s" "[I") ∈ lw_all := lw_g (lw_at lw_m5 87 rfl) rfl
theorem q1109 : (Jvm.Cond.fieldLink "SlipWeeksModel" (13 : Nat) "SlipWeeksModel" "kept" "[I") ∈ lw_all := lw_g (lw_at lw_m5 88 rfl) rfl
theorem q1110 : (Jvm.Cond.fieldLink "SlipWeeksModel" (268 : Nat) "SlipWeeksModel" "isKept" "Z") ∈ lw_all := lw_g (lw_at lw_m5 89 rfl) rfl
theorem q1111 : (Jvm.Cond.fieldLink "SlipWeeksModel" (16 : Nat) "SlipWeeksModel" "findings" "[I") ∈ lw_all := lw_g (lw_at lw_m5 90 rfl) rfl
theorem q1112 : (Jvm.Cond.fieldLink "SlipWeeksModel" (19 : Nat) "SlipWeeksModel" "rowAt" "[I") ∈ lw_all := lw_g (lw_at lw_m5 91 rfl) rfl
theorem q1113 : (Jvm.Cond.fieldLink "SlipWeeksModel" (22 : Nat) "SlipWeeksModel" "placeAt" "[I") ∈ lw_all := lw_g (lw_at lw_m5 92 rfl) rfl
theorem q1114 : (Jvm.Cond.fieldLink "SlipWeeksModel" (25 : Nat) "SlipWeeksModel" "bitsIn" "[I") ∈ lw_all := lw_g (lw_at lw_m5 93 rfl) rfl
theorem q1115 : (Jvm.Cond.fieldLink "SlipWeeksModel" (28 : Nat) "SlipWeeksModel" "factOf" "[I") ∈ lw_all := lw_g (lw_at lw_m5 94 rfl) rfl
theorem q1116 : (Jvm.Cond.fieldLink "SlipWeeksModel" (31 : Nat) "SlipWeeksModel" "tape" "[I") ∈ lw_all := lw_g (lw_at lw_m5 95 rfl) rfl
theorem q1117 : (Jvm.Cond.fieldLink "SlipWeeksModel" (115 : Nat) "SlipWeeksModel" "taped" "I") ∈ lw_all := lw_g (lw_at lw_m5 96 rfl) rfl
theorem q1118 : (Jvm.Cond.fieldLink "SlipWeeksModel" (34 : Nat) "SlipWeeksModel" "bitsOf" "[I") ∈ lw_all := lw_g (lw_at lw_m5 97 rfl) rfl
theorem q1119 : (Jvm.Cond.fieldLink "SlipWeeksModel" (37 : Nat) "SlipWeeksModel" "sizes" "[I") ∈ lw_all := lw_g (lw_at lw_m5 98 rfl) rfl
theorem q1120 : (Jvm.Cond.fieldLink "SlipWeeksModel" (40 : Nat) "SlipWeeksModel" "numbers" "[J") ∈ lw_all := lw_g (lw_at lw_m5 99 rfl) rfl
theorem q1121 : (Jvm.Cond.fieldLink "SlipWeeksModel" (119 : Nat) "SlipWeeksModel" "at" "I") ∈ lw_all := lw_g (lw_at lw_m5 100 rfl) rfl
theorem q1122 : (Jvm.Cond.fieldLink "SlipWeeksModel" (148 : Nat) "SlipWeeksModel" "open" "I") ∈ lw_all := lw_g (lw_at lw_m5 101 rfl) rfl
theorem q1123 : (Jvm.Cond.fieldLink "SlipWeeksModel" (135 : Nat) "SlipWeeksModel" "isBad" "Z") ∈ lw_all := lw_g (lw_at lw_m5 102 rfl) rfl
theorem q1124 : (Jvm.Cond.fieldLink "SlipWeeksModel" (112 : Nat) "SlipWeeksModel" "isTaped" "Z") ∈ lw_all := lw_g (lw_at lw_m5 103 rfl) rfl
theorem q1125 : (Jvm.Cond.fieldLink "SlipWeeksModel" (126 : Nat) "SlipWeeksModel" "placeRead" "I") ∈ lw_all := lw_g (lw_at lw_m5 104 rfl) rfl
theorem q1126 : (Jvm.Cond.fieldLink "SlipWeeksModel" (44 : Nat) "SlipWeeksModel" "isNew" "Z") ∈ lw_all := lw_g (lw_at lw_m5 105 rfl) rfl
theorem q1127 : (Jvm.Cond.fieldLink "SlipWeeksModel" (48 : Nat) "SlipWeeksModel" "isSaidNew" "Z") ∈ lw_all := lw_g (lw_at lw_m5 106 rfl) rfl
theorem q1128 : (Jvm.Cond.fieldLink "SlipWeeksModel" (51 : Nat) "SlipWeeksModel" "isWinnerNew" "Z") ∈ lw_all := lw_g (lw_at lw_m5 107 rfl) rfl
theorem q1129 : (Jvm.Cond.fieldLink "SlipWeeksModel" (54 : Nat) "SlipWeeksModel" "liked" "[I") ∈ lw_all := lw_g (lw_at lw_m5 108 rfl) rfl
theorem q1130 : (Jvm.Cond.fieldLink "SlipWeeksModel" (57 : Nat) "SlipWeeksModel" "all" "[I") ∈ lw_all := lw_g (lw_at lw_m5 109 rfl) rfl
theorem q1131 : (Jvm.Cond.fieldLink "SlipWeeksModel" (60 : Nat) "SlipWeeksModel" "likesOf" "[I") ∈ lw_all := lw_g (lw_at lw_m5 110 rfl) rfl
theorem q1132 : (Jvm.Cond.fieldLink "SlipWeeksModel" (192 : Nat) "SlipWeeksModel" "allCrossed" "I") ∈ lw_all := lw_g (lw_at lw_m5 111 rfl) rfl
theorem q1133 : (Jvm.Cond.fieldLink "SlipWeeksModel" (63 : Nat) "SlipWeeksModel" "winners" "[I") ∈ lw_all := lw_g (lw_at lw_m5 112 rfl) rfl
theorem q1134 : (Jvm.Cond.fieldLink "SlipWeeksModel" (66 : Nat) "SlipWeeksModel" "tried" "[I") ∈ lw_all := lw_g (lw_at lw_m5 113 rfl) rfl
theorem q1135 : (Jvm.Cond.fieldLink "SlipWeeksModel" (69 : Nat) "SlipWeeksModel" "isTaken" "[Z") ∈ lw_all := lw_g (lw_at lw_m5 114 rfl) rfl
theorem q1136 : (Jvm.Cond.fieldLink "SlipWeeksModel" (73 : Nat) "SlipWeeksModel" "bought" "[I") ∈ lw_all := lw_g (lw_at lw_m5 115 rfl) rfl
theorem q1137 : (Jvm.Cond.fieldLink "SlipWeeksModel" (76 : Nat) "SlipWeeksModel" "own" "[I") ∈ lw_all := lw_g (lw_at lw_m5 116 rfl) rfl
theorem q1138 : (Jvm.Cond.laysFinal "SlipWeeksModel" "SlipWeeksModel" "s" "[I") ∈ lw_all := lw_g (lw_at lw_m5 117 rfl) rfl
theorem q1139 : (Jvm.Cond.soleField "SlipWeeksModel" "s") ∈ lw_all := lw_g (lw_at lw_m5 118 rfl) rfl
theorem q1140 : (Jvm.Cond.laysFinal "SlipWeeksModel" "SlipWeeksModel" "kept" "[I") ∈ lw_all := lw_g (lw_at lw_m5 119 rfl) rfl
theorem q1141 : (Jvm.Cond.soleField "SlipWeeksModel" "kept") ∈ lw_all := lw_g (lw_at lw_m5 120 rfl) rfl
theorem q1142 : (Jvm.Cond.lays "SlipWeeksModel" "SlipWeeksModel" "isKept" "Z") ∈ lw_all := lw_g (lw_at lw_m5 121 rfl) rfl
theorem q1143 : (Jvm.Cond.soleField "SlipWeeksModel" "isKept") ∈ lw_all := lw_g (lw_at lw_m5 122 rfl) rfl
theorem q1144 : (Jvm.Cond.laysFinal "SlipWeeksModel" "SlipWeeksModel" "findings" "[I") ∈ lw_all := lw_g (lw_at lw_m5 123 rfl) rfl
theorem q1145 : (Jvm.Cond.soleField "SlipWeeksModel" "findings") ∈ lw_all := lw_g (lw_at lw_m5 124 rfl) rfl
theorem q1146 : (Jvm.Cond.laysFinal "SlipWeeksModel" "SlipWeeksModel" "rowAt" "[I") ∈ lw_all := lw_g (lw_at lw_m5 125 rfl) rfl
theorem q1147 : (Jvm.Cond.soleField "SlipWeeksModel" "rowAt") ∈ lw_all := lw_g (lw_at lw_m5 126 rfl) rfl
theorem q1148 : (Jvm.Cond.laysFinal "SlipWeeksModel" "SlipWeeksModel" "placeAt" "[I") ∈ lw_all := lw_g (lw_at lw_m5 127 rfl) rfl
theorem q1149 : (Jvm.Cond.soleField "SlipWeeksModel" "placeAt") ∈ lw_all := lw_g (lw_at lw_m5 128 rfl) rfl
theorem q1150 : (Jvm.Cond.laysFinal "SlipWeeksModel" "SlipWeeksModel" "bitsIn" "[I") ∈ lw_all := lw_g (lw_at lw_m5 129 rfl) rfl
theorem q1151 : (Jvm.Cond.soleField "SlipWeeksModel" "bitsIn") ∈ lw_all := lw_g (lw_at lw_m5 130 rfl) rfl
theorem q1152 : (Jvm.Cond.laysFinal "SlipWeeksModel" "SlipWeeksModel" "factOf" "[I") ∈ lw_all := lw_g (lw_at lw_m5 131 rfl) rfl
theorem q1153 : (Jvm.Cond.soleField "SlipWeeksModel" "factOf") ∈ lw_all := lw_g (lw_at lw_m5 132 rfl) rfl
theorem q1154 : (Jvm.Cond.laysFinal "SlipWeeksModel" "SlipWeeksModel" "tape" "[I") ∈ lw_all := lw_g (lw_at lw_m5 133 rfl) rfl
theorem q1155 : (Jvm.Cond.soleField "SlipWeeksModel" "tape") ∈ lw_all := lw_g (lw_at lw_m5 134 rfl) rfl
theorem q1156 : (Jvm.Cond.lays "SlipWeeksModel" "SlipWeeksModel" "taped" "I") ∈ lw_all := lw_g (lw_at lw_m5 135 rfl) rfl
theorem q1157 : (Jvm.Cond.soleField "SlipWeeksModel" "taped") ∈ lw_all := lw_g (lw_at lw_m5 136 rfl) rfl
theorem q1158 : (Jvm.Cond.laysFinal "SlipWeeksModel" "SlipWeeksModel" "bitsOf" "[I") ∈ lw_all := lw_g (lw_at lw_m5 137 rfl) rfl
theorem q1159 : (Jvm.Cond.soleField "SlipWeeksModel" "bitsOf") ∈ lw_all := lw_g (lw_at lw_m5 138 rfl) rfl
theorem q1160 : (Jvm.Cond.laysFinal "SlipWeeksModel" "SlipWeeksModel" "sizes" "[I") ∈ lw_all := lw_g (lw_at lw_m5 139 rfl) rfl
theorem q1161 : (Jvm.Cond.soleField "SlipWeeksModel" "sizes") ∈ lw_all := lw_g (lw_at lw_m5 140 rfl) rfl
theorem q1162 : (Jvm.Cond.laysFinal "SlipWeeksModel" "SlipWeeksModel" "numbers" "[J") ∈ lw_all := lw_g (lw_at lw_m5 141 rfl) rfl
theorem q1163 : (Jvm.Cond.soleField "SlipWeeksModel" "numbers") ∈ lw_all := lw_g (lw_at lw_m5 142 rfl) rfl
theorem q1164 : (Jvm.Cond.lays "SlipWeeksModel" "SlipWeeksModel" "at" "I") ∈ lw_all := lw_g (lw_at lw_m5 143 rfl) rfl
theorem q1165 : (Jvm.Cond.soleField "SlipWeeksModel" "at") ∈ lw_all := lw_g (lw_at lw_m5 144 rfl) rfl
theorem q1166 : (Jvm.Cond.lays "SlipWeeksModel" "SlipWeeksModel" "open" "I") ∈ lw_all := lw_g (lw_at lw_m5 145 rfl) rfl
theorem q1167 : (Jvm.Cond.soleField "SlipWeeksModel" "open") ∈ lw_all := lw_g (lw_at lw_m5 146 rfl) rfl
theorem q1168 : (Jvm.Cond.lays "SlipWeeksModel" "SlipWeeksModel" "isBad" "Z") ∈ lw_all := lw_g (lw_at lw_m5 147 rfl) rfl
theorem q1169 : (Jvm.Cond.soleField "SlipWeeksModel" "isBad") ∈ lw_all := lw_g (lw_at lw_m5 148 rfl) rfl
theorem q1170 : (Jvm.Cond.lays "SlipWeeksModel" "SlipWeeksModel" "isTaped" "Z") ∈ lw_all := lw_g (lw_at lw_m5 149 rfl) rfl
theorem q1171 : (Jvm.Cond.soleField "SlipWeeksModel" "isTaped") ∈ lw_all := lw_g (lw_at lw_m5 150 rfl) rfl
theorem q1172 : (Jvm.Cond.lays "SlipWeeksModel" "SlipWeeksModel" "placeRead" "I") ∈ lw_all := lw_g (lw_at lw_m5 151 rfl) rfl
theorem q1173 : (Jvm.Cond.soleField "SlipWeeksModel" "placeRead") ∈ lw_all := lw_g (lw_at lw_m5 152 rfl) rfl
theorem q1174 : (Jvm.Cond.lays "SlipWeeksModel" "SlipWeeksModel" "isNew" "Z") ∈ lw_all := lw_g (lw_at lw_m5 153 rfl) rfl
theorem q1175 : (Jvm.Cond.soleField "SlipWeeksModel" "isNew") ∈ lw_all := lw_g (lw_at lw_m5 154 rfl) rfl
theorem q1176 : (Jvm.Cond.lays "SlipWeeksModel" "SlipWeeksModel" "isSaidNew" "Z") ∈ lw_all := lw_g (lw_at lw_m5 155 rfl) rfl
theorem q1177 : (Jvm.Cond.soleField "SlipWeeksModel" "isSaidNew") ∈ lw_all := lw_g (lw_at lw_m5 156 rfl) rfl
theorem q1178 : (Jvm.Cond.lays "SlipWeeksModel" "SlipWeeksModel" "isWinnerNew" "Z") ∈ lw_all := lw_g (lw_at lw_m5 157 rfl) rfl
theorem q1179 : (Jvm.Cond.soleField "SlipWeeksModel" "isWinnerNew") ∈ lw_all := lw_g (lw_at lw_m5 158 rfl) rfl
theorem q1180 : (Jvm.Cond.laysFinal "SlipWeeksModel" "SlipWeeksModel" "liked" "[I") ∈ lw_all := lw_g (lw_at lw_m5 159 rfl) rfl
theorem q1181 : (Jvm.Cond.soleField "SlipWeeksModel" "liked") ∈ lw_all := lw_g (lw_at lw_m5 160 rfl) rfl
theorem q1182 : (Jvm.Cond.laysFinal "SlipWeeksModel" "SlipWeeksModel" "all" "[I") ∈ lw_all := lw_g (lw_at lw_m5 161 rfl) rfl
theorem q1183 : (Jvm.Cond.soleField "SlipWeeksModel" "all") ∈ lw_all := lw_g (lw_at lw_m5 162 rfl) rfl
theorem q1184 : (Jvm.Cond.laysFinal "SlipWeeksModel" "SlipWeeksModel" "likesOf" "[I") ∈ lw_all := lw_g (lw_at lw_m5 163 rfl) rfl
theorem q1185 : (Jvm.Cond.soleField "SlipWeeksModel" "likesOf") ∈ lw_all := lw_g (lw_at lw_m5 164 rfl) rfl
theorem q1186 : (Jvm.Cond.lays "SlipWeeksModel" "SlipWeeksModel" "allCrossed" "I") ∈ lw_all := lw_g (lw_at lw_m5 165 rfl) rfl
theorem q1187 : (Jvm.Cond.soleField "SlipWeeksModel" "allCrossed") ∈ lw_all := lw_g (lw_at lw_m5 166 rfl) rfl
theorem q1188 : (Jvm.Cond.laysFinal "SlipWeeksModel" "SlipWeeksModel" "winners" "[I") ∈ lw_all := lw_g (lw_at lw_m5 167 rfl) rfl
theorem q1189 : (Jvm.Cond.soleField "SlipWeeksModel" "winners") ∈ lw_all := lw_g (lw_at lw_m5 168 rfl) rfl
theorem q1190 : (Jvm.Cond.laysFinal "SlipWeeksModel" "SlipWeeksModel" "tried" "[I") ∈ lw_all := lw_g (lw_at lw_m5 169 rfl) rfl
theorem q1191 : (Jvm.Cond.soleField "SlipWeeksModel" "tried") ∈ lw_all := lw_g (lw_at lw_m5 170 rfl) rfl
theorem q1192 : (Jvm.Cond.laysFinal "SlipWeeksModel" "SlipWeeksModel" "isTaken" "[Z") ∈ lw_all := lw_g (lw_at lw_m5 171 rfl) rfl
theorem q1193 : (Jvm.Cond.soleField "SlipWeeksModel" "isTaken") ∈ lw_all := lw_g (lw_at lw_m5 172 rfl) rfl
theorem q1194 : (Jvm.Cond.laysFinal "SlipWeeksModel" "SlipWeeksModel" "bought" "[I") ∈ lw_all := lw_g (lw_at lw_m5 173 rfl) rfl
theorem q1195 : (Jvm.Cond.soleField "SlipWeeksModel" "bought") ∈ lw_all := lw_g (lw_at lw_m5 174 rfl) rfl
theorem q1196 : (Jvm.Cond.laysFinal "SlipWeeksModel" "SlipWeeksModel" "own" "[I") ∈ lw_all := lw_g (lw_at lw_m5 175 rfl) rfl
theorem q1197 : (Jvm.Cond.soleField "SlipWeeksModel" "own") ∈ lw_all := lw_g (lw_at lw_m5 176 rfl) rfl
theorem q1198 : (Jvm.Cond.superclass "SlipWeeksModel" "java/lang/Object") ∈ lw_all := lw_g (lw_at lw_m5 177 rfl) rfl
theorem q1200 : (Jvm.Cond.instanceMethod ({ cls := "SlipWeeksModel", name := "place", desc := "(I)I" } : Jvm.MethodName)) ∈ lw_all := lw_g (lw_at lw_m5 179 rfl) rfl
theorem q1201 : (Jvm.Cond.selects "SlipWeeksModel" ({ cls := "SlipWeeksModel", name := "place", desc := "(I)I" } : Jvm.MethodName) ({ cls := "SlipWeeksModel", name := "place", desc := "(I)I" } : Jvm.MethodName)) ∈ lw_all := lw_g (lw_at lw_m5 180 rfl) rfl
theorem q1202 : (Jvm.Cond.code ({ cls := "SlipWeeksModel", name := "place", desc := "(I)I" } : Jvm.MethodName) prog_24_method_9_code (2 : Nat) (Option.some Jvm.ClassFile.FieldType.int)) ∈ lw_all := lw_g (lw_at lw_m5 181 rfl) rfl
theorem q1203 : (Jvm.Cond.constant "SlipWeeksModel" (87 : Nat) (-1000000001 : Int32)) ∈ lw_all := lw_g (lw_at lw_m5 182 rfl) rfl
theorem q1204 : (Jvm.Cond.methodLink "SlipWeeksModel" (88 : Nat) ({ cls := "SlipWeeksModel", name := "finds", desc := "(I)I" } : Jvm.MethodName)) ∈ lw_all := lw_g (lw_at lw_m5 183 rfl) rfl
theorem q1205 : (Jvm.Cond.privateMethod ({ cls := "SlipWeeksModel", name := "finds", desc := "(I)I" } : Jvm.MethodName)) ∈ lw_tbl := lw_at lw_m5 184 rfl
theorem q1206 : (Jvm.Cond.instanceMethod ({ cls := "SlipWeeksModel", name := "finds", desc := "(I)I" } : Jvm.MethodName)) ∈ lw_all := lw_g (lw_at lw_m5 185 rfl) rfl
theorem q1207 : (Jvm.Cond.code ({ cls := "SlipWeeksModel", name := "finds", desc := "(I)I" } : Jvm.MethodName) prog_24_method_5_code (2 : Nat) (Option.some Jvm.ClassFile.FieldType.int)) ∈ lw_all := lw_g (lw_at lw_m5 186 rfl) rfl
theorem q1209 : (Jvm.Cond.instanceMethod ({ cls := "SlipWeeksModel", name := "row", desc := "(I)I" } : Jvm.MethodName)) ∈ lw_all := lw_g (lw_at lw_m5 188 rfl) rfl
theorem q1210 : (Jvm.Cond.selects "SlipWeeksModel" ({ cls := "SlipWeeksModel", name := "row", desc := "(I)I" } : Jvm.MethodName) ({ cls := "SlipWeeksModel", name := "row", desc := "(I)I" } : Jvm.MethodName)) ∈ lw_all := lw_g (lw_at lw_m5 189 rfl) rfl
theorem q1211 : (Jvm.Cond.code ({ cls := "SlipWeeksModel", name := "row", desc := "(I)I" } : Jvm.MethodName) prog_24_method_10_code (2 : Nat) (Option.some Jvm.ClassFile.FieldType.int)) ∈ lw_all := lw_g (lw_at lw_m5 190 rfl) rfl
theorem q1212 : (Jvm.Cond.methodLink "SlipWeeksModel" (92 : Nat) ({ cls := "SlipWeeksModel", name := "isPlace", desc := "(I)Z" } : Jvm.MethodName)) ∈ lw_all := lw_g (lw_at lw_m5 191 rfl) rfl
theorem q1213 : (Jvm.Cond.static ({ cls := "SlipWeeksModel", name := "isPlace", desc := "(I)Z" } : Jvm.MethodName)) ∈ lw_all := lw_g (lw_at lw_m5 192 rfl) rfl
theorem q1214 : (Jvm.Cond.code ({ cls := "SlipWeeksModel", name := "isPlace", desc := "(I)Z" } : Jvm.MethodName) prog_24_method_6_code (1 : Nat) (Option.some Jvm.ClassFile.FieldType.boolean)) ∈ lw_all := lw_g (lw_at lw_m5 193 rfl) rfl
theorem q1216 : (Jvm.Cond.instanceMethod ({ cls := "SlipWeeksModel", name := "people", desc := "(II)I" } : Jvm.MethodName)) ∈ lw_all := lw_g (lw_at lw_m5 195 rfl) rfl
theorem q1217 : (Jvm.Cond.selects "SlipWeeksModel" ({ cls := "SlipWeeksModel", name := "people", desc := "(II)I" } : Jvm.MethodName) ({ cls := "SlipWeeksModel", name := "people", desc := "(II)I" } : Jvm.MethodName)) ∈ lw_all := lw_g (lw_at lw_m5 196 rfl) rfl
theorem q1218 : (Jvm.Cond.code ({ cls := "SlipWeeksModel", name := "people", desc := "(II)I" } : Jvm.MethodName) prog_24_method_11_code (3 : Nat) (Option.some Jvm.ClassFile.FieldType.int)) ∈ lw_all := lw_g (lw_at lw_m5 197 rfl) rfl
theorem q1219 : (Jvm.Cond.constantLong "SlipWeeksModel" (96 : Nat) (7 : Int64)) ∈ lw_all := lw_g (lw_at lw_m5 198 rfl) rfl
theorem q1220 : (Jvm.Cond.methodLink "SlipWeeksModel" (98 : Nat) ({ cls := "SlipWeeksModel", name := "isIn", desc := "(JJJ)Z" } : Jvm.MethodName)) ∈ lw_all := lw_g (lw_at lw_m5 199 rfl) rfl
theorem q1221 : (Jvm.Cond.static ({ cls := "SlipWeeksModel", name := "isIn", desc := "(JJJ)Z" } : Jvm.MethodName)) ∈ lw_all := lw_g (lw_at lw_m5 200 rfl) rfl
theorem q1222 : (Jvm.Cond.code ({ cls := "SlipWeeksModel", name := "isIn", desc := "(JJJ)Z" } : Jvm.MethodName) prog_24_method_4_code (6 : Nat) (Option.some Jvm.ClassFile.FieldType.boolean)) ∈ lw_all := lw_g (lw_at lw_m5 201 rfl) rfl
theorem q1223 : (Jvm.Cond.constantLong "SlipWeeksModel" (102 : Nat) (99999 : Int64)) ∈ lw_all := lw_g (lw_at lw_m5 202 rfl) rfl
theorem q1224 : (Jvm.Cond.constant "SlipWeeksModel" (104 : Nat) (-1000000002 : Int32)) ∈ lw_all := lw_g (lw_at lw_m5 203 rfl) rfl
theorem q1226 : (Jvm.Cond.instanceMethod ({ cls := "SlipWeeksModel", name := "of", desc := "(II)I" } : Jvm.MethodName)) ∈ lw_all := lw_g (lw_at lw_m5 205 rfl) rfl
theorem q1227 : (Jvm.Cond.selects "SlipWeeksModel" ({ cls := "SlipWeeksModel", name := "of", desc := "(II)I" } : Jvm.MethodName) ({ cls := "SlipWeeksModel", name := "of", desc := "(II)I" } : Jvm.MethodName)) ∈ lw_all := lw_g (lw_at lw_m5 206 rfl) rfl
theorem q1228 : (Jvm.Cond.code ({ cls := "SlipWeeksModel", name := "of", desc := "(II)I" } : Jvm.MethodName) prog_24_method_12_code (3 : Nat) (Option.some Jvm.ClassFile.FieldType.int)) ∈ lw_all := lw_g (lw_at lw_m5 207 rfl) rfl
theorem q1229 : (Jvm.Cond.methodLink "SlipWeeksModel" (105 : Nat) ({ cls := "SlipWeeksModel", name := "isPeople", desc := "(I)Z" } : Jvm.MethodName)) ∈ lw_all := lw_g (lw_at lw_m5 208 rfl) rfl
theorem q1230 : (Jvm.Cond.privateMethod ({ cls := "SlipWeeksModel", name := "isPeople", desc := "(I)Z" } : Jvm.MethodName)) ∈ lw_tbl := lw_at lw_m5 209 rfl
theorem q1231 : (Jvm.Cond.instanceMethod ({ cls := "SlipWeeksModel", name := "isPeople", desc := "(I)Z" } : Jvm.MethodName)) ∈ lw_all := lw_g (lw_at lw_m5 210 rfl) rfl
theorem q1232 : (Jvm.Cond.code ({ cls := "SlipWeeksModel", name := "isPeople", desc := "(I)Z" } : Jvm.MethodName) prog_24_method_7_code (2 : Nat) (Option.some Jvm.ClassFile.FieldType.boolean)) ∈ lw_all := lw_g (lw_at lw_m5 211 rfl) rfl
theorem q1234 : (Jvm.Cond.instanceMethod ({ cls := "SlipWeeksModel", name := "many", desc := "(II)I" } : Jvm.MethodName)) ∈ lw_all := lw_g (lw_at lw_m5 213 rfl) rfl
theorem q1235 : (Jvm.Cond.selects "SlipWeeksModel" ({ cls := "SlipWeeksModel", name := "many", desc := "(II)I" } : Jvm.MethodName) ({ cls := "SlipWeeksModel", name := "many", desc := "(II)I" } : Jvm.MethodName)) ∈ lw_all := lw_g (lw_at lw_m5 214 rfl) rfl
theorem q1236 : (Jvm.Cond.code ({ cls := "SlipWeeksModel", name := "many", desc := "(II)I" } : Jvm.MethodName) prog_24_method_13_code (4 : Nat) (Option.some Jvm.ClassFile.FieldType.int)) ∈ lw_all := lw_g (lw_at lw_m5 215 rfl) rfl
theorem q1238 : (Jvm.Cond.instanceMethod ({ cls := "SlipWeeksModel", name := "as", desc := "(II)I" } : Jvm.MethodName)) ∈ lw_all := lw_g (lw_at lw_m5 217 rfl) rfl
theorem q1239 : (Jvm.Cond.selects "SlipWeeksModel" ({ cls := "SlipWeeksModel", name := "as", desc := "(II)I" } : Jvm.MethodName) ({ cls := "SlipWeeksModel", name := "as", desc := "(II)I" } : Jvm.MethodName)) ∈ lw_all := lw_g (lw_at lw_m5 218 rfl) rfl
theorem q1240 : (Jvm.Cond.code ({ cls := "SlipWeeksModel", name := "as", desc := "(II)I" } : Jvm.MethodName) prog_24_method_15_code (4 : Nat) (Option.some Jvm.ClassFile.FieldType.int)) ∈ lw_all := lw_g (lw_at lw_m5 219 rfl) rfl
theorem q1241 : (Jvm.Cond.methodLink "SlipWeeksModel" (108 : Nat) ({ cls := "SlipWeeksModel", name := "above", desc := "(I)I" } : Jvm.MethodName)) ∈ lw_all := lw_g (lw_at lw_m5 220 rfl) rfl
theorem q1242 : (Jvm.Cond.static ({ cls := "SlipWeeksModel", name := "above", desc := "(I)I" } : Jvm.MethodName)) ∈ lw_all := lw_g (lw_at lw_m5 221 rfl) rfl
theorem q1243 : (Jvm.Cond.code ({ cls := "SlipWeeksModel", name := "above", desc := "(I)I" } : Jvm.MethodName) prog_24_method_14_code (1 : Nat) (Option.some Jvm.ClassFile.FieldType.int)) ∈ lw_all := lw_g (lw_at lw_m5 222 rfl) rfl
theorem q1244 : (Jvm.Cond.constant "SlipWeeksModel" (111 : Nat) (-1000000003 : Int32)) ∈ lw_all := lw_g (lw_at lw_m5 223 rfl) rfl
theorem q1246 : (Jvm.Cond.instanceMethod ({ cls := "SlipWeeksModel", name := "feed", desc := "(II)I" } : Jvm.MethodName)) ∈ lw_all := lw_g (lw_at lw_m5 225 rfl) rfl
theorem q1247 : (Jvm.Cond.selects "SlipWeeksModel" ({ cls := "SlipWeeksModel", name := "feed", desc := "(II)I" } : Jvm.MethodName) ({ cls := "SlipWeeksModel", name := "feed", desc := "(II)I" } : Jvm.MethodName)) ∈ lw_all := lw_g (lw_at lw_m5 226 rfl) rfl
theorem q1248 : (Jvm.Cond.code ({ cls := "SlipWeeksModel", name := "feed", desc := "(II)I" } : Jvm.MethodName) prog_24_method_28_code (4 : Nat) (Option.some Jvm.ClassFile.FieldType.int)) ∈ lw_all := lw_g (lw_at lw_m5 227 rfl) rfl
theorem q1249 : (Jvm.Cond.constantLong "SlipWeeksModel" (173 : Nat) (4 : Int64)) ∈ lw_all := lw_g (lw_at lw_m5 228 rfl) rfl
theorem q1251 : (Jvm.Cond.instanceMethod ({ cls := "SlipWeeksModel", name := "wipe", desc := "()I" } : Jvm.MethodName)) ∈ lw_all := lw_g (lw_at lw_m5 230 rfl) rfl
theorem q1252 : (Jvm.Cond.selects "SlipWeeksModel" ({ cls := "SlipWeeksModel", name := "wipe", desc := "()I" } : Jvm.MethodName) ({ cls := "SlipWeeksModel", name := "wipe", desc := "()I" } : Jvm.MethodName)) ∈ lw_all := lw_g (lw_at lw_m5 231 rfl) rfl
theorem q1253 : (Jvm.Cond.code ({ cls := "SlipWeeksModel", name := "wipe", desc := "()I" } : Jvm.MethodName) prog_24_method_29_code (2 : Nat) (Option.some Jvm.ClassFile.FieldType.int)) ∈ lw_all := lw_g (lw_at lw_m5 232 rfl) rfl
theorem q1255 : (Jvm.Cond.instanceMethod ({ cls := "SlipWeeksModel", name := "liking", desc := "()I" } : Jvm.MethodName)) ∈ lw_all := lw_g (lw_at lw_m5 234 rfl) rfl
theorem q1256 : (Jvm.Cond.selects "SlipWeeksModel" ({ cls := "SlipWeeksModel", name := "liking", desc := "()I" } : Jvm.MethodName) ({ cls := "SlipWeeksModel", name := "liking", desc := "()I" } : Jvm.MethodName)) ∈ lw_all := lw_g (lw_at lw_m5 235 rfl) rfl
theorem q1257 : (Jvm.Cond.code ({ cls := "SlipWeeksModel", name := "liking", desc := "()I" } : Jvm.MethodName) prog_24_method_30_code (3 : Nat) (Option.some Jvm.ClassFile.FieldType.int)) ∈ lw_all := lw_g (lw_at lw_m5 236 rfl) rfl
theorem q1258 : (Jvm.Cond.methodLink "SlipWeeksModel" (175 : Nat) ({ cls := "SlipWeeksModel", name := "says", desc := "(I)I" } : Jvm.MethodName)) ∈ lw_all := lw_g (lw_at lw_m5 237 rfl) rfl
theorem q1259 : (Jvm.Cond.privateMethod ({ cls := "SlipWeeksModel", name := "says", desc := "(I)I" } : Jvm.MethodName)) ∈ lw_tbl := lw_at lw_m5 238 rfl
theorem q1260 : (Jvm.Cond.instanceMethod ({ cls := "SlipWeeksModel", name := "says", desc := "(I)I" } : Jvm.MethodName)) ∈ lw_all := lw_g (lw_at lw_m5 239 rfl) rfl
theorem q1261 : (Jvm.Cond.code ({ cls := "SlipWeeksModel", name := "says", desc := "(I)I" } : Jvm.MethodName) prog_24_method_27_code (3 : Nat) (Option.some Jvm.ClassFile.FieldType.int)) ∈ lw_all := lw_g (lw_at lw_m6 0 rfl) rfl
theorem q1262 : (Jvm.Cond.methodLink "SlipWeeksModel" (151 : Nat) ({ cls := "SlipWeeksModel", name := "sum", desc := "()I" } : Jvm.MethodName)) ∈ lw_all := lw_g (lw_at lw_m6 1 rfl) rfl
theorem q1263 : (Jvm.Cond.privateMethod ({ cls := "SlipWeeksModel", name := "sum", desc := "()I" } : Jvm.MethodName)) ∈ lw_tbl := lw_at lw_m6 2 rfl
theorem q1264 : (Jvm.Cond.instanceMethod ({ cls := "SlipWeeksModel", name := "sum", desc := "()I" } : Jvm.MethodName)) ∈ lw_all := lw_g (lw_at lw_m6 3 rfl) rfl
theorem q1265 : (Jvm.Cond.code ({ cls := "SlipWeeksModel", name := "sum", desc := "()I" } : Jvm.MethodName) prog_24_method_26_code (5 : Nat) (Option.some Jvm.ClassFile.FieldType.int)) ∈ lw_all := lw_g (lw_at lw_m6 4 rfl) rfl
theorem q1266 : (Jvm.Cond.methodLink "SlipWeeksModel" (170 : Nat) ({ cls := "SlipWeeksModel", name := "term", desc := "()I" } : Jvm.MethodName)) ∈ lw_all := lw_g (lw_at lw_m6 5 rfl) rfl
theorem q1267 : (Jvm.Cond.privateMethod ({ cls := "SlipWeeksModel", name := "term", desc := "()I" } : Jvm.MethodName)) ∈ lw_tbl := lw_at lw_m6 6 rfl
theorem q1268 : (Jvm.Cond.instanceMethod ({ cls := "SlipWeeksModel", name := "term", desc := "()I" } : Jvm.MethodName)) ∈ lw_all := lw_g (lw_at lw_m6 7 rfl) rfl
theorem q1269 : (Jvm.Cond.code ({ cls := "SlipWeeksModel", name := "term", desc := "()I" } : Jvm.MethodName) prog_24_method_25_code (2 : Nat) (Option.some Jvm.ClassFile.FieldType.int)) ∈ lw_all := lw_g (lw_at lw_m6 8 rfl) rfl
theorem q1270 : (Jvm.Cond.methodLink "SlipWeeksModel" (167 : Nat) ({ cls := "SlipWeeksModel", name := "factor", desc := "()I" } : Jvm.MethodName)) ∈ lw_all := lw_g (lw_at lw_m6 9 rfl) rfl
theorem q1271 : (Jvm.Cond.privateMethod ({ cls := "SlipWeeksModel", name := "factor", desc := "()I" } : Jvm.MethodName)) ∈ lw_tbl := lw_at lw_m6 10 rfl
theorem q1272 : (Jvm.Cond.instanceMethod ({ cls := "SlipWeeksModel", name := "factor", desc := "()I" } : Jvm.MethodName)) ∈ lw_all := lw_g (lw_at lw_m6 11 rfl) rfl
theorem q1273 : (Jvm.Cond.code ({ cls := "SlipWeeksModel", name := "factor", desc := "()I" } : Jvm.MethodName) prog_24_method_24_code (3 : Nat) (Option.some Jvm.ClassFile.FieldType.int)) ∈ lw_all := lw_g (lw_at lw_m6 12 rfl) rfl
theorem q1274 : (Jvm.Cond.methodLink "SlipWeeksModel" (138 : Nat) ({ cls := "SlipWeeksModel", name := "byteHere", desc := "()I" } : Jvm.MethodName)) ∈ lw_all := lw_g (lw_at lw_m6 13 rfl) rfl
theorem q1275 : (Jvm.Cond.privateMethod ({ cls := "SlipWeeksModel", name := "byteHere", desc := "()I" } : Jvm.MethodName)) ∈ lw_tbl := lw_at lw_m6 14 rfl
theorem q1276 : (Jvm.Cond.instanceMethod ({ cls := "SlipWeeksModel", name := "byteHere", desc := "()I" } : Jvm.MethodName)) ∈ lw_all := lw_g (lw_at lw_m6 15 rfl) rfl
theorem q1277 : (Jvm.Cond.code ({ cls := "SlipWeeksModel", name := "byteHere", desc := "()I" } : Jvm.MethodName) prog_24_method_17_code (1 : Nat) (Option.some Jvm.ClassFile.FieldType.int)) ∈ lw_all := lw_g (lw_at lw_m6 16 rfl) rfl
theorem q1278 : (Jvm.Cond.methodLink "SlipWeeksModel" (122 : Nat) ({ cls := "SlipWeeksModel", name := "end", desc := "()I" } : Jvm.MethodName)) ∈ lw_all := lw_g (lw_at lw_m6 17 rfl) rfl
theorem q1279 : (Jvm.Cond.privateMethod ({ cls := "SlipWeeksModel", name := "end", desc := "()I" } : Jvm.MethodName)) ∈ lw_tbl := lw_at lw_m6 18 rfl
theorem q1280 : (Jvm.Cond.instanceMethod ({ cls := "SlipWeeksModel", name := "end", desc := "()I" } : Jvm.MethodName)) ∈ lw_all := lw_g (lw_at lw_m6 19 rfl) rfl
theorem q1281 : (Jvm.Cond.code ({ cls := "SlipWeeksModel", name := "end", desc := "()I" } : Jvm.MethodName) prog_24_method_16_code (1 : Nat) (Option.some Jvm.ClassFile.FieldType.int)) ∈ lw_all := lw_g (lw_at lw_m6 20 rfl) rfl
theorem q1282 : (Jvm.Cond.constantLong "SlipWeeksModel" (144 : Nat) (48 : Int64)) ∈ lw_all := lw_g (lw_at lw_m6 21 rfl) rfl
theorem q1283 : (Jvm.Cond.constantLong "SlipWeeksModel" (146 : Nat) (57 : Int64)) ∈ lw_all := lw_g (lw_at lw_m6 22 rfl) rfl
theorem q1284 : (Jvm.Cond.methodLink "SlipWeeksModel" (158 : Nat) ({ cls := "SlipWeeksModel", name := "number", desc := "()I" } : Jvm.MethodName)) ∈ lw_all := lw_g (lw_at lw_m6 23 rfl) rfl
theorem q1285 : (Jvm.Cond.privateMethod ({ cls := "SlipWeeksModel", name := "number", desc := "()I" } : Jvm.MethodName)) ∈ lw_tbl := lw_at lw_m6 24 rfl
theorem q1286 : (Jvm.Cond.instanceMethod ({ cls := "SlipWeeksModel", name := "number", desc := "()I" } : Jvm.MethodName)) ∈ lw_all := lw_g (lw_at lw_m6 25 rfl) rfl
theorem q1287 : (Jvm.Cond.code ({ cls := "SlipWeeksModel", name := "number", desc := "()I" } : Jvm.MethodName) prog_24_method_22_code (3 : Nat) (Option.some Jvm.ClassFile.FieldType.int)) ∈ lw_all := lw_g (lw_at lw_m6 26 rfl) rfl
theorem q1288 : (Jvm.Cond.methodLink "SlipWeeksModel" (161 : Nat) ({ cls := "SlipWeeksModel", name := "choice", desc := "()I" } : Jvm.MethodName)) ∈ lw_all := lw_g (lw_at lw_m6 27 rfl) rfl
theorem q1289 : (Jvm.Cond.privateMethod ({ cls := "SlipWeeksModel", name := "choice", desc := "()I" } : Jvm.MethodName)) ∈ lw_tbl := lw_at lw_m6 28 rfl
theorem q1290 : (Jvm.Cond.instanceMethod ({ cls := "SlipWeeksModel", name := "choice", desc := "()I" } : Jvm.MethodName)) ∈ lw_all := lw_g (lw_at lw_m6 29 rfl) rfl
theorem q1291 : (Jvm.Cond.code ({ cls := "SlipWeeksModel", name := "choice", desc := "()I" } : Jvm.MethodName) prog_24_method_23_code (4 : Nat) (Option.some Jvm.ClassFile.FieldType.int)) ∈ lw_all := lw_g (lw_at lw_m6 30 rfl) rfl
theorem q1292 : (Jvm.Cond.methodLink "SlipWeeksModel" (141 : Nat) ({ cls := "SlipWeeksModel", name := "takes", desc := "(I)Z" } : Jvm.MethodName)) ∈ lw_all := lw_g (lw_at lw_m6 31 rfl) rfl
theorem q1293 : (Jvm.Cond.privateMethod ({ cls := "SlipWeeksModel", name := "takes", desc := "(I)Z" } : Jvm.MethodName)) ∈ lw_tbl := lw_at lw_m6 32 rfl
theorem q1294 : (Jvm.Cond.instanceMethod ({ cls := "SlipWeeksModel", name := "takes", desc := "(I)Z" } : Jvm.MethodName)) ∈ lw_all := lw_g (lw_at lw_m6 33 rfl) rfl
theorem q1295 : (Jvm.Cond.code ({ cls := "SlipWeeksModel", name := "takes", desc := "(I)Z" } : Jvm.MethodName) prog_24_method_20_code (2 : Nat) (Option.some Jvm.ClassFile.FieldType.boolean)) ∈ lw_all := lw_g (lw_at lw_m6 34 rfl) rfl
theorem q1296 : (Jvm.Cond.methodLink "SlipWeeksModel" (154 : Nat) ({ cls := "SlipWeeksModel", name := "must", desc := "(I)V" } : Jvm.MethodName)) ∈ lw_all := lw_g (lw_at lw_m6 35 rfl) rfl
theorem q1297 : (Jvm.Cond.privateMethod ({ cls := "SlipWeeksModel", name := "must", desc := "(I)V" } : Jvm.MethodName)) ∈ lw_tbl := lw_at lw_m6 36 rfl
theorem q1298 : (Jvm.Cond.instanceMethod ({ cls := "SlipWeeksModel", name := "must", desc := "(I)V" } : Jvm.MethodName)) ∈ lw_all := lw_g (lw_at lw_m6 37 rfl) rfl
theorem q1299 : (Jvm.Cond.code ({ cls := "SlipWeeksModel", name := "must", desc := "(I)V" } : Jvm.MethodName) prog_24_method_21_code (2 : Nat) (Option.none : Option Jvm.ClassFile.FieldType)) ∈ lw_all := lw_g (lw_at lw_m6 38 rfl) rfl
theorem q1300 : (Jvm.Cond.methodLink "SlipWeeksModel" (164 : Nat) ({ cls := "SlipWeeksModel", name := "named", desc := "(I)I" } : Jvm.MethodName)) ∈ lw_all := lw_g (lw_at lw_m6 39 rfl) rfl
theorem q1301 : (Jvm.Cond.privateMethod ({ cls := "SlipWeeksModel", name := "named", desc := "(I)I" } : Jvm.MethodName)) ∈ lw_tbl := lw_at lw_m6 40 rfl
theorem q1302 : (Jvm.Cond.instanceMethod ({ cls := "SlipWeeksModel", name := "named", desc := "(I)I" } : Jvm.MethodName)) ∈ lw_all := lw_g (lw_at lw_m6 41 rfl) rfl
theorem q1303 : (Jvm.Cond.code ({ cls := "SlipWeeksModel", name := "named", desc := "(I)I" } : Jvm.MethodName) prog_24_method_19_code (2 : Nat) (Option.some Jvm.ClassFile.FieldType.int)) ∈ lw_all := lw_g (lw_at lw_m6 42 rfl) rfl
theorem q1304 : (Jvm.Cond.methodLink "SlipWeeksModel" (129 : Nat) ({ cls := "SlipWeeksModel", name := "latest", desc := "()I" } : Jvm.MethodName)) ∈ lw_all := lw_g (lw_at lw_m6 43 rfl) rfl
theorem q1305 : (Jvm.Cond.privateMethod ({ cls := "SlipWeeksModel", name := "latest", desc := "()I" } : Jvm.MethodName)) ∈ lw_tbl := lw_at lw_m6 44 rfl
theorem q1306 : (Jvm.Cond.instanceMethod ({ cls := "SlipWeeksModel", name := "latest", desc := "()I" } : Jvm.MethodName)) ∈ lw_all := lw_g (lw_at lw_m6 45 rfl) rfl
theorem q1307 : (Jvm.Cond.code ({ cls := "SlipWeeksModel", name := "latest", desc := "()I" } : Jvm.MethodName) prog_24_method_18_code (1 : Nat) (Option.some Jvm.ClassFile.FieldType.int)) ∈ lw_all := lw_g (lw_at lw_m6 46 rfl) rfl
theorem q1308 : (Jvm.Cond.methodLink "SlipWeeksModel" (132 : Nat) ({ cls := "SlipWeeksModel", name := "ones", desc := "(I)I" } : Jvm.MethodName)) ∈ lw_all := lw_g (lw_at lw_m6 47 rfl) rfl
theorem q1309 : (Jvm.Cond.privateMethod ({ cls := "SlipWeeksModel", name := "ones", desc := "(I)I" } : Jvm.MethodName)) ∈ lw_tbl := lw_at lw_m6 48 rfl
theorem q1310 : (Jvm.Cond.instanceMethod ({ cls := "SlipWeeksModel", name := "ones", desc := "(I)I" } : Jvm.MethodName)) ∈ lw_all := lw_g (lw_at lw_m6 49 rfl) rfl
theorem q1311 : (Jvm.Cond.code ({ cls := "SlipWeeksModel", name := "ones", desc := "(I)I" } : Jvm.MethodName) prog_24_method_2_code (2 : Nat) (Option.some Jvm.ClassFile.FieldType.int)) ∈ lw_all := lw_g (lw_at lw_m6 50 rfl) rfl
theorem q1313 : (Jvm.Cond.instanceMethod ({ cls := "SlipWeeksModel", name := "even", desc := "()I" } : Jvm.MethodName)) ∈ lw_all := lw_g (lw_at lw_m6 52 rfl) rfl
theorem q1314 : (Jvm.Cond.selects "SlipWeeksModel" ({ cls := "SlipWeeksModel", name := "even", desc := "()I" } : Jvm.MethodName) ({ cls := "SlipWeeksModel", name := "even", desc := "()I" } : Jvm.MethodName)) ∈ lw_all := lw_g (lw_at lw_m6 53 rfl) rfl
theorem q1315 : (Jvm.Cond.code ({ cls := "SlipWeeksModel", name := "even", desc := "()I" } : Jvm.MethodName) prog_24_method_31_code (2 : Nat) (Option.some Jvm.ClassFile.FieldType.int)) ∈ lw_all := lw_g (lw_at lw_m6 54 rfl) rfl
theorem q1317 : (Jvm.Cond.instanceMethod ({ cls := "SlipWeeksModel", name := "likes", desc := "(II)I" } : Jvm.MethodName)) ∈ lw_all := lw_g (lw_at lw_m6 56 rfl) rfl
theorem q1318 : (Jvm.Cond.selects "SlipWeeksModel" ({ cls := "SlipWeeksModel", name := "likes", desc := "(II)I" } : Jvm.MethodName) ({ cls := "SlipWeeksModel", name := "likes", desc := "(II)I" } : Jvm.MethodName)) ∈ lw_all := lw_g (lw_at lw_m6 57 rfl) rfl
theorem q1319 : (Jvm.Cond.code ({ cls := "SlipWeeksModel", name := "likes", desc := "(II)I" } : Jvm.MethodName) prog_24_method_38_code (3 : Nat) (Option.some Jvm.ClassFile.FieldType.int)) ∈ lw_all := lw_g (lw_at lw_m6 58 rfl) rfl
theorem q1320 : (Jvm.Cond.methodLink "SlipWeeksModel" (198 : Nat) ({ cls := "SlipWeeksModel", name := "works", desc := "()V" } : Jvm.MethodName)) ∈ lw_all := lw_g (lw_at lw_m6 59 rfl) rfl
theorem q1321 : (Jvm.Cond.privateMethod ({ cls := "SlipWeeksModel", name := "works", desc := "()V" } : Jvm.MethodName)) ∈ lw_tbl := lw_at lw_m6 60 rfl
theorem q1322 : (Jvm.Cond.instanceMethod ({ cls := "SlipWeeksModel", name := "works", desc := "()V" } : Jvm.MethodName)) ∈ lw_all := lw_g (lw_at lw_m6 61 rfl) rfl
theorem q1323 : (Jvm.Cond.code ({ cls := "SlipWeeksModel", name := "works", desc := "()V" } : Jvm.MethodName) prog_24_method_37_code (3 : Nat) (Option.none : Option Jvm.ClassFile.FieldType)) ∈ lw_all := lw_g (lw_at lw_m6 62 rfl) rfl
theorem q1324 : (Jvm.Cond.methodLink "SlipWeeksModel" (188 : Nat) ({ cls := "SlipWeeksModel", name := "likesBy", desc := "(II)I" } : Jvm.MethodName)) ∈ lw_all := lw_g (lw_at lw_m6 63 rfl) rfl
theorem q1325 : (Jvm.Cond.privateMethod ({ cls := "SlipWeeksModel", name := "likesBy", desc := "(II)I" } : Jvm.MethodName)) ∈ lw_tbl := lw_at lw_m6 64 rfl
theorem q1326 : (Jvm.Cond.instanceMethod ({ cls := "SlipWeeksModel", name := "likesBy", desc := "(II)I" } : Jvm.MethodName)) ∈ lw_all := lw_g (lw_at lw_m6 65 rfl) rfl
theorem q1327 : (Jvm.Cond.code ({ cls := "SlipWeeksModel", name := "likesBy", desc := "(II)I" } : Jvm.MethodName) prog_24_method_35_code (3 : Nat) (Option.some Jvm.ClassFile.FieldType.int)) ∈ lw_all := lw_g (lw_at lw_m6 66 rfl) rfl
theorem q1328 : (Jvm.Cond.methodLink "SlipWeeksModel" (184 : Nat) ({ cls := "SlipWeeksModel", name := "fancied", desc := "(IIII)I" } : Jvm.MethodName)) ∈ lw_all := lw_g (lw_at lw_m6 67 rfl) rfl
theorem q1329 : (Jvm.Cond.privateMethod ({ cls := "SlipWeeksModel", name := "fancied", desc := "(IIII)I" } : Jvm.MethodName)) ∈ lw_tbl := lw_at lw_m6 68 rfl
theorem q1330 : (Jvm.Cond.instanceMethod ({ cls := "SlipWeeksModel", name := "fancied", desc := "(IIII)I" } : Jvm.MethodName)) ∈ lw_all := lw_g (lw_at lw_m6 69 rfl) rfl
theorem q1331 : (Jvm.Cond.code ({ cls := "SlipWeeksModel", name := "fancied", desc := "(IIII)I" } : Jvm.MethodName) prog_24_method_34_code (6 : Nat) (Option.some Jvm.ClassFile.FieldType.int)) ∈ lw_all := lw_g (lw_at lw_m6 70 rfl) rfl
theorem q1332 : (Jvm.Cond.methodLink "SlipWeeksModel" (178 : Nat) ({ cls := "SlipWeeksModel", name := "isOneLine", desc := "(I)Z" } : Jvm.MethodName)) ∈ lw_all := lw_g (lw_at lw_m6 71 rfl) rfl
theorem q1333 : (Jvm.Cond.static ({ cls := "SlipWeeksModel", name := "isOneLine", desc := "(I)Z" } : Jvm.MethodName)) ∈ lw_all := lw_g (lw_at lw_m6 72 rfl) rfl
theorem q1334 : (Jvm.Cond.code ({ cls := "SlipWeeksModel", name := "isOneLine", desc := "(I)Z" } : Jvm.MethodName) prog_24_method_32_code (1 : Nat) (Option.some Jvm.ClassFile.FieldType.boolean)) ∈ lw_all := lw_g (lw_at lw_m6 73 rfl) rfl
theorem q1335 : (Jvm.Cond.methodLink "SlipWeeksModel" (181 : Nat) ({ cls := "SlipWeeksModel", name := "isThreeUp", desc := "(I)Z" } : Jvm.MethodName)) ∈ lw_all := lw_g (lw_at lw_m6 74 rfl) rfl
theorem q1336 : (Jvm.Cond.privateMethod ({ cls := "SlipWeeksModel", name := "isThreeUp", desc := "(I)Z" } : Jvm.MethodName)) ∈ lw_tbl := lw_at lw_m6 75 rfl
theorem q1337 : (Jvm.Cond.instanceMethod ({ cls := "SlipWeeksModel", name := "isThreeUp", desc := "(I)Z" } : Jvm.MethodName)) ∈ lw_all := lw_g (lw_at lw_m6 76 rfl) rfl
theorem q1338 : (Jvm.Cond.code ({ cls := "SlipWeeksModel", name := "isThreeUp", desc := "(I)Z" } : Jvm.MethodName) prog_24_method_33_code (4 : Nat) (Option.some Jvm.ClassFile.FieldType.boolean)) ∈ lw_all := lw_g (lw_at lw_m6 77 rfl) rfl
theorem q1339 : (Jvm.Cond.methodLink "SlipWeeksModel" (195 : Nat) ({ cls := "SlipWeeksModel", name := "crossedBy", desc := "(II)I" } : Jvm.MethodName)) ∈ lw_all := lw_g (lw_at lw_m6 78 rfl) rfl
theorem q1340 : (Jvm.Cond.privateMethod ({ cls := "SlipWeeksModel", name := "crossedBy", desc := "(II)I" } : Jvm.MethodName)) ∈ lw_tbl := lw_at lw_m6 79 rfl
theorem q1341 : (Jvm.Cond.instanceMethod ({ cls := "SlipWeeksModel", name := "crossedBy", desc := "(II)I" } : Jvm.MethodName)) ∈ lw_all := lw_g (lw_at lw_m6 80 rfl) rfl
theorem q1342 : (Jvm.Cond.code ({ cls := "SlipWeeksModel", name := "crossedBy", desc := "(II)I" } : Jvm.MethodName) prog_24_method_36_code (3 : Nat) (Option.some Jvm.ClassFile.FieldType.int)) ∈ lw_all := lw_g (lw_at lw_m6 81 rfl) rfl
theorem q1344 : (Jvm.Cond.instanceMethod ({ cls := "SlipWeeksModel", name := "crossed", desc := "(II)I" } : Jvm.MethodName)) ∈ lw_all := lw_g (lw_at lw_m6 83 rfl) rfl
theorem q1345 : (Jvm.Cond.selects "SlipWeeksModel" ({ cls := "SlipWeeksModel", name := "crossed", desc := "(II)I" } : Jvm.MethodName) ({ cls := "SlipWeeksModel", name := "crossed", desc := "(II)I" } : Jvm.MethodName)) ∈ lw_all := lw_g (lw_at lw_m6 84 rfl) rfl
theorem q1346 : (Jvm.Cond.code ({ cls := "SlipWeeksModel", name := "crossed", desc := "(II)I" } : Jvm.MethodName) prog_24_method_39_code (3 : Nat) (Option.some Jvm.ClassFile.FieldType.int)) ∈ lw_all := lw_g (lw_at lw_m6 85 rfl) rfl
theorem q1348 : (Jvm.Cond.instanceMethod ({ cls := "SlipWeeksModel", name := "buys", desc := "(II)I" } : Jvm.MethodName)) ∈ lw_all := lw_g (lw_at lw_m6 87 rfl) rfl
theorem q1349 : (Jvm.Cond.selects "SlipWeeksModel" ({ cls := "SlipWeeksModel", name := "buys", desc := "(II)I" } : Jvm.MethodName) ({ cls := "SlipWeeksModel", name := "buys", desc := "(II)I" } : Jvm.MethodName)) ∈ lw_all := lw_g (lw_at lw_m6 88 rfl) rfl
theorem q1350 : (Jvm.Cond.code ({ cls := "SlipWeeksModel", name := "buys", desc := "(II)I" } : Jvm.MethodName) prog_24_method_40_code (4 : Nat) (Option.some Jvm.ClassFile.FieldType.int)) ∈ lw_all := lw_g (lw_at lw_m6 89 rfl) rfl
theorem q1351 : (Jvm.Cond.constantLong "SlipWeeksModel" (201 : Nat) (9999 : Int64)) ∈ lw_all := lw_g (lw_at lw_m6 90 rfl) rfl
theorem q1352 : (Jvm.Cond.constant "SlipWeeksModel" (203 : Nat) (99999 : Int32)) ∈ lw_all := lw_g (lw_at lw_m6 91 rfl) rfl
theorem q1354 : (Jvm.Cond.instanceMethod ({ cls := "SlipWeeksModel", name := "returned", desc := "()I" } : Jvm.MethodName)) ∈ lw_all := lw_g (lw_at lw_m6 93 rfl) rfl
theorem q1355 : (Jvm.Cond.selects "SlipWeeksModel" ({ cls := "SlipWeeksModel", name := "returned", desc := "()I" } : Jvm.MethodName) ({ cls := "SlipWeeksModel", name := "returned", desc := "()I" } : Jvm.MethodName)) ∈ lw_all := lw_g (lw_at lw_m6 94 rfl) rfl
theorem q1356 : (Jvm.Cond.code ({ cls := "SlipWeeksModel", name := "returned", desc := "()I" } : Jvm.MethodName) prog_24_method_41_code (3 : Nat) (Option.some Jvm.ClassFile.FieldType.int)) ∈ lw_all := lw_g (lw_at lw_m6 95 rfl) rfl
theorem q1358 : (Jvm.Cond.instanceMethod ({ cls := "SlipWeeksModel", name := "rule", desc := "(II)I" } : Jvm.MethodName)) ∈ lw_all := lw_g (lw_at lw_m6 97 rfl) rfl
theorem q1359 : (Jvm.Cond.selects "SlipWeeksModel" ({ cls := "SlipWeeksModel", name := "rule", desc := "(II)I" } : Jvm.MethodName) ({ cls := "SlipWeeksModel", name := "rule", desc := "(II)I" } : Jvm.MethodName)) ∈ lw_all := lw_g (lw_at lw_m6 98 rfl) rfl
theorem q1360 : (Jvm.Cond.code ({ cls := "SlipWeeksModel", name := "rule", desc := "(II)I" } : Jvm.MethodName) prog_24_method_42_code (5 : Nat) (Option.some Jvm.ClassFile.FieldType.int)) ∈ lw_all := lw_g (lw_at lw_m6 99 rfl) rfl
theorem q1361 : (Jvm.Cond.constant "SlipWeeksModel" (204 : Nat) (999999 : Int32)) ∈ lw_all := lw_g (lw_at lw_m6 100 rfl) rfl
theorem q1362 : (Jvm.Cond.constant "SlipWeeksModel" (205 : Nat) (99999999 : Int32)) ∈ lw_all := lw_g (lw_at lw_m6 101 rfl) rfl
theorem q1364 : (Jvm.Cond.instanceMethod ({ cls := "SlipWeeksModel", name := "seed", desc := "(I)I" } : Jvm.MethodName)) ∈ lw_all := lw_g (lw_at lw_m6 103 rfl) rfl
theorem q1365 : (Jvm.Cond.selects "SlipWeeksModel" ({ cls := "SlipWeeksModel", name := "seed", desc := "(I)I" } : Jvm.MethodName) ({ cls := "SlipWeeksModel", name := "seed", desc := "(I)I" } : Jvm.MethodName)) ∈ lw_all := lw_g (lw_at lw_m6 104 rfl) rfl
theorem q1366 : (Jvm.Cond.code ({ cls := "SlipWeeksModel", name := "seed", desc := "(I)I" } : Jvm.MethodName) prog_24_method_43_code (3 : Nat) (Option.some Jvm.ClassFile.FieldType.int)) ∈ lw_all := lw_g (lw_at lw_m6 105 rfl) rfl
theorem q1368 : (Jvm.Cond.instanceMethod ({ cls := "SlipWeeksModel", name := "week", desc := "()I" } : Jvm.MethodName)) ∈ lw_all := lw_g (lw_at lw_m6 107 rfl) rfl
theorem q1369 : (Jvm.Cond.selects "SlipWeeksModel" ({ cls := "SlipWeeksModel", name := "week", desc := "()I" } : Jvm.MethodName) ({ cls := "SlipWeeksModel", name := "week", desc := "()I" } : Jvm.MethodName)) ∈ lw_all := lw_g (lw_at lw_m6 108 rfl) rfl
theorem q1370 : (Jvm.Cond.code ({ cls := "SlipWeeksModel", name := "week", desc := "()I" } : Jvm.MethodName) prog_24_method_48_code (2 : Nat) (Option.some Jvm.ClassFile.FieldType.int)) ∈ lw_all := lw_g (lw_at lw_m6 109 rfl) rfl
theorem q1371 : (Jvm.Cond.constant "SlipWeeksModel" (218 : Nat) (1103515245 : Int32)) ∈ lw_all := lw_g (lw_at lw_m6 110 rfl) rfl
theorem q1372 : (Jvm.Cond.methodLink "SlipWeeksModel" (219 : Nat) ({ cls := "SlipWeeksModel", name := "goes", desc := "(I)V" } : Jvm.MethodName)) ∈ lw_all := lw_g (lw_at lw_m6 111 rfl) rfl
theorem q1373 : (Jvm.Cond.privateMethod ({ cls := "SlipWeeksModel", name := "goes", desc := "(I)V" } : Jvm.MethodName)) ∈ lw_tbl := lw_at lw_m6 112 rfl
theorem q1374 : (Jvm.Cond.instanceMethod ({ cls := "SlipWeeksModel", name := "goes", desc := "(I)V" } : Jvm.MethodName)) ∈ lw_all := lw_g (lw_at lw_m6 113 rfl) rfl
theorem q1375 : (Jvm.Cond.code ({ cls := "SlipWeeksModel", name := "goes", desc := "(I)V" } : Jvm.MethodName) prog_24_method_47_code (11 : Nat) (Option.none : Option Jvm.ClassFile.FieldType)) ∈ lw_all := lw_g (lw_at lw_m6 114 rfl) rfl
theorem q1376 : (Jvm.Cond.methodLink "SlipWeeksModel" (208 : Nat) ({ cls := "SlipWeeksModel", name := "potWith", desc := "(I)J" } : Jvm.MethodName)) ∈ lw_all := lw_g (lw_at lw_m6 115 rfl) rfl
theorem q1377 : (Jvm.Cond.privateMethod ({ cls := "SlipWeeksModel", name := "potWith", desc := "(I)J" } : Jvm.MethodName)) ∈ lw_tbl := lw_at lw_m6 116 rfl
theorem q1378 : (Jvm.Cond.instanceMethod ({ cls := "SlipWeeksModel", name := "potWith", desc := "(I)J" } : Jvm.MethodName)) ∈ lw_all := lw_g (lw_at lw_m6 117 rfl) rfl
theorem q1379 : (Jvm.Cond.code ({ cls := "SlipWeeksModel", name := "potWith", desc := "(I)J" } : Jvm.MethodName) prog_24_method_45_code (2 : Nat) (Option.some Jvm.ClassFile.FieldType.long)) ∈ lw_all := lw_g (lw_at lw_m6 118 rfl) rfl
theorem q1380 : (Jvm.Cond.constantLong "SlipWeeksModel" (206 : Nat) (100 : Int64)) ∈ lw_all := lw_g (lw_at lw_m6 119 rfl) rfl
theorem q1381 : (Jvm.Cond.methodLink "SlipWeeksModel" (212 : Nat) ({ cls := "SlipWeeksModel", name := "shareOf", desc := "(JI)J" } : Jvm.MethodName)) ∈ lw_all := lw_g (lw_at lw_m6 120 rfl) rfl
theorem q1382 : (Jvm.Cond.privateMethod ({ cls := "SlipWeeksModel", name := "shareOf", desc := "(JI)J" } : Jvm.MethodName)) ∈ lw_tbl := lw_at lw_m6 121 rfl
theorem q1383 : (Jvm.Cond.instanceMethod ({ cls := "SlipWeeksModel", name := "shareOf", desc := "(JI)J" } : Jvm.MethodName)) ∈ lw_all := lw_g (lw_at lw_m6 122 rfl) rfl
theorem q1384 : (Jvm.Cond.code ({ cls := "SlipWeeksModel", name := "shareOf", desc := "(JI)J" } : Jvm.MethodName) prog_24_method_46_code (4 : Nat) (Option.some Jvm.ClassFile.FieldType.long)) ∈ lw_all := lw_g (lw_at lw_m6 123 rfl) rfl
theorem q1385 : (Jvm.Cond.constantLong "SlipWeeksModel" (216 : Nat) (99999999 : Int64)) ∈ lw_all := lw_g (lw_at lw_m6 124 rfl) rfl
theorem q1387 : (Jvm.Cond.instanceMethod ({ cls := "SlipWeeksModel", name := "told", desc := "(I)I" } : Jvm.MethodName)) ∈ lw_all := lw_g (lw_at lw_m6 126 rfl) rfl
theorem q1388 : (Jvm.Cond.selects "SlipWeeksModel" ({ cls := "SlipWeeksModel", name := "told", desc := "(I)I" } : Jvm.MethodName) ({ cls := "SlipWeeksModel", name := "told", desc := "(I)I" } : Jvm.MethodName)) ∈ lw_all := lw_g (lw_at lw_m6 127 rfl) rfl
theorem q1389 : (Jvm.Cond.code ({ cls := "SlipWeeksModel", name := "told", desc := "(I)I" } : Jvm.MethodName) prog_24_method_49_code (2 : Nat) (Option.some Jvm.ClassFile.FieldType.int)) ∈ lw_all := lw_g (lw_at lw_m6 128 rfl) rfl
theorem q1391 : (Jvm.Cond.instanceMethod ({ cls := "SlipWeeksModel", name := "book", desc := "(II)I" } : Jvm.MethodName)) ∈ lw_all := lw_g (lw_at lw_m6 130 rfl) rfl
theorem q1392 : (Jvm.Cond.selects "SlipWeeksModel" ({ cls := "SlipWeeksModel", name := "book", desc := "(II)I" } : Jvm.MethodName) ({ cls := "SlipWeeksModel", name := "book", desc := "(II)I" } : Jvm.MethodName)) ∈ lw_all := lw_g (lw_at lw_m6 131 rfl) rfl
theorem q1393 : (Jvm.Cond.code ({ cls := "SlipWeeksModel", name := "book", desc := "(II)I" } : Jvm.MethodName) prog_24_method_50_code (3 : Nat) (Option.some Jvm.ClassFile.FieldType.int)) ∈ lw_all := lw_g (lw_at lw_m6 132 rfl) rfl
theorem q1395 : (Jvm.Cond.instanceMethod ({ cls := "SlipWeeksModel", name := "now", desc := "()I" } : Jvm.MethodName)) ∈ lw_all := lw_g (lw_at lw_m6 134 rfl) rfl
theorem q1396 : (Jvm.Cond.selects "SlipWeeksModel" ({ cls := "SlipWeeksModel", name := "now", desc := "()I" } : Jvm.MethodName) ({ cls := "SlipWeeksModel", name := "now", desc := "()I" } : Jvm.MethodName)) ∈ lw_all := lw_g (lw_at lw_m6 135 rfl) rfl
theorem q1397 : (Jvm.Cond.code ({ cls := "SlipWeeksModel", name := "now", desc := "()I" } : Jvm.MethodName) prog_24_method_51_code (1 : Nat) (Option.some Jvm.ClassFile.FieldType.int)) ∈ lw_all := lw_g (lw_at lw_m6 136 rfl) rfl
theorem q1399 : (Jvm.Cond.instanceMethod ({ cls := "SlipWeeksModel", name := "worth", desc := "(I)I" } : Jvm.MethodName)) ∈ lw_all := lw_g (lw_at lw_m6 138 rfl) rfl
theorem q1400 : (Jvm.Cond.selects "SlipWeeksModel" ({ cls := "SlipWeeksModel", name := "worth", desc := "(I)I" } : Jvm.MethodName) ({ cls := "SlipWeeksModel", name := "worth", desc := "(I)I" } : Jvm.MethodName)) ∈ lw_all := lw_g (lw_at lw_m6 139 rfl) rfl
theorem q1401 : (Jvm.Cond.code ({ cls := "SlipWeeksModel", name := "worth", desc := "(I)I" } : Jvm.MethodName) prog_24_method_55_code (2 : Nat) (Option.some Jvm.ClassFile.FieldType.int)) ∈ lw_all := lw_g (lw_at lw_m6 140 rfl) rfl
theorem q1402 : (Jvm.Cond.methodLink "SlipWeeksModel" (235 : Nat) ({ cls := "SlipWeeksModel", name := "worthOf", desc := "(IJ)I" } : Jvm.MethodName)) ∈ lw_all := lw_g (lw_at lw_m6 141 rfl) rfl
theorem q1403 : (Jvm.Cond.privateMethod ({ cls := "SlipWeeksModel", name := "worthOf", desc := "(IJ)I" } : Jvm.MethodName)) ∈ lw_tbl := lw_at lw_m6 142 rfl
theorem q1404 : (Jvm.Cond.instanceMethod ({ cls := "SlipWeeksModel", name := "worthOf", desc := "(IJ)I" } : Jvm.MethodName)) ∈ lw_all := lw_g (lw_at lw_m6 143 rfl) rfl
theorem q1405 : (Jvm.Cond.code ({ cls := "SlipWeeksModel", name := "worthOf", desc := "(IJ)I" } : Jvm.MethodName) prog_24_method_54_code (4 : Nat) (Option.some Jvm.ClassFile.FieldType.int)) ∈ lw_all := lw_g (lw_at lw_m6 144 rfl) rfl
theorem q1406 : (Jvm.Cond.methodLink "SlipWeeksModel" (229 : Nat) ({ cls := "SlipWeeksModel", name := "getsAll", desc := "(IJ)J" } : Jvm.MethodName)) ∈ lw_all := lw_g (lw_at lw_m6 145 rfl) rfl
theorem q1407 : (Jvm.Cond.privateMethod ({ cls := "SlipWeeksModel", name := "getsAll", desc := "(IJ)J" } : Jvm.MethodName)) ∈ lw_tbl := lw_at lw_m6 146 rfl
theorem q1408 : (Jvm.Cond.instanceMethod ({ cls := "SlipWeeksModel", name := "getsAll", desc := "(IJ)J" } : Jvm.MethodName)) ∈ lw_all := lw_g (lw_at lw_m6 147 rfl) rfl
theorem q1409 : (Jvm.Cond.code ({ cls := "SlipWeeksModel", name := "getsAll", desc := "(IJ)J" } : Jvm.MethodName) prog_24_method_53_code (8 : Nat) (Option.some Jvm.ClassFile.FieldType.long)) ∈ lw_all := lw_g (lw_at lw_m6 148 rfl) rfl
theorem q1410 : (Jvm.Cond.methodLink "SlipWeeksModel" (222 : Nat) ({ cls := "SlipWeeksModel", name := "counts", desc := "()V" } : Jvm.MethodName)) ∈ lw_all := lw_g (lw_at lw_m6 149 rfl) rfl
theorem q1411 : (Jvm.Cond.privateMethod ({ cls := "SlipWeeksModel", name := "counts", desc := "()V" } : Jvm.MethodName)) ∈ lw_tbl := lw_at lw_m6 150 rfl
theorem q1412 : (Jvm.Cond.instanceMethod ({ cls := "SlipWeeksModel", name := "counts", desc := "()V" } : Jvm.MethodName)) ∈ lw_all := lw_g (lw_at lw_m6 151 rfl) rfl
theorem q1413 : (Jvm.Cond.code ({ cls := "SlipWeeksModel", name := "counts", desc := "()V" } : Jvm.MethodName) prog_24_method_44_code (4 : Nat) (Option.none : Option Jvm.ClassFile.FieldType)) ∈ lw_all := lw_g (lw_at lw_m6 152 rfl) rfl
theorem q1414 : (Jvm.Cond.methodLink "SlipWeeksModel" (225 : Nat) ({ cls := "SlipWeeksModel", name := "taxed", desc := "(J)J" } : Jvm.MethodName)) ∈ lw_all := lw_g (lw_at lw_m6 153 rfl) rfl
theorem q1415 : (Jvm.Cond.privateMethod ({ cls := "SlipWeeksModel", name := "taxed", desc := "(J)J" } : Jvm.MethodName)) ∈ lw_tbl := lw_at lw_m6 154 rfl
theorem q1416 : (Jvm.Cond.instanceMethod ({ cls := "SlipWeeksModel", name := "taxed", desc := "(J)J" } : Jvm.MethodName)) ∈ lw_all := lw_g (lw_at lw_m6 155 rfl) rfl
theorem q1417 : (Jvm.Cond.code ({ cls := "SlipWeeksModel", name := "taxed", desc := "(J)J" } : Jvm.MethodName) prog_24_method_52_code (3 : Nat) (Option.some Jvm.ClassFile.FieldType.long)) ∈ lw_all := lw_g (lw_at lw_m6 156 rfl) rfl
theorem q1418 : (Jvm.Cond.constantLong "SlipWeeksModel" (233 : Nat) (495 : Int64)) ∈ lw_all := lw_g (lw_at lw_m6 157 rfl) rfl
theorem q1420 : (Jvm.Cond.instanceMethod ({ cls := "SlipWeeksModel", name := "best", desc := "(I)I" } : Jvm.MethodName)) ∈ lw_all := lw_g (lw_at lw_m6 159 rfl) rfl
theorem q1421 : (Jvm.Cond.selects "SlipWeeksModel" ({ cls := "SlipWeeksModel", name := "best", desc := "(I)I" } : Jvm.MethodName) ({ cls := "SlipWeeksModel", name := "best", desc := "(I)I" } : Jvm.MethodName)) ∈ lw_all := lw_g (lw_at lw_m6 160 rfl) rfl
theorem q1422 : (Jvm.Cond.code ({ cls := "SlipWeeksModel", name := "best", desc := "(I)I" } : Jvm.MethodName) prog_24_method_56_code (8 : Nat) (Option.some Jvm.ClassFile.FieldType.int)) ∈ lw_all := lw_g (lw_at lw_m6 161 rfl) rfl
theorem q1424 : (Jvm.Cond.instanceMethod ({ cls := "SlipWeeksModel", name := "alone", desc := "(I)I" } : Jvm.MethodName)) ∈ lw_all := lw_g (lw_at lw_m6 163 rfl) rfl
theorem q1425 : (Jvm.Cond.selects "SlipWeeksModel" ({ cls := "SlipWeeksModel", name := "alone", desc := "(I)I" } : Jvm.MethodName) ({ cls := "SlipWeeksModel", name := "alone", desc := "(I)I" } : Jvm.MethodName)) ∈ lw_all := lw_g (lw_at lw_m6 164 rfl) rfl
theorem q1426 : (Jvm.Cond.code ({ cls := "SlipWeeksModel", name := "alone", desc := "(I)I" } : Jvm.MethodName) prog_24_method_57_code (5 : Nat) (Option.some Jvm.ClassFile.FieldType.int)) ∈ lw_all := lw_g (lw_at lw_m6 165 rfl) rfl
theorem q1427 : (Jvm.Cond.constant "SlipWeeksModel" (239 : Nat) (-1000000004 : Int32)) ∈ lw_all := lw_g (lw_at lw_m6 166 rfl) rfl
theorem q1429 : (Jvm.Cond.instanceMethod ({ cls := "SlipWeeksModel", name := "line", desc := "(I)I" } : Jvm.MethodName)) ∈ lw_all := lw_g (lw_at lw_m6 168 rfl) rfl
theorem q1430 : (Jvm.Cond.selects "SlipWeeksModel" ({ cls := "SlipWeeksModel", name := "line", desc := "(I)I" } : Jvm.MethodName) ({ cls := "SlipWeeksModel", name := "line", desc := "(I)I" } : Jvm.MethodName)) ∈ lw_all := lw_g (lw_at lw_m6 169 rfl) rfl
theorem q1431 : (Jvm.Cond.code ({ cls := "SlipWeeksModel", name := "line", desc := "(I)I" } : Jvm.MethodName) prog_24_method_58_code (6 : Nat) (Option.some Jvm.ClassFile.FieldType.int)) ∈ lw_all := lw_g (lw_at lw_m6 170 rfl) rfl
theorem q1433 : (Jvm.Cond.instanceMethod ({ cls := "SlipWeeksModel", name := "house", desc := "(I)J" } : Jvm.MethodName)) ∈ lw_all := lw_g (lw_at lw_m6 172 rfl) rfl
theorem q1434 : (Jvm.Cond.selects "SlipWeeksModel" ({ cls := "SlipWeeksModel", name := "house", desc := "(I)J" } : Jvm.MethodName) ({ cls := "SlipWeeksModel", name := "house", desc := "(I)J" } : Jvm.MethodName)) ∈ lw_all := lw_g (lw_at lw_m6 173 rfl) rfl
theorem q1435 : (Jvm.Cond.code ({ cls := "SlipWeeksModel", name := "house", desc := "(I)J" } : Jvm.MethodName) prog_24_method_61_code (8 : Nat) (Option.some Jvm.ClassFile.FieldType.long)) ∈ lw_all := lw_g (lw_at lw_m6 174 rfl) rfl
theorem q1436 : (Jvm.Cond.methodLink "SlipWeeksModel" (240 : Nat) ({ cls := "SlipWeeksModel", name := "begins", desc := "()V" } : Jvm.MethodName)) ∈ lw_all := lw_g (lw_at lw_m6 175 rfl) rfl
theorem q1437 : (Jvm.Cond.privateMethod ({ cls := "SlipWeeksModel", name := "begins", desc := "()V" } : Jvm.MethodName)) ∈ lw_tbl := lw_at lw_m6 176 rfl
theorem q1438 : (Jvm.Cond.instanceMethod ({ cls := "SlipWeeksModel", name := "begins", desc := "()V" } : Jvm.MethodName)) ∈ lw_all := lw_g (lw_at lw_m6 177 rfl) rfl
theorem q1439 : (Jvm.Cond.code ({ cls := "SlipWeeksModel", name := "begins", desc := "()V" } : Jvm.MethodName) prog_24_method_60_code (2 : Nat) (Option.none : Option Jvm.ClassFile.FieldType)) ∈ lw_all := lw_g (lw_at lw_m6 178 rfl) rfl
theorem q1440 : (Jvm.Cond.methodLink "SlipWeeksModel" (243 : Nat) ({ cls := "SlipWeeksModel", name := "rarest", desc := "()I" } : Jvm.MethodName)) ∈ lw_all := lw_g (lw_at lw_m6 179 rfl) rfl
theorem q1441 : (Jvm.Cond.privateMethod ({ cls := "SlipWeeksModel", name := "rarest", desc := "()I" } : Jvm.MethodName)) ∈ lw_tbl := lw_at lw_m6 180 rfl
theorem q1442 : (Jvm.Cond.instanceMethod ({ cls := "SlipWeeksModel", name := "rarest", desc := "()I" } : Jvm.MethodName)) ∈ lw_all := lw_g (lw_at lw_m6 181 rfl) rfl
theorem q1443 : (Jvm.Cond.code ({ cls := "SlipWeeksModel", name := "rarest", desc := "()I" } : Jvm.MethodName) prog_24_method_59_code (3 : Nat) (Option.some Jvm.ClassFile.FieldType.int)) ∈ lw_all := lw_g (lw_at lw_m6 182 rfl) rfl
theorem q1445 : (Jvm.Cond.instanceMethod ({ cls := "SlipWeeksModel", name := "seek", desc := "(II)I" } : Jvm.MethodName)) ∈ lw_all := lw_g (lw_at lw_m6 184 rfl) rfl
theorem q1446 : (Jvm.Cond.selects "SlipWeeksModel" ({ cls := "SlipWeeksModel", name := "seek", desc := "(II)I" } : Jvm.MethodName) ({ cls := "SlipWeeksModel", name := "seek", desc := "(II)I" } : Jvm.MethodName)) ∈ lw_all := lw_g (lw_at lw_m6 185 rfl) rfl
theorem q1447 : (Jvm.Cond.code ({ cls := "SlipWeeksModel", name := "seek", desc := "(II)I" } : Jvm.MethodName) prog_24_method_62_code (6 : Nat) (Option.some Jvm.ClassFile.FieldType.int)) ∈ lw_all := lw_g (lw_at lw_m6 186 rfl) rfl
theorem q1448 : (Jvm.Cond.constantLong "SlipWeeksModel" (246 : Nat) (200 : Int64)) ∈ lw_all := lw_g (lw_at lw_m6 187 rfl) rfl
theorem q1450 : (Jvm.Cond.instanceMethod ({ cls := "SlipWeeksModel", name := "shares", desc := "(I)I" } : Jvm.MethodName)) ∈ lw_all := lw_g (lw_at lw_m6 189 rfl) rfl
theorem q1451 : (Jvm.Cond.selects "SlipWeeksModel" ({ cls := "SlipWeeksModel", name := "shares", desc := "(I)I" } : Jvm.MethodName) ({ cls := "SlipWeeksModel", name := "shares", desc := "(I)I" } : Jvm.MethodName)) ∈ lw_all := lw_g (lw_at lw_m6 190 rfl) rfl
theorem q1452 : (Jvm.Cond.code ({ cls := "SlipWeeksModel", name := "shares", desc := "(I)I" } : Jvm.MethodName) prog_24_method_63_code (2 : Nat) (Option.some Jvm.ClassFile.FieldType.int)) ∈ lw_all := lw_g (lw_at lw_m6 191 rfl) rfl
theorem q1454 : (Jvm.Cond.instanceMethod ({ cls := "SlipWeeksModel", name := "due", desc := "(I)I" } : Jvm.MethodName)) ∈ lw_all := lw_g (lw_at lw_m6 193 rfl) rfl
theorem q1455 : (Jvm.Cond.selects "SlipWeeksModel" ({ cls := "SlipWeeksModel", name := "due", desc := "(I)I" } : Jvm.MethodName) ({ cls := "SlipWeeksModel", name := "due", desc := "(I)I" } : Jvm.MethodName)) ∈ lw_all := lw_g (lw_at lw_m6 194 rfl) rfl
theorem q1456 : (Jvm.Cond.code ({ cls := "SlipWeeksModel", name := "due", desc := "(I)I" } : Jvm.MethodName) prog_24_method_66_code (3 : Nat) (Option.some Jvm.ClassFile.FieldType.int)) ∈ lw_all := lw_g (lw_at lw_m6 195 rfl) rfl
theorem q1457 : (Jvm.Cond.constantLong "SlipWeeksModel" (251 : Nat) (11 : Int64)) ∈ lw_all := lw_g (lw_at lw_m6 196 rfl) rfl
theorem q1458 : (Jvm.Cond.methodLink "SlipWeeksModel" (248 : Nat) ({ cls := "SlipWeeksModel", name := "drawAt", desc := "(I)I" } : Jvm.MethodName)) ∈ lw_all := lw_g (lw_at lw_m6 197 rfl) rfl
theorem q1459 : (Jvm.Cond.privateMethod ({ cls := "SlipWeeksModel", name := "drawAt", desc := "(I)I" } : Jvm.MethodName)) ∈ lw_tbl := lw_at lw_m6 198 rfl
theorem q1460 : (Jvm.Cond.instanceMethod ({ cls := "SlipWeeksModel", name := "drawAt", desc := "(I)I" } : Jvm.MethodName)) ∈ lw_all := lw_g (lw_at lw_m6 199 rfl) rfl
theorem q1461 : (Jvm.Cond.code ({ cls := "SlipWeeksModel", name := "drawAt", desc := "(I)I" } : Jvm.MethodName) prog_24_method_64_code (2 : Nat) (Option.some Jvm.ClassFile.FieldType.int)) ∈ lw_all := lw_g (lw_at lw_m6 200 rfl) rfl
theorem q1463 : (Jvm.Cond.instanceMethod ({ cls := "SlipWeeksModel", name := "came", desc := "(I)I" } : Jvm.MethodName)) ∈ lw_all := lw_g (lw_at lw_m6 202 rfl) rfl
theorem q1464 : (Jvm.Cond.selects "SlipWeeksModel" ({ cls := "SlipWeeksModel", name := "came", desc := "(I)I" } : Jvm.MethodName) ({ cls := "SlipWeeksModel", name := "came", desc := "(I)I" } : Jvm.MethodName)) ∈ lw_all := lw_g (lw_at lw_m6 203 rfl) rfl
theorem q1465 : (Jvm.Cond.code ({ cls := "SlipWeeksModel", name := "came", desc := "(I)I" } : Jvm.MethodName) prog_24_method_67_code (2 : Nat) (Option.some Jvm.ClassFile.FieldType.int)) ∈ lw_all := lw_g (lw_at lw_m6 204 rfl) rfl
theorem q1466 : (Jvm.Cond.methodLink "SlipWeeksModel" (253 : Nat) ({ cls := "SlipWeeksModel", name := "timesOf", desc := "(I)I" } : Jvm.MethodName)) ∈ lw_all := lw_g (lw_at lw_m6 205 rfl) rfl
theorem q1467 : (Jvm.Cond.privateMethod ({ cls := "SlipWeeksModel", name := "timesOf", desc := "(I)I" } : Jvm.MethodName)) ∈ lw_tbl := lw_at lw_m6 206 rfl
theorem q1468 : (Jvm.Cond.instanceMethod ({ cls := "SlipWeeksModel", name := "timesOf", desc := "(I)I" } : Jvm.MethodName)) ∈ lw_all := lw_g (lw_at lw_m6 207 rfl) rfl
theorem q1469 : (Jvm.Cond.code ({ cls := "SlipWeeksModel", name := "timesOf", desc := "(I)I" } : Jvm.MethodName) prog_24_method_65_code (4 : Nat) (Option.some Jvm.ClassFile.FieldType.int)) ∈ lw_all := lw_g (lw_at lw_m6 208 rfl) rfl
theorem q1471 : (Jvm.Cond.instanceMethod ({ cls := "SlipWeeksModel", name := "drum", desc := "()J" } : Jvm.MethodName)) ∈ lw_all := lw_g (lw_at lw_m6 210 rfl) rfl
theorem q1472 : (Jvm.Cond.selects "SlipWeeksModel" ({ cls := "SlipWeeksModel", name := "drum", desc := "()J" } : Jvm.MethodName) ({ cls := "SlipWeeksModel", name := "drum", desc := "()J" } : Jvm.MethodName)) ∈ lw_all := lw_g (lw_at lw_m6 211 rfl) rfl
theorem q1473 : (Jvm.Cond.code ({ cls := "SlipWeeksModel", name := "drum", desc := "()J" } : Jvm.MethodName) prog_24_method_68_code (6 : Nat) (Option.some Jvm.ClassFile.FieldType.long)) ∈ lw_all := lw_g (lw_at lw_m6 212 rfl) rfl
theorem q1474 : (Jvm.Cond.constantLong "SlipWeeksModel" (256 : Nat) (12 : Int64)) ∈ lw_all := lw_g (lw_at lw_m6 213 rfl) rfl
theorem q1476 : (Jvm.Cond.instanceMethod ({ cls := "SlipWeeksModel", name := "felt", desc := "(I)I" } : Jvm.MethodName)) ∈ lw_all := lw_g (lw_at lw_m6 215 rfl) rfl
theorem q1477 : (Jvm.Cond.selects "SlipWeeksModel" ({ cls := "SlipWeeksModel", name := "felt", desc := "(I)I" } : Jvm.MethodName) ({ cls := "SlipWeeksModel", name := "felt", desc := "(I)I" } : Jvm.MethodName)) ∈ lw_all := lw_g (lw_at lw_m6 216 rfl) rfl
theorem q1478 : (Jvm.Cond.code ({ cls := "SlipWeeksModel", name := "felt", desc := "(I)I" } : Jvm.MethodName) prog_24_method_69_code (7 : Nat) (Option.some Jvm.ClassFile.FieldType.int)) ∈ lw_all := lw_g (lw_at lw_m6 217 rfl) rfl
theorem q1480 : (Jvm.Cond.instanceMethod ({ cls := "SlipWeeksModel", name := "sheet", desc := "(III)I" } : Jvm.MethodName)) ∈ lw_all := lw_g (lw_at lw_m6 219 rfl) rfl
theorem q1481 : (Jvm.Cond.selects "SlipWeeksModel" ({ cls := "SlipWeeksModel", name := "sheet", desc := "(III)I" } : Jvm.MethodName) ({ cls := "SlipWeeksModel", name := "sheet", desc := "(III)I" } : Jvm.MethodName)) ∈ lw_all := lw_g (lw_at lw_m6 220 rfl) rfl
theorem q1482 : (Jvm.Cond.code ({ cls := "SlipWeeksModel", name := "sheet", desc := "(III)I" } : Jvm.MethodName) prog_24_method_72_code (5 : Nat) (Option.some Jvm.ClassFile.FieldType.int)) ∈ lw_all := lw_g (lw_at lw_m6 221 rfl) rfl
theorem q1483 : (Jvm.Cond.methodLink "SlipWeeksModel" (258 : Nat) ({ cls := "SlipWeeksModel", name := "isSheet", desc := "(I)Z" } : Jvm.MethodName)) ∈ lw_all := lw_g (lw_at lw_m6 222 rfl) rfl
theorem q1484 : (Jvm.Cond.static ({ cls := "SlipWeeksModel", name := "isSheet", desc := "(I)Z" } : Jvm.MethodName)) ∈ lw_all := lw_g (lw_at lw_m6 223 rfl) rfl
theorem q1485 : (Jvm.Cond.code ({ cls := "SlipWeeksModel", name := "isSheet", desc := "(I)Z" } : Jvm.MethodName) prog_24_method_70_code (1 : Nat) (Option.some Jvm.ClassFile.FieldType.boolean)) ∈ lw_all := lw_g (lw_at lw_m6 224 rfl) rfl
theorem q1486 : (Jvm.Cond.constant "SlipWeeksModel" (261 : Nat) (-1000000007 : Int32)) ∈ lw_all := lw_g (lw_at lw_m6 225 rfl) rfl
theorem q1488 : (Jvm.Cond.instanceMethod ({ cls := "SlipWeeksModel", name := "write", desc := "(IIJ)J" } : Jvm.MethodName)) ∈ lw_all := lw_g (lw_at lw_m6 227 rfl) rfl
theorem q1489 : (Jvm.Cond.selects "SlipWeeksModel" ({ cls := "SlipWeeksModel", name := "write", desc := "(IIJ)J" } : Jvm.MethodName) ({ cls := "SlipWeeksModel", name := "write", desc := "(IIJ)J" } : Jvm.MethodName)) ∈ lw_all := lw_g (lw_at lw_m6 228 rfl) rfl
theorem q1490 : (Jvm.Cond.code ({ cls := "SlipWeeksModel", name := "write", desc := "(IIJ)J" } : Jvm.MethodName) prog_24_method_73_code (7 : Nat) (Option.some Jvm.ClassFile.FieldType.long)) ∈ lw_all := lw_g (lw_at lw_m6 229 rfl) rfl
theorem q1491 : (Jvm.Cond.constant "SlipWeeksModel" (262 : Nat) (-1000000006 : Int32)) ∈ lw_all := lw_g (lw_at lw_m6 230 rfl) rfl
theorem q1492 : (Jvm.Cond.methodLink "SlipWeeksModel" (263 : Nat) ({ cls := "SlipWeeksModel", name := "narrow", desc := "(IJ)J" } : Jvm.MethodName)) ∈ lw_all := lw_g (lw_at lw_m6 231 rfl) rfl
theorem q1493 : (Jvm.Cond.static ({ cls := "SlipWeeksModel", name := "narrow", desc := "(IJ)J" } : Jvm.MethodName)) ∈ lw_all := lw_g (lw_at lw_m6 232 rfl) rfl
theorem q1494 : (Jvm.Cond.code ({ cls := "SlipWeeksModel", name := "narrow", desc := "(IJ)J" } : Jvm.MethodName) prog_24_method_71_code (3 : Nat) (Option.some Jvm.ClassFile.FieldType.long)) ∈ lw_all := lw_g (lw_at lw_m6 233 rfl) rfl
theorem q1496 : (Jvm.Cond.instanceMethod ({ cls := "SlipWeeksModel", name := "copy", desc := "(IIIII)I" } : Jvm.MethodName)) ∈ lw_all := lw_g (lw_at lw_m6 235 rfl) rfl
theorem q1497 : (Jvm.Cond.selects "SlipWeeksModel" ({ cls := "SlipWeeksModel", name := "copy", desc := "(IIIII)I" } : Jvm.MethodName) ({ cls := "SlipWeeksModel", name := "copy", desc := "(IIIII)I" } : Jvm.MethodName)) ∈ lw_all := lw_g (lw_at lw_m6 236 rfl) rfl
theorem q1498 : (Jvm.Cond.code ({ cls := "SlipWeeksModel", name := "copy", desc := "(IIIII)I" } : Jvm.MethodName) prog_24_method_74_code (10 : Nat) (Option.some Jvm.ClassFile.FieldType.int)) ∈ lw_all := lw_g (lw_at lw_m6 237 rfl) rfl
theorem q1500 : (Jvm.Cond.instanceMethod ({ cls := "SlipWeeksModel", name := "weeks", desc := "(I)I" } : Jvm.MethodName)) ∈ lw_all := lw_g (lw_at lw_m6 239 rfl) rfl
theorem q1501 : (Jvm.Cond.selects "SlipWeeksModel" ({ cls := "SlipWeeksModel", name := "weeks", desc := "(I)I" } : Jvm.MethodName) ({ cls := "SlipWeeksModel", name := "weeks", desc := "(I)I" } : Jvm.MethodName)) ∈ lw_all := lw_g (lw_at lw_m7 0 rfl) rfl
theorem q1502 : (Jvm.Cond.code ({ cls := "SlipWeeksModel", name := "weeks", desc := "(I)I" } : Jvm.MethodName) prog_24_method_75_code (6 : Nat) (Option.some Jvm.ClassFile.FieldType.int)) ∈ lw_all := lw_g (lw_at lw_m7 1 rfl) rfl
theorem q1503 : (Jvm.Cond.constantLong "SlipWeeksModel" (266 : Nat) (4095 : Int64)) ∈ lw_all := lw_g (lw_at lw_m7 2 rfl) rfl
theorem q1505 : (Jvm.Cond.instanceMethod ({ cls := "SlipWeeksModel", name := "read", desc := "(I)I" } : Jvm.MethodName)) ∈ lw_all := lw_g (lw_at lw_m7 4 rfl) rfl
theorem q1506 : (Jvm.Cond.selects "SlipWeeksModel" ({ cls := "SlipWeeksModel", name := "read", desc := "(I)I" } : Jvm.MethodName) ({ cls := "SlipWeeksModel", name := "read", desc := "(I)I" } : Jvm.MethodName)) ∈ lw_all := lw_g (lw_at lw_m7 5 rfl) rfl
theorem q1507 : (Jvm.Cond.code ({ cls := "SlipWeeksModel", name := "read", desc := "(I)I" } : Jvm.MethodName) prog_24_method_76_code (3 : Nat) (Option.some Jvm.ClassFile.FieldType.int)) ∈ lw_all := lw_g (lw_at lw_m7 6 rfl) rfl
theorem q1509 : (Jvm.Cond.instanceMethod ({ cls := "SlipWeeksModel", name := "image", desc := "()I" } : Jvm.MethodName)) ∈ lw_all := lw_g (lw_at lw_m7 8 rfl) rfl
theorem q1510 : (Jvm.Cond.selects "SlipWeeksModel" ({ cls := "SlipWeeksModel", name := "image", desc := "()I" } : Jvm.MethodName) ({ cls := "SlipWeeksModel", name := "image", desc := "()I" } : Jvm.MethodName)) ∈ lw_all := lw_g (lw_at lw_m7 9 rfl) rfl
theorem q1511 : (Jvm.Cond.code ({ cls := "SlipWeeksModel", name := "image", desc := "()I" } : Jvm.MethodName) prog_24_method_77_code (2 : Nat) (Option.some Jvm.ClassFile.FieldType.int)) ∈ lw_all := lw_g (lw_at lw_m7 10 rfl) rfl
theorem q1513 : (Jvm.Cond.instanceMethod ({ cls := "SlipWeeksModel", name := "undo", desc := "()I" } : Jvm.MethodName)) ∈ lw_all := lw_g (lw_at lw_m7 12 rfl) rfl
theorem q1514 : (Jvm.Cond.selects "SlipWeeksModel" ({ cls := "SlipWeeksModel", name := "undo", desc := "()I" } : Jvm.MethodName) ({ cls := "SlipWeeksModel", name := "undo", desc := "()I" } : Jvm.MethodName)) ∈ lw_all := lw_g (lw_at lw_m7 13 rfl) rfl
theorem q1515 : (Jvm.Cond.code ({ cls := "SlipWeeksModel", name := "undo", desc := "()I" } : Jvm.MethodName) prog_24_method_78_code (2 : Nat) (Option.some Jvm.ClassFile.FieldType.int)) ∈ lw_all := lw_g (lw_at lw_m7 14 rfl) rfl
theorem q1517 : (Jvm.Cond.instanceMethod ({ cls := "SlipWeeksModel", name := "tear", desc := "()I" } : Jvm.MethodName)) ∈ lw_all := lw_g (lw_at lw_m7 16 rfl) rfl
theorem q1518 : (Jvm.Cond.selects "SlipWeeksModel" ({ cls := "SlipWeeksModel", name := "tear", desc := "()I" } : Jvm.MethodName) ({ cls := "SlipWeeksModel", name := "tear", desc := "()I" } : Jvm.MethodName)) ∈ lw_all := lw_g (lw_at lw_m7 17 rfl) rfl
theorem q1519 : (Jvm.Cond.code ({ cls := "SlipWeeksModel", name := "tear", desc := "()I" } : Jvm.MethodName) prog_24_method_79_code (2 : Nat) (Option.some Jvm.ClassFile.FieldType.int)) ∈ lw_all := lw_g (lw_at lw_m7 18 rfl) rfl
theorem q1521 : (Jvm.Cond.instanceMethod ({ cls := "SlipWeeksModel", name := "count", desc := "(I)I" } : Jvm.MethodName)) ∈ lw_all := lw_g (lw_at lw_m7 20 rfl) rfl
theorem q1522 : (Jvm.Cond.selects "SlipWeeksModel" ({ cls := "SlipWeeksModel", name := "count", desc := "(I)I" } : Jvm.MethodName) ({ cls := "SlipWeeksModel", name := "count", desc := "(I)I" } : Jvm.MethodName)) ∈ lw_all := lw_g (lw_at lw_m7 21 rfl) rfl
theorem q1523 : (Jvm.Cond.code ({ cls := "SlipWeeksModel", name := "count", desc := "(I)I" } : Jvm.MethodName) prog_24_method_80_code (2 : Nat) (Option.some Jvm.ClassFile.FieldType.int)) ∈ lw_all := lw_g (lw_at lw_m7 22 rfl) rfl
theorem q1525 : (Jvm.Cond.instanceMethod ({ cls := "SlipWeeksModel", name := "status", desc := "(I)I" } : Jvm.MethodName)) ∈ lw_all := lw_g (lw_at lw_m7 24 rfl) rfl
theorem q1526 : (Jvm.Cond.selects "SlipWeeksModel" ({ cls := "SlipWeeksModel", name := "status", desc := "(I)I" } : Jvm.MethodName) ({ cls := "SlipWeeksModel", name := "status", desc := "(I)I" } : Jvm.MethodName)) ∈ lw_all := lw_g (lw_at lw_m7 25 rfl) rfl
theorem q1527 : (Jvm.Cond.code ({ cls := "SlipWeeksModel", name := "status", desc := "(I)I" } : Jvm.MethodName) prog_24_method_81_code (2 : Nat) (Option.some Jvm.ClassFile.FieldType.int)) ∈ lw_all := lw_g (lw_at lw_m7 26 rfl) rfl
theorem q1528 : (Jvm.Cond.constantLong "SlipWeeksModel" (271 : Nat) (-1 : Int64)) ∈ lw_all := lw_g (lw_at lw_m7 27 rfl) rfl
theorem q1529 : (Jvm.Cond.constantLong "SlipWeeksModel" (273 : Nat) (6 : Int64)) ∈ lw_all := lw_g (lw_at lw_m7 28 rfl) rfl
theorem in_X5 : ∀ w ∈ wsX50, w ∈ lw_all := lw_in wsX50 [1138, 1140, 1142, 1144, 1146, 1148, 1150, 1152, 1154, 1156, 1158, 1160, 1162, 1164, 1166, 1168, 1170, 1172, 1174, 1176, 1178, 1180, 1182, 1184, 1186, 1188, 1190, 1192, 1194, 1196] (by decide +kernel) (by decide +kernel)
