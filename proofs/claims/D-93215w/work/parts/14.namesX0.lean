/-! SlipWeeks -/
set_option maxRecDepth 100000
def RX0 : String := "SlipWeeks"
def TX0 : u_T := fun k => match k with
  | 0 => ("SlipWeeks", "game", "LSlipWeeks$Game;", true)
  | 1 => ("SlipWeeks", "kept", "LSlipWeeks$Game;", true)
  | 2 => ("SlipWeeks", "isKept", "Z", false)
  | 3 => ("SlipWeeks", "tape", "[B", true)
  | 4 => ("SlipWeeks", "taped", "I", false)
  | 5 => ("SlipWeeks", "sheets", "[LSlipWeeks$Slot;", true)
  | 6 => ("SlipWeeks", "found", "[I", true)
  | 7 => ("SlipWeeks", "rows", "[I", true)
  | 8 => ("SlipWeeks", "look", "LSlipWeeks$Look;", true)
  | 9 => ("SlipWeeks", "named", "LSlipWeeks$Named;", true)
  | 10 => ("SlipWeeks", "isFresh", "Z", false)
  | 11 => ("SlipWeeks", "areWinners", "Z", false)
  | 12 => ("SlipWeeks", "says", "[I", true)
  | 13 => ("SlipWeeks", "liked", "[I", true)
  | 14 => ("SlipWeeks", "crossed", "[I", true)
  | 15 => ("SlipWeeks", "total", "J", false)
  | 16 => ("SlipWeeks", "winners", "[[I", true)
  | 17 => ("SlipWeeks", "tried", "[I", true)
  | _ => ("SlipWeeks", "isTaken", "[Z", true)
def tyX0 : Nat → FieldType := fun k => match k with
  | 0 => .object "SlipWeeks$Game"
  | 1 => .object "SlipWeeks$Game"
  | 2 => .boolean
  | 3 => .array .byte
  | 4 => .int
  | 5 => .array (.object "SlipWeeks$Slot")
  | 6 => .array .int
  | 7 => .array .int
  | 8 => .object "SlipWeeks$Look"
  | 9 => .object "SlipWeeks$Named"
  | 10 => .boolean
  | 11 => .boolean
  | 12 => .array .int
  | 13 => .array .int
  | 14 => .array .int
  | 15 => .long
  | 16 => .array (.array .int)
  | 17 => .array .int
  | _ => .array .boolean
abbrev wsX00 : List Cond := u_ws RX0 TX0 19
set_option maxRecDepth 100000 in
theorem nmX0 : ∀ a, a < 19 → ∀ b, b < 19 → a ≠ b → (TX0 a).2.1 ≠ (TX0 b).2.1 := by decide +kernel
set_option maxRecDepth 100000 in
theorem tyX0_ok : ∀ k, k < 19 → parseFieldDescriptor (TX0 k).2.2.1 = some (tyX0 k) := by decide +kernel
abbrev cX0_init : ByteArray := prog_1_method_6_code
def yX0_init : MethodName := ⟨RX0, "<init>", "()V"⟩
def dkwX0_init_7 : List UInt8 := [28, 79, 132, 1, 1, 132, 2, 1, 167, 255, 225, 177]
abbrev dktX0_init_7 : List UInt8 := dkwX0_init_7 ++ []
def dkwX0_init_6 : List UInt8 := [61, 28, 17, 16, 0, 162, 0, 30, 28, 184, 0, 105, 7, 159, 0, 6, 167, 0, 13, 42, 180, 0, 67, 27]
abbrev dktX0_init_6 : List UInt8 := dkwX0_init_6 ++ dktX0_init_7
def dkwX0_init_5 : List UInt8 := [181, 0, 95, 42, 17, 1, 239, 188, 10, 181, 0, 98, 42, 17, 1, 239, 188, 4, 181, 0, 101, 3, 60, 3]
abbrev dktX0_init_5 : List UInt8 := dkwX0_init_5 ++ dktX0_init_6
def dkwX0_init_4 : List UInt8 := [188, 10, 181, 0, 87, 42, 17, 1, 239, 188, 10, 181, 0, 90, 42, 8, 17, 1, 239, 197, 0, 93, 2]
abbrev dktX0_init_4 : List UInt8 := dkwX0_init_4 ++ dktX0_init_5
def dkwX0_init_3 : List UInt8 := [187, 0, 77, 89, 183, 0, 79, 181, 0, 80, 42, 17, 1, 239, 188, 10, 181, 0, 84, 42, 17, 1, 239]
abbrev dktX0_init_3 : List UInt8 := dkwX0_init_3 ++ dktX0_init_4
def dkwX0_init_2 : List UInt8 := [181, 0, 63, 42, 17, 1, 239, 188, 10, 181, 0, 67, 42, 187, 0, 70, 89, 183, 0, 72, 181, 0, 73, 42]
abbrev dktX0_init_2 : List UInt8 := dkwX0_init_2 ++ dktX0_init_3
def dkwX0_init_1 : List UInt8 := [181, 0, 48, 42, 16, 60, 188, 8, 181, 0, 51, 42, 7, 184, 0, 55, 181, 0, 59, 42, 16, 7, 188, 10]
abbrev dktX0_init_1 : List UInt8 := dkwX0_init_1 ++ dktX0_init_2
def dkwX0_init_0 : List UInt8 := [42, 183, 0, 36, 42, 187, 0, 39, 89, 183, 0, 41, 181, 0, 42, 42, 187, 0, 39, 89, 183, 0, 41]
abbrev dktX0_init_0 : List UInt8 := dkwX0_init_0 ++ dktX0_init_1
theorem dksX0_init_0 : cX0_init.data.toList.drop 0 = dktX0_init_0 := by decide +kernel
theorem dksX0_init_1 : cX0_init.data.toList.drop 23 = dktX0_init_1 := dk_seg dksX0_init_0 23 rfl rfl
theorem dksX0_init_2 : cX0_init.data.toList.drop 47 = dktX0_init_2 := dk_seg dksX0_init_1 24 rfl rfl
theorem dksX0_init_3 : cX0_init.data.toList.drop 71 = dktX0_init_3 := dk_seg dksX0_init_2 24 rfl rfl
theorem dksX0_init_4 : cX0_init.data.toList.drop 94 = dktX0_init_4 := dk_seg dksX0_init_3 23 rfl rfl
theorem dksX0_init_5 : cX0_init.data.toList.drop 117 = dktX0_init_5 := dk_seg dksX0_init_4 23 rfl rfl
theorem dksX0_init_6 : cX0_init.data.toList.drop 141 = dktX0_init_6 := dk_seg dksX0_init_5 24 rfl rfl
theorem dksX0_init_7 : cX0_init.data.toList.drop 165 = dktX0_init_7 := dk_seg dksX0_init_6 24 rfl rfl
theorem dX0_init_0 : decode cX0_init 0 = .ok (.aload_n 0, 1) := dk_42 (dk_at dksX0_init_0 0 rfl rfl)
theorem dX0_init_1 : decode cX0_init 1 = .ok (.invokespecial 36, 3) := dk_183 0 36 (dk_at dksX0_init_0 1 rfl rfl)
theorem dX0_init_4 : decode cX0_init 4 = .ok (.aload_n 0, 1) := dk_42 (dk_at dksX0_init_0 4 rfl rfl)
theorem dX0_init_5 : decode cX0_init 5 = .ok (.new 39, 3) := dk_187 0 39 (dk_at dksX0_init_0 5 rfl rfl)
theorem dX0_init_8 : decode cX0_init 8 = .ok (.dup, 1) := dk_89 (dk_at dksX0_init_0 8 rfl rfl)
theorem dX0_init_9 : decode cX0_init 9 = .ok (.invokespecial 41, 3) := dk_183 0 41 (dk_at dksX0_init_0 9 rfl rfl)
theorem dX0_init_12 : decode cX0_init 12 = .ok (.putfield 42, 3) := dk_181 0 42 (dk_at dksX0_init_0 12 rfl rfl)
theorem dX0_init_15 : decode cX0_init 15 = .ok (.aload_n 0, 1) := dk_42 (dk_at dksX0_init_0 15 rfl rfl)
theorem dX0_init_16 : decode cX0_init 16 = .ok (.new 39, 3) := dk_187 0 39 (dk_at dksX0_init_0 16 rfl rfl)
theorem dX0_init_19 : decode cX0_init 19 = .ok (.dup, 1) := dk_89 (dk_at dksX0_init_0 19 rfl rfl)
theorem dX0_init_20 : decode cX0_init 20 = .ok (.invokespecial 41, 3) := dk_183 0 41 (dk_at dksX0_init_0 20 rfl rfl)
theorem dX0_init_23 : decode cX0_init 23 = .ok (.putfield 48, 3) := dk_181 0 48 (dk_at dksX0_init_1 0 rfl rfl)
theorem dX0_init_26 : decode cX0_init 26 = .ok (.aload_n 0, 1) := dk_42 (dk_at dksX0_init_1 3 rfl rfl)
theorem dX0_init_27 : decode cX0_init 27 = .ok (.bipush 60, 2) := dk_16 60 (dk_at dksX0_init_1 4 rfl rfl)
theorem dX0_init_29 : decode cX0_init 29 = .ok (.newarray .byte, 2) := dk_188_8 (dk_at dksX0_init_1 6 rfl rfl)
theorem dX0_init_31 : decode cX0_init 31 = .ok (.putfield 51, 3) := dk_181 0 51 (dk_at dksX0_init_1 8 rfl rfl)
theorem dX0_init_34 : decode cX0_init 34 = .ok (.aload_n 0, 1) := dk_42 (dk_at dksX0_init_1 11 rfl rfl)
theorem dX0_init_35 : decode cX0_init 35 = .ok (.iconst 4, 1) := dk_7 (dk_at dksX0_init_1 12 rfl rfl)
theorem dX0_init_36 : decode cX0_init 36 = .ok (.invokestatic 55, 3) := dk_184 0 55 (dk_at dksX0_init_1 13 rfl rfl)
theorem dX0_init_39 : decode cX0_init 39 = .ok (.putfield 59, 3) := dk_181 0 59 (dk_at dksX0_init_1 16 rfl rfl)
theorem dX0_init_42 : decode cX0_init 42 = .ok (.aload_n 0, 1) := dk_42 (dk_at dksX0_init_1 19 rfl rfl)
theorem dX0_init_43 : decode cX0_init 43 = .ok (.bipush 7, 2) := dk_16 7 (dk_at dksX0_init_1 20 rfl rfl)
theorem dX0_init_45 : decode cX0_init 45 = .ok (.newarray .int, 2) := dk_188_10 (dk_at dksX0_init_1 22 rfl rfl)
theorem dX0_init_47 : decode cX0_init 47 = .ok (.putfield 63, 3) := dk_181 0 63 (dk_at dksX0_init_2 0 rfl rfl)
theorem dX0_init_50 : decode cX0_init 50 = .ok (.aload_n 0, 1) := dk_42 (dk_at dksX0_init_2 3 rfl rfl)
theorem dX0_init_51 : decode cX0_init 51 = .ok (.sipush 495, 3) := dk_17 1 239 (dk_at dksX0_init_2 4 rfl rfl)
theorem dX0_init_54 : decode cX0_init 54 = .ok (.newarray .int, 2) := dk_188_10 (dk_at dksX0_init_2 7 rfl rfl)
theorem dX0_init_56 : decode cX0_init 56 = .ok (.putfield 67, 3) := dk_181 0 67 (dk_at dksX0_init_2 9 rfl rfl)
theorem dX0_init_59 : decode cX0_init 59 = .ok (.aload_n 0, 1) := dk_42 (dk_at dksX0_init_2 12 rfl rfl)
theorem dX0_init_60 : decode cX0_init 60 = .ok (.new 70, 3) := dk_187 0 70 (dk_at dksX0_init_2 13 rfl rfl)
theorem dX0_init_63 : decode cX0_init 63 = .ok (.dup, 1) := dk_89 (dk_at dksX0_init_2 16 rfl rfl)
theorem dX0_init_64 : decode cX0_init 64 = .ok (.invokespecial 72, 3) := dk_183 0 72 (dk_at dksX0_init_2 17 rfl rfl)
theorem dX0_init_67 : decode cX0_init 67 = .ok (.putfield 73, 3) := dk_181 0 73 (dk_at dksX0_init_2 20 rfl rfl)
theorem dX0_init_70 : decode cX0_init 70 = .ok (.aload_n 0, 1) := dk_42 (dk_at dksX0_init_2 23 rfl rfl)
theorem dX0_init_71 : decode cX0_init 71 = .ok (.new 77, 3) := dk_187 0 77 (dk_at dksX0_init_3 0 rfl rfl)
theorem dX0_init_74 : decode cX0_init 74 = .ok (.dup, 1) := dk_89 (dk_at dksX0_init_3 3 rfl rfl)
theorem dX0_init_75 : decode cX0_init 75 = .ok (.invokespecial 79, 3) := dk_183 0 79 (dk_at dksX0_init_3 4 rfl rfl)
theorem dX0_init_78 : decode cX0_init 78 = .ok (.putfield 80, 3) := dk_181 0 80 (dk_at dksX0_init_3 7 rfl rfl)
theorem dX0_init_81 : decode cX0_init 81 = .ok (.aload_n 0, 1) := dk_42 (dk_at dksX0_init_3 10 rfl rfl)
theorem dX0_init_82 : decode cX0_init 82 = .ok (.sipush 495, 3) := dk_17 1 239 (dk_at dksX0_init_3 11 rfl rfl)
theorem dX0_init_85 : decode cX0_init 85 = .ok (.newarray .int, 2) := dk_188_10 (dk_at dksX0_init_3 14 rfl rfl)
theorem dX0_init_87 : decode cX0_init 87 = .ok (.putfield 84, 3) := dk_181 0 84 (dk_at dksX0_init_3 16 rfl rfl)
theorem dX0_init_90 : decode cX0_init 90 = .ok (.aload_n 0, 1) := dk_42 (dk_at dksX0_init_3 19 rfl rfl)
theorem dX0_init_91 : decode cX0_init 91 = .ok (.sipush 495, 3) := dk_17 1 239 (dk_at dksX0_init_3 20 rfl rfl)
theorem dX0_init_94 : decode cX0_init 94 = .ok (.newarray .int, 2) := dk_188_10 (dk_at dksX0_init_4 0 rfl rfl)
theorem dX0_init_96 : decode cX0_init 96 = .ok (.putfield 87, 3) := dk_181 0 87 (dk_at dksX0_init_4 2 rfl rfl)
theorem dX0_init_99 : decode cX0_init 99 = .ok (.aload_n 0, 1) := dk_42 (dk_at dksX0_init_4 5 rfl rfl)
theorem dX0_init_100 : decode cX0_init 100 = .ok (.sipush 495, 3) := dk_17 1 239 (dk_at dksX0_init_4 6 rfl rfl)
theorem dX0_init_103 : decode cX0_init 103 = .ok (.newarray .int, 2) := dk_188_10 (dk_at dksX0_init_4 9 rfl rfl)
theorem dX0_init_105 : decode cX0_init 105 = .ok (.putfield 90, 3) := dk_181 0 90 (dk_at dksX0_init_4 11 rfl rfl)
theorem dX0_init_108 : decode cX0_init 108 = .ok (.aload_n 0, 1) := dk_42 (dk_at dksX0_init_4 14 rfl rfl)
theorem dX0_init_109 : decode cX0_init 109 = .ok (.iconst 5, 1) := dk_8 (dk_at dksX0_init_4 15 rfl rfl)
theorem dX0_init_110 : decode cX0_init 110 = .ok (.sipush 495, 3) := dk_17 1 239 (dk_at dksX0_init_4 16 rfl rfl)
theorem dX0_init_113 : decode cX0_init 113 = .ok (.multianewarray 93 2, 4) := by decide +kernel
theorem dX0_init_117 : decode cX0_init 117 = .ok (.putfield 95, 3) := dk_181 0 95 (dk_at dksX0_init_5 0 rfl rfl)
theorem dX0_init_120 : decode cX0_init 120 = .ok (.aload_n 0, 1) := dk_42 (dk_at dksX0_init_5 3 rfl rfl)
theorem dX0_init_121 : decode cX0_init 121 = .ok (.sipush 495, 3) := dk_17 1 239 (dk_at dksX0_init_5 4 rfl rfl)
theorem dX0_init_124 : decode cX0_init 124 = .ok (.newarray .int, 2) := dk_188_10 (dk_at dksX0_init_5 7 rfl rfl)
theorem dX0_init_126 : decode cX0_init 126 = .ok (.putfield 98, 3) := dk_181 0 98 (dk_at dksX0_init_5 9 rfl rfl)
theorem dX0_init_129 : decode cX0_init 129 = .ok (.aload_n 0, 1) := dk_42 (dk_at dksX0_init_5 12 rfl rfl)
theorem dX0_init_130 : decode cX0_init 130 = .ok (.sipush 495, 3) := dk_17 1 239 (dk_at dksX0_init_5 13 rfl rfl)
theorem dX0_init_133 : decode cX0_init 133 = .ok (.newarray .boolean, 2) := dk_188_4 (dk_at dksX0_init_5 16 rfl rfl)
theorem dX0_init_135 : decode cX0_init 135 = .ok (.putfield 101, 3) := dk_181 0 101 (dk_at dksX0_init_5 18 rfl rfl)
theorem dX0_init_138 : decode cX0_init 138 = .ok (.iconst 0, 1) := dk_3 (dk_at dksX0_init_5 21 rfl rfl)
theorem dX0_init_139 : decode cX0_init 139 = .ok (.istore_n 1, 1) := dk_60 (dk_at dksX0_init_5 22 rfl rfl)
theorem dX0_init_140 : decode cX0_init 140 = .ok (.iconst 0, 1) := dk_3 (dk_at dksX0_init_5 23 rfl rfl)
theorem dX0_init_141 : decode cX0_init 141 = .ok (.istore_n 2, 1) := dk_61 (dk_at dksX0_init_6 0 rfl rfl)
theorem dX0_init_142 : decode cX0_init 142 = .ok (.iload_n 2, 1) := dk_28 (dk_at dksX0_init_6 1 rfl rfl)
theorem dX0_init_143 : decode cX0_init 143 = .ok (.sipush 4096, 3) := dk_17 16 0 (dk_at dksX0_init_6 2 rfl rfl)
theorem dX0_init_146 : decode cX0_init 146 = .ok (.if_icmp .ge 30, 3) := dk_162 0 30 (dk_at dksX0_init_6 5 rfl rfl)
theorem dX0_init_149 : decode cX0_init 149 = .ok (.iload_n 2, 1) := dk_28 (dk_at dksX0_init_6 8 rfl rfl)
theorem dX0_init_150 : decode cX0_init 150 = .ok (.invokestatic 105, 3) := dk_184 0 105 (dk_at dksX0_init_6 9 rfl rfl)
theorem dX0_init_153 : decode cX0_init 153 = .ok (.iconst 4, 1) := dk_7 (dk_at dksX0_init_6 12 rfl rfl)
theorem dX0_init_154 : decode cX0_init 154 = .ok (.if_icmp .eq 6, 3) := dk_159 0 6 (dk_at dksX0_init_6 13 rfl rfl)
theorem dX0_init_157 : decode cX0_init 157 = .ok (.goto 13, 3) := dk_167 0 13 (dk_at dksX0_init_6 16 rfl rfl)
theorem dX0_init_160 : decode cX0_init 160 = .ok (.aload_n 0, 1) := dk_42 (dk_at dksX0_init_6 19 rfl rfl)
theorem dX0_init_161 : decode cX0_init 161 = .ok (.getfield 67, 3) := dk_180 0 67 (dk_at dksX0_init_6 20 rfl rfl)
theorem dX0_init_164 : decode cX0_init 164 = .ok (.iload_n 1, 1) := dk_27 (dk_at dksX0_init_6 23 rfl rfl)
theorem dX0_init_165 : decode cX0_init 165 = .ok (.iload_n 2, 1) := dk_28 (dk_at dksX0_init_7 0 rfl rfl)
theorem dX0_init_166 : decode cX0_init 166 = .ok (.iastore, 1) := dk_79 (dk_at dksX0_init_7 1 rfl rfl)
theorem dX0_init_167 : decode cX0_init 167 = .ok (.iinc 1 1, 3) := dk_132 1 1 (dk_at dksX0_init_7 2 rfl rfl)
theorem dX0_init_170 : decode cX0_init 170 = .ok (.iinc 2 1, 3) := dk_132 2 1 (dk_at dksX0_init_7 5 rfl rfl)
theorem dX0_init_173 : decode cX0_init 173 = .ok (.goto (-31), 3) := dk_167 255 225 (dk_at dksX0_init_7 8 rfl rfl)
theorem dX0_init_176 : decode cX0_init 176 = .ok (.return_, 1) := dk_177 (dk_at dksX0_init_7 11 rfl rfl)
abbrev cX0_slots : ByteArray := prog_1_method_4_code
def yX0_slots : MethodName := ⟨RX0, "slots", "(I)[LSlipWeeks$Slot;"⟩
def dkwX0_slots_1 : List UInt8 := [132, 2, 1, 167, 255, 238, 43, 176]
abbrev dktX0_slots_1 : List UInt8 := dkwX0_slots_1 ++ []
def dkwX0_slots_0 : List UInt8 := [26, 189, 0, 7, 76, 3, 61, 28, 26, 162, 0, 19, 43, 28, 187, 0, 7, 89, 183, 0, 9, 83]
abbrev dktX0_slots_0 : List UInt8 := dkwX0_slots_0 ++ dktX0_slots_1
theorem dksX0_slots_0 : cX0_slots.data.toList.drop 0 = dktX0_slots_0 := by decide +kernel
theorem dksX0_slots_1 : cX0_slots.data.toList.drop 22 = dktX0_slots_1 := dk_seg dksX0_slots_0 22 rfl rfl
theorem dX0_slots_0 : decode cX0_slots 0 = .ok (.iload_n 0, 1) := dk_26 (dk_at dksX0_slots_0 0 rfl rfl)
theorem dX0_slots_1 : decode cX0_slots 1 = .ok (.anewarray 7, 3) := dk_189 0 7 (dk_at dksX0_slots_0 1 rfl rfl)
theorem dX0_slots_4 : decode cX0_slots 4 = .ok (.astore_n 1, 1) := dk_76 (dk_at dksX0_slots_0 4 rfl rfl)
theorem dX0_slots_5 : decode cX0_slots 5 = .ok (.iconst 0, 1) := dk_3 (dk_at dksX0_slots_0 5 rfl rfl)
theorem dX0_slots_6 : decode cX0_slots 6 = .ok (.istore_n 2, 1) := dk_61 (dk_at dksX0_slots_0 6 rfl rfl)
theorem dX0_slots_7 : decode cX0_slots 7 = .ok (.iload_n 2, 1) := dk_28 (dk_at dksX0_slots_0 7 rfl rfl)
theorem dX0_slots_8 : decode cX0_slots 8 = .ok (.iload_n 0, 1) := dk_26 (dk_at dksX0_slots_0 8 rfl rfl)
theorem dX0_slots_9 : decode cX0_slots 9 = .ok (.if_icmp .ge 19, 3) := dk_162 0 19 (dk_at dksX0_slots_0 9 rfl rfl)
theorem dX0_slots_12 : decode cX0_slots 12 = .ok (.aload_n 1, 1) := dk_43 (dk_at dksX0_slots_0 12 rfl rfl)
theorem dX0_slots_13 : decode cX0_slots 13 = .ok (.iload_n 2, 1) := dk_28 (dk_at dksX0_slots_0 13 rfl rfl)
theorem dX0_slots_14 : decode cX0_slots 14 = .ok (.new 7, 3) := dk_187 0 7 (dk_at dksX0_slots_0 14 rfl rfl)
theorem dX0_slots_17 : decode cX0_slots 17 = .ok (.dup, 1) := dk_89 (dk_at dksX0_slots_0 17 rfl rfl)
theorem dX0_slots_18 : decode cX0_slots 18 = .ok (.invokespecial 9, 3) := dk_183 0 9 (dk_at dksX0_slots_0 18 rfl rfl)
theorem dX0_slots_21 : decode cX0_slots 21 = .ok (.aastore, 1) := dk_83 (dk_at dksX0_slots_0 21 rfl rfl)
theorem dX0_slots_22 : decode cX0_slots 22 = .ok (.iinc 2 1, 3) := dk_132 2 1 (dk_at dksX0_slots_1 0 rfl rfl)
theorem dX0_slots_25 : decode cX0_slots 25 = .ok (.goto (-18), 3) := dk_167 255 238 (dk_at dksX0_slots_1 3 rfl rfl)
theorem dX0_slots_28 : decode cX0_slots 28 = .ok (.aload_n 1, 1) := dk_43 (dk_at dksX0_slots_1 6 rfl rfl)
theorem dX0_slots_29 : decode cX0_slots 29 = .ok (.areturn, 1) := dk_176 (dk_at dksX0_slots_1 7 rfl rfl)
abbrev cX0_place : ByteArray := prog_1_method_13_code
def yX0_place : MethodName := ⟨RX0, "place", "(I)I"⟩
def dkwX0_place_0 : List UInt8 := [27, 184, 0, 138, 3, 184, 0, 119, 42, 27, 182, 0, 142, 172, 77, 42, 44, 182, 0, 145, 172]
abbrev dktX0_place_0 : List UInt8 := dkwX0_place_0 ++ []
theorem dksX0_place_0 : cX0_place.data.toList.drop 0 = dktX0_place_0 := by decide +kernel
theorem dX0_place_0 : decode cX0_place 0 = .ok (.iload_n 1, 1) := dk_27 (dk_at dksX0_place_0 0 rfl rfl)
theorem dX0_place_1 : decode cX0_place 1 = .ok (.invokestatic 138, 3) := dk_184 0 138 (dk_at dksX0_place_0 1 rfl rfl)
theorem dX0_place_4 : decode cX0_place 4 = .ok (.iconst 0, 1) := dk_3 (dk_at dksX0_place_0 4 rfl rfl)
theorem dX0_place_5 : decode cX0_place 5 = .ok (.invokestatic 119, 3) := dk_184 0 119 (dk_at dksX0_place_0 5 rfl rfl)
theorem dX0_place_8 : decode cX0_place 8 = .ok (.aload_n 0, 1) := dk_42 (dk_at dksX0_place_0 8 rfl rfl)
theorem dX0_place_9 : decode cX0_place 9 = .ok (.iload_n 1, 1) := dk_27 (dk_at dksX0_place_0 9 rfl rfl)
theorem dX0_place_10 : decode cX0_place 10 = .ok (.invokevirtual 142, 3) := dk_182 0 142 (dk_at dksX0_place_0 10 rfl rfl)
theorem dX0_place_13 : decode cX0_place 13 = .ok (.ireturn, 1) := dk_172 (dk_at dksX0_place_0 13 rfl rfl)
theorem dX0_place_14 : decode cX0_place 14 = .ok (.astore_n 2, 1) := dk_77 (dk_at dksX0_place_0 14 rfl rfl)
theorem dX0_place_15 : decode cX0_place 15 = .ok (.aload_n 0, 1) := dk_42 (dk_at dksX0_place_0 15 rfl rfl)
theorem dX0_place_16 : decode cX0_place 16 = .ok (.aload_n 2, 1) := dk_44 (dk_at dksX0_place_0 16 rfl rfl)
theorem dX0_place_17 : decode cX0_place 17 = .ok (.invokevirtual 145, 3) := dk_182 0 145 (dk_at dksX0_place_0 17 rfl rfl)
theorem dX0_place_20 : decode cX0_place 20 = .ok (.ireturn, 1) := dk_172 (dk_at dksX0_place_0 20 rfl rfl)
abbrev cX0_isRow : ByteArray := prog_1_method_10_code
def yX0_isRow : MethodName := ⟨RX0, "isRow", "(I)Z"⟩
def dkwX0_isRow_1 : List UInt8 := [3, 172]
abbrev dktX0_isRow_1 : List UInt8 := dkwX0_isRow_1 ++ []
def dkwX0_isRow_0 : List UInt8 := [26, 133, 9, 20, 0, 129, 184, 0, 125, 153, 0, 15, 26, 184, 0, 105, 7, 160, 0, 7, 4, 167, 0, 4]
abbrev dktX0_isRow_0 : List UInt8 := dkwX0_isRow_0 ++ dktX0_isRow_1
theorem dksX0_isRow_0 : cX0_isRow.data.toList.drop 0 = dktX0_isRow_0 := by decide +kernel
theorem dksX0_isRow_1 : cX0_isRow.data.toList.drop 24 = dktX0_isRow_1 := dk_seg dksX0_isRow_0 24 rfl rfl
theorem dX0_isRow_0 : decode cX0_isRow 0 = .ok (.iload_n 0, 1) := dk_26 (dk_at dksX0_isRow_0 0 rfl rfl)
theorem dX0_isRow_1 : decode cX0_isRow 1 = .ok (.i2l, 1) := dk_133 (dk_at dksX0_isRow_0 1 rfl rfl)
theorem dX0_isRow_2 : decode cX0_isRow 2 = .ok (.lconst 0, 1) := dk_9 (dk_at dksX0_isRow_0 2 rfl rfl)
theorem dX0_isRow_3 : decode cX0_isRow 3 = .ok (.ldc2_w 129, 3) := dk_20 0 129 (dk_at dksX0_isRow_0 3 rfl rfl)
theorem dX0_isRow_6 : decode cX0_isRow 6 = .ok (.invokestatic 125, 3) := dk_184 0 125 (dk_at dksX0_isRow_0 6 rfl rfl)
theorem dX0_isRow_9 : decode cX0_isRow 9 = .ok (.ifCond .eq 15, 3) := dk_153 0 15 (dk_at dksX0_isRow_0 9 rfl rfl)
theorem dX0_isRow_12 : decode cX0_isRow 12 = .ok (.iload_n 0, 1) := dk_26 (dk_at dksX0_isRow_0 12 rfl rfl)
theorem dX0_isRow_13 : decode cX0_isRow 13 = .ok (.invokestatic 105, 3) := dk_184 0 105 (dk_at dksX0_isRow_0 13 rfl rfl)
theorem dX0_isRow_16 : decode cX0_isRow 16 = .ok (.iconst 4, 1) := dk_7 (dk_at dksX0_isRow_0 16 rfl rfl)
theorem dX0_isRow_17 : decode cX0_isRow 17 = .ok (.if_icmp .ne 7, 3) := dk_160 0 7 (dk_at dksX0_isRow_0 17 rfl rfl)
theorem dX0_isRow_20 : decode cX0_isRow 20 = .ok (.iconst 1, 1) := dk_4 (dk_at dksX0_isRow_0 20 rfl rfl)
theorem dX0_isRow_21 : decode cX0_isRow 21 = .ok (.goto 4, 3) := dk_167 0 4 (dk_at dksX0_isRow_0 21 rfl rfl)
theorem dX0_isRow_24 : decode cX0_isRow 24 = .ok (.iconst 0, 1) := dk_3 (dk_at dksX0_isRow_1 0 rfl rfl)
theorem dX0_isRow_25 : decode cX0_isRow 25 = .ok (.ireturn, 1) := dk_172 (dk_at dksX0_isRow_1 1 rfl rfl)
abbrev cX0_in : ByteArray := prog_1_method_2_code
def yX0_in : MethodName := ⟨RX0, "in", "(JJJ)Z"⟩
def dkwX0_in_0 : List UInt8 := [30, 32, 148, 155, 0, 14, 30, 22, 4, 148, 157, 0, 7, 4, 167, 0, 4, 3, 172]
abbrev dktX0_in_0 : List UInt8 := dkwX0_in_0 ++ []
theorem dksX0_in_0 : cX0_in.data.toList.drop 0 = dktX0_in_0 := by decide +kernel
theorem dX0_in_0 : decode cX0_in 0 = .ok (.lload_n 0, 1) := dk_30 (dk_at dksX0_in_0 0 rfl rfl)
theorem dX0_in_1 : decode cX0_in 1 = .ok (.lload_n 2, 1) := dk_32 (dk_at dksX0_in_0 1 rfl rfl)
theorem dX0_in_2 : decode cX0_in 2 = .ok (.lcmp, 1) := dk_148 (dk_at dksX0_in_0 2 rfl rfl)
theorem dX0_in_3 : decode cX0_in 3 = .ok (.ifCond .lt 14, 3) := dk_155 0 14 (dk_at dksX0_in_0 3 rfl rfl)
theorem dX0_in_6 : decode cX0_in 6 = .ok (.lload_n 0, 1) := dk_30 (dk_at dksX0_in_0 6 rfl rfl)
theorem dX0_in_7 : decode cX0_in 7 = .ok (.lload 4, 2) := dk_22 4 (dk_at dksX0_in_0 7 rfl rfl)
theorem dX0_in_9 : decode cX0_in 9 = .ok (.lcmp, 1) := dk_148 (dk_at dksX0_in_0 9 rfl rfl)
theorem dX0_in_10 : decode cX0_in 10 = .ok (.ifCond .gt 7, 3) := dk_157 0 7 (dk_at dksX0_in_0 10 rfl rfl)
theorem dX0_in_13 : decode cX0_in 13 = .ok (.iconst 1, 1) := dk_4 (dk_at dksX0_in_0 13 rfl rfl)
theorem dX0_in_14 : decode cX0_in 14 = .ok (.goto 4, 3) := dk_167 0 4 (dk_at dksX0_in_0 14 rfl rfl)
theorem dX0_in_17 : decode cX0_in 17 = .ok (.iconst 0, 1) := dk_3 (dk_at dksX0_in_0 17 rfl rfl)
theorem dX0_in_18 : decode cX0_in 18 = .ok (.ireturn, 1) := dk_172 (dk_at dksX0_in_0 18 rfl rfl)
abbrev cX0_need : ByteArray := prog_1_method_1_code
def yX0_need : MethodName := ⟨RX0, "need", "(ZI)V"⟩
def dkwX0_need_0 : List UInt8 := [26, 154, 0, 12, 187, 0, 1, 89, 27, 183, 0, 3, 191, 177]
abbrev dktX0_need_0 : List UInt8 := dkwX0_need_0 ++ []
theorem dksX0_need_0 : cX0_need.data.toList.drop 0 = dktX0_need_0 := by decide +kernel
theorem dX0_need_0 : decode cX0_need 0 = .ok (.iload_n 0, 1) := dk_26 (dk_at dksX0_need_0 0 rfl rfl)
theorem dX0_need_1 : decode cX0_need 1 = .ok (.ifCond .ne 12, 3) := dk_154 0 12 (dk_at dksX0_need_0 1 rfl rfl)
theorem dX0_need_4 : decode cX0_need 4 = .ok (.new 1, 3) := dk_187 0 1 (dk_at dksX0_need_0 4 rfl rfl)
theorem dX0_need_7 : decode cX0_need 7 = .ok (.dup, 1) := dk_89 (dk_at dksX0_need_0 7 rfl rfl)
theorem dX0_need_8 : decode cX0_need 8 = .ok (.iload_n 1, 1) := dk_27 (dk_at dksX0_need_0 8 rfl rfl)
theorem dX0_need_9 : decode cX0_need 9 = .ok (.invokespecial 3, 3) := dk_183 0 3 (dk_at dksX0_need_0 9 rfl rfl)
theorem dX0_need_12 : decode cX0_need 12 = .ok (.athrow, 1) := dk_191 (dk_at dksX0_need_0 12 rfl rfl)
theorem dX0_need_13 : decode cX0_need 13 = .ok (.return_, 1) := dk_177 (dk_at dksX0_need_0 13 rfl rfl)
abbrev cX0_placeOf : ByteArray := prog_1_method_12_code
def yX0_placeOf : MethodName := ⟨RX0, "placeOf", "(I)I"⟩
def dkwX0_placeOf_1 : List UInt8 := [46, 27, 162, 0, 11, 21, 4, 4, 96, 61, 167, 0, 6, 21, 4, 62, 167, 255, 222, 28, 172]
abbrev dktX0_placeOf_1 : List UInt8 := dkwX0_placeOf_1 ++ []
def dkwX0_placeOf_0 : List UInt8 := [3, 61, 17, 1, 238, 62, 28, 29, 162, 0, 35, 28, 29, 96, 5, 108, 54, 4, 42, 180, 0, 67, 21, 4]
abbrev dktX0_placeOf_0 : List UInt8 := dkwX0_placeOf_0 ++ dktX0_placeOf_1
theorem dksX0_placeOf_0 : cX0_placeOf.data.toList.drop 0 = dktX0_placeOf_0 := by decide +kernel
theorem dksX0_placeOf_1 : cX0_placeOf.data.toList.drop 24 = dktX0_placeOf_1 := dk_seg dksX0_placeOf_0 24 rfl rfl
theorem dX0_placeOf_0 : decode cX0_placeOf 0 = .ok (.iconst 0, 1) := dk_3 (dk_at dksX0_placeOf_0 0 rfl rfl)
theorem dX0_placeOf_1 : decode cX0_placeOf 1 = .ok (.istore_n 2, 1) := dk_61 (dk_at dksX0_placeOf_0 1 rfl rfl)
theorem dX0_placeOf_2 : decode cX0_placeOf 2 = .ok (.sipush 494, 3) := dk_17 1 238 (dk_at dksX0_placeOf_0 2 rfl rfl)
theorem dX0_placeOf_5 : decode cX0_placeOf 5 = .ok (.istore_n 3, 1) := dk_62 (dk_at dksX0_placeOf_0 5 rfl rfl)
theorem dX0_placeOf_6 : decode cX0_placeOf 6 = .ok (.iload_n 2, 1) := dk_28 (dk_at dksX0_placeOf_0 6 rfl rfl)
theorem dX0_placeOf_7 : decode cX0_placeOf 7 = .ok (.iload_n 3, 1) := dk_29 (dk_at dksX0_placeOf_0 7 rfl rfl)
theorem dX0_placeOf_8 : decode cX0_placeOf 8 = .ok (.if_icmp .ge 35, 3) := dk_162 0 35 (dk_at dksX0_placeOf_0 8 rfl rfl)
theorem dX0_placeOf_11 : decode cX0_placeOf 11 = .ok (.iload_n 2, 1) := dk_28 (dk_at dksX0_placeOf_0 11 rfl rfl)
theorem dX0_placeOf_12 : decode cX0_placeOf 12 = .ok (.iload_n 3, 1) := dk_29 (dk_at dksX0_placeOf_0 12 rfl rfl)
theorem dX0_placeOf_13 : decode cX0_placeOf 13 = .ok (.iadd, 1) := dk_96 (dk_at dksX0_placeOf_0 13 rfl rfl)
theorem dX0_placeOf_14 : decode cX0_placeOf 14 = .ok (.iconst 2, 1) := dk_5 (dk_at dksX0_placeOf_0 14 rfl rfl)
theorem dX0_placeOf_15 : decode cX0_placeOf 15 = .ok (.idiv, 1) := dk_108 (dk_at dksX0_placeOf_0 15 rfl rfl)
theorem dX0_placeOf_16 : decode cX0_placeOf 16 = .ok (.istore 4, 2) := dk_54 4 (dk_at dksX0_placeOf_0 16 rfl rfl)
theorem dX0_placeOf_18 : decode cX0_placeOf 18 = .ok (.aload_n 0, 1) := dk_42 (dk_at dksX0_placeOf_0 18 rfl rfl)
theorem dX0_placeOf_19 : decode cX0_placeOf 19 = .ok (.getfield 67, 3) := dk_180 0 67 (dk_at dksX0_placeOf_0 19 rfl rfl)
theorem dX0_placeOf_22 : decode cX0_placeOf 22 = .ok (.iload 4, 2) := dk_21 4 (dk_at dksX0_placeOf_0 22 rfl rfl)
theorem dX0_placeOf_24 : decode cX0_placeOf 24 = .ok (.iaload, 1) := dk_46 (dk_at dksX0_placeOf_1 0 rfl rfl)
theorem dX0_placeOf_25 : decode cX0_placeOf 25 = .ok (.iload_n 1, 1) := dk_27 (dk_at dksX0_placeOf_1 1 rfl rfl)
theorem dX0_placeOf_26 : decode cX0_placeOf 26 = .ok (.if_icmp .ge 11, 3) := dk_162 0 11 (dk_at dksX0_placeOf_1 2 rfl rfl)
theorem dX0_placeOf_29 : decode cX0_placeOf 29 = .ok (.iload 4, 2) := dk_21 4 (dk_at dksX0_placeOf_1 5 rfl rfl)
theorem dX0_placeOf_31 : decode cX0_placeOf 31 = .ok (.iconst 1, 1) := dk_4 (dk_at dksX0_placeOf_1 7 rfl rfl)
theorem dX0_placeOf_32 : decode cX0_placeOf 32 = .ok (.iadd, 1) := dk_96 (dk_at dksX0_placeOf_1 8 rfl rfl)
theorem dX0_placeOf_33 : decode cX0_placeOf 33 = .ok (.istore_n 2, 1) := dk_61 (dk_at dksX0_placeOf_1 9 rfl rfl)
theorem dX0_placeOf_34 : decode cX0_placeOf 34 = .ok (.goto 6, 3) := dk_167 0 6 (dk_at dksX0_placeOf_1 10 rfl rfl)
theorem dX0_placeOf_37 : decode cX0_placeOf 37 = .ok (.iload 4, 2) := dk_21 4 (dk_at dksX0_placeOf_1 13 rfl rfl)
theorem dX0_placeOf_39 : decode cX0_placeOf 39 = .ok (.istore_n 3, 1) := dk_62 (dk_at dksX0_placeOf_1 15 rfl rfl)
theorem dX0_placeOf_40 : decode cX0_placeOf 40 = .ok (.goto (-34), 3) := dk_167 255 222 (dk_at dksX0_placeOf_1 16 rfl rfl)
theorem dX0_placeOf_43 : decode cX0_placeOf 43 = .ok (.iload_n 2, 1) := dk_28 (dk_at dksX0_placeOf_1 19 rfl rfl)
theorem dX0_placeOf_44 : decode cX0_placeOf 44 = .ok (.ireturn, 1) := dk_172 (dk_at dksX0_placeOf_1 20 rfl rfl)
abbrev cX0_finds : ByteArray := prog_1_method_7_code
def yX0_finds : MethodName := ⟨RX0, "finds", "(LSlipWeeks$Finding;)I"⟩
def dkwX0_finds_0 : List UInt8 := [42, 180, 0, 63, 43, 180, 0, 111, 92, 46, 4, 96, 79, 43, 182, 0, 115, 172]
abbrev dktX0_finds_0 : List UInt8 := dkwX0_finds_0 ++ []
theorem dksX0_finds_0 : cX0_finds.data.toList.drop 0 = dktX0_finds_0 := by decide +kernel
theorem dX0_finds_0 : decode cX0_finds 0 = .ok (.aload_n 0, 1) := dk_42 (dk_at dksX0_finds_0 0 rfl rfl)
theorem dX0_finds_1 : decode cX0_finds 1 = .ok (.getfield 63, 3) := dk_180 0 63 (dk_at dksX0_finds_0 1 rfl rfl)
theorem dX0_finds_4 : decode cX0_finds 4 = .ok (.aload_n 1, 1) := dk_43 (dk_at dksX0_finds_0 4 rfl rfl)
theorem dX0_finds_5 : decode cX0_finds 5 = .ok (.getfield 111, 3) := dk_180 0 111 (dk_at dksX0_finds_0 5 rfl rfl)
theorem dX0_finds_8 : decode cX0_finds 8 = .ok (.dup2, 1) := dk_92 (dk_at dksX0_finds_0 8 rfl rfl)
theorem dX0_finds_9 : decode cX0_finds 9 = .ok (.iaload, 1) := dk_46 (dk_at dksX0_finds_0 9 rfl rfl)
theorem dX0_finds_10 : decode cX0_finds 10 = .ok (.iconst 1, 1) := dk_4 (dk_at dksX0_finds_0 10 rfl rfl)
theorem dX0_finds_11 : decode cX0_finds 11 = .ok (.iadd, 1) := dk_96 (dk_at dksX0_finds_0 11 rfl rfl)
theorem dX0_finds_12 : decode cX0_finds 12 = .ok (.iastore, 1) := dk_79 (dk_at dksX0_finds_0 12 rfl rfl)
theorem dX0_finds_13 : decode cX0_finds 13 = .ok (.aload_n 1, 1) := dk_43 (dk_at dksX0_finds_0 13 rfl rfl)
theorem dX0_finds_14 : decode cX0_finds 14 = .ok (.invokevirtual 115, 3) := dk_182 0 115 (dk_at dksX0_finds_0 14 rfl rfl)
theorem dX0_finds_17 : decode cX0_finds 17 = .ok (.ireturn, 1) := dk_172 (dk_at dksX0_finds_0 17 rfl rfl)
abbrev cX0_row : ByteArray := prog_1_method_14_code
def yX0_row : MethodName := ⟨RX0, "row", "(I)I"⟩
def dkwX0_row_0 : List UInt8 := [27, 184, 0, 149, 3, 184, 0, 119, 42, 180, 0, 67, 27, 46, 172, 77, 42, 44, 182, 0, 145, 172]
abbrev dktX0_row_0 : List UInt8 := dkwX0_row_0 ++ []
theorem dksX0_row_0 : cX0_row.data.toList.drop 0 = dktX0_row_0 := by decide +kernel
theorem dX0_row_0 : decode cX0_row 0 = .ok (.iload_n 1, 1) := dk_27 (dk_at dksX0_row_0 0 rfl rfl)
theorem dX0_row_1 : decode cX0_row 1 = .ok (.invokestatic 149, 3) := dk_184 0 149 (dk_at dksX0_row_0 1 rfl rfl)
theorem dX0_row_4 : decode cX0_row 4 = .ok (.iconst 0, 1) := dk_3 (dk_at dksX0_row_0 4 rfl rfl)
theorem dX0_row_5 : decode cX0_row 5 = .ok (.invokestatic 119, 3) := dk_184 0 119 (dk_at dksX0_row_0 5 rfl rfl)
theorem dX0_row_8 : decode cX0_row 8 = .ok (.aload_n 0, 1) := dk_42 (dk_at dksX0_row_0 8 rfl rfl)
theorem dX0_row_9 : decode cX0_row 9 = .ok (.getfield 67, 3) := dk_180 0 67 (dk_at dksX0_row_0 9 rfl rfl)
theorem dX0_row_12 : decode cX0_row 12 = .ok (.iload_n 1, 1) := dk_27 (dk_at dksX0_row_0 12 rfl rfl)
theorem dX0_row_13 : decode cX0_row 13 = .ok (.iaload, 1) := dk_46 (dk_at dksX0_row_0 13 rfl rfl)
theorem dX0_row_14 : decode cX0_row 14 = .ok (.ireturn, 1) := dk_172 (dk_at dksX0_row_0 14 rfl rfl)
theorem dX0_row_15 : decode cX0_row 15 = .ok (.astore_n 2, 1) := dk_77 (dk_at dksX0_row_0 15 rfl rfl)
theorem dX0_row_16 : decode cX0_row 16 = .ok (.aload_n 0, 1) := dk_42 (dk_at dksX0_row_0 16 rfl rfl)
theorem dX0_row_17 : decode cX0_row 17 = .ok (.aload_n 2, 1) := dk_44 (dk_at dksX0_row_0 17 rfl rfl)
theorem dX0_row_18 : decode cX0_row 18 = .ok (.invokevirtual 145, 3) := dk_182 0 145 (dk_at dksX0_row_0 18 rfl rfl)
theorem dX0_row_21 : decode cX0_row 21 = .ok (.ireturn, 1) := dk_172 (dk_at dksX0_row_0 21 rfl rfl)
abbrev cX0_isPlace : ByteArray := prog_1_method_9_code
def yX0_isPlace : MethodName := ⟨RX0, "isPlace", "(I)Z"⟩
def dkwX0_isPlace_0 : List UInt8 := [26, 133, 9, 20, 0, 123, 184, 0, 125, 172]
abbrev dktX0_isPlace_0 : List UInt8 := dkwX0_isPlace_0 ++ []
theorem dksX0_isPlace_0 : cX0_isPlace.data.toList.drop 0 = dktX0_isPlace_0 := by decide +kernel
theorem dX0_isPlace_0 : decode cX0_isPlace 0 = .ok (.iload_n 0, 1) := dk_26 (dk_at dksX0_isPlace_0 0 rfl rfl)
theorem dX0_isPlace_1 : decode cX0_isPlace 1 = .ok (.i2l, 1) := dk_133 (dk_at dksX0_isPlace_0 1 rfl rfl)
theorem dX0_isPlace_2 : decode cX0_isPlace 2 = .ok (.lconst 0, 1) := dk_9 (dk_at dksX0_isPlace_0 2 rfl rfl)
theorem dX0_isPlace_3 : decode cX0_isPlace 3 = .ok (.ldc2_w 123, 3) := dk_20 0 123 (dk_at dksX0_isPlace_0 3 rfl rfl)
theorem dX0_isPlace_6 : decode cX0_isPlace 6 = .ok (.invokestatic 125, 3) := dk_184 0 125 (dk_at dksX0_isPlace_0 6 rfl rfl)
theorem dX0_isPlace_9 : decode cX0_isPlace 9 = .ok (.ireturn, 1) := dk_172 (dk_at dksX0_isPlace_0 9 rfl rfl)
abbrev cX0_people : ByteArray := prog_1_method_15_code
def yX0_people : MethodName := ⟨RX0, "people", "(II)I"⟩
def dkwX0_people_4 : List UInt8 := [181, 0, 166, 42, 180, 0, 42, 180, 0, 131, 4, 100, 172, 78, 42, 45, 182, 0, 145, 172]
abbrev dktX0_people_4 : List UInt8 := dkwX0_people_4 ++ []
def dkwX0_people_3 : List UInt8 := [28, 184, 0, 158, 181, 0, 162, 42, 180, 0, 42, 89, 180, 0, 131, 4, 96, 181, 0, 131, 42, 3]
abbrev dktX0_people_3 : List UInt8 := dkwX0_people_3 ++ dktX0_people_4
def dkwX0_people_2 : List UInt8 := [167, 0, 4, 3, 4, 184, 0, 119, 42, 180, 0, 42, 180, 0, 156, 42, 180, 0, 42, 180, 0, 131, 50, 27]
abbrev dktX0_people_2 : List UInt8 := dkwX0_people_2 ++ dktX0_people_3
def dkwX0_people_1 : List UInt8 := [4, 167, 0, 4, 3, 3, 184, 0, 119, 42, 180, 0, 42, 180, 0, 131, 16, 12, 162, 0, 7, 4]
abbrev dktX0_people_1 : List UInt8 := dkwX0_people_1 ++ dktX0_people_2
def dkwX0_people_0 : List UInt8 := [27, 133, 9, 20, 0, 152, 184, 0, 125, 153, 0, 19, 28, 133, 9, 20, 0, 154, 184, 0, 125, 153, 0, 7]
abbrev dktX0_people_0 : List UInt8 := dkwX0_people_0 ++ dktX0_people_1
theorem dksX0_people_0 : cX0_people.data.toList.drop 0 = dktX0_people_0 := by decide +kernel
theorem dksX0_people_1 : cX0_people.data.toList.drop 24 = dktX0_people_1 := dk_seg dksX0_people_0 24 rfl rfl
theorem dksX0_people_2 : cX0_people.data.toList.drop 46 = dktX0_people_2 := dk_seg dksX0_people_1 22 rfl rfl
theorem dksX0_people_3 : cX0_people.data.toList.drop 70 = dktX0_people_3 := dk_seg dksX0_people_2 24 rfl rfl
theorem dksX0_people_4 : cX0_people.data.toList.drop 92 = dktX0_people_4 := dk_seg dksX0_people_3 22 rfl rfl
theorem dX0_people_0 : decode cX0_people 0 = .ok (.iload_n 1, 1) := dk_27 (dk_at dksX0_people_0 0 rfl rfl)
theorem dX0_people_1 : decode cX0_people 1 = .ok (.i2l, 1) := dk_133 (dk_at dksX0_people_0 1 rfl rfl)
theorem dX0_people_2 : decode cX0_people 2 = .ok (.lconst 0, 1) := dk_9 (dk_at dksX0_people_0 2 rfl rfl)
theorem dX0_people_3 : decode cX0_people 3 = .ok (.ldc2_w 152, 3) := dk_20 0 152 (dk_at dksX0_people_0 3 rfl rfl)
theorem dX0_people_6 : decode cX0_people 6 = .ok (.invokestatic 125, 3) := dk_184 0 125 (dk_at dksX0_people_0 6 rfl rfl)
theorem dX0_people_9 : decode cX0_people 9 = .ok (.ifCond .eq 19, 3) := dk_153 0 19 (dk_at dksX0_people_0 9 rfl rfl)
theorem dX0_people_12 : decode cX0_people 12 = .ok (.iload_n 2, 1) := dk_28 (dk_at dksX0_people_0 12 rfl rfl)
theorem dX0_people_13 : decode cX0_people 13 = .ok (.i2l, 1) := dk_133 (dk_at dksX0_people_0 13 rfl rfl)
theorem dX0_people_14 : decode cX0_people 14 = .ok (.lconst 0, 1) := dk_9 (dk_at dksX0_people_0 14 rfl rfl)
theorem dX0_people_15 : decode cX0_people 15 = .ok (.ldc2_w 154, 3) := dk_20 0 154 (dk_at dksX0_people_0 15 rfl rfl)
theorem dX0_people_18 : decode cX0_people 18 = .ok (.invokestatic 125, 3) := dk_184 0 125 (dk_at dksX0_people_0 18 rfl rfl)
theorem dX0_people_21 : decode cX0_people 21 = .ok (.ifCond .eq 7, 3) := dk_153 0 7 (dk_at dksX0_people_0 21 rfl rfl)
theorem dX0_people_24 : decode cX0_people 24 = .ok (.iconst 1, 1) := dk_4 (dk_at dksX0_people_1 0 rfl rfl)
theorem dX0_people_25 : decode cX0_people 25 = .ok (.goto 4, 3) := dk_167 0 4 (dk_at dksX0_people_1 1 rfl rfl)
theorem dX0_people_28 : decode cX0_people 28 = .ok (.iconst 0, 1) := dk_3 (dk_at dksX0_people_1 4 rfl rfl)
theorem dX0_people_29 : decode cX0_people 29 = .ok (.iconst 0, 1) := dk_3 (dk_at dksX0_people_1 5 rfl rfl)
theorem dX0_people_30 : decode cX0_people 30 = .ok (.invokestatic 119, 3) := dk_184 0 119 (dk_at dksX0_people_1 6 rfl rfl)
theorem dX0_people_33 : decode cX0_people 33 = .ok (.aload_n 0, 1) := dk_42 (dk_at dksX0_people_1 9 rfl rfl)
theorem dX0_people_34 : decode cX0_people 34 = .ok (.getfield 42, 3) := dk_180 0 42 (dk_at dksX0_people_1 10 rfl rfl)
theorem dX0_people_37 : decode cX0_people 37 = .ok (.getfield 131, 3) := dk_180 0 131 (dk_at dksX0_people_1 13 rfl rfl)
theorem dX0_people_40 : decode cX0_people 40 = .ok (.bipush 12, 2) := dk_16 12 (dk_at dksX0_people_1 16 rfl rfl)
theorem dX0_people_42 : decode cX0_people 42 = .ok (.if_icmp .ge 7, 3) := dk_162 0 7 (dk_at dksX0_people_1 18 rfl rfl)
theorem dX0_people_45 : decode cX0_people 45 = .ok (.iconst 1, 1) := dk_4 (dk_at dksX0_people_1 21 rfl rfl)
theorem dX0_people_46 : decode cX0_people 46 = .ok (.goto 4, 3) := dk_167 0 4 (dk_at dksX0_people_2 0 rfl rfl)
theorem dX0_people_49 : decode cX0_people 49 = .ok (.iconst 0, 1) := dk_3 (dk_at dksX0_people_2 3 rfl rfl)
theorem dX0_people_50 : decode cX0_people 50 = .ok (.iconst 1, 1) := dk_4 (dk_at dksX0_people_2 4 rfl rfl)
theorem dX0_people_51 : decode cX0_people 51 = .ok (.invokestatic 119, 3) := dk_184 0 119 (dk_at dksX0_people_2 5 rfl rfl)
theorem dX0_people_54 : decode cX0_people 54 = .ok (.aload_n 0, 1) := dk_42 (dk_at dksX0_people_2 8 rfl rfl)
theorem dX0_people_55 : decode cX0_people 55 = .ok (.getfield 42, 3) := dk_180 0 42 (dk_at dksX0_people_2 9 rfl rfl)
theorem dX0_people_58 : decode cX0_people 58 = .ok (.getfield 156, 3) := dk_180 0 156 (dk_at dksX0_people_2 12 rfl rfl)
theorem dX0_people_61 : decode cX0_people 61 = .ok (.aload_n 0, 1) := dk_42 (dk_at dksX0_people_2 15 rfl rfl)
theorem dX0_people_62 : decode cX0_people 62 = .ok (.getfield 42, 3) := dk_180 0 42 (dk_at dksX0_people_2 16 rfl rfl)
theorem dX0_people_65 : decode cX0_people 65 = .ok (.getfield 131, 3) := dk_180 0 131 (dk_at dksX0_people_2 19 rfl rfl)
theorem dX0_people_68 : decode cX0_people 68 = .ok (.aaload, 1) := dk_50 (dk_at dksX0_people_2 22 rfl rfl)
theorem dX0_people_69 : decode cX0_people 69 = .ok (.iload_n 1, 1) := dk_27 (dk_at dksX0_people_2 23 rfl rfl)
theorem dX0_people_70 : decode cX0_people 70 = .ok (.iload_n 2, 1) := dk_28 (dk_at dksX0_people_3 0 rfl rfl)
theorem dX0_people_71 : decode cX0_people 71 = .ok (.invokestatic 158, 3) := dk_184 0 158 (dk_at dksX0_people_3 1 rfl rfl)
theorem dX0_people_74 : decode cX0_people 74 = .ok (.putfield 162, 3) := dk_181 0 162 (dk_at dksX0_people_3 4 rfl rfl)
theorem dX0_people_77 : decode cX0_people 77 = .ok (.aload_n 0, 1) := dk_42 (dk_at dksX0_people_3 7 rfl rfl)
theorem dX0_people_78 : decode cX0_people 78 = .ok (.getfield 42, 3) := dk_180 0 42 (dk_at dksX0_people_3 8 rfl rfl)
theorem dX0_people_81 : decode cX0_people 81 = .ok (.dup, 1) := dk_89 (dk_at dksX0_people_3 11 rfl rfl)
theorem dX0_people_82 : decode cX0_people 82 = .ok (.getfield 131, 3) := dk_180 0 131 (dk_at dksX0_people_3 12 rfl rfl)
theorem dX0_people_85 : decode cX0_people 85 = .ok (.iconst 1, 1) := dk_4 (dk_at dksX0_people_3 15 rfl rfl)
theorem dX0_people_86 : decode cX0_people 86 = .ok (.iadd, 1) := dk_96 (dk_at dksX0_people_3 16 rfl rfl)
theorem dX0_people_87 : decode cX0_people 87 = .ok (.putfield 131, 3) := dk_181 0 131 (dk_at dksX0_people_3 17 rfl rfl)
theorem dX0_people_90 : decode cX0_people 90 = .ok (.aload_n 0, 1) := dk_42 (dk_at dksX0_people_3 20 rfl rfl)
theorem dX0_people_91 : decode cX0_people 91 = .ok (.iconst 0, 1) := dk_3 (dk_at dksX0_people_3 21 rfl rfl)
theorem dX0_people_92 : decode cX0_people 92 = .ok (.putfield 166, 3) := dk_181 0 166 (dk_at dksX0_people_4 0 rfl rfl)
theorem dX0_people_95 : decode cX0_people 95 = .ok (.aload_n 0, 1) := dk_42 (dk_at dksX0_people_4 3 rfl rfl)
theorem dX0_people_96 : decode cX0_people 96 = .ok (.getfield 42, 3) := dk_180 0 42 (dk_at dksX0_people_4 4 rfl rfl)
theorem dX0_people_99 : decode cX0_people 99 = .ok (.getfield 131, 3) := dk_180 0 131 (dk_at dksX0_people_4 7 rfl rfl)
theorem dX0_people_102 : decode cX0_people 102 = .ok (.iconst 1, 1) := dk_4 (dk_at dksX0_people_4 10 rfl rfl)
theorem dX0_people_103 : decode cX0_people 103 = .ok (.isub, 1) := dk_100 (dk_at dksX0_people_4 11 rfl rfl)
theorem dX0_people_104 : decode cX0_people 104 = .ok (.ireturn, 1) := dk_172 (dk_at dksX0_people_4 12 rfl rfl)
theorem dX0_people_105 : decode cX0_people 105 = .ok (.astore_n 3, 1) := dk_78 (dk_at dksX0_people_4 13 rfl rfl)
theorem dX0_people_106 : decode cX0_people 106 = .ok (.aload_n 0, 1) := dk_42 (dk_at dksX0_people_4 14 rfl rfl)
theorem dX0_people_107 : decode cX0_people 107 = .ok (.aload_n 3, 1) := dk_45 (dk_at dksX0_people_4 15 rfl rfl)
theorem dX0_people_108 : decode cX0_people 108 = .ok (.invokevirtual 145, 3) := dk_182 0 145 (dk_at dksX0_people_4 16 rfl rfl)
theorem dX0_people_111 : decode cX0_people 111 = .ok (.ireturn, 1) := dk_172 (dk_at dksX0_people_4 19 rfl rfl)
abbrev cX0_groupOf : ByteArray := prog_1_method_5_code
def yX0_groupOf : MethodName := ⟨RX0, "groupOf", "(II)LSlipWeeks$Cross;"⟩
def dkwX0_groupOf_5 : List UInt8 := [183, 0, 35, 176]
abbrev dktX0_groupOf_5 : List UInt8 := dkwX0_groupOf_5 ++ []
def dkwX0_groupOf_4 : List UInt8 := [187, 0, 27, 89, 27, 183, 0, 29, 176, 187, 0, 30, 89, 27, 183, 0, 32, 176, 187, 0, 33, 89, 27]
abbrev dktX0_groupOf_4 : List UInt8 := dkwX0_groupOf_4 ++ dktX0_groupOf_5
def dkwX0_groupOf_3 : List UInt8 := [183, 0, 20, 176, 187, 0, 21, 89, 27, 183, 0, 23, 176, 187, 0, 24, 89, 27, 183, 0, 26, 176]
abbrev dktX0_groupOf_3 : List UInt8 := dkwX0_groupOf_3 ++ dktX0_groupOf_4
def dkwX0_groupOf_2 : List UInt8 := [187, 0, 12, 89, 27, 183, 0, 14, 176, 187, 0, 15, 89, 27, 183, 0, 17, 176, 187, 0, 18, 89, 27]
abbrev dktX0_groupOf_2 : List UInt8 := dkwX0_groupOf_2 ++ dktX0_groupOf_3
def dkwX0_groupOf_1 : List UInt8 := [170, 0, 0, 0, 0, 0, 106, 0, 0, 0, 0, 0, 0, 0, 6, 0, 0, 0, 43, 0, 0, 0, 52, 0, 0, 0, 61, 0, 0, 0, 70, 0, 0, 0, 79, 0, 0, 0, 88, 0, 0, 0, 97]
abbrev dktX0_groupOf_1 : List UInt8 := dkwX0_groupOf_1 ++ dktX0_groupOf_2
def dkwX0_groupOf_0 : List UInt8 := [26]
abbrev dktX0_groupOf_0 : List UInt8 := dkwX0_groupOf_0 ++ dktX0_groupOf_1
theorem dksX0_groupOf_0 : cX0_groupOf.data.toList.drop 0 = dktX0_groupOf_0 := by decide +kernel
theorem dksX0_groupOf_1 : cX0_groupOf.data.toList.drop 1 = dktX0_groupOf_1 := dk_seg dksX0_groupOf_0 1 rfl rfl
theorem dksX0_groupOf_2 : cX0_groupOf.data.toList.drop 44 = dktX0_groupOf_2 := dk_seg dksX0_groupOf_1 43 rfl rfl
theorem dksX0_groupOf_3 : cX0_groupOf.data.toList.drop 67 = dktX0_groupOf_3 := dk_seg dksX0_groupOf_2 23 rfl rfl
theorem dksX0_groupOf_4 : cX0_groupOf.data.toList.drop 89 = dktX0_groupOf_4 := dk_seg dksX0_groupOf_3 22 rfl rfl
theorem dksX0_groupOf_5 : cX0_groupOf.data.toList.drop 112 = dktX0_groupOf_5 := dk_seg dksX0_groupOf_4 23 rfl rfl
theorem dX0_groupOf_0 : decode cX0_groupOf 0 = .ok (.iload_n 0, 1) := dk_26 (dk_at dksX0_groupOf_0 0 rfl rfl)
theorem dX0_groupOf_1 : decode cX0_groupOf 1 = .ok (.tableswitch 106 0 6 #[43, 52, 61, 70, 79, 88, 97], 43) := by decide +kernel
theorem dX0_groupOf_44 : decode cX0_groupOf 44 = .ok (.new 12, 3) := dk_187 0 12 (dk_at dksX0_groupOf_2 0 rfl rfl)
theorem dX0_groupOf_47 : decode cX0_groupOf 47 = .ok (.dup, 1) := dk_89 (dk_at dksX0_groupOf_2 3 rfl rfl)
theorem dX0_groupOf_48 : decode cX0_groupOf 48 = .ok (.iload_n 1, 1) := dk_27 (dk_at dksX0_groupOf_2 4 rfl rfl)
theorem dX0_groupOf_49 : decode cX0_groupOf 49 = .ok (.invokespecial 14, 3) := dk_183 0 14 (dk_at dksX0_groupOf_2 5 rfl rfl)
theorem dX0_groupOf_52 : decode cX0_groupOf 52 = .ok (.areturn, 1) := dk_176 (dk_at dksX0_groupOf_2 8 rfl rfl)
theorem dX0_groupOf_53 : decode cX0_groupOf 53 = .ok (.new 15, 3) := dk_187 0 15 (dk_at dksX0_groupOf_2 9 rfl rfl)
theorem dX0_groupOf_56 : decode cX0_groupOf 56 = .ok (.dup, 1) := dk_89 (dk_at dksX0_groupOf_2 12 rfl rfl)
theorem dX0_groupOf_57 : decode cX0_groupOf 57 = .ok (.iload_n 1, 1) := dk_27 (dk_at dksX0_groupOf_2 13 rfl rfl)
theorem dX0_groupOf_58 : decode cX0_groupOf 58 = .ok (.invokespecial 17, 3) := dk_183 0 17 (dk_at dksX0_groupOf_2 14 rfl rfl)
theorem dX0_groupOf_61 : decode cX0_groupOf 61 = .ok (.areturn, 1) := dk_176 (dk_at dksX0_groupOf_2 17 rfl rfl)
theorem dX0_groupOf_62 : decode cX0_groupOf 62 = .ok (.new 18, 3) := dk_187 0 18 (dk_at dksX0_groupOf_2 18 rfl rfl)
theorem dX0_groupOf_65 : decode cX0_groupOf 65 = .ok (.dup, 1) := dk_89 (dk_at dksX0_groupOf_2 21 rfl rfl)
theorem dX0_groupOf_66 : decode cX0_groupOf 66 = .ok (.iload_n 1, 1) := dk_27 (dk_at dksX0_groupOf_2 22 rfl rfl)
theorem dX0_groupOf_67 : decode cX0_groupOf 67 = .ok (.invokespecial 20, 3) := dk_183 0 20 (dk_at dksX0_groupOf_3 0 rfl rfl)
theorem dX0_groupOf_70 : decode cX0_groupOf 70 = .ok (.areturn, 1) := dk_176 (dk_at dksX0_groupOf_3 3 rfl rfl)
theorem dX0_groupOf_71 : decode cX0_groupOf 71 = .ok (.new 21, 3) := dk_187 0 21 (dk_at dksX0_groupOf_3 4 rfl rfl)
theorem dX0_groupOf_74 : decode cX0_groupOf 74 = .ok (.dup, 1) := dk_89 (dk_at dksX0_groupOf_3 7 rfl rfl)
theorem dX0_groupOf_75 : decode cX0_groupOf 75 = .ok (.iload_n 1, 1) := dk_27 (dk_at dksX0_groupOf_3 8 rfl rfl)
theorem dX0_groupOf_76 : decode cX0_groupOf 76 = .ok (.invokespecial 23, 3) := dk_183 0 23 (dk_at dksX0_groupOf_3 9 rfl rfl)
theorem dX0_groupOf_79 : decode cX0_groupOf 79 = .ok (.areturn, 1) := dk_176 (dk_at dksX0_groupOf_3 12 rfl rfl)
theorem dX0_groupOf_80 : decode cX0_groupOf 80 = .ok (.new 24, 3) := dk_187 0 24 (dk_at dksX0_groupOf_3 13 rfl rfl)
theorem dX0_groupOf_83 : decode cX0_groupOf 83 = .ok (.dup, 1) := dk_89 (dk_at dksX0_groupOf_3 16 rfl rfl)
theorem dX0_groupOf_84 : decode cX0_groupOf 84 = .ok (.iload_n 1, 1) := dk_27 (dk_at dksX0_groupOf_3 17 rfl rfl)
theorem dX0_groupOf_85 : decode cX0_groupOf 85 = .ok (.invokespecial 26, 3) := dk_183 0 26 (dk_at dksX0_groupOf_3 18 rfl rfl)
theorem dX0_groupOf_88 : decode cX0_groupOf 88 = .ok (.areturn, 1) := dk_176 (dk_at dksX0_groupOf_3 21 rfl rfl)
theorem dX0_groupOf_89 : decode cX0_groupOf 89 = .ok (.new 27, 3) := dk_187 0 27 (dk_at dksX0_groupOf_4 0 rfl rfl)
theorem dX0_groupOf_92 : decode cX0_groupOf 92 = .ok (.dup, 1) := dk_89 (dk_at dksX0_groupOf_4 3 rfl rfl)
theorem dX0_groupOf_93 : decode cX0_groupOf 93 = .ok (.iload_n 1, 1) := dk_27 (dk_at dksX0_groupOf_4 4 rfl rfl)
theorem dX0_groupOf_94 : decode cX0_groupOf 94 = .ok (.invokespecial 29, 3) := dk_183 0 29 (dk_at dksX0_groupOf_4 5 rfl rfl)
theorem dX0_groupOf_97 : decode cX0_groupOf 97 = .ok (.areturn, 1) := dk_176 (dk_at dksX0_groupOf_4 8 rfl rfl)
theorem dX0_groupOf_98 : decode cX0_groupOf 98 = .ok (.new 30, 3) := dk_187 0 30 (dk_at dksX0_groupOf_4 9 rfl rfl)
theorem dX0_groupOf_101 : decode cX0_groupOf 101 = .ok (.dup, 1) := dk_89 (dk_at dksX0_groupOf_4 12 rfl rfl)
theorem dX0_groupOf_102 : decode cX0_groupOf 102 = .ok (.iload_n 1, 1) := dk_27 (dk_at dksX0_groupOf_4 13 rfl rfl)
theorem dX0_groupOf_103 : decode cX0_groupOf 103 = .ok (.invokespecial 32, 3) := dk_183 0 32 (dk_at dksX0_groupOf_4 14 rfl rfl)
theorem dX0_groupOf_106 : decode cX0_groupOf 106 = .ok (.areturn, 1) := dk_176 (dk_at dksX0_groupOf_4 17 rfl rfl)
theorem dX0_groupOf_107 : decode cX0_groupOf 107 = .ok (.new 33, 3) := dk_187 0 33 (dk_at dksX0_groupOf_4 18 rfl rfl)
theorem dX0_groupOf_110 : decode cX0_groupOf 110 = .ok (.dup, 1) := dk_89 (dk_at dksX0_groupOf_4 21 rfl rfl)
theorem dX0_groupOf_111 : decode cX0_groupOf 111 = .ok (.iload_n 1, 1) := dk_27 (dk_at dksX0_groupOf_4 22 rfl rfl)
theorem dX0_groupOf_112 : decode cX0_groupOf 112 = .ok (.invokespecial 35, 3) := dk_183 0 35 (dk_at dksX0_groupOf_5 0 rfl rfl)
theorem dX0_groupOf_115 : decode cX0_groupOf 115 = .ok (.areturn, 1) := dk_176 (dk_at dksX0_groupOf_5 3 rfl rfl)
abbrev cX0_of : ByteArray := prog_1_method_16_code
def yX0_of : MethodName := ⟨RX0, "of", "(II)I"⟩
def dkwX0_of_1 : List UInt8 := [182, 0, 173, 167, 0, 7, 45, 180, 0, 176, 172, 78, 42, 45, 182, 0, 145, 172]
abbrev dktX0_of_1 : List UInt8 := dkwX0_of_1 ++ []
def dkwX0_of_0 : List UInt8 := [42, 27, 182, 0, 170, 78, 28, 133, 9, 10, 184, 0, 125, 3, 184, 0, 119, 28, 154, 0, 10, 45]
abbrev dktX0_of_0 : List UInt8 := dkwX0_of_0 ++ dktX0_of_1
theorem dksX0_of_0 : cX0_of.data.toList.drop 0 = dktX0_of_0 := by decide +kernel
theorem dksX0_of_1 : cX0_of.data.toList.drop 22 = dktX0_of_1 := dk_seg dksX0_of_0 22 rfl rfl
theorem dX0_of_0 : decode cX0_of 0 = .ok (.aload_n 0, 1) := dk_42 (dk_at dksX0_of_0 0 rfl rfl)
theorem dX0_of_1 : decode cX0_of 1 = .ok (.iload_n 1, 1) := dk_27 (dk_at dksX0_of_0 1 rfl rfl)
theorem dX0_of_2 : decode cX0_of 2 = .ok (.invokevirtual 170, 3) := dk_182 0 170 (dk_at dksX0_of_0 2 rfl rfl)
theorem dX0_of_5 : decode cX0_of 5 = .ok (.astore_n 3, 1) := dk_78 (dk_at dksX0_of_0 5 rfl rfl)
theorem dX0_of_6 : decode cX0_of 6 = .ok (.iload_n 2, 1) := dk_28 (dk_at dksX0_of_0 6 rfl rfl)
theorem dX0_of_7 : decode cX0_of 7 = .ok (.i2l, 1) := dk_133 (dk_at dksX0_of_0 7 rfl rfl)
theorem dX0_of_8 : decode cX0_of 8 = .ok (.lconst 0, 1) := dk_9 (dk_at dksX0_of_0 8 rfl rfl)
theorem dX0_of_9 : decode cX0_of 9 = .ok (.lconst 1, 1) := dk_10 (dk_at dksX0_of_0 9 rfl rfl)
theorem dX0_of_10 : decode cX0_of 10 = .ok (.invokestatic 125, 3) := dk_184 0 125 (dk_at dksX0_of_0 10 rfl rfl)
theorem dX0_of_13 : decode cX0_of 13 = .ok (.iconst 0, 1) := dk_3 (dk_at dksX0_of_0 13 rfl rfl)
theorem dX0_of_14 : decode cX0_of 14 = .ok (.invokestatic 119, 3) := dk_184 0 119 (dk_at dksX0_of_0 14 rfl rfl)
theorem dX0_of_17 : decode cX0_of 17 = .ok (.iload_n 2, 1) := dk_28 (dk_at dksX0_of_0 17 rfl rfl)
theorem dX0_of_18 : decode cX0_of 18 = .ok (.ifCond .ne 10, 3) := dk_154 0 10 (dk_at dksX0_of_0 18 rfl rfl)
theorem dX0_of_21 : decode cX0_of 21 = .ok (.aload_n 3, 1) := dk_45 (dk_at dksX0_of_0 21 rfl rfl)
theorem dX0_of_22 : decode cX0_of 22 = .ok (.invokevirtual 173, 3) := dk_182 0 173 (dk_at dksX0_of_1 0 rfl rfl)
theorem dX0_of_25 : decode cX0_of 25 = .ok (.goto 7, 3) := dk_167 0 7 (dk_at dksX0_of_1 3 rfl rfl)
theorem dX0_of_28 : decode cX0_of 28 = .ok (.aload_n 3, 1) := dk_45 (dk_at dksX0_of_1 6 rfl rfl)
theorem dX0_of_29 : decode cX0_of 29 = .ok (.getfield 176, 3) := dk_180 0 176 (dk_at dksX0_of_1 7 rfl rfl)
theorem dX0_of_32 : decode cX0_of 32 = .ok (.ireturn, 1) := dk_172 (dk_at dksX0_of_1 10 rfl rfl)
theorem dX0_of_33 : decode cX0_of 33 = .ok (.astore_n 3, 1) := dk_78 (dk_at dksX0_of_1 11 rfl rfl)
theorem dX0_of_34 : decode cX0_of 34 = .ok (.aload_n 0, 1) := dk_42 (dk_at dksX0_of_1 12 rfl rfl)
theorem dX0_of_35 : decode cX0_of 35 = .ok (.aload_n 3, 1) := dk_45 (dk_at dksX0_of_1 13 rfl rfl)
theorem dX0_of_36 : decode cX0_of 36 = .ok (.invokevirtual 145, 3) := dk_182 0 145 (dk_at dksX0_of_1 14 rfl rfl)
theorem dX0_of_39 : decode cX0_of 39 = .ok (.ireturn, 1) := dk_172 (dk_at dksX0_of_1 17 rfl rfl)
abbrev cX0_peopleAt : ByteArray := prog_1_method_11_code
def yX0_peopleAt : MethodName := ⟨RX0, "peopleAt", "(I)LSlipWeeks$Cross;"⟩
def dkwX0_peopleAt_1 : List UInt8 := [27, 182, 0, 134, 176]
abbrev dktX0_peopleAt_1 : List UInt8 := dkwX0_peopleAt_1 ++ []
def dkwX0_peopleAt_0 : List UInt8 := [27, 133, 9, 42, 180, 0, 42, 180, 0, 131, 4, 100, 133, 184, 0, 125, 3, 184, 0, 119, 42, 180, 0, 42]
abbrev dktX0_peopleAt_0 : List UInt8 := dkwX0_peopleAt_0 ++ dktX0_peopleAt_1
theorem dksX0_peopleAt_0 : cX0_peopleAt.data.toList.drop 0 = dktX0_peopleAt_0 := by decide +kernel
theorem dksX0_peopleAt_1 : cX0_peopleAt.data.toList.drop 24 = dktX0_peopleAt_1 := dk_seg dksX0_peopleAt_0 24 rfl rfl
theorem dX0_peopleAt_0 : decode cX0_peopleAt 0 = .ok (.iload_n 1, 1) := dk_27 (dk_at dksX0_peopleAt_0 0 rfl rfl)
theorem dX0_peopleAt_1 : decode cX0_peopleAt 1 = .ok (.i2l, 1) := dk_133 (dk_at dksX0_peopleAt_0 1 rfl rfl)
theorem dX0_peopleAt_2 : decode cX0_peopleAt 2 = .ok (.lconst 0, 1) := dk_9 (dk_at dksX0_peopleAt_0 2 rfl rfl)
theorem dX0_peopleAt_3 : decode cX0_peopleAt 3 = .ok (.aload_n 0, 1) := dk_42 (dk_at dksX0_peopleAt_0 3 rfl rfl)
theorem dX0_peopleAt_4 : decode cX0_peopleAt 4 = .ok (.getfield 42, 3) := dk_180 0 42 (dk_at dksX0_peopleAt_0 4 rfl rfl)
theorem dX0_peopleAt_7 : decode cX0_peopleAt 7 = .ok (.getfield 131, 3) := dk_180 0 131 (dk_at dksX0_peopleAt_0 7 rfl rfl)
theorem dX0_peopleAt_10 : decode cX0_peopleAt 10 = .ok (.iconst 1, 1) := dk_4 (dk_at dksX0_peopleAt_0 10 rfl rfl)
theorem dX0_peopleAt_11 : decode cX0_peopleAt 11 = .ok (.isub, 1) := dk_100 (dk_at dksX0_peopleAt_0 11 rfl rfl)
theorem dX0_peopleAt_12 : decode cX0_peopleAt 12 = .ok (.i2l, 1) := dk_133 (dk_at dksX0_peopleAt_0 12 rfl rfl)
theorem dX0_peopleAt_13 : decode cX0_peopleAt 13 = .ok (.invokestatic 125, 3) := dk_184 0 125 (dk_at dksX0_peopleAt_0 13 rfl rfl)
theorem dX0_peopleAt_16 : decode cX0_peopleAt 16 = .ok (.iconst 0, 1) := dk_3 (dk_at dksX0_peopleAt_0 16 rfl rfl)
theorem dX0_peopleAt_17 : decode cX0_peopleAt 17 = .ok (.invokestatic 119, 3) := dk_184 0 119 (dk_at dksX0_peopleAt_0 17 rfl rfl)
theorem dX0_peopleAt_20 : decode cX0_peopleAt 20 = .ok (.aload_n 0, 1) := dk_42 (dk_at dksX0_peopleAt_0 20 rfl rfl)
theorem dX0_peopleAt_21 : decode cX0_peopleAt 21 = .ok (.getfield 42, 3) := dk_180 0 42 (dk_at dksX0_peopleAt_0 21 rfl rfl)
theorem dX0_peopleAt_24 : decode cX0_peopleAt 24 = .ok (.iload_n 1, 1) := dk_27 (dk_at dksX0_peopleAt_1 0 rfl rfl)
theorem dX0_peopleAt_25 : decode cX0_peopleAt 25 = .ok (.invokevirtual 134, 3) := dk_182 0 134 (dk_at dksX0_peopleAt_1 1 rfl rfl)
theorem dX0_peopleAt_28 : decode cX0_peopleAt 28 = .ok (.areturn, 1) := dk_176 (dk_at dksX0_peopleAt_1 4 rfl rfl)
abbrev cX0_many : ByteArray := prog_1_method_17_code
def yX0_many : MethodName := ⟨RX0, "many", "(II)I"⟩
def dkwX0_many_1 : List UInt8 := [54, 4, 45, 28, 181, 0, 176, 42, 3, 181, 0, 166, 21, 4, 172, 78, 42, 45, 182, 0, 145, 172]
abbrev dktX0_many_1 : List UInt8 := dkwX0_many_1 ++ []
def dkwX0_many_0 : List UInt8 := [42, 27, 182, 0, 170, 78, 28, 133, 9, 20, 0, 154, 184, 0, 125, 3, 184, 0, 119, 45, 180, 0, 176]
abbrev dktX0_many_0 : List UInt8 := dkwX0_many_0 ++ dktX0_many_1
theorem dksX0_many_0 : cX0_many.data.toList.drop 0 = dktX0_many_0 := by decide +kernel
theorem dksX0_many_1 : cX0_many.data.toList.drop 23 = dktX0_many_1 := dk_seg dksX0_many_0 23 rfl rfl
theorem dX0_many_0 : decode cX0_many 0 = .ok (.aload_n 0, 1) := dk_42 (dk_at dksX0_many_0 0 rfl rfl)
theorem dX0_many_1 : decode cX0_many 1 = .ok (.iload_n 1, 1) := dk_27 (dk_at dksX0_many_0 1 rfl rfl)
theorem dX0_many_2 : decode cX0_many 2 = .ok (.invokevirtual 170, 3) := dk_182 0 170 (dk_at dksX0_many_0 2 rfl rfl)
theorem dX0_many_5 : decode cX0_many 5 = .ok (.astore_n 3, 1) := dk_78 (dk_at dksX0_many_0 5 rfl rfl)
theorem dX0_many_6 : decode cX0_many 6 = .ok (.iload_n 2, 1) := dk_28 (dk_at dksX0_many_0 6 rfl rfl)
theorem dX0_many_7 : decode cX0_many 7 = .ok (.i2l, 1) := dk_133 (dk_at dksX0_many_0 7 rfl rfl)
theorem dX0_many_8 : decode cX0_many 8 = .ok (.lconst 0, 1) := dk_9 (dk_at dksX0_many_0 8 rfl rfl)
theorem dX0_many_9 : decode cX0_many 9 = .ok (.ldc2_w 154, 3) := dk_20 0 154 (dk_at dksX0_many_0 9 rfl rfl)
theorem dX0_many_12 : decode cX0_many 12 = .ok (.invokestatic 125, 3) := dk_184 0 125 (dk_at dksX0_many_0 12 rfl rfl)
theorem dX0_many_15 : decode cX0_many 15 = .ok (.iconst 0, 1) := dk_3 (dk_at dksX0_many_0 15 rfl rfl)
theorem dX0_many_16 : decode cX0_many 16 = .ok (.invokestatic 119, 3) := dk_184 0 119 (dk_at dksX0_many_0 16 rfl rfl)
theorem dX0_many_19 : decode cX0_many 19 = .ok (.aload_n 3, 1) := dk_45 (dk_at dksX0_many_0 19 rfl rfl)
theorem dX0_many_20 : decode cX0_many 20 = .ok (.getfield 176, 3) := dk_180 0 176 (dk_at dksX0_many_0 20 rfl rfl)
theorem dX0_many_23 : decode cX0_many 23 = .ok (.istore 4, 2) := dk_54 4 (dk_at dksX0_many_1 0 rfl rfl)
theorem dX0_many_25 : decode cX0_many 25 = .ok (.aload_n 3, 1) := dk_45 (dk_at dksX0_many_1 2 rfl rfl)
theorem dX0_many_26 : decode cX0_many 26 = .ok (.iload_n 2, 1) := dk_28 (dk_at dksX0_many_1 3 rfl rfl)
theorem dX0_many_27 : decode cX0_many 27 = .ok (.putfield 176, 3) := dk_181 0 176 (dk_at dksX0_many_1 4 rfl rfl)
theorem dX0_many_30 : decode cX0_many 30 = .ok (.aload_n 0, 1) := dk_42 (dk_at dksX0_many_1 7 rfl rfl)
theorem dX0_many_31 : decode cX0_many 31 = .ok (.iconst 0, 1) := dk_3 (dk_at dksX0_many_1 8 rfl rfl)
theorem dX0_many_32 : decode cX0_many 32 = .ok (.putfield 166, 3) := dk_181 0 166 (dk_at dksX0_many_1 9 rfl rfl)
theorem dX0_many_35 : decode cX0_many 35 = .ok (.iload 4, 2) := dk_21 4 (dk_at dksX0_many_1 12 rfl rfl)
theorem dX0_many_37 : decode cX0_many 37 = .ok (.ireturn, 1) := dk_172 (dk_at dksX0_many_1 14 rfl rfl)
theorem dX0_many_38 : decode cX0_many 38 = .ok (.astore_n 3, 1) := dk_78 (dk_at dksX0_many_1 15 rfl rfl)
theorem dX0_many_39 : decode cX0_many 39 = .ok (.aload_n 0, 1) := dk_42 (dk_at dksX0_many_1 16 rfl rfl)
theorem dX0_many_40 : decode cX0_many 40 = .ok (.aload_n 3, 1) := dk_45 (dk_at dksX0_many_1 17 rfl rfl)
theorem dX0_many_41 : decode cX0_many 41 = .ok (.invokevirtual 145, 3) := dk_182 0 145 (dk_at dksX0_many_1 18 rfl rfl)
theorem dX0_many_44 : decode cX0_many 44 = .ok (.ireturn, 1) := dk_172 (dk_at dksX0_many_1 21 rfl rfl)
abbrev cX0_as : ByteArray := prog_1_method_18_code
def yX0_as : MethodName := ⟨RX0, "as", "(II)I"⟩
def dkwX0_as_1 : List UInt8 := [5, 184, 0, 119, 45, 180, 0, 176, 172, 78, 42, 45, 182, 0, 145, 172]
abbrev dktX0_as_1 : List UInt8 := dkwX0_as_1 ++ []
def dkwX0_as_0 : List UInt8 := [42, 27, 182, 0, 170, 78, 28, 133, 9, 20, 0, 152, 184, 0, 125, 3, 184, 0, 119, 45, 28, 182, 0, 179]
abbrev dktX0_as_0 : List UInt8 := dkwX0_as_0 ++ dktX0_as_1
theorem dksX0_as_0 : cX0_as.data.toList.drop 0 = dktX0_as_0 := by decide +kernel
theorem dksX0_as_1 : cX0_as.data.toList.drop 24 = dktX0_as_1 := dk_seg dksX0_as_0 24 rfl rfl
theorem dX0_as_0 : decode cX0_as 0 = .ok (.aload_n 0, 1) := dk_42 (dk_at dksX0_as_0 0 rfl rfl)
theorem dX0_as_1 : decode cX0_as 1 = .ok (.iload_n 1, 1) := dk_27 (dk_at dksX0_as_0 1 rfl rfl)
theorem dX0_as_2 : decode cX0_as 2 = .ok (.invokevirtual 170, 3) := dk_182 0 170 (dk_at dksX0_as_0 2 rfl rfl)
theorem dX0_as_5 : decode cX0_as 5 = .ok (.astore_n 3, 1) := dk_78 (dk_at dksX0_as_0 5 rfl rfl)
theorem dX0_as_6 : decode cX0_as 6 = .ok (.iload_n 2, 1) := dk_28 (dk_at dksX0_as_0 6 rfl rfl)
theorem dX0_as_7 : decode cX0_as 7 = .ok (.i2l, 1) := dk_133 (dk_at dksX0_as_0 7 rfl rfl)
theorem dX0_as_8 : decode cX0_as 8 = .ok (.lconst 0, 1) := dk_9 (dk_at dksX0_as_0 8 rfl rfl)
theorem dX0_as_9 : decode cX0_as 9 = .ok (.ldc2_w 152, 3) := dk_20 0 152 (dk_at dksX0_as_0 9 rfl rfl)
theorem dX0_as_12 : decode cX0_as 12 = .ok (.invokestatic 125, 3) := dk_184 0 125 (dk_at dksX0_as_0 12 rfl rfl)
theorem dX0_as_15 : decode cX0_as 15 = .ok (.iconst 0, 1) := dk_3 (dk_at dksX0_as_0 15 rfl rfl)
theorem dX0_as_16 : decode cX0_as 16 = .ok (.invokestatic 119, 3) := dk_184 0 119 (dk_at dksX0_as_0 16 rfl rfl)
theorem dX0_as_19 : decode cX0_as 19 = .ok (.aload_n 3, 1) := dk_45 (dk_at dksX0_as_0 19 rfl rfl)
theorem dX0_as_20 : decode cX0_as 20 = .ok (.iload_n 2, 1) := dk_28 (dk_at dksX0_as_0 20 rfl rfl)
theorem dX0_as_21 : decode cX0_as 21 = .ok (.invokevirtual 179, 3) := dk_182 0 179 (dk_at dksX0_as_0 21 rfl rfl)
theorem dX0_as_24 : decode cX0_as 24 = .ok (.iconst 2, 1) := dk_5 (dk_at dksX0_as_1 0 rfl rfl)
theorem dX0_as_25 : decode cX0_as 25 = .ok (.invokestatic 119, 3) := dk_184 0 119 (dk_at dksX0_as_1 1 rfl rfl)
theorem dX0_as_28 : decode cX0_as 28 = .ok (.aload_n 3, 1) := dk_45 (dk_at dksX0_as_1 4 rfl rfl)
theorem dX0_as_29 : decode cX0_as 29 = .ok (.getfield 176, 3) := dk_180 0 176 (dk_at dksX0_as_1 5 rfl rfl)
theorem dX0_as_32 : decode cX0_as 32 = .ok (.ireturn, 1) := dk_172 (dk_at dksX0_as_1 8 rfl rfl)
theorem dX0_as_33 : decode cX0_as 33 = .ok (.astore_n 3, 1) := dk_78 (dk_at dksX0_as_1 9 rfl rfl)
theorem dX0_as_34 : decode cX0_as 34 = .ok (.aload_n 0, 1) := dk_42 (dk_at dksX0_as_1 10 rfl rfl)
theorem dX0_as_35 : decode cX0_as 35 = .ok (.aload_n 3, 1) := dk_45 (dk_at dksX0_as_1 11 rfl rfl)
theorem dX0_as_36 : decode cX0_as 36 = .ok (.invokevirtual 145, 3) := dk_182 0 145 (dk_at dksX0_as_1 12 rfl rfl)
theorem dX0_as_39 : decode cX0_as 39 = .ok (.ireturn, 1) := dk_172 (dk_at dksX0_as_1 15 rfl rfl)
abbrev cX0_likes : ByteArray := prog_1_method_27_code
def yX0_likes : MethodName := ⟨RX0, "likes", "(II)I"⟩
def dkwX0_likes_1 : List UInt8 := [172, 78, 42, 45, 182, 0, 145, 172]
abbrev dktX0_likes_1 : List UInt8 := dkwX0_likes_1 ++ []
def dkwX0_likes_0 : List UInt8 := [42, 27, 182, 0, 170, 78, 28, 184, 0, 149, 3, 184, 0, 119, 42, 182, 0, 249, 42, 45, 28, 182, 0, 214]
abbrev dktX0_likes_0 : List UInt8 := dkwX0_likes_0 ++ dktX0_likes_1
theorem dksX0_likes_0 : cX0_likes.data.toList.drop 0 = dktX0_likes_0 := by decide +kernel
theorem dksX0_likes_1 : cX0_likes.data.toList.drop 24 = dktX0_likes_1 := dk_seg dksX0_likes_0 24 rfl rfl
theorem dX0_likes_0 : decode cX0_likes 0 = .ok (.aload_n 0, 1) := dk_42 (dk_at dksX0_likes_0 0 rfl rfl)
theorem dX0_likes_1 : decode cX0_likes 1 = .ok (.iload_n 1, 1) := dk_27 (dk_at dksX0_likes_0 1 rfl rfl)
theorem dX0_likes_2 : decode cX0_likes 2 = .ok (.invokevirtual 170, 3) := dk_182 0 170 (dk_at dksX0_likes_0 2 rfl rfl)
theorem dX0_likes_5 : decode cX0_likes 5 = .ok (.astore_n 3, 1) := dk_78 (dk_at dksX0_likes_0 5 rfl rfl)
theorem dX0_likes_6 : decode cX0_likes 6 = .ok (.iload_n 2, 1) := dk_28 (dk_at dksX0_likes_0 6 rfl rfl)
theorem dX0_likes_7 : decode cX0_likes 7 = .ok (.invokestatic 149, 3) := dk_184 0 149 (dk_at dksX0_likes_0 7 rfl rfl)
theorem dX0_likes_10 : decode cX0_likes 10 = .ok (.iconst 0, 1) := dk_3 (dk_at dksX0_likes_0 10 rfl rfl)
theorem dX0_likes_11 : decode cX0_likes 11 = .ok (.invokestatic 119, 3) := dk_184 0 119 (dk_at dksX0_likes_0 11 rfl rfl)
theorem dX0_likes_14 : decode cX0_likes 14 = .ok (.aload_n 0, 1) := dk_42 (dk_at dksX0_likes_0 14 rfl rfl)
theorem dX0_likes_15 : decode cX0_likes 15 = .ok (.invokevirtual 249, 3) := dk_182 0 249 (dk_at dksX0_likes_0 15 rfl rfl)
theorem dX0_likes_18 : decode cX0_likes 18 = .ok (.aload_n 0, 1) := dk_42 (dk_at dksX0_likes_0 18 rfl rfl)
theorem dX0_likes_19 : decode cX0_likes 19 = .ok (.aload_n 3, 1) := dk_45 (dk_at dksX0_likes_0 19 rfl rfl)
theorem dX0_likes_20 : decode cX0_likes 20 = .ok (.iload_n 2, 1) := dk_28 (dk_at dksX0_likes_0 20 rfl rfl)
theorem dX0_likes_21 : decode cX0_likes 21 = .ok (.invokevirtual 214, 3) := dk_182 0 214 (dk_at dksX0_likes_0 21 rfl rfl)
theorem dX0_likes_24 : decode cX0_likes 24 = .ok (.ireturn, 1) := dk_172 (dk_at dksX0_likes_1 0 rfl rfl)
theorem dX0_likes_25 : decode cX0_likes 25 = .ok (.astore_n 3, 1) := dk_78 (dk_at dksX0_likes_1 1 rfl rfl)
theorem dX0_likes_26 : decode cX0_likes 26 = .ok (.aload_n 0, 1) := dk_42 (dk_at dksX0_likes_1 2 rfl rfl)
theorem dX0_likes_27 : decode cX0_likes 27 = .ok (.aload_n 3, 1) := dk_45 (dk_at dksX0_likes_1 3 rfl rfl)
theorem dX0_likes_28 : decode cX0_likes 28 = .ok (.invokevirtual 145, 3) := dk_182 0 145 (dk_at dksX0_likes_1 4 rfl rfl)
theorem dX0_likes_31 : decode cX0_likes 31 = .ok (.ireturn, 1) := dk_172 (dk_at dksX0_likes_1 7 rfl rfl)
abbrev cX0_findCrossed : ByteArray := prog_1_method_23_code
def yX0_findCrossed : MethodName := ⟨RX0, "findCrossed", "()V"⟩
def dkwX0_findCrossed_8 : List UInt8 := [132, 1, 1, 167, 255, 230, 42, 4, 181, 0, 166, 42, 3, 181, 0, 242, 177]
abbrev dktX0_findCrossed_8 : List UInt8 := dkwX0_findCrossed_8 ++ []
def dkwX0_findCrossed_7 : List UInt8 := [17, 1, 239, 162, 0, 25, 42, 89, 180, 0, 238, 42, 180, 0, 90, 27, 46, 133, 97, 181, 0, 238]
abbrev dktX0_findCrossed_7 : List UInt8 := dkwX0_findCrossed_7 ++ dktX0_findCrossed_8
def dkwX0_findCrossed_6 : List UInt8 := [180, 0, 42, 180, 0, 235, 27, 46, 96, 79, 132, 1, 1, 167, 255, 216, 42, 9, 181, 0, 238, 3, 60, 27]
abbrev dktX0_findCrossed_6 : List UInt8 := dkwX0_findCrossed_6 ++ dktX0_findCrossed_7
def dkwX0_findCrossed_5 : List UInt8 := [180, 0, 229, 162, 0, 35, 42, 180, 0, 90, 42, 180, 0, 42, 180, 0, 232, 27, 46, 92, 46, 42]
abbrev dktX0_findCrossed_5 : List UInt8 := dkwX0_findCrossed_5 ++ dktX0_findCrossed_6
def dkwX0_findCrossed_4 : List UInt8 := [184, 0, 225, 96, 79, 132, 4, 1, 167, 255, 223, 132, 1, 1, 167, 255, 188, 3, 60, 27, 42, 180, 0, 42]
abbrev dktX0_findCrossed_4 : List UInt8 := dkwX0_findCrossed_4 ++ dktX0_findCrossed_5
def dkwX0_findCrossed_3 : List UInt8 := [17, 1, 239, 162, 0, 31, 42, 180, 0, 90, 21, 4, 92, 46, 44, 42, 180, 0, 87, 21, 4, 46, 29]
abbrev dktX0_findCrossed_3 : List UInt8 := dkwX0_findCrossed_3 ++ dktX0_findCrossed_4
def dkwX0_findCrossed_2 : List UInt8 := [162, 0, 63, 42, 180, 0, 42, 27, 182, 0, 134, 77, 42, 44, 182, 0, 221, 62, 3, 54, 4, 21, 4]
abbrev dktX0_findCrossed_2 : List UInt8 := dkwX0_findCrossed_2 ++ dktX0_findCrossed_3
def dkwX0_findCrossed_1 : List UInt8 := [180, 0, 90, 27, 3, 79, 132, 1, 1, 167, 255, 239, 3, 60, 27, 42, 180, 0, 42, 180, 0, 131]
abbrev dktX0_findCrossed_1 : List UInt8 := dkwX0_findCrossed_1 ++ dktX0_findCrossed_2
def dkwX0_findCrossed_0 : List UInt8 := [42, 180, 0, 166, 153, 0, 4, 177, 42, 182, 0, 218, 3, 60, 27, 17, 1, 239, 162, 0, 16, 42]
abbrev dktX0_findCrossed_0 : List UInt8 := dkwX0_findCrossed_0 ++ dktX0_findCrossed_1
theorem dksX0_findCrossed_0 : cX0_findCrossed.data.toList.drop 0 = dktX0_findCrossed_0 := by decide +kernel
theorem dksX0_findCrossed_1 : cX0_findCrossed.data.toList.drop 22 = dktX0_findCrossed_1 := dk_seg dksX0_findCrossed_0 22 rfl rfl
theorem dksX0_findCrossed_2 : cX0_findCrossed.data.toList.drop 44 = dktX0_findCrossed_2 := dk_seg dksX0_findCrossed_1 22 rfl rfl
theorem dksX0_findCrossed_3 : cX0_findCrossed.data.toList.drop 67 = dktX0_findCrossed_3 := dk_seg dksX0_findCrossed_2 23 rfl rfl
theorem dksX0_findCrossed_4 : cX0_findCrossed.data.toList.drop 90 = dktX0_findCrossed_4 := dk_seg dksX0_findCrossed_3 23 rfl rfl
theorem dksX0_findCrossed_5 : cX0_findCrossed.data.toList.drop 114 = dktX0_findCrossed_5 := dk_seg dksX0_findCrossed_4 24 rfl rfl
theorem dksX0_findCrossed_6 : cX0_findCrossed.data.toList.drop 136 = dktX0_findCrossed_6 := dk_seg dksX0_findCrossed_5 22 rfl rfl
theorem dksX0_findCrossed_7 : cX0_findCrossed.data.toList.drop 160 = dktX0_findCrossed_7 := dk_seg dksX0_findCrossed_6 24 rfl rfl
theorem dksX0_findCrossed_8 : cX0_findCrossed.data.toList.drop 182 = dktX0_findCrossed_8 := dk_seg dksX0_findCrossed_7 22 rfl rfl
theorem dX0_findCrossed_0 : decode cX0_findCrossed 0 = .ok (.aload_n 0, 1) := dk_42 (dk_at dksX0_findCrossed_0 0 rfl rfl)
theorem dX0_findCrossed_1 : decode cX0_findCrossed 1 = .ok (.getfield 166, 3) := dk_180 0 166 (dk_at dksX0_findCrossed_0 1 rfl rfl)
theorem dX0_findCrossed_4 : decode cX0_findCrossed 4 = .ok (.ifCond .eq 4, 3) := dk_153 0 4 (dk_at dksX0_findCrossed_0 4 rfl rfl)
theorem dX0_findCrossed_7 : decode cX0_findCrossed 7 = .ok (.return_, 1) := dk_177 (dk_at dksX0_findCrossed_0 7 rfl rfl)
theorem dX0_findCrossed_8 : decode cX0_findCrossed 8 = .ok (.aload_n 0, 1) := dk_42 (dk_at dksX0_findCrossed_0 8 rfl rfl)
theorem dX0_findCrossed_9 : decode cX0_findCrossed 9 = .ok (.invokevirtual 218, 3) := dk_182 0 218 (dk_at dksX0_findCrossed_0 9 rfl rfl)
theorem dX0_findCrossed_12 : decode cX0_findCrossed 12 = .ok (.iconst 0, 1) := dk_3 (dk_at dksX0_findCrossed_0 12 rfl rfl)
theorem dX0_findCrossed_13 : decode cX0_findCrossed 13 = .ok (.istore_n 1, 1) := dk_60 (dk_at dksX0_findCrossed_0 13 rfl rfl)
theorem dX0_findCrossed_14 : decode cX0_findCrossed 14 = .ok (.iload_n 1, 1) := dk_27 (dk_at dksX0_findCrossed_0 14 rfl rfl)
theorem dX0_findCrossed_15 : decode cX0_findCrossed 15 = .ok (.sipush 495, 3) := dk_17 1 239 (dk_at dksX0_findCrossed_0 15 rfl rfl)
theorem dX0_findCrossed_18 : decode cX0_findCrossed 18 = .ok (.if_icmp .ge 16, 3) := dk_162 0 16 (dk_at dksX0_findCrossed_0 18 rfl rfl)
theorem dX0_findCrossed_21 : decode cX0_findCrossed 21 = .ok (.aload_n 0, 1) := dk_42 (dk_at dksX0_findCrossed_0 21 rfl rfl)
theorem dX0_findCrossed_22 : decode cX0_findCrossed 22 = .ok (.getfield 90, 3) := dk_180 0 90 (dk_at dksX0_findCrossed_1 0 rfl rfl)
theorem dX0_findCrossed_25 : decode cX0_findCrossed 25 = .ok (.iload_n 1, 1) := dk_27 (dk_at dksX0_findCrossed_1 3 rfl rfl)
theorem dX0_findCrossed_26 : decode cX0_findCrossed 26 = .ok (.iconst 0, 1) := dk_3 (dk_at dksX0_findCrossed_1 4 rfl rfl)
theorem dX0_findCrossed_27 : decode cX0_findCrossed 27 = .ok (.iastore, 1) := dk_79 (dk_at dksX0_findCrossed_1 5 rfl rfl)
theorem dX0_findCrossed_28 : decode cX0_findCrossed 28 = .ok (.iinc 1 1, 3) := dk_132 1 1 (dk_at dksX0_findCrossed_1 6 rfl rfl)
theorem dX0_findCrossed_31 : decode cX0_findCrossed 31 = .ok (.goto (-17), 3) := dk_167 255 239 (dk_at dksX0_findCrossed_1 9 rfl rfl)
theorem dX0_findCrossed_34 : decode cX0_findCrossed 34 = .ok (.iconst 0, 1) := dk_3 (dk_at dksX0_findCrossed_1 12 rfl rfl)
theorem dX0_findCrossed_35 : decode cX0_findCrossed 35 = .ok (.istore_n 1, 1) := dk_60 (dk_at dksX0_findCrossed_1 13 rfl rfl)
theorem dX0_findCrossed_36 : decode cX0_findCrossed 36 = .ok (.iload_n 1, 1) := dk_27 (dk_at dksX0_findCrossed_1 14 rfl rfl)
theorem dX0_findCrossed_37 : decode cX0_findCrossed 37 = .ok (.aload_n 0, 1) := dk_42 (dk_at dksX0_findCrossed_1 15 rfl rfl)
theorem dX0_findCrossed_38 : decode cX0_findCrossed 38 = .ok (.getfield 42, 3) := dk_180 0 42 (dk_at dksX0_findCrossed_1 16 rfl rfl)
theorem dX0_findCrossed_41 : decode cX0_findCrossed 41 = .ok (.getfield 131, 3) := dk_180 0 131 (dk_at dksX0_findCrossed_1 19 rfl rfl)
theorem dX0_findCrossed_44 : decode cX0_findCrossed 44 = .ok (.if_icmp .ge 63, 3) := dk_162 0 63 (dk_at dksX0_findCrossed_2 0 rfl rfl)
theorem dX0_findCrossed_47 : decode cX0_findCrossed 47 = .ok (.aload_n 0, 1) := dk_42 (dk_at dksX0_findCrossed_2 3 rfl rfl)
theorem dX0_findCrossed_48 : decode cX0_findCrossed 48 = .ok (.getfield 42, 3) := dk_180 0 42 (dk_at dksX0_findCrossed_2 4 rfl rfl)
theorem dX0_findCrossed_51 : decode cX0_findCrossed 51 = .ok (.iload_n 1, 1) := dk_27 (dk_at dksX0_findCrossed_2 7 rfl rfl)
theorem dX0_findCrossed_52 : decode cX0_findCrossed 52 = .ok (.invokevirtual 134, 3) := dk_182 0 134 (dk_at dksX0_findCrossed_2 8 rfl rfl)
theorem dX0_findCrossed_55 : decode cX0_findCrossed 55 = .ok (.astore_n 2, 1) := dk_77 (dk_at dksX0_findCrossed_2 11 rfl rfl)
theorem dX0_findCrossed_56 : decode cX0_findCrossed 56 = .ok (.aload_n 0, 1) := dk_42 (dk_at dksX0_findCrossed_2 12 rfl rfl)
theorem dX0_findCrossed_57 : decode cX0_findCrossed 57 = .ok (.aload_n 2, 1) := dk_44 (dk_at dksX0_findCrossed_2 13 rfl rfl)
theorem dX0_findCrossed_58 : decode cX0_findCrossed 58 = .ok (.invokevirtual 221, 3) := dk_182 0 221 (dk_at dksX0_findCrossed_2 14 rfl rfl)
theorem dX0_findCrossed_61 : decode cX0_findCrossed 61 = .ok (.istore_n 3, 1) := dk_62 (dk_at dksX0_findCrossed_2 17 rfl rfl)
theorem dX0_findCrossed_62 : decode cX0_findCrossed 62 = .ok (.iconst 0, 1) := dk_3 (dk_at dksX0_findCrossed_2 18 rfl rfl)
theorem dX0_findCrossed_63 : decode cX0_findCrossed 63 = .ok (.istore 4, 2) := dk_54 4 (dk_at dksX0_findCrossed_2 19 rfl rfl)
theorem dX0_findCrossed_65 : decode cX0_findCrossed 65 = .ok (.iload 4, 2) := dk_21 4 (dk_at dksX0_findCrossed_2 21 rfl rfl)
theorem dX0_findCrossed_67 : decode cX0_findCrossed 67 = .ok (.sipush 495, 3) := dk_17 1 239 (dk_at dksX0_findCrossed_3 0 rfl rfl)
theorem dX0_findCrossed_70 : decode cX0_findCrossed 70 = .ok (.if_icmp .ge 31, 3) := dk_162 0 31 (dk_at dksX0_findCrossed_3 3 rfl rfl)
theorem dX0_findCrossed_73 : decode cX0_findCrossed 73 = .ok (.aload_n 0, 1) := dk_42 (dk_at dksX0_findCrossed_3 6 rfl rfl)
theorem dX0_findCrossed_74 : decode cX0_findCrossed 74 = .ok (.getfield 90, 3) := dk_180 0 90 (dk_at dksX0_findCrossed_3 7 rfl rfl)
theorem dX0_findCrossed_77 : decode cX0_findCrossed 77 = .ok (.iload 4, 2) := dk_21 4 (dk_at dksX0_findCrossed_3 10 rfl rfl)
theorem dX0_findCrossed_79 : decode cX0_findCrossed 79 = .ok (.dup2, 1) := dk_92 (dk_at dksX0_findCrossed_3 12 rfl rfl)
theorem dX0_findCrossed_80 : decode cX0_findCrossed 80 = .ok (.iaload, 1) := dk_46 (dk_at dksX0_findCrossed_3 13 rfl rfl)
theorem dX0_findCrossed_81 : decode cX0_findCrossed 81 = .ok (.aload_n 2, 1) := dk_44 (dk_at dksX0_findCrossed_3 14 rfl rfl)
theorem dX0_findCrossed_82 : decode cX0_findCrossed 82 = .ok (.aload_n 0, 1) := dk_42 (dk_at dksX0_findCrossed_3 15 rfl rfl)
theorem dX0_findCrossed_83 : decode cX0_findCrossed 83 = .ok (.getfield 87, 3) := dk_180 0 87 (dk_at dksX0_findCrossed_3 16 rfl rfl)
theorem dX0_findCrossed_86 : decode cX0_findCrossed 86 = .ok (.iload 4, 2) := dk_21 4 (dk_at dksX0_findCrossed_3 19 rfl rfl)
theorem dX0_findCrossed_88 : decode cX0_findCrossed 88 = .ok (.iaload, 1) := dk_46 (dk_at dksX0_findCrossed_3 21 rfl rfl)
theorem dX0_findCrossed_89 : decode cX0_findCrossed 89 = .ok (.iload_n 3, 1) := dk_29 (dk_at dksX0_findCrossed_3 22 rfl rfl)
theorem dX0_findCrossed_90 : decode cX0_findCrossed 90 = .ok (.invokestatic 225, 3) := dk_184 0 225 (dk_at dksX0_findCrossed_4 0 rfl rfl)
theorem dX0_findCrossed_93 : decode cX0_findCrossed 93 = .ok (.iadd, 1) := dk_96 (dk_at dksX0_findCrossed_4 3 rfl rfl)
theorem dX0_findCrossed_94 : decode cX0_findCrossed 94 = .ok (.iastore, 1) := dk_79 (dk_at dksX0_findCrossed_4 4 rfl rfl)
theorem dX0_findCrossed_95 : decode cX0_findCrossed 95 = .ok (.iinc 4 1, 3) := dk_132 4 1 (dk_at dksX0_findCrossed_4 5 rfl rfl)
theorem dX0_findCrossed_98 : decode cX0_findCrossed 98 = .ok (.goto (-33), 3) := dk_167 255 223 (dk_at dksX0_findCrossed_4 8 rfl rfl)
theorem dX0_findCrossed_101 : decode cX0_findCrossed 101 = .ok (.iinc 1 1, 3) := dk_132 1 1 (dk_at dksX0_findCrossed_4 11 rfl rfl)
theorem dX0_findCrossed_104 : decode cX0_findCrossed 104 = .ok (.goto (-68), 3) := dk_167 255 188 (dk_at dksX0_findCrossed_4 14 rfl rfl)
theorem dX0_findCrossed_107 : decode cX0_findCrossed 107 = .ok (.iconst 0, 1) := dk_3 (dk_at dksX0_findCrossed_4 17 rfl rfl)
theorem dX0_findCrossed_108 : decode cX0_findCrossed 108 = .ok (.istore_n 1, 1) := dk_60 (dk_at dksX0_findCrossed_4 18 rfl rfl)
theorem dX0_findCrossed_109 : decode cX0_findCrossed 109 = .ok (.iload_n 1, 1) := dk_27 (dk_at dksX0_findCrossed_4 19 rfl rfl)
theorem dX0_findCrossed_110 : decode cX0_findCrossed 110 = .ok (.aload_n 0, 1) := dk_42 (dk_at dksX0_findCrossed_4 20 rfl rfl)
theorem dX0_findCrossed_111 : decode cX0_findCrossed 111 = .ok (.getfield 42, 3) := dk_180 0 42 (dk_at dksX0_findCrossed_4 21 rfl rfl)
theorem dX0_findCrossed_114 : decode cX0_findCrossed 114 = .ok (.getfield 229, 3) := dk_180 0 229 (dk_at dksX0_findCrossed_5 0 rfl rfl)
theorem dX0_findCrossed_117 : decode cX0_findCrossed 117 = .ok (.if_icmp .ge 35, 3) := dk_162 0 35 (dk_at dksX0_findCrossed_5 3 rfl rfl)
theorem dX0_findCrossed_120 : decode cX0_findCrossed 120 = .ok (.aload_n 0, 1) := dk_42 (dk_at dksX0_findCrossed_5 6 rfl rfl)
theorem dX0_findCrossed_121 : decode cX0_findCrossed 121 = .ok (.getfield 90, 3) := dk_180 0 90 (dk_at dksX0_findCrossed_5 7 rfl rfl)
theorem dX0_findCrossed_124 : decode cX0_findCrossed 124 = .ok (.aload_n 0, 1) := dk_42 (dk_at dksX0_findCrossed_5 10 rfl rfl)
theorem dX0_findCrossed_125 : decode cX0_findCrossed 125 = .ok (.getfield 42, 3) := dk_180 0 42 (dk_at dksX0_findCrossed_5 11 rfl rfl)
theorem dX0_findCrossed_128 : decode cX0_findCrossed 128 = .ok (.getfield 232, 3) := dk_180 0 232 (dk_at dksX0_findCrossed_5 14 rfl rfl)
theorem dX0_findCrossed_131 : decode cX0_findCrossed 131 = .ok (.iload_n 1, 1) := dk_27 (dk_at dksX0_findCrossed_5 17 rfl rfl)
theorem dX0_findCrossed_132 : decode cX0_findCrossed 132 = .ok (.iaload, 1) := dk_46 (dk_at dksX0_findCrossed_5 18 rfl rfl)
theorem dX0_findCrossed_133 : decode cX0_findCrossed 133 = .ok (.dup2, 1) := dk_92 (dk_at dksX0_findCrossed_5 19 rfl rfl)
theorem dX0_findCrossed_134 : decode cX0_findCrossed 134 = .ok (.iaload, 1) := dk_46 (dk_at dksX0_findCrossed_5 20 rfl rfl)
theorem dX0_findCrossed_135 : decode cX0_findCrossed 135 = .ok (.aload_n 0, 1) := dk_42 (dk_at dksX0_findCrossed_5 21 rfl rfl)
theorem dX0_findCrossed_136 : decode cX0_findCrossed 136 = .ok (.getfield 42, 3) := dk_180 0 42 (dk_at dksX0_findCrossed_6 0 rfl rfl)
theorem dX0_findCrossed_139 : decode cX0_findCrossed 139 = .ok (.getfield 235, 3) := dk_180 0 235 (dk_at dksX0_findCrossed_6 3 rfl rfl)
theorem dX0_findCrossed_142 : decode cX0_findCrossed 142 = .ok (.iload_n 1, 1) := dk_27 (dk_at dksX0_findCrossed_6 6 rfl rfl)
theorem dX0_findCrossed_143 : decode cX0_findCrossed 143 = .ok (.iaload, 1) := dk_46 (dk_at dksX0_findCrossed_6 7 rfl rfl)
theorem dX0_findCrossed_144 : decode cX0_findCrossed 144 = .ok (.iadd, 1) := dk_96 (dk_at dksX0_findCrossed_6 8 rfl rfl)
theorem dX0_findCrossed_145 : decode cX0_findCrossed 145 = .ok (.iastore, 1) := dk_79 (dk_at dksX0_findCrossed_6 9 rfl rfl)
theorem dX0_findCrossed_146 : decode cX0_findCrossed 146 = .ok (.iinc 1 1, 3) := dk_132 1 1 (dk_at dksX0_findCrossed_6 10 rfl rfl)
theorem dX0_findCrossed_149 : decode cX0_findCrossed 149 = .ok (.goto (-40), 3) := dk_167 255 216 (dk_at dksX0_findCrossed_6 13 rfl rfl)
theorem dX0_findCrossed_152 : decode cX0_findCrossed 152 = .ok (.aload_n 0, 1) := dk_42 (dk_at dksX0_findCrossed_6 16 rfl rfl)
theorem dX0_findCrossed_153 : decode cX0_findCrossed 153 = .ok (.lconst 0, 1) := dk_9 (dk_at dksX0_findCrossed_6 17 rfl rfl)
theorem dX0_findCrossed_154 : decode cX0_findCrossed 154 = .ok (.putfield 238, 3) := dk_181 0 238 (dk_at dksX0_findCrossed_6 18 rfl rfl)
theorem dX0_findCrossed_157 : decode cX0_findCrossed 157 = .ok (.iconst 0, 1) := dk_3 (dk_at dksX0_findCrossed_6 21 rfl rfl)
theorem dX0_findCrossed_158 : decode cX0_findCrossed 158 = .ok (.istore_n 1, 1) := dk_60 (dk_at dksX0_findCrossed_6 22 rfl rfl)
theorem dX0_findCrossed_159 : decode cX0_findCrossed 159 = .ok (.iload_n 1, 1) := dk_27 (dk_at dksX0_findCrossed_6 23 rfl rfl)
theorem dX0_findCrossed_160 : decode cX0_findCrossed 160 = .ok (.sipush 495, 3) := dk_17 1 239 (dk_at dksX0_findCrossed_7 0 rfl rfl)
theorem dX0_findCrossed_163 : decode cX0_findCrossed 163 = .ok (.if_icmp .ge 25, 3) := dk_162 0 25 (dk_at dksX0_findCrossed_7 3 rfl rfl)
theorem dX0_findCrossed_166 : decode cX0_findCrossed 166 = .ok (.aload_n 0, 1) := dk_42 (dk_at dksX0_findCrossed_7 6 rfl rfl)
theorem dX0_findCrossed_167 : decode cX0_findCrossed 167 = .ok (.dup, 1) := dk_89 (dk_at dksX0_findCrossed_7 7 rfl rfl)
theorem dX0_findCrossed_168 : decode cX0_findCrossed 168 = .ok (.getfield 238, 3) := dk_180 0 238 (dk_at dksX0_findCrossed_7 8 rfl rfl)
theorem dX0_findCrossed_171 : decode cX0_findCrossed 171 = .ok (.aload_n 0, 1) := dk_42 (dk_at dksX0_findCrossed_7 11 rfl rfl)
theorem dX0_findCrossed_172 : decode cX0_findCrossed 172 = .ok (.getfield 90, 3) := dk_180 0 90 (dk_at dksX0_findCrossed_7 12 rfl rfl)
theorem dX0_findCrossed_175 : decode cX0_findCrossed 175 = .ok (.iload_n 1, 1) := dk_27 (dk_at dksX0_findCrossed_7 15 rfl rfl)
theorem dX0_findCrossed_176 : decode cX0_findCrossed 176 = .ok (.iaload, 1) := dk_46 (dk_at dksX0_findCrossed_7 16 rfl rfl)
theorem dX0_findCrossed_177 : decode cX0_findCrossed 177 = .ok (.i2l, 1) := dk_133 (dk_at dksX0_findCrossed_7 17 rfl rfl)
theorem dX0_findCrossed_178 : decode cX0_findCrossed 178 = .ok (.ladd, 1) := dk_97 (dk_at dksX0_findCrossed_7 18 rfl rfl)
theorem dX0_findCrossed_179 : decode cX0_findCrossed 179 = .ok (.putfield 238, 3) := dk_181 0 238 (dk_at dksX0_findCrossed_7 19 rfl rfl)
theorem dX0_findCrossed_182 : decode cX0_findCrossed 182 = .ok (.iinc 1 1, 3) := dk_132 1 1 (dk_at dksX0_findCrossed_8 0 rfl rfl)
theorem dX0_findCrossed_185 : decode cX0_findCrossed 185 = .ok (.goto (-26), 3) := dk_167 255 230 (dk_at dksX0_findCrossed_8 3 rfl rfl)
theorem dX0_findCrossed_188 : decode cX0_findCrossed 188 = .ok (.aload_n 0, 1) := dk_42 (dk_at dksX0_findCrossed_8 6 rfl rfl)
theorem dX0_findCrossed_189 : decode cX0_findCrossed 189 = .ok (.iconst 1, 1) := dk_4 (dk_at dksX0_findCrossed_8 7 rfl rfl)
theorem dX0_findCrossed_190 : decode cX0_findCrossed 190 = .ok (.putfield 166, 3) := dk_181 0 166 (dk_at dksX0_findCrossed_8 8 rfl rfl)
theorem dX0_findCrossed_193 : decode cX0_findCrossed 193 = .ok (.aload_n 0, 1) := dk_42 (dk_at dksX0_findCrossed_8 11 rfl rfl)
theorem dX0_findCrossed_194 : decode cX0_findCrossed 194 = .ok (.iconst 0, 1) := dk_3 (dk_at dksX0_findCrossed_8 12 rfl rfl)
theorem dX0_findCrossed_195 : decode cX0_findCrossed 195 = .ok (.putfield 242, 3) := dk_181 0 242 (dk_at dksX0_findCrossed_8 13 rfl rfl)
theorem dX0_findCrossed_198 : decode cX0_findCrossed 198 = .ok (.return_, 1) := dk_177 (dk_at dksX0_findCrossed_8 16 rfl rfl)
abbrev cX0_findSays : ByteArray := prog_1_method_19_code
def yX0_findSays : MethodName := ⟨RX0, "findSays", "()V"⟩
def dkwX0_findSays_3 : List UInt8 := [192, 0, 195, 42, 180, 0, 80, 185, 0, 197, 2, 0, 79, 132, 1, 1, 167, 255, 174, 177]
abbrev dktX0_findSays_3 : List UInt8 := dkwX0_findSays_3 ++ []
def dkwX0_findSays_2 : List UInt8 := [180, 0, 191, 180, 0, 162, 199, 0, 7, 4, 167, 0, 25, 42, 180, 0, 42, 180, 0, 191, 180, 0, 162]
abbrev dktX0_findSays_2 : List UInt8 := dkwX0_findSays_2 ++ dktX0_findSays_3
def dkwX0_findSays_1 : List UInt8 := [182, 0, 182, 42, 180, 0, 42, 180, 0, 185, 182, 0, 188, 42, 180, 0, 84, 27, 42, 180, 0, 42]
abbrev dktX0_findSays_1 : List UInt8 := dkwX0_findSays_1 ++ dktX0_findSays_2
def dkwX0_findSays_0 : List UInt8 := [3, 60, 27, 17, 1, 239, 162, 0, 81, 42, 180, 0, 80, 42, 180, 0, 67, 27, 46, 42, 180, 0, 42]
abbrev dktX0_findSays_0 : List UInt8 := dkwX0_findSays_0 ++ dktX0_findSays_1
theorem dksX0_findSays_0 : cX0_findSays.data.toList.drop 0 = dktX0_findSays_0 := by decide +kernel
theorem dksX0_findSays_1 : cX0_findSays.data.toList.drop 23 = dktX0_findSays_1 := dk_seg dksX0_findSays_0 23 rfl rfl
theorem dksX0_findSays_2 : cX0_findSays.data.toList.drop 45 = dktX0_findSays_2 := dk_seg dksX0_findSays_1 22 rfl rfl
theorem dksX0_findSays_3 : cX0_findSays.data.toList.drop 68 = dktX0_findSays_3 := dk_seg dksX0_findSays_2 23 rfl rfl
theorem dX0_findSays_0 : decode cX0_findSays 0 = .ok (.iconst 0, 1) := dk_3 (dk_at dksX0_findSays_0 0 rfl rfl)
theorem dX0_findSays_1 : decode cX0_findSays 1 = .ok (.istore_n 1, 1) := dk_60 (dk_at dksX0_findSays_0 1 rfl rfl)
theorem dX0_findSays_2 : decode cX0_findSays 2 = .ok (.iload_n 1, 1) := dk_27 (dk_at dksX0_findSays_0 2 rfl rfl)
theorem dX0_findSays_3 : decode cX0_findSays 3 = .ok (.sipush 495, 3) := dk_17 1 239 (dk_at dksX0_findSays_0 3 rfl rfl)
theorem dX0_findSays_6 : decode cX0_findSays 6 = .ok (.if_icmp .ge 81, 3) := dk_162 0 81 (dk_at dksX0_findSays_0 6 rfl rfl)
theorem dX0_findSays_9 : decode cX0_findSays 9 = .ok (.aload_n 0, 1) := dk_42 (dk_at dksX0_findSays_0 9 rfl rfl)
theorem dX0_findSays_10 : decode cX0_findSays 10 = .ok (.getfield 80, 3) := dk_180 0 80 (dk_at dksX0_findSays_0 10 rfl rfl)
theorem dX0_findSays_13 : decode cX0_findSays 13 = .ok (.aload_n 0, 1) := dk_42 (dk_at dksX0_findSays_0 13 rfl rfl)
theorem dX0_findSays_14 : decode cX0_findSays 14 = .ok (.getfield 67, 3) := dk_180 0 67 (dk_at dksX0_findSays_0 14 rfl rfl)
theorem dX0_findSays_17 : decode cX0_findSays 17 = .ok (.iload_n 1, 1) := dk_27 (dk_at dksX0_findSays_0 17 rfl rfl)
theorem dX0_findSays_18 : decode cX0_findSays 18 = .ok (.iaload, 1) := dk_46 (dk_at dksX0_findSays_0 18 rfl rfl)
theorem dX0_findSays_19 : decode cX0_findSays 19 = .ok (.aload_n 0, 1) := dk_42 (dk_at dksX0_findSays_0 19 rfl rfl)
theorem dX0_findSays_20 : decode cX0_findSays 20 = .ok (.getfield 42, 3) := dk_180 0 42 (dk_at dksX0_findSays_0 20 rfl rfl)
theorem dX0_findSays_23 : decode cX0_findSays 23 = .ok (.invokevirtual 182, 3) := dk_182 0 182 (dk_at dksX0_findSays_1 0 rfl rfl)
theorem dX0_findSays_26 : decode cX0_findSays 26 = .ok (.aload_n 0, 1) := dk_42 (dk_at dksX0_findSays_1 3 rfl rfl)
theorem dX0_findSays_27 : decode cX0_findSays 27 = .ok (.getfield 42, 3) := dk_180 0 42 (dk_at dksX0_findSays_1 4 rfl rfl)
theorem dX0_findSays_30 : decode cX0_findSays 30 = .ok (.getfield 185, 3) := dk_180 0 185 (dk_at dksX0_findSays_1 7 rfl rfl)
theorem dX0_findSays_33 : decode cX0_findSays 33 = .ok (.invokevirtual 188, 3) := dk_182 0 188 (dk_at dksX0_findSays_1 10 rfl rfl)
theorem dX0_findSays_36 : decode cX0_findSays 36 = .ok (.aload_n 0, 1) := dk_42 (dk_at dksX0_findSays_1 13 rfl rfl)
theorem dX0_findSays_37 : decode cX0_findSays 37 = .ok (.getfield 84, 3) := dk_180 0 84 (dk_at dksX0_findSays_1 14 rfl rfl)
theorem dX0_findSays_40 : decode cX0_findSays 40 = .ok (.iload_n 1, 1) := dk_27 (dk_at dksX0_findSays_1 17 rfl rfl)
theorem dX0_findSays_41 : decode cX0_findSays 41 = .ok (.aload_n 0, 1) := dk_42 (dk_at dksX0_findSays_1 18 rfl rfl)
theorem dX0_findSays_42 : decode cX0_findSays 42 = .ok (.getfield 42, 3) := dk_180 0 42 (dk_at dksX0_findSays_1 19 rfl rfl)
theorem dX0_findSays_45 : decode cX0_findSays 45 = .ok (.getfield 191, 3) := dk_180 0 191 (dk_at dksX0_findSays_2 0 rfl rfl)
theorem dX0_findSays_48 : decode cX0_findSays 48 = .ok (.getfield 162, 3) := dk_180 0 162 (dk_at dksX0_findSays_2 3 rfl rfl)
theorem dX0_findSays_51 : decode cX0_findSays 51 = .ok (.ifnonnull 7, 3) := dk_199 0 7 (dk_at dksX0_findSays_2 6 rfl rfl)
theorem dX0_findSays_54 : decode cX0_findSays 54 = .ok (.iconst 1, 1) := dk_4 (dk_at dksX0_findSays_2 9 rfl rfl)
theorem dX0_findSays_55 : decode cX0_findSays 55 = .ok (.goto 25, 3) := dk_167 0 25 (dk_at dksX0_findSays_2 10 rfl rfl)
theorem dX0_findSays_58 : decode cX0_findSays 58 = .ok (.aload_n 0, 1) := dk_42 (dk_at dksX0_findSays_2 13 rfl rfl)
theorem dX0_findSays_59 : decode cX0_findSays 59 = .ok (.getfield 42, 3) := dk_180 0 42 (dk_at dksX0_findSays_2 14 rfl rfl)
theorem dX0_findSays_62 : decode cX0_findSays 62 = .ok (.getfield 191, 3) := dk_180 0 191 (dk_at dksX0_findSays_2 17 rfl rfl)
theorem dX0_findSays_65 : decode cX0_findSays 65 = .ok (.getfield 162, 3) := dk_180 0 162 (dk_at dksX0_findSays_2 20 rfl rfl)
theorem dX0_findSays_68 : decode cX0_findSays 68 = .ok (.checkcast 195, 3) := dk_192 0 195 (dk_at dksX0_findSays_3 0 rfl rfl)
theorem dX0_findSays_71 : decode cX0_findSays 71 = .ok (.aload_n 0, 1) := dk_42 (dk_at dksX0_findSays_3 3 rfl rfl)
theorem dX0_findSays_72 : decode cX0_findSays 72 = .ok (.getfield 80, 3) := dk_180 0 80 (dk_at dksX0_findSays_3 4 rfl rfl)
theorem dX0_findSays_75 : decode cX0_findSays 75 = .ok (.invokeinterface 197 2, 5) := by decide +kernel
theorem dX0_findSays_80 : decode cX0_findSays 80 = .ok (.iastore, 1) := dk_79 (dk_at dksX0_findSays_3 12 rfl rfl)
theorem dX0_findSays_81 : decode cX0_findSays 81 = .ok (.iinc 1 1, 3) := dk_132 1 1 (dk_at dksX0_findSays_3 13 rfl rfl)
theorem dX0_findSays_84 : decode cX0_findSays 84 = .ok (.goto (-82), 3) := dk_167 255 174 (dk_at dksX0_findSays_3 16 rfl rfl)
theorem dX0_findSays_87 : decode cX0_findSays 87 = .ok (.return_, 1) := dk_177 (dk_at dksX0_findSays_3 19 rfl rfl)
abbrev cX0_has : ByteArray := prog_1_method_3_code
def yX0_has : MethodName := ⟨RX0, "has", "(II)Z"⟩
def dkwX0_has_0 : List UInt8 := [26, 27, 122, 4, 126, 4, 160, 0, 7, 4, 167, 0, 4, 3, 172]
abbrev dktX0_has_0 : List UInt8 := dkwX0_has_0 ++ []
theorem dksX0_has_0 : cX0_has.data.toList.drop 0 = dktX0_has_0 := by decide +kernel
theorem dX0_has_0 : decode cX0_has 0 = .ok (.iload_n 0, 1) := dk_26 (dk_at dksX0_has_0 0 rfl rfl)
theorem dX0_has_1 : decode cX0_has 1 = .ok (.iload_n 1, 1) := dk_27 (dk_at dksX0_has_0 1 rfl rfl)
theorem dX0_has_2 : decode cX0_has 2 = .ok (.ishr, 1) := dk_122 (dk_at dksX0_has_0 2 rfl rfl)
theorem dX0_has_3 : decode cX0_has 3 = .ok (.iconst 1, 1) := dk_4 (dk_at dksX0_has_0 3 rfl rfl)
theorem dX0_has_4 : decode cX0_has 4 = .ok (.iand, 1) := dk_126 (dk_at dksX0_has_0 4 rfl rfl)
theorem dX0_has_5 : decode cX0_has 5 = .ok (.iconst 1, 1) := dk_4 (dk_at dksX0_has_0 5 rfl rfl)
theorem dX0_has_6 : decode cX0_has 6 = .ok (.if_icmp .ne 7, 3) := dk_160 0 7 (dk_at dksX0_has_0 6 rfl rfl)
theorem dX0_has_9 : decode cX0_has 9 = .ok (.iconst 1, 1) := dk_4 (dk_at dksX0_has_0 9 rfl rfl)
theorem dX0_has_10 : decode cX0_has 10 = .ok (.goto 4, 3) := dk_167 0 4 (dk_at dksX0_has_0 10 rfl rfl)
theorem dX0_has_13 : decode cX0_has 13 = .ok (.iconst 0, 1) := dk_3 (dk_at dksX0_has_0 13 rfl rfl)
theorem dX0_has_14 : decode cX0_has 14 = .ok (.ireturn, 1) := dk_172 (dk_at dksX0_has_0 14 rfl rfl)
abbrev cX0_findLiked : ByteArray := prog_1_method_21_code
def yX0_findLiked : MethodName := ⟨RX0, "findLiked", "(LSlipWeeks$Cross;)I"⟩
def dkwX0_findLiked_1 : List UInt8 := [42, 180, 0, 87, 29, 46, 96, 61, 132, 3, 1, 167, 255, 225, 28, 172]
abbrev dktX0_findLiked_1 : List UInt8 := dkwX0_findLiked_1 ++ []
def dkwX0_findLiked_0 : List UInt8 := [3, 61, 3, 62, 29, 17, 1, 239, 162, 0, 30, 42, 180, 0, 87, 29, 42, 43, 29, 182, 0, 214, 79, 28]
abbrev dktX0_findLiked_0 : List UInt8 := dkwX0_findLiked_0 ++ dktX0_findLiked_1
theorem dksX0_findLiked_0 : cX0_findLiked.data.toList.drop 0 = dktX0_findLiked_0 := by decide +kernel
theorem dksX0_findLiked_1 : cX0_findLiked.data.toList.drop 24 = dktX0_findLiked_1 := dk_seg dksX0_findLiked_0 24 rfl rfl
theorem dX0_findLiked_0 : decode cX0_findLiked 0 = .ok (.iconst 0, 1) := dk_3 (dk_at dksX0_findLiked_0 0 rfl rfl)
theorem dX0_findLiked_1 : decode cX0_findLiked 1 = .ok (.istore_n 2, 1) := dk_61 (dk_at dksX0_findLiked_0 1 rfl rfl)
theorem dX0_findLiked_2 : decode cX0_findLiked 2 = .ok (.iconst 0, 1) := dk_3 (dk_at dksX0_findLiked_0 2 rfl rfl)
theorem dX0_findLiked_3 : decode cX0_findLiked 3 = .ok (.istore_n 3, 1) := dk_62 (dk_at dksX0_findLiked_0 3 rfl rfl)
theorem dX0_findLiked_4 : decode cX0_findLiked 4 = .ok (.iload_n 3, 1) := dk_29 (dk_at dksX0_findLiked_0 4 rfl rfl)
theorem dX0_findLiked_5 : decode cX0_findLiked 5 = .ok (.sipush 495, 3) := dk_17 1 239 (dk_at dksX0_findLiked_0 5 rfl rfl)
theorem dX0_findLiked_8 : decode cX0_findLiked 8 = .ok (.if_icmp .ge 30, 3) := dk_162 0 30 (dk_at dksX0_findLiked_0 8 rfl rfl)
theorem dX0_findLiked_11 : decode cX0_findLiked 11 = .ok (.aload_n 0, 1) := dk_42 (dk_at dksX0_findLiked_0 11 rfl rfl)
theorem dX0_findLiked_12 : decode cX0_findLiked 12 = .ok (.getfield 87, 3) := dk_180 0 87 (dk_at dksX0_findLiked_0 12 rfl rfl)
theorem dX0_findLiked_15 : decode cX0_findLiked 15 = .ok (.iload_n 3, 1) := dk_29 (dk_at dksX0_findLiked_0 15 rfl rfl)
theorem dX0_findLiked_16 : decode cX0_findLiked 16 = .ok (.aload_n 0, 1) := dk_42 (dk_at dksX0_findLiked_0 16 rfl rfl)
theorem dX0_findLiked_17 : decode cX0_findLiked 17 = .ok (.aload_n 1, 1) := dk_43 (dk_at dksX0_findLiked_0 17 rfl rfl)
theorem dX0_findLiked_18 : decode cX0_findLiked 18 = .ok (.iload_n 3, 1) := dk_29 (dk_at dksX0_findLiked_0 18 rfl rfl)
theorem dX0_findLiked_19 : decode cX0_findLiked 19 = .ok (.invokevirtual 214, 3) := dk_182 0 214 (dk_at dksX0_findLiked_0 19 rfl rfl)
theorem dX0_findLiked_22 : decode cX0_findLiked 22 = .ok (.iastore, 1) := dk_79 (dk_at dksX0_findLiked_0 22 rfl rfl)
theorem dX0_findLiked_23 : decode cX0_findLiked 23 = .ok (.iload_n 2, 1) := dk_28 (dk_at dksX0_findLiked_0 23 rfl rfl)
theorem dX0_findLiked_24 : decode cX0_findLiked 24 = .ok (.aload_n 0, 1) := dk_42 (dk_at dksX0_findLiked_1 0 rfl rfl)
theorem dX0_findLiked_25 : decode cX0_findLiked 25 = .ok (.getfield 87, 3) := dk_180 0 87 (dk_at dksX0_findLiked_1 1 rfl rfl)
theorem dX0_findLiked_28 : decode cX0_findLiked 28 = .ok (.iload_n 3, 1) := dk_29 (dk_at dksX0_findLiked_1 4 rfl rfl)
theorem dX0_findLiked_29 : decode cX0_findLiked 29 = .ok (.iaload, 1) := dk_46 (dk_at dksX0_findLiked_1 5 rfl rfl)
theorem dX0_findLiked_30 : decode cX0_findLiked 30 = .ok (.iadd, 1) := dk_96 (dk_at dksX0_findLiked_1 6 rfl rfl)
theorem dX0_findLiked_31 : decode cX0_findLiked 31 = .ok (.istore_n 2, 1) := dk_61 (dk_at dksX0_findLiked_1 7 rfl rfl)
theorem dX0_findLiked_32 : decode cX0_findLiked 32 = .ok (.iinc 3 1, 3) := dk_132 3 1 (dk_at dksX0_findLiked_1 8 rfl rfl)
theorem dX0_findLiked_35 : decode cX0_findLiked 35 = .ok (.goto (-31), 3) := dk_167 255 225 (dk_at dksX0_findLiked_1 11 rfl rfl)
theorem dX0_findLiked_38 : decode cX0_findLiked 38 = .ok (.iload_n 2, 1) := dk_28 (dk_at dksX0_findLiked_1 14 rfl rfl)
theorem dX0_findLiked_39 : decode cX0_findLiked 39 = .ok (.ireturn, 1) := dk_172 (dk_at dksX0_findLiked_1 15 rfl rfl)
abbrev cX0_likesOf : ByteArray := prog_1_method_20_code
def yX0_likesOf : MethodName := ⟨RX0, "likesOf", "(LSlipWeeks$Cross;I)I"⟩
def dkwX0_likesOf_2 : List UInt8 := [181, 0, 208, 43, 42, 180, 0, 73, 182, 0, 210, 172]
abbrev dktX0_likesOf_2 : List UInt8 := dkwX0_likesOf_2 ++ []
def dkwX0_likesOf_1 : List UInt8 := [180, 0, 73, 42, 180, 0, 42, 182, 0, 182, 181, 0, 206, 42, 180, 0, 73, 42, 180, 0, 84, 28, 46]
abbrev dktX0_likesOf_1 : List UInt8 := dkwX0_likesOf_1 ++ dktX0_likesOf_2
def dkwX0_likesOf_0 : List UInt8 := [42, 180, 0, 73, 42, 180, 0, 67, 28, 46, 181, 0, 200, 42, 180, 0, 73, 28, 181, 0, 203, 42]
abbrev dktX0_likesOf_0 : List UInt8 := dkwX0_likesOf_0 ++ dktX0_likesOf_1
theorem dksX0_likesOf_0 : cX0_likesOf.data.toList.drop 0 = dktX0_likesOf_0 := by decide +kernel
theorem dksX0_likesOf_1 : cX0_likesOf.data.toList.drop 22 = dktX0_likesOf_1 := dk_seg dksX0_likesOf_0 22 rfl rfl
theorem dksX0_likesOf_2 : cX0_likesOf.data.toList.drop 45 = dktX0_likesOf_2 := dk_seg dksX0_likesOf_1 23 rfl rfl
theorem dX0_likesOf_0 : decode cX0_likesOf 0 = .ok (.aload_n 0, 1) := dk_42 (dk_at dksX0_likesOf_0 0 rfl rfl)
theorem dX0_likesOf_1 : decode cX0_likesOf 1 = .ok (.getfield 73, 3) := dk_180 0 73 (dk_at dksX0_likesOf_0 1 rfl rfl)
theorem dX0_likesOf_4 : decode cX0_likesOf 4 = .ok (.aload_n 0, 1) := dk_42 (dk_at dksX0_likesOf_0 4 rfl rfl)
theorem dX0_likesOf_5 : decode cX0_likesOf 5 = .ok (.getfield 67, 3) := dk_180 0 67 (dk_at dksX0_likesOf_0 5 rfl rfl)
theorem dX0_likesOf_8 : decode cX0_likesOf 8 = .ok (.iload_n 2, 1) := dk_28 (dk_at dksX0_likesOf_0 8 rfl rfl)
theorem dX0_likesOf_9 : decode cX0_likesOf 9 = .ok (.iaload, 1) := dk_46 (dk_at dksX0_likesOf_0 9 rfl rfl)
theorem dX0_likesOf_10 : decode cX0_likesOf 10 = .ok (.putfield 200, 3) := dk_181 0 200 (dk_at dksX0_likesOf_0 10 rfl rfl)
theorem dX0_likesOf_13 : decode cX0_likesOf 13 = .ok (.aload_n 0, 1) := dk_42 (dk_at dksX0_likesOf_0 13 rfl rfl)
theorem dX0_likesOf_14 : decode cX0_likesOf 14 = .ok (.getfield 73, 3) := dk_180 0 73 (dk_at dksX0_likesOf_0 14 rfl rfl)
theorem dX0_likesOf_17 : decode cX0_likesOf 17 = .ok (.iload_n 2, 1) := dk_28 (dk_at dksX0_likesOf_0 17 rfl rfl)
theorem dX0_likesOf_18 : decode cX0_likesOf 18 = .ok (.putfield 203, 3) := dk_181 0 203 (dk_at dksX0_likesOf_0 18 rfl rfl)
theorem dX0_likesOf_21 : decode cX0_likesOf 21 = .ok (.aload_n 0, 1) := dk_42 (dk_at dksX0_likesOf_0 21 rfl rfl)
theorem dX0_likesOf_22 : decode cX0_likesOf 22 = .ok (.getfield 73, 3) := dk_180 0 73 (dk_at dksX0_likesOf_1 0 rfl rfl)
theorem dX0_likesOf_25 : decode cX0_likesOf 25 = .ok (.aload_n 0, 1) := dk_42 (dk_at dksX0_likesOf_1 3 rfl rfl)
theorem dX0_likesOf_26 : decode cX0_likesOf 26 = .ok (.getfield 42, 3) := dk_180 0 42 (dk_at dksX0_likesOf_1 4 rfl rfl)
theorem dX0_likesOf_29 : decode cX0_likesOf 29 = .ok (.invokevirtual 182, 3) := dk_182 0 182 (dk_at dksX0_likesOf_1 7 rfl rfl)
theorem dX0_likesOf_32 : decode cX0_likesOf 32 = .ok (.putfield 206, 3) := dk_181 0 206 (dk_at dksX0_likesOf_1 10 rfl rfl)
theorem dX0_likesOf_35 : decode cX0_likesOf 35 = .ok (.aload_n 0, 1) := dk_42 (dk_at dksX0_likesOf_1 13 rfl rfl)
theorem dX0_likesOf_36 : decode cX0_likesOf 36 = .ok (.getfield 73, 3) := dk_180 0 73 (dk_at dksX0_likesOf_1 14 rfl rfl)
theorem dX0_likesOf_39 : decode cX0_likesOf 39 = .ok (.aload_n 0, 1) := dk_42 (dk_at dksX0_likesOf_1 17 rfl rfl)
theorem dX0_likesOf_40 : decode cX0_likesOf 40 = .ok (.getfield 84, 3) := dk_180 0 84 (dk_at dksX0_likesOf_1 18 rfl rfl)
theorem dX0_likesOf_43 : decode cX0_likesOf 43 = .ok (.iload_n 2, 1) := dk_28 (dk_at dksX0_likesOf_1 21 rfl rfl)
theorem dX0_likesOf_44 : decode cX0_likesOf 44 = .ok (.iaload, 1) := dk_46 (dk_at dksX0_likesOf_1 22 rfl rfl)
theorem dX0_likesOf_45 : decode cX0_likesOf 45 = .ok (.putfield 208, 3) := dk_181 0 208 (dk_at dksX0_likesOf_2 0 rfl rfl)
theorem dX0_likesOf_48 : decode cX0_likesOf 48 = .ok (.aload_n 1, 1) := dk_43 (dk_at dksX0_likesOf_2 3 rfl rfl)
theorem dX0_likesOf_49 : decode cX0_likesOf 49 = .ok (.aload_n 0, 1) := dk_42 (dk_at dksX0_likesOf_2 4 rfl rfl)
theorem dX0_likesOf_50 : decode cX0_likesOf 50 = .ok (.getfield 73, 3) := dk_180 0 73 (dk_at dksX0_likesOf_2 5 rfl rfl)
theorem dX0_likesOf_53 : decode cX0_likesOf 53 = .ok (.invokevirtual 210, 3) := dk_182 0 210 (dk_at dksX0_likesOf_2 8 rfl rfl)
theorem dX0_likesOf_56 : decode cX0_likesOf 56 = .ok (.ireturn, 1) := dk_172 (dk_at dksX0_likesOf_2 11 rfl rfl)
abbrev cX0_crossedBy : ByteArray := prog_1_method_22_code
def yX0_crossedBy : MethodName := ⟨RX0, "crossedBy", "(LSlipWeeks$Cross;II)I"⟩
def dkwX0_crossedBy_0 : List UInt8 := [28, 154, 0, 7, 3, 167, 0, 15, 42, 180, 0, 176, 133, 27, 133, 105, 28, 133, 109, 136, 172]
abbrev dktX0_crossedBy_0 : List UInt8 := dkwX0_crossedBy_0 ++ []
theorem dksX0_crossedBy_0 : cX0_crossedBy.data.toList.drop 0 = dktX0_crossedBy_0 := by decide +kernel
theorem dX0_crossedBy_0 : decode cX0_crossedBy 0 = .ok (.iload_n 2, 1) := dk_28 (dk_at dksX0_crossedBy_0 0 rfl rfl)
theorem dX0_crossedBy_1 : decode cX0_crossedBy 1 = .ok (.ifCond .ne 7, 3) := dk_154 0 7 (dk_at dksX0_crossedBy_0 1 rfl rfl)
theorem dX0_crossedBy_4 : decode cX0_crossedBy 4 = .ok (.iconst 0, 1) := dk_3 (dk_at dksX0_crossedBy_0 4 rfl rfl)
theorem dX0_crossedBy_5 : decode cX0_crossedBy 5 = .ok (.goto 15, 3) := dk_167 0 15 (dk_at dksX0_crossedBy_0 5 rfl rfl)
theorem dX0_crossedBy_8 : decode cX0_crossedBy 8 = .ok (.aload_n 0, 1) := dk_42 (dk_at dksX0_crossedBy_0 8 rfl rfl)
theorem dX0_crossedBy_9 : decode cX0_crossedBy 9 = .ok (.getfield 176, 3) := dk_180 0 176 (dk_at dksX0_crossedBy_0 9 rfl rfl)
theorem dX0_crossedBy_12 : decode cX0_crossedBy 12 = .ok (.i2l, 1) := dk_133 (dk_at dksX0_crossedBy_0 12 rfl rfl)
theorem dX0_crossedBy_13 : decode cX0_crossedBy 13 = .ok (.iload_n 1, 1) := dk_27 (dk_at dksX0_crossedBy_0 13 rfl rfl)
theorem dX0_crossedBy_14 : decode cX0_crossedBy 14 = .ok (.i2l, 1) := dk_133 (dk_at dksX0_crossedBy_0 14 rfl rfl)
theorem dX0_crossedBy_15 : decode cX0_crossedBy 15 = .ok (.lmul, 1) := dk_105 (dk_at dksX0_crossedBy_0 15 rfl rfl)
theorem dX0_crossedBy_16 : decode cX0_crossedBy 16 = .ok (.iload_n 2, 1) := dk_28 (dk_at dksX0_crossedBy_0 16 rfl rfl)
theorem dX0_crossedBy_17 : decode cX0_crossedBy 17 = .ok (.i2l, 1) := dk_133 (dk_at dksX0_crossedBy_0 17 rfl rfl)
theorem dX0_crossedBy_18 : decode cX0_crossedBy 18 = .ok (.ldiv, 1) := dk_109 (dk_at dksX0_crossedBy_0 18 rfl rfl)
theorem dX0_crossedBy_19 : decode cX0_crossedBy 19 = .ok (.l2i, 1) := dk_136 (dk_at dksX0_crossedBy_0 19 rfl rfl)
theorem dX0_crossedBy_20 : decode cX0_crossedBy 20 = .ok (.ireturn, 1) := dk_172 (dk_at dksX0_crossedBy_0 20 rfl rfl)
abbrev cX0_crossed : ByteArray := prog_1_method_28_code
def yX0_crossed : MethodName := ⟨RX0, "crossed", "(II)I"⟩
def dkwX0_crossed_3 : List UInt8 := [180, 0, 87, 28, 46, 21, 4, 184, 0, 225, 172, 78, 42, 45, 182, 0, 145, 172]
abbrev dktX0_crossed_3 : List UInt8 := dkwX0_crossed_3 ++ []
def dkwX0_crossed_2 : List UInt8 := [180, 0, 90, 28, 46, 172, 42, 180, 0, 42, 27, 182, 0, 134, 78, 42, 45, 182, 0, 221, 54, 4, 45, 42]
abbrev dktX0_crossed_2 : List UInt8 := dkwX0_crossed_2 ++ dktX0_crossed_3
def dkwX0_crossed_1 : List UInt8 := [184, 0, 149, 153, 0, 7, 4, 167, 0, 4, 3, 3, 184, 0, 119, 42, 182, 0, 249, 27, 156, 0, 10, 42]
abbrev dktX0_crossed_1 : List UInt8 := dkwX0_crossed_1 ++ dktX0_crossed_2
def dkwX0_crossed_0 : List UInt8 := [27, 133, 20, 0, 252, 42, 180, 0, 42, 180, 0, 131, 4, 100, 133, 184, 0, 125, 153, 0, 14, 28]
abbrev dktX0_crossed_0 : List UInt8 := dkwX0_crossed_0 ++ dktX0_crossed_1
theorem dksX0_crossed_0 : cX0_crossed.data.toList.drop 0 = dktX0_crossed_0 := by decide +kernel
theorem dksX0_crossed_1 : cX0_crossed.data.toList.drop 22 = dktX0_crossed_1 := dk_seg dksX0_crossed_0 22 rfl rfl
theorem dksX0_crossed_2 : cX0_crossed.data.toList.drop 46 = dktX0_crossed_2 := dk_seg dksX0_crossed_1 24 rfl rfl
theorem dksX0_crossed_3 : cX0_crossed.data.toList.drop 70 = dktX0_crossed_3 := dk_seg dksX0_crossed_2 24 rfl rfl
theorem dX0_crossed_0 : decode cX0_crossed 0 = .ok (.iload_n 1, 1) := dk_27 (dk_at dksX0_crossed_0 0 rfl rfl)
theorem dX0_crossed_1 : decode cX0_crossed 1 = .ok (.i2l, 1) := dk_133 (dk_at dksX0_crossed_0 1 rfl rfl)
theorem dX0_crossed_2 : decode cX0_crossed 2 = .ok (.ldc2_w 252, 3) := dk_20 0 252 (dk_at dksX0_crossed_0 2 rfl rfl)
theorem dX0_crossed_5 : decode cX0_crossed 5 = .ok (.aload_n 0, 1) := dk_42 (dk_at dksX0_crossed_0 5 rfl rfl)
theorem dX0_crossed_6 : decode cX0_crossed 6 = .ok (.getfield 42, 3) := dk_180 0 42 (dk_at dksX0_crossed_0 6 rfl rfl)
theorem dX0_crossed_9 : decode cX0_crossed 9 = .ok (.getfield 131, 3) := dk_180 0 131 (dk_at dksX0_crossed_0 9 rfl rfl)
theorem dX0_crossed_12 : decode cX0_crossed 12 = .ok (.iconst 1, 1) := dk_4 (dk_at dksX0_crossed_0 12 rfl rfl)
theorem dX0_crossed_13 : decode cX0_crossed 13 = .ok (.isub, 1) := dk_100 (dk_at dksX0_crossed_0 13 rfl rfl)
theorem dX0_crossed_14 : decode cX0_crossed 14 = .ok (.i2l, 1) := dk_133 (dk_at dksX0_crossed_0 14 rfl rfl)
theorem dX0_crossed_15 : decode cX0_crossed 15 = .ok (.invokestatic 125, 3) := dk_184 0 125 (dk_at dksX0_crossed_0 15 rfl rfl)
theorem dX0_crossed_18 : decode cX0_crossed 18 = .ok (.ifCond .eq 14, 3) := dk_153 0 14 (dk_at dksX0_crossed_0 18 rfl rfl)
theorem dX0_crossed_21 : decode cX0_crossed 21 = .ok (.iload_n 2, 1) := dk_28 (dk_at dksX0_crossed_0 21 rfl rfl)
theorem dX0_crossed_22 : decode cX0_crossed 22 = .ok (.invokestatic 149, 3) := dk_184 0 149 (dk_at dksX0_crossed_1 0 rfl rfl)
theorem dX0_crossed_25 : decode cX0_crossed 25 = .ok (.ifCond .eq 7, 3) := dk_153 0 7 (dk_at dksX0_crossed_1 3 rfl rfl)
theorem dX0_crossed_28 : decode cX0_crossed 28 = .ok (.iconst 1, 1) := dk_4 (dk_at dksX0_crossed_1 6 rfl rfl)
theorem dX0_crossed_29 : decode cX0_crossed 29 = .ok (.goto 4, 3) := dk_167 0 4 (dk_at dksX0_crossed_1 7 rfl rfl)
theorem dX0_crossed_32 : decode cX0_crossed 32 = .ok (.iconst 0, 1) := dk_3 (dk_at dksX0_crossed_1 10 rfl rfl)
theorem dX0_crossed_33 : decode cX0_crossed 33 = .ok (.iconst 0, 1) := dk_3 (dk_at dksX0_crossed_1 11 rfl rfl)
theorem dX0_crossed_34 : decode cX0_crossed 34 = .ok (.invokestatic 119, 3) := dk_184 0 119 (dk_at dksX0_crossed_1 12 rfl rfl)
theorem dX0_crossed_37 : decode cX0_crossed 37 = .ok (.aload_n 0, 1) := dk_42 (dk_at dksX0_crossed_1 15 rfl rfl)
theorem dX0_crossed_38 : decode cX0_crossed 38 = .ok (.invokevirtual 249, 3) := dk_182 0 249 (dk_at dksX0_crossed_1 16 rfl rfl)
theorem dX0_crossed_41 : decode cX0_crossed 41 = .ok (.iload_n 1, 1) := dk_27 (dk_at dksX0_crossed_1 19 rfl rfl)
theorem dX0_crossed_42 : decode cX0_crossed 42 = .ok (.ifCond .ge 10, 3) := dk_156 0 10 (dk_at dksX0_crossed_1 20 rfl rfl)
theorem dX0_crossed_45 : decode cX0_crossed 45 = .ok (.aload_n 0, 1) := dk_42 (dk_at dksX0_crossed_1 23 rfl rfl)
theorem dX0_crossed_46 : decode cX0_crossed 46 = .ok (.getfield 90, 3) := dk_180 0 90 (dk_at dksX0_crossed_2 0 rfl rfl)
theorem dX0_crossed_49 : decode cX0_crossed 49 = .ok (.iload_n 2, 1) := dk_28 (dk_at dksX0_crossed_2 3 rfl rfl)
theorem dX0_crossed_50 : decode cX0_crossed 50 = .ok (.iaload, 1) := dk_46 (dk_at dksX0_crossed_2 4 rfl rfl)
theorem dX0_crossed_51 : decode cX0_crossed 51 = .ok (.ireturn, 1) := dk_172 (dk_at dksX0_crossed_2 5 rfl rfl)
theorem dX0_crossed_52 : decode cX0_crossed 52 = .ok (.aload_n 0, 1) := dk_42 (dk_at dksX0_crossed_2 6 rfl rfl)
theorem dX0_crossed_53 : decode cX0_crossed 53 = .ok (.getfield 42, 3) := dk_180 0 42 (dk_at dksX0_crossed_2 7 rfl rfl)
theorem dX0_crossed_56 : decode cX0_crossed 56 = .ok (.iload_n 1, 1) := dk_27 (dk_at dksX0_crossed_2 10 rfl rfl)
theorem dX0_crossed_57 : decode cX0_crossed 57 = .ok (.invokevirtual 134, 3) := dk_182 0 134 (dk_at dksX0_crossed_2 11 rfl rfl)
theorem dX0_crossed_60 : decode cX0_crossed 60 = .ok (.astore_n 3, 1) := dk_78 (dk_at dksX0_crossed_2 14 rfl rfl)
theorem dX0_crossed_61 : decode cX0_crossed 61 = .ok (.aload_n 0, 1) := dk_42 (dk_at dksX0_crossed_2 15 rfl rfl)
theorem dX0_crossed_62 : decode cX0_crossed 62 = .ok (.aload_n 3, 1) := dk_45 (dk_at dksX0_crossed_2 16 rfl rfl)
theorem dX0_crossed_63 : decode cX0_crossed 63 = .ok (.invokevirtual 221, 3) := dk_182 0 221 (dk_at dksX0_crossed_2 17 rfl rfl)
theorem dX0_crossed_66 : decode cX0_crossed 66 = .ok (.istore 4, 2) := dk_54 4 (dk_at dksX0_crossed_2 20 rfl rfl)
theorem dX0_crossed_68 : decode cX0_crossed 68 = .ok (.aload_n 3, 1) := dk_45 (dk_at dksX0_crossed_2 22 rfl rfl)
theorem dX0_crossed_69 : decode cX0_crossed 69 = .ok (.aload_n 0, 1) := dk_42 (dk_at dksX0_crossed_2 23 rfl rfl)
theorem dX0_crossed_70 : decode cX0_crossed 70 = .ok (.getfield 87, 3) := dk_180 0 87 (dk_at dksX0_crossed_3 0 rfl rfl)
theorem dX0_crossed_73 : decode cX0_crossed 73 = .ok (.iload_n 2, 1) := dk_28 (dk_at dksX0_crossed_3 3 rfl rfl)
theorem dX0_crossed_74 : decode cX0_crossed 74 = .ok (.iaload, 1) := dk_46 (dk_at dksX0_crossed_3 4 rfl rfl)
theorem dX0_crossed_75 : decode cX0_crossed 75 = .ok (.iload 4, 2) := dk_21 4 (dk_at dksX0_crossed_3 5 rfl rfl)
theorem dX0_crossed_77 : decode cX0_crossed 77 = .ok (.invokestatic 225, 3) := dk_184 0 225 (dk_at dksX0_crossed_3 7 rfl rfl)
theorem dX0_crossed_80 : decode cX0_crossed 80 = .ok (.ireturn, 1) := dk_172 (dk_at dksX0_crossed_3 10 rfl rfl)
theorem dX0_crossed_81 : decode cX0_crossed 81 = .ok (.astore_n 3, 1) := dk_78 (dk_at dksX0_crossed_3 11 rfl rfl)
theorem dX0_crossed_82 : decode cX0_crossed 82 = .ok (.aload_n 0, 1) := dk_42 (dk_at dksX0_crossed_3 12 rfl rfl)
theorem dX0_crossed_83 : decode cX0_crossed 83 = .ok (.aload_n 3, 1) := dk_45 (dk_at dksX0_crossed_3 13 rfl rfl)
theorem dX0_crossed_84 : decode cX0_crossed 84 = .ok (.invokevirtual 145, 3) := dk_182 0 145 (dk_at dksX0_crossed_3 14 rfl rfl)
theorem dX0_crossed_87 : decode cX0_crossed 87 = .ok (.ireturn, 1) := dk_172 (dk_at dksX0_crossed_3 17 rfl rfl)
abbrev cX0_buys : ByteArray := prog_1_method_29_code
def yX0_buys : MethodName := ⟨RX0, "buys", "(II)I"⟩
def dkwX0_buys_7 : List UInt8 := [79, 42, 3, 181, 0, 166, 42, 180, 0, 42, 180, 0, 235, 29, 46, 172, 78, 42, 45, 182, 0, 145, 172]
abbrev dktX0_buys_7 : List UInt8 := dkwX0_buys_7 ++ []
def dkwX0_buys_6 : List UInt8 := [180, 0, 42, 89, 180, 0, 229, 4, 96, 181, 0, 229, 42, 180, 0, 42, 180, 0, 235, 29, 92, 46, 28, 96]
abbrev dktX0_buys_6 : List UInt8 := dkwX0_buys_6 ++ dktX0_buys_7
def dkwX0_buys_5 : List UInt8 := [160, 0, 36, 42, 180, 0, 42, 180, 0, 232, 29, 27, 79, 42, 180, 0, 42, 180, 0, 235, 29, 3, 79, 42]
abbrev dktX0_buys_5 : List UInt8 := dkwX0_buys_5 ++ dktX0_buys_6
def dkwX0_buys_4 : List UInt8 := [29, 16, 40, 162, 0, 7, 4, 167, 0, 4, 3, 4, 184, 0, 119, 29, 42, 180, 0, 42, 180, 0, 229]
abbrev dktX0_buys_4 : List UInt8 := dkwX0_buys_4 ++ dktX0_buys_5
def dkwX0_buys_3 : List UInt8 := [180, 0, 42, 180, 0, 235, 29, 46, 28, 96, 19, 1, 0, 163, 0, 7, 4, 167, 0, 18, 3, 167, 0, 14]
abbrev dktX0_buys_3 : List UInt8 := dkwX0_buys_3 ++ dktX0_buys_4
def dkwX0_buys_2 : List UInt8 := [29, 46, 27, 159, 0, 9, 132, 3, 1, 167, 255, 229, 29, 42, 180, 0, 42, 180, 0, 229, 162, 0, 28, 42]
abbrev dktX0_buys_2 : List UInt8 := dkwX0_buys_2 ++ dktX0_buys_3
def dkwX0_buys_1 : List UInt8 := [3, 184, 0, 119, 3, 62, 29, 42, 180, 0, 42, 180, 0, 229, 162, 0, 22, 42, 180, 0, 42, 180, 0, 232]
abbrev dktX0_buys_1 : List UInt8 := dkwX0_buys_1 ++ dktX0_buys_2
def dkwX0_buys_0 : List UInt8 := [27, 184, 0, 149, 153, 0, 19, 28, 133, 10, 20, 0, 254, 184, 0, 125, 153, 0, 7, 4, 167, 0, 4, 3]
abbrev dktX0_buys_0 : List UInt8 := dkwX0_buys_0 ++ dktX0_buys_1
theorem dksX0_buys_0 : cX0_buys.data.toList.drop 0 = dktX0_buys_0 := by decide +kernel
theorem dksX0_buys_1 : cX0_buys.data.toList.drop 24 = dktX0_buys_1 := dk_seg dksX0_buys_0 24 rfl rfl
theorem dksX0_buys_2 : cX0_buys.data.toList.drop 48 = dktX0_buys_2 := dk_seg dksX0_buys_1 24 rfl rfl
theorem dksX0_buys_3 : cX0_buys.data.toList.drop 72 = dktX0_buys_3 := dk_seg dksX0_buys_2 24 rfl rfl
theorem dksX0_buys_4 : cX0_buys.data.toList.drop 96 = dktX0_buys_4 := dk_seg dksX0_buys_3 24 rfl rfl
theorem dksX0_buys_5 : cX0_buys.data.toList.drop 119 = dktX0_buys_5 := dk_seg dksX0_buys_4 23 rfl rfl
theorem dksX0_buys_6 : cX0_buys.data.toList.drop 143 = dktX0_buys_6 := dk_seg dksX0_buys_5 24 rfl rfl
theorem dksX0_buys_7 : cX0_buys.data.toList.drop 167 = dktX0_buys_7 := dk_seg dksX0_buys_6 24 rfl rfl
theorem dX0_buys_0 : decode cX0_buys 0 = .ok (.iload_n 1, 1) := dk_27 (dk_at dksX0_buys_0 0 rfl rfl)
theorem dX0_buys_1 : decode cX0_buys 1 = .ok (.invokestatic 149, 3) := dk_184 0 149 (dk_at dksX0_buys_0 1 rfl rfl)
theorem dX0_buys_4 : decode cX0_buys 4 = .ok (.ifCond .eq 19, 3) := dk_153 0 19 (dk_at dksX0_buys_0 4 rfl rfl)
theorem dX0_buys_7 : decode cX0_buys 7 = .ok (.iload_n 2, 1) := dk_28 (dk_at dksX0_buys_0 7 rfl rfl)
theorem dX0_buys_8 : decode cX0_buys 8 = .ok (.i2l, 1) := dk_133 (dk_at dksX0_buys_0 8 rfl rfl)
theorem dX0_buys_9 : decode cX0_buys 9 = .ok (.lconst 1, 1) := dk_10 (dk_at dksX0_buys_0 9 rfl rfl)
theorem dX0_buys_10 : decode cX0_buys 10 = .ok (.ldc2_w 254, 3) := dk_20 0 254 (dk_at dksX0_buys_0 10 rfl rfl)
theorem dX0_buys_13 : decode cX0_buys 13 = .ok (.invokestatic 125, 3) := dk_184 0 125 (dk_at dksX0_buys_0 13 rfl rfl)
theorem dX0_buys_16 : decode cX0_buys 16 = .ok (.ifCond .eq 7, 3) := dk_153 0 7 (dk_at dksX0_buys_0 16 rfl rfl)
theorem dX0_buys_19 : decode cX0_buys 19 = .ok (.iconst 1, 1) := dk_4 (dk_at dksX0_buys_0 19 rfl rfl)
theorem dX0_buys_20 : decode cX0_buys 20 = .ok (.goto 4, 3) := dk_167 0 4 (dk_at dksX0_buys_0 20 rfl rfl)
theorem dX0_buys_23 : decode cX0_buys 23 = .ok (.iconst 0, 1) := dk_3 (dk_at dksX0_buys_0 23 rfl rfl)
theorem dX0_buys_24 : decode cX0_buys 24 = .ok (.iconst 0, 1) := dk_3 (dk_at dksX0_buys_1 0 rfl rfl)
theorem dX0_buys_25 : decode cX0_buys 25 = .ok (.invokestatic 119, 3) := dk_184 0 119 (dk_at dksX0_buys_1 1 rfl rfl)
theorem dX0_buys_28 : decode cX0_buys 28 = .ok (.iconst 0, 1) := dk_3 (dk_at dksX0_buys_1 4 rfl rfl)
theorem dX0_buys_29 : decode cX0_buys 29 = .ok (.istore_n 3, 1) := dk_62 (dk_at dksX0_buys_1 5 rfl rfl)
theorem dX0_buys_30 : decode cX0_buys 30 = .ok (.iload_n 3, 1) := dk_29 (dk_at dksX0_buys_1 6 rfl rfl)
theorem dX0_buys_31 : decode cX0_buys 31 = .ok (.aload_n 0, 1) := dk_42 (dk_at dksX0_buys_1 7 rfl rfl)
theorem dX0_buys_32 : decode cX0_buys 32 = .ok (.getfield 42, 3) := dk_180 0 42 (dk_at dksX0_buys_1 8 rfl rfl)
theorem dX0_buys_35 : decode cX0_buys 35 = .ok (.getfield 229, 3) := dk_180 0 229 (dk_at dksX0_buys_1 11 rfl rfl)
theorem dX0_buys_38 : decode cX0_buys 38 = .ok (.if_icmp .ge 22, 3) := dk_162 0 22 (dk_at dksX0_buys_1 14 rfl rfl)
theorem dX0_buys_41 : decode cX0_buys 41 = .ok (.aload_n 0, 1) := dk_42 (dk_at dksX0_buys_1 17 rfl rfl)
theorem dX0_buys_42 : decode cX0_buys 42 = .ok (.getfield 42, 3) := dk_180 0 42 (dk_at dksX0_buys_1 18 rfl rfl)
theorem dX0_buys_45 : decode cX0_buys 45 = .ok (.getfield 232, 3) := dk_180 0 232 (dk_at dksX0_buys_1 21 rfl rfl)
theorem dX0_buys_48 : decode cX0_buys 48 = .ok (.iload_n 3, 1) := dk_29 (dk_at dksX0_buys_2 0 rfl rfl)
theorem dX0_buys_49 : decode cX0_buys 49 = .ok (.iaload, 1) := dk_46 (dk_at dksX0_buys_2 1 rfl rfl)
theorem dX0_buys_50 : decode cX0_buys 50 = .ok (.iload_n 1, 1) := dk_27 (dk_at dksX0_buys_2 2 rfl rfl)
theorem dX0_buys_51 : decode cX0_buys 51 = .ok (.if_icmp .eq 9, 3) := dk_159 0 9 (dk_at dksX0_buys_2 3 rfl rfl)
theorem dX0_buys_54 : decode cX0_buys 54 = .ok (.iinc 3 1, 3) := dk_132 3 1 (dk_at dksX0_buys_2 6 rfl rfl)
theorem dX0_buys_57 : decode cX0_buys 57 = .ok (.goto (-27), 3) := dk_167 255 229 (dk_at dksX0_buys_2 9 rfl rfl)
theorem dX0_buys_60 : decode cX0_buys 60 = .ok (.iload_n 3, 1) := dk_29 (dk_at dksX0_buys_2 12 rfl rfl)
theorem dX0_buys_61 : decode cX0_buys 61 = .ok (.aload_n 0, 1) := dk_42 (dk_at dksX0_buys_2 13 rfl rfl)
theorem dX0_buys_62 : decode cX0_buys 62 = .ok (.getfield 42, 3) := dk_180 0 42 (dk_at dksX0_buys_2 14 rfl rfl)
theorem dX0_buys_65 : decode cX0_buys 65 = .ok (.getfield 229, 3) := dk_180 0 229 (dk_at dksX0_buys_2 17 rfl rfl)
theorem dX0_buys_68 : decode cX0_buys 68 = .ok (.if_icmp .ge 28, 3) := dk_162 0 28 (dk_at dksX0_buys_2 20 rfl rfl)
theorem dX0_buys_71 : decode cX0_buys 71 = .ok (.aload_n 0, 1) := dk_42 (dk_at dksX0_buys_2 23 rfl rfl)
theorem dX0_buys_72 : decode cX0_buys 72 = .ok (.getfield 42, 3) := dk_180 0 42 (dk_at dksX0_buys_3 0 rfl rfl)
theorem dX0_buys_75 : decode cX0_buys 75 = .ok (.getfield 235, 3) := dk_180 0 235 (dk_at dksX0_buys_3 3 rfl rfl)
theorem dX0_buys_78 : decode cX0_buys 78 = .ok (.iload_n 3, 1) := dk_29 (dk_at dksX0_buys_3 6 rfl rfl)
theorem dX0_buys_79 : decode cX0_buys 79 = .ok (.iaload, 1) := dk_46 (dk_at dksX0_buys_3 7 rfl rfl)
theorem dX0_buys_80 : decode cX0_buys 80 = .ok (.iload_n 2, 1) := dk_28 (dk_at dksX0_buys_3 8 rfl rfl)
theorem dX0_buys_81 : decode cX0_buys 81 = .ok (.iadd, 1) := dk_96 (dk_at dksX0_buys_3 9 rfl rfl)
theorem dX0_buys_82 : decode cX0_buys 82 = .ok (.ldc_w 256, 3) := dk_19 1 0 (dk_at dksX0_buys_3 10 rfl rfl)
theorem dX0_buys_85 : decode cX0_buys 85 = .ok (.if_icmp .gt 7, 3) := dk_163 0 7 (dk_at dksX0_buys_3 13 rfl rfl)
theorem dX0_buys_88 : decode cX0_buys 88 = .ok (.iconst 1, 1) := dk_4 (dk_at dksX0_buys_3 16 rfl rfl)
theorem dX0_buys_89 : decode cX0_buys 89 = .ok (.goto 18, 3) := dk_167 0 18 (dk_at dksX0_buys_3 17 rfl rfl)
theorem dX0_buys_92 : decode cX0_buys 92 = .ok (.iconst 0, 1) := dk_3 (dk_at dksX0_buys_3 20 rfl rfl)
theorem dX0_buys_93 : decode cX0_buys 93 = .ok (.goto 14, 3) := dk_167 0 14 (dk_at dksX0_buys_3 21 rfl rfl)
theorem dX0_buys_96 : decode cX0_buys 96 = .ok (.iload_n 3, 1) := dk_29 (dk_at dksX0_buys_4 0 rfl rfl)
theorem dX0_buys_97 : decode cX0_buys 97 = .ok (.bipush 40, 2) := dk_16 40 (dk_at dksX0_buys_4 1 rfl rfl)
theorem dX0_buys_99 : decode cX0_buys 99 = .ok (.if_icmp .ge 7, 3) := dk_162 0 7 (dk_at dksX0_buys_4 3 rfl rfl)
theorem dX0_buys_102 : decode cX0_buys 102 = .ok (.iconst 1, 1) := dk_4 (dk_at dksX0_buys_4 6 rfl rfl)
theorem dX0_buys_103 : decode cX0_buys 103 = .ok (.goto 4, 3) := dk_167 0 4 (dk_at dksX0_buys_4 7 rfl rfl)
theorem dX0_buys_106 : decode cX0_buys 106 = .ok (.iconst 0, 1) := dk_3 (dk_at dksX0_buys_4 10 rfl rfl)
theorem dX0_buys_107 : decode cX0_buys 107 = .ok (.iconst 1, 1) := dk_4 (dk_at dksX0_buys_4 11 rfl rfl)
theorem dX0_buys_108 : decode cX0_buys 108 = .ok (.invokestatic 119, 3) := dk_184 0 119 (dk_at dksX0_buys_4 12 rfl rfl)
theorem dX0_buys_111 : decode cX0_buys 111 = .ok (.iload_n 3, 1) := dk_29 (dk_at dksX0_buys_4 15 rfl rfl)
theorem dX0_buys_112 : decode cX0_buys 112 = .ok (.aload_n 0, 1) := dk_42 (dk_at dksX0_buys_4 16 rfl rfl)
theorem dX0_buys_113 : decode cX0_buys 113 = .ok (.getfield 42, 3) := dk_180 0 42 (dk_at dksX0_buys_4 17 rfl rfl)
theorem dX0_buys_116 : decode cX0_buys 116 = .ok (.getfield 229, 3) := dk_180 0 229 (dk_at dksX0_buys_4 20 rfl rfl)
theorem dX0_buys_119 : decode cX0_buys 119 = .ok (.if_icmp .ne 36, 3) := dk_160 0 36 (dk_at dksX0_buys_5 0 rfl rfl)
theorem dX0_buys_122 : decode cX0_buys 122 = .ok (.aload_n 0, 1) := dk_42 (dk_at dksX0_buys_5 3 rfl rfl)
theorem dX0_buys_123 : decode cX0_buys 123 = .ok (.getfield 42, 3) := dk_180 0 42 (dk_at dksX0_buys_5 4 rfl rfl)
theorem dX0_buys_126 : decode cX0_buys 126 = .ok (.getfield 232, 3) := dk_180 0 232 (dk_at dksX0_buys_5 7 rfl rfl)
theorem dX0_buys_129 : decode cX0_buys 129 = .ok (.iload_n 3, 1) := dk_29 (dk_at dksX0_buys_5 10 rfl rfl)
theorem dX0_buys_130 : decode cX0_buys 130 = .ok (.iload_n 1, 1) := dk_27 (dk_at dksX0_buys_5 11 rfl rfl)
theorem dX0_buys_131 : decode cX0_buys 131 = .ok (.iastore, 1) := dk_79 (dk_at dksX0_buys_5 12 rfl rfl)
theorem dX0_buys_132 : decode cX0_buys 132 = .ok (.aload_n 0, 1) := dk_42 (dk_at dksX0_buys_5 13 rfl rfl)
theorem dX0_buys_133 : decode cX0_buys 133 = .ok (.getfield 42, 3) := dk_180 0 42 (dk_at dksX0_buys_5 14 rfl rfl)
theorem dX0_buys_136 : decode cX0_buys 136 = .ok (.getfield 235, 3) := dk_180 0 235 (dk_at dksX0_buys_5 17 rfl rfl)
theorem dX0_buys_139 : decode cX0_buys 139 = .ok (.iload_n 3, 1) := dk_29 (dk_at dksX0_buys_5 20 rfl rfl)
theorem dX0_buys_140 : decode cX0_buys 140 = .ok (.iconst 0, 1) := dk_3 (dk_at dksX0_buys_5 21 rfl rfl)
theorem dX0_buys_141 : decode cX0_buys 141 = .ok (.iastore, 1) := dk_79 (dk_at dksX0_buys_5 22 rfl rfl)
theorem dX0_buys_142 : decode cX0_buys 142 = .ok (.aload_n 0, 1) := dk_42 (dk_at dksX0_buys_5 23 rfl rfl)
theorem dX0_buys_143 : decode cX0_buys 143 = .ok (.getfield 42, 3) := dk_180 0 42 (dk_at dksX0_buys_6 0 rfl rfl)
theorem dX0_buys_146 : decode cX0_buys 146 = .ok (.dup, 1) := dk_89 (dk_at dksX0_buys_6 3 rfl rfl)
theorem dX0_buys_147 : decode cX0_buys 147 = .ok (.getfield 229, 3) := dk_180 0 229 (dk_at dksX0_buys_6 4 rfl rfl)
theorem dX0_buys_150 : decode cX0_buys 150 = .ok (.iconst 1, 1) := dk_4 (dk_at dksX0_buys_6 7 rfl rfl)
theorem dX0_buys_151 : decode cX0_buys 151 = .ok (.iadd, 1) := dk_96 (dk_at dksX0_buys_6 8 rfl rfl)
theorem dX0_buys_152 : decode cX0_buys 152 = .ok (.putfield 229, 3) := dk_181 0 229 (dk_at dksX0_buys_6 9 rfl rfl)
theorem dX0_buys_155 : decode cX0_buys 155 = .ok (.aload_n 0, 1) := dk_42 (dk_at dksX0_buys_6 12 rfl rfl)
theorem dX0_buys_156 : decode cX0_buys 156 = .ok (.getfield 42, 3) := dk_180 0 42 (dk_at dksX0_buys_6 13 rfl rfl)
theorem dX0_buys_159 : decode cX0_buys 159 = .ok (.getfield 235, 3) := dk_180 0 235 (dk_at dksX0_buys_6 16 rfl rfl)
theorem dX0_buys_162 : decode cX0_buys 162 = .ok (.iload_n 3, 1) := dk_29 (dk_at dksX0_buys_6 19 rfl rfl)
theorem dX0_buys_163 : decode cX0_buys 163 = .ok (.dup2, 1) := dk_92 (dk_at dksX0_buys_6 20 rfl rfl)
theorem dX0_buys_164 : decode cX0_buys 164 = .ok (.iaload, 1) := dk_46 (dk_at dksX0_buys_6 21 rfl rfl)
theorem dX0_buys_165 : decode cX0_buys 165 = .ok (.iload_n 2, 1) := dk_28 (dk_at dksX0_buys_6 22 rfl rfl)
theorem dX0_buys_166 : decode cX0_buys 166 = .ok (.iadd, 1) := dk_96 (dk_at dksX0_buys_6 23 rfl rfl)
theorem dX0_buys_167 : decode cX0_buys 167 = .ok (.iastore, 1) := dk_79 (dk_at dksX0_buys_7 0 rfl rfl)
theorem dX0_buys_168 : decode cX0_buys 168 = .ok (.aload_n 0, 1) := dk_42 (dk_at dksX0_buys_7 1 rfl rfl)
theorem dX0_buys_169 : decode cX0_buys 169 = .ok (.iconst 0, 1) := dk_3 (dk_at dksX0_buys_7 2 rfl rfl)
theorem dX0_buys_170 : decode cX0_buys 170 = .ok (.putfield 166, 3) := dk_181 0 166 (dk_at dksX0_buys_7 3 rfl rfl)
theorem dX0_buys_173 : decode cX0_buys 173 = .ok (.aload_n 0, 1) := dk_42 (dk_at dksX0_buys_7 6 rfl rfl)
theorem dX0_buys_174 : decode cX0_buys 174 = .ok (.getfield 42, 3) := dk_180 0 42 (dk_at dksX0_buys_7 7 rfl rfl)
theorem dX0_buys_177 : decode cX0_buys 177 = .ok (.getfield 235, 3) := dk_180 0 235 (dk_at dksX0_buys_7 10 rfl rfl)
theorem dX0_buys_180 : decode cX0_buys 180 = .ok (.iload_n 3, 1) := dk_29 (dk_at dksX0_buys_7 13 rfl rfl)
theorem dX0_buys_181 : decode cX0_buys 181 = .ok (.iaload, 1) := dk_46 (dk_at dksX0_buys_7 14 rfl rfl)
theorem dX0_buys_182 : decode cX0_buys 182 = .ok (.ireturn, 1) := dk_172 (dk_at dksX0_buys_7 15 rfl rfl)
theorem dX0_buys_183 : decode cX0_buys 183 = .ok (.astore_n 3, 1) := dk_78 (dk_at dksX0_buys_7 16 rfl rfl)
theorem dX0_buys_184 : decode cX0_buys 184 = .ok (.aload_n 0, 1) := dk_42 (dk_at dksX0_buys_7 17 rfl rfl)
theorem dX0_buys_185 : decode cX0_buys 185 = .ok (.aload_n 3, 1) := dk_45 (dk_at dksX0_buys_7 18 rfl rfl)
theorem dX0_buys_186 : decode cX0_buys 186 = .ok (.invokevirtual 145, 3) := dk_182 0 145 (dk_at dksX0_buys_7 19 rfl rfl)
theorem dX0_buys_189 : decode cX0_buys 189 = .ok (.ireturn, 1) := dk_172 (dk_at dksX0_buys_7 22 rfl rfl)
abbrev cX0_returned : ByteArray := prog_1_method_30_code
def yX0_returned : MethodName := ⟨RX0, "returned", "()I"⟩
def dkwX0_returned_1 : List UInt8 := [46, 96, 60, 132, 2, 1, 167, 255, 230, 42, 180, 0, 42, 3, 181, 0, 229, 42, 3, 181, 0, 166, 27, 172]
abbrev dktX0_returned_1 : List UInt8 := dkwX0_returned_1 ++ []
def dkwX0_returned_0 : List UInt8 := [3, 60, 3, 61, 28, 42, 180, 0, 42, 180, 0, 229, 162, 0, 21, 27, 42, 180, 0, 42, 180, 0, 235, 28]
abbrev dktX0_returned_0 : List UInt8 := dkwX0_returned_0 ++ dktX0_returned_1
theorem dksX0_returned_0 : cX0_returned.data.toList.drop 0 = dktX0_returned_0 := by decide +kernel
theorem dksX0_returned_1 : cX0_returned.data.toList.drop 24 = dktX0_returned_1 := dk_seg dksX0_returned_0 24 rfl rfl
theorem dX0_returned_0 : decode cX0_returned 0 = .ok (.iconst 0, 1) := dk_3 (dk_at dksX0_returned_0 0 rfl rfl)
theorem dX0_returned_1 : decode cX0_returned 1 = .ok (.istore_n 1, 1) := dk_60 (dk_at dksX0_returned_0 1 rfl rfl)
theorem dX0_returned_2 : decode cX0_returned 2 = .ok (.iconst 0, 1) := dk_3 (dk_at dksX0_returned_0 2 rfl rfl)
theorem dX0_returned_3 : decode cX0_returned 3 = .ok (.istore_n 2, 1) := dk_61 (dk_at dksX0_returned_0 3 rfl rfl)
theorem dX0_returned_4 : decode cX0_returned 4 = .ok (.iload_n 2, 1) := dk_28 (dk_at dksX0_returned_0 4 rfl rfl)
theorem dX0_returned_5 : decode cX0_returned 5 = .ok (.aload_n 0, 1) := dk_42 (dk_at dksX0_returned_0 5 rfl rfl)
theorem dX0_returned_6 : decode cX0_returned 6 = .ok (.getfield 42, 3) := dk_180 0 42 (dk_at dksX0_returned_0 6 rfl rfl)
theorem dX0_returned_9 : decode cX0_returned 9 = .ok (.getfield 229, 3) := dk_180 0 229 (dk_at dksX0_returned_0 9 rfl rfl)
theorem dX0_returned_12 : decode cX0_returned 12 = .ok (.if_icmp .ge 21, 3) := dk_162 0 21 (dk_at dksX0_returned_0 12 rfl rfl)
theorem dX0_returned_15 : decode cX0_returned 15 = .ok (.iload_n 1, 1) := dk_27 (dk_at dksX0_returned_0 15 rfl rfl)
theorem dX0_returned_16 : decode cX0_returned 16 = .ok (.aload_n 0, 1) := dk_42 (dk_at dksX0_returned_0 16 rfl rfl)
theorem dX0_returned_17 : decode cX0_returned 17 = .ok (.getfield 42, 3) := dk_180 0 42 (dk_at dksX0_returned_0 17 rfl rfl)
theorem dX0_returned_20 : decode cX0_returned 20 = .ok (.getfield 235, 3) := dk_180 0 235 (dk_at dksX0_returned_0 20 rfl rfl)
theorem dX0_returned_23 : decode cX0_returned 23 = .ok (.iload_n 2, 1) := dk_28 (dk_at dksX0_returned_0 23 rfl rfl)
theorem dX0_returned_24 : decode cX0_returned 24 = .ok (.iaload, 1) := dk_46 (dk_at dksX0_returned_1 0 rfl rfl)
theorem dX0_returned_25 : decode cX0_returned 25 = .ok (.iadd, 1) := dk_96 (dk_at dksX0_returned_1 1 rfl rfl)
theorem dX0_returned_26 : decode cX0_returned 26 = .ok (.istore_n 1, 1) := dk_60 (dk_at dksX0_returned_1 2 rfl rfl)
theorem dX0_returned_27 : decode cX0_returned 27 = .ok (.iinc 2 1, 3) := dk_132 2 1 (dk_at dksX0_returned_1 3 rfl rfl)
theorem dX0_returned_30 : decode cX0_returned 30 = .ok (.goto (-26), 3) := dk_167 255 230 (dk_at dksX0_returned_1 6 rfl rfl)
theorem dX0_returned_33 : decode cX0_returned 33 = .ok (.aload_n 0, 1) := dk_42 (dk_at dksX0_returned_1 9 rfl rfl)
theorem dX0_returned_34 : decode cX0_returned 34 = .ok (.getfield 42, 3) := dk_180 0 42 (dk_at dksX0_returned_1 10 rfl rfl)
theorem dX0_returned_37 : decode cX0_returned 37 = .ok (.iconst 0, 1) := dk_3 (dk_at dksX0_returned_1 13 rfl rfl)
theorem dX0_returned_38 : decode cX0_returned 38 = .ok (.putfield 229, 3) := dk_181 0 229 (dk_at dksX0_returned_1 14 rfl rfl)
theorem dX0_returned_41 : decode cX0_returned 41 = .ok (.aload_n 0, 1) := dk_42 (dk_at dksX0_returned_1 17 rfl rfl)
theorem dX0_returned_42 : decode cX0_returned 42 = .ok (.iconst 0, 1) := dk_3 (dk_at dksX0_returned_1 18 rfl rfl)
theorem dX0_returned_43 : decode cX0_returned 43 = .ok (.putfield 166, 3) := dk_181 0 166 (dk_at dksX0_returned_1 19 rfl rfl)
theorem dX0_returned_46 : decode cX0_returned 46 = .ok (.iload_n 1, 1) := dk_27 (dk_at dksX0_returned_1 22 rfl rfl)
theorem dX0_returned_47 : decode cX0_returned 47 = .ok (.ireturn, 1) := dk_172 (dk_at dksX0_returned_1 23 rfl rfl)
abbrev cX0_feed : ByteArray := prog_1_method_31_code
def yX0_feed : MethodName := ⟨RX0, "feed", "(II)I"⟩
def dkwX0_feed_3 : List UInt8 := [167, 255, 223, 42, 180, 1, 3, 172, 78, 42, 45, 182, 0, 145, 172]
abbrev dktX0_feed_3 : List UInt8 := dkwX0_feed_3 ++ []
def dkwX0_feed_2 : List UInt8 := [180, 1, 3, 27, 16, 8, 29, 104, 122, 145, 84, 42, 89, 180, 1, 3, 4, 96, 181, 1, 3, 132, 3, 255]
abbrev dktX0_feed_2 : List UInt8 := dkwX0_feed_2 ++ dktX0_feed_3
def dkwX0_feed_1 : List UInt8 := [4, 167, 0, 4, 3, 4, 184, 0, 119, 28, 4, 100, 62, 29, 155, 0, 35, 42, 180, 0, 51, 42]
abbrev dktX0_feed_1 : List UInt8 := dkwX0_feed_1 ++ dktX0_feed_2
def dkwX0_feed_0 : List UInt8 := [28, 133, 10, 20, 1, 1, 184, 0, 125, 3, 184, 0, 119, 42, 180, 1, 3, 28, 96, 16, 60, 163, 0, 7]
abbrev dktX0_feed_0 : List UInt8 := dkwX0_feed_0 ++ dktX0_feed_1
theorem dksX0_feed_0 : cX0_feed.data.toList.drop 0 = dktX0_feed_0 := by decide +kernel
theorem dksX0_feed_1 : cX0_feed.data.toList.drop 24 = dktX0_feed_1 := dk_seg dksX0_feed_0 24 rfl rfl
theorem dksX0_feed_2 : cX0_feed.data.toList.drop 46 = dktX0_feed_2 := dk_seg dksX0_feed_1 22 rfl rfl
theorem dksX0_feed_3 : cX0_feed.data.toList.drop 70 = dktX0_feed_3 := dk_seg dksX0_feed_2 24 rfl rfl
theorem dX0_feed_0 : decode cX0_feed 0 = .ok (.iload_n 2, 1) := dk_28 (dk_at dksX0_feed_0 0 rfl rfl)
theorem dX0_feed_1 : decode cX0_feed 1 = .ok (.i2l, 1) := dk_133 (dk_at dksX0_feed_0 1 rfl rfl)
theorem dX0_feed_2 : decode cX0_feed 2 = .ok (.lconst 1, 1) := dk_10 (dk_at dksX0_feed_0 2 rfl rfl)
theorem dX0_feed_3 : decode cX0_feed 3 = .ok (.ldc2_w 257, 3) := dk_20 1 1 (dk_at dksX0_feed_0 3 rfl rfl)
theorem dX0_feed_6 : decode cX0_feed 6 = .ok (.invokestatic 125, 3) := dk_184 0 125 (dk_at dksX0_feed_0 6 rfl rfl)
theorem dX0_feed_9 : decode cX0_feed 9 = .ok (.iconst 0, 1) := dk_3 (dk_at dksX0_feed_0 9 rfl rfl)
theorem dX0_feed_10 : decode cX0_feed 10 = .ok (.invokestatic 119, 3) := dk_184 0 119 (dk_at dksX0_feed_0 10 rfl rfl)
theorem dX0_feed_13 : decode cX0_feed 13 = .ok (.aload_n 0, 1) := dk_42 (dk_at dksX0_feed_0 13 rfl rfl)
theorem dX0_feed_14 : decode cX0_feed 14 = .ok (.getfield 259, 3) := dk_180 1 3 (dk_at dksX0_feed_0 14 rfl rfl)
theorem dX0_feed_17 : decode cX0_feed 17 = .ok (.iload_n 2, 1) := dk_28 (dk_at dksX0_feed_0 17 rfl rfl)
theorem dX0_feed_18 : decode cX0_feed 18 = .ok (.iadd, 1) := dk_96 (dk_at dksX0_feed_0 18 rfl rfl)
theorem dX0_feed_19 : decode cX0_feed 19 = .ok (.bipush 60, 2) := dk_16 60 (dk_at dksX0_feed_0 19 rfl rfl)
theorem dX0_feed_21 : decode cX0_feed 21 = .ok (.if_icmp .gt 7, 3) := dk_163 0 7 (dk_at dksX0_feed_0 21 rfl rfl)
theorem dX0_feed_24 : decode cX0_feed 24 = .ok (.iconst 1, 1) := dk_4 (dk_at dksX0_feed_1 0 rfl rfl)
theorem dX0_feed_25 : decode cX0_feed 25 = .ok (.goto 4, 3) := dk_167 0 4 (dk_at dksX0_feed_1 1 rfl rfl)
theorem dX0_feed_28 : decode cX0_feed 28 = .ok (.iconst 0, 1) := dk_3 (dk_at dksX0_feed_1 4 rfl rfl)
theorem dX0_feed_29 : decode cX0_feed 29 = .ok (.iconst 1, 1) := dk_4 (dk_at dksX0_feed_1 5 rfl rfl)
theorem dX0_feed_30 : decode cX0_feed 30 = .ok (.invokestatic 119, 3) := dk_184 0 119 (dk_at dksX0_feed_1 6 rfl rfl)
theorem dX0_feed_33 : decode cX0_feed 33 = .ok (.iload_n 2, 1) := dk_28 (dk_at dksX0_feed_1 9 rfl rfl)
theorem dX0_feed_34 : decode cX0_feed 34 = .ok (.iconst 1, 1) := dk_4 (dk_at dksX0_feed_1 10 rfl rfl)
theorem dX0_feed_35 : decode cX0_feed 35 = .ok (.isub, 1) := dk_100 (dk_at dksX0_feed_1 11 rfl rfl)
theorem dX0_feed_36 : decode cX0_feed 36 = .ok (.istore_n 3, 1) := dk_62 (dk_at dksX0_feed_1 12 rfl rfl)
theorem dX0_feed_37 : decode cX0_feed 37 = .ok (.iload_n 3, 1) := dk_29 (dk_at dksX0_feed_1 13 rfl rfl)
theorem dX0_feed_38 : decode cX0_feed 38 = .ok (.ifCond .lt 35, 3) := dk_155 0 35 (dk_at dksX0_feed_1 14 rfl rfl)
theorem dX0_feed_41 : decode cX0_feed 41 = .ok (.aload_n 0, 1) := dk_42 (dk_at dksX0_feed_1 17 rfl rfl)
theorem dX0_feed_42 : decode cX0_feed 42 = .ok (.getfield 51, 3) := dk_180 0 51 (dk_at dksX0_feed_1 18 rfl rfl)
theorem dX0_feed_45 : decode cX0_feed 45 = .ok (.aload_n 0, 1) := dk_42 (dk_at dksX0_feed_1 21 rfl rfl)
theorem dX0_feed_46 : decode cX0_feed 46 = .ok (.getfield 259, 3) := dk_180 1 3 (dk_at dksX0_feed_2 0 rfl rfl)
theorem dX0_feed_49 : decode cX0_feed 49 = .ok (.iload_n 1, 1) := dk_27 (dk_at dksX0_feed_2 3 rfl rfl)
theorem dX0_feed_50 : decode cX0_feed 50 = .ok (.bipush 8, 2) := dk_16 8 (dk_at dksX0_feed_2 4 rfl rfl)
theorem dX0_feed_52 : decode cX0_feed 52 = .ok (.iload_n 3, 1) := dk_29 (dk_at dksX0_feed_2 6 rfl rfl)
theorem dX0_feed_53 : decode cX0_feed 53 = .ok (.imul, 1) := dk_104 (dk_at dksX0_feed_2 7 rfl rfl)
theorem dX0_feed_54 : decode cX0_feed 54 = .ok (.ishr, 1) := dk_122 (dk_at dksX0_feed_2 8 rfl rfl)
theorem dX0_feed_55 : decode cX0_feed 55 = .ok (.i2b, 1) := dk_145 (dk_at dksX0_feed_2 9 rfl rfl)
theorem dX0_feed_56 : decode cX0_feed 56 = .ok (.bastore, 1) := dk_84 (dk_at dksX0_feed_2 10 rfl rfl)
theorem dX0_feed_57 : decode cX0_feed 57 = .ok (.aload_n 0, 1) := dk_42 (dk_at dksX0_feed_2 11 rfl rfl)
theorem dX0_feed_58 : decode cX0_feed 58 = .ok (.dup, 1) := dk_89 (dk_at dksX0_feed_2 12 rfl rfl)
theorem dX0_feed_59 : decode cX0_feed 59 = .ok (.getfield 259, 3) := dk_180 1 3 (dk_at dksX0_feed_2 13 rfl rfl)
theorem dX0_feed_62 : decode cX0_feed 62 = .ok (.iconst 1, 1) := dk_4 (dk_at dksX0_feed_2 16 rfl rfl)
theorem dX0_feed_63 : decode cX0_feed 63 = .ok (.iadd, 1) := dk_96 (dk_at dksX0_feed_2 17 rfl rfl)
theorem dX0_feed_64 : decode cX0_feed 64 = .ok (.putfield 259, 3) := dk_181 1 3 (dk_at dksX0_feed_2 18 rfl rfl)
theorem dX0_feed_67 : decode cX0_feed 67 = .ok (.iinc 3 (-1), 3) := dk_132 3 255 (dk_at dksX0_feed_2 21 rfl rfl)
theorem dX0_feed_70 : decode cX0_feed 70 = .ok (.goto (-33), 3) := dk_167 255 223 (dk_at dksX0_feed_3 0 rfl rfl)
theorem dX0_feed_73 : decode cX0_feed 73 = .ok (.aload_n 0, 1) := dk_42 (dk_at dksX0_feed_3 3 rfl rfl)
theorem dX0_feed_74 : decode cX0_feed 74 = .ok (.getfield 259, 3) := dk_180 1 3 (dk_at dksX0_feed_3 4 rfl rfl)
theorem dX0_feed_77 : decode cX0_feed 77 = .ok (.ireturn, 1) := dk_172 (dk_at dksX0_feed_3 7 rfl rfl)
theorem dX0_feed_78 : decode cX0_feed 78 = .ok (.astore_n 3, 1) := dk_78 (dk_at dksX0_feed_3 8 rfl rfl)
theorem dX0_feed_79 : decode cX0_feed 79 = .ok (.aload_n 0, 1) := dk_42 (dk_at dksX0_feed_3 9 rfl rfl)
theorem dX0_feed_80 : decode cX0_feed 80 = .ok (.aload_n 3, 1) := dk_45 (dk_at dksX0_feed_3 10 rfl rfl)
theorem dX0_feed_81 : decode cX0_feed 81 = .ok (.invokevirtual 145, 3) := dk_182 0 145 (dk_at dksX0_feed_3 11 rfl rfl)
theorem dX0_feed_84 : decode cX0_feed 84 = .ok (.ireturn, 1) := dk_172 (dk_at dksX0_feed_3 14 rfl rfl)
abbrev cX0_wipe : ByteArray := prog_1_method_32_code
def yX0_wipe : MethodName := ⟨RX0, "wipe", "()I"⟩
def dkwX0_wipe_0 : List UInt8 := [42, 180, 1, 3, 60, 42, 3, 181, 1, 3, 27, 172]
abbrev dktX0_wipe_0 : List UInt8 := dkwX0_wipe_0 ++ []
theorem dksX0_wipe_0 : cX0_wipe.data.toList.drop 0 = dktX0_wipe_0 := by decide +kernel
theorem dX0_wipe_0 : decode cX0_wipe 0 = .ok (.aload_n 0, 1) := dk_42 (dk_at dksX0_wipe_0 0 rfl rfl)
theorem dX0_wipe_1 : decode cX0_wipe 1 = .ok (.getfield 259, 3) := dk_180 1 3 (dk_at dksX0_wipe_0 1 rfl rfl)
theorem dX0_wipe_4 : decode cX0_wipe 4 = .ok (.istore_n 1, 1) := dk_60 (dk_at dksX0_wipe_0 4 rfl rfl)
theorem dX0_wipe_5 : decode cX0_wipe 5 = .ok (.aload_n 0, 1) := dk_42 (dk_at dksX0_wipe_0 5 rfl rfl)
theorem dX0_wipe_6 : decode cX0_wipe 6 = .ok (.iconst 0, 1) := dk_3 (dk_at dksX0_wipe_0 6 rfl rfl)
theorem dX0_wipe_7 : decode cX0_wipe 7 = .ok (.putfield 259, 3) := dk_181 1 3 (dk_at dksX0_wipe_0 7 rfl rfl)
theorem dX0_wipe_10 : decode cX0_wipe 10 = .ok (.iload_n 1, 1) := dk_27 (dk_at dksX0_wipe_0 10 rfl rfl)
theorem dX0_wipe_11 : decode cX0_wipe 11 = .ok (.ireturn, 1) := dk_172 (dk_at dksX0_wipe_0 11 rfl rfl)
abbrev cX0_liking : ByteArray := prog_1_method_33_code
def yX0_liking : MethodName := ⟨RX0, "liking", "()I"⟩
def dkwX0_liking_2 : List UInt8 := [100, 172]
abbrev dktX0_liking_2 : List UInt8 := dkwX0_liking_2 ++ []
def dkwX0_liking_1 : List UInt8 := [182, 1, 11, 181, 0, 162, 42, 3, 181, 1, 3, 42, 3, 181, 0, 166, 3, 172, 76, 2, 43, 180, 1, 17]
abbrev dktX0_liking_1 : List UInt8 := dkwX0_liking_1 ++ dktX0_liking_2
def dkwX0_liking_0 : List UInt8 := [42, 180, 0, 42, 180, 0, 191, 187, 1, 6, 89, 42, 180, 0, 51, 42, 180, 1, 3, 183, 1, 8]
abbrev dktX0_liking_0 : List UInt8 := dkwX0_liking_0 ++ dktX0_liking_1
theorem dksX0_liking_0 : cX0_liking.data.toList.drop 0 = dktX0_liking_0 := by decide +kernel
theorem dksX0_liking_1 : cX0_liking.data.toList.drop 22 = dktX0_liking_1 := dk_seg dksX0_liking_0 22 rfl rfl
theorem dksX0_liking_2 : cX0_liking.data.toList.drop 46 = dktX0_liking_2 := dk_seg dksX0_liking_1 24 rfl rfl
theorem dX0_liking_0 : decode cX0_liking 0 = .ok (.aload_n 0, 1) := dk_42 (dk_at dksX0_liking_0 0 rfl rfl)
theorem dX0_liking_1 : decode cX0_liking 1 = .ok (.getfield 42, 3) := dk_180 0 42 (dk_at dksX0_liking_0 1 rfl rfl)
theorem dX0_liking_4 : decode cX0_liking 4 = .ok (.getfield 191, 3) := dk_180 0 191 (dk_at dksX0_liking_0 4 rfl rfl)
theorem dX0_liking_7 : decode cX0_liking 7 = .ok (.new 262, 3) := dk_187 1 6 (dk_at dksX0_liking_0 7 rfl rfl)
theorem dX0_liking_10 : decode cX0_liking 10 = .ok (.dup, 1) := dk_89 (dk_at dksX0_liking_0 10 rfl rfl)
theorem dX0_liking_11 : decode cX0_liking 11 = .ok (.aload_n 0, 1) := dk_42 (dk_at dksX0_liking_0 11 rfl rfl)
theorem dX0_liking_12 : decode cX0_liking 12 = .ok (.getfield 51, 3) := dk_180 0 51 (dk_at dksX0_liking_0 12 rfl rfl)
theorem dX0_liking_15 : decode cX0_liking 15 = .ok (.aload_n 0, 1) := dk_42 (dk_at dksX0_liking_0 15 rfl rfl)
theorem dX0_liking_16 : decode cX0_liking 16 = .ok (.getfield 259, 3) := dk_180 1 3 (dk_at dksX0_liking_0 16 rfl rfl)
theorem dX0_liking_19 : decode cX0_liking 19 = .ok (.invokespecial 264, 3) := dk_183 1 8 (dk_at dksX0_liking_0 19 rfl rfl)
theorem dX0_liking_22 : decode cX0_liking 22 = .ok (.invokevirtual 267, 3) := dk_182 1 11 (dk_at dksX0_liking_1 0 rfl rfl)
theorem dX0_liking_25 : decode cX0_liking 25 = .ok (.putfield 162, 3) := dk_181 0 162 (dk_at dksX0_liking_1 3 rfl rfl)
theorem dX0_liking_28 : decode cX0_liking 28 = .ok (.aload_n 0, 1) := dk_42 (dk_at dksX0_liking_1 6 rfl rfl)
theorem dX0_liking_29 : decode cX0_liking 29 = .ok (.iconst 0, 1) := dk_3 (dk_at dksX0_liking_1 7 rfl rfl)
theorem dX0_liking_30 : decode cX0_liking 30 = .ok (.putfield 259, 3) := dk_181 1 3 (dk_at dksX0_liking_1 8 rfl rfl)
theorem dX0_liking_33 : decode cX0_liking 33 = .ok (.aload_n 0, 1) := dk_42 (dk_at dksX0_liking_1 11 rfl rfl)
theorem dX0_liking_34 : decode cX0_liking 34 = .ok (.iconst 0, 1) := dk_3 (dk_at dksX0_liking_1 12 rfl rfl)
theorem dX0_liking_35 : decode cX0_liking 35 = .ok (.putfield 166, 3) := dk_181 0 166 (dk_at dksX0_liking_1 13 rfl rfl)
theorem dX0_liking_38 : decode cX0_liking 38 = .ok (.iconst 0, 1) := dk_3 (dk_at dksX0_liking_1 16 rfl rfl)
theorem dX0_liking_39 : decode cX0_liking 39 = .ok (.ireturn, 1) := dk_172 (dk_at dksX0_liking_1 17 rfl rfl)
theorem dX0_liking_40 : decode cX0_liking 40 = .ok (.astore_n 1, 1) := dk_76 (dk_at dksX0_liking_1 18 rfl rfl)
theorem dX0_liking_41 : decode cX0_liking 41 = .ok (.iconst (-1), 1) := dk_2 (dk_at dksX0_liking_1 19 rfl rfl)
theorem dX0_liking_42 : decode cX0_liking 42 = .ok (.aload_n 1, 1) := dk_43 (dk_at dksX0_liking_1 20 rfl rfl)
theorem dX0_liking_43 : decode cX0_liking 43 = .ok (.getfield 273, 3) := dk_180 1 17 (dk_at dksX0_liking_1 21 rfl rfl)
theorem dX0_liking_46 : decode cX0_liking 46 = .ok (.isub, 1) := dk_100 (dk_at dksX0_liking_2 0 rfl rfl)
theorem dX0_liking_47 : decode cX0_liking 47 = .ok (.ireturn, 1) := dk_172 (dk_at dksX0_liking_2 1 rfl rfl)
abbrev cX0_even : ByteArray := prog_1_method_34_code
def yX0_even : MethodName := ⟨RX0, "even", "()I"⟩
def dkwX0_even_1 : List UInt8 := [180, 0, 191, 1, 181, 0, 162, 42, 3, 181, 0, 166, 27, 172]
abbrev dktX0_even_1 : List UInt8 := dkwX0_even_1 ++ []
def dkwX0_even_0 : List UInt8 := [42, 180, 0, 42, 180, 0, 191, 180, 0, 162, 199, 0, 7, 3, 167, 0, 4, 4, 60, 42, 180, 0, 42]
abbrev dktX0_even_0 : List UInt8 := dkwX0_even_0 ++ dktX0_even_1
theorem dksX0_even_0 : cX0_even.data.toList.drop 0 = dktX0_even_0 := by decide +kernel
theorem dksX0_even_1 : cX0_even.data.toList.drop 23 = dktX0_even_1 := dk_seg dksX0_even_0 23 rfl rfl
theorem dX0_even_0 : decode cX0_even 0 = .ok (.aload_n 0, 1) := dk_42 (dk_at dksX0_even_0 0 rfl rfl)
theorem dX0_even_1 : decode cX0_even 1 = .ok (.getfield 42, 3) := dk_180 0 42 (dk_at dksX0_even_0 1 rfl rfl)
theorem dX0_even_4 : decode cX0_even 4 = .ok (.getfield 191, 3) := dk_180 0 191 (dk_at dksX0_even_0 4 rfl rfl)
theorem dX0_even_7 : decode cX0_even 7 = .ok (.getfield 162, 3) := dk_180 0 162 (dk_at dksX0_even_0 7 rfl rfl)
theorem dX0_even_10 : decode cX0_even 10 = .ok (.ifnonnull 7, 3) := dk_199 0 7 (dk_at dksX0_even_0 10 rfl rfl)
theorem dX0_even_13 : decode cX0_even 13 = .ok (.iconst 0, 1) := dk_3 (dk_at dksX0_even_0 13 rfl rfl)
theorem dX0_even_14 : decode cX0_even 14 = .ok (.goto 4, 3) := dk_167 0 4 (dk_at dksX0_even_0 14 rfl rfl)
theorem dX0_even_17 : decode cX0_even 17 = .ok (.iconst 1, 1) := dk_4 (dk_at dksX0_even_0 17 rfl rfl)
theorem dX0_even_18 : decode cX0_even 18 = .ok (.istore_n 1, 1) := dk_60 (dk_at dksX0_even_0 18 rfl rfl)
theorem dX0_even_19 : decode cX0_even 19 = .ok (.aload_n 0, 1) := dk_42 (dk_at dksX0_even_0 19 rfl rfl)
theorem dX0_even_20 : decode cX0_even 20 = .ok (.getfield 42, 3) := dk_180 0 42 (dk_at dksX0_even_0 20 rfl rfl)
theorem dX0_even_23 : decode cX0_even 23 = .ok (.getfield 191, 3) := dk_180 0 191 (dk_at dksX0_even_1 0 rfl rfl)
theorem dX0_even_26 : decode cX0_even 26 = .ok (.aconst_null, 1) := dk_1 (dk_at dksX0_even_1 3 rfl rfl)
theorem dX0_even_27 : decode cX0_even 27 = .ok (.putfield 162, 3) := dk_181 0 162 (dk_at dksX0_even_1 4 rfl rfl)
theorem dX0_even_30 : decode cX0_even 30 = .ok (.aload_n 0, 1) := dk_42 (dk_at dksX0_even_1 7 rfl rfl)
theorem dX0_even_31 : decode cX0_even 31 = .ok (.iconst 0, 1) := dk_3 (dk_at dksX0_even_1 8 rfl rfl)
theorem dX0_even_32 : decode cX0_even 32 = .ok (.putfield 166, 3) := dk_181 0 166 (dk_at dksX0_even_1 9 rfl rfl)
theorem dX0_even_35 : decode cX0_even 35 = .ok (.iload_n 1, 1) := dk_27 (dk_at dksX0_even_1 12 rfl rfl)
theorem dX0_even_36 : decode cX0_even 36 = .ok (.ireturn, 1) := dk_172 (dk_at dksX0_even_1 13 rfl rfl)
abbrev cX0_rule : ByteArray := prog_1_method_36_code
def yX0_rule : MethodName := ⟨RX0, "rule", "(II)I"⟩
def dkwX0_rule_1 : List UInt8 := [180, 1, 30, 27, 28, 79, 29, 172, 78, 42, 45, 182, 0, 145, 172]
abbrev dktX0_rule_1 : List UInt8 := dkwX0_rule_1 ++ []
def dkwX0_rule_0 : List UInt8 := [27, 28, 184, 1, 26, 3, 184, 0, 119, 42, 180, 0, 42, 180, 1, 30, 27, 46, 62, 42, 180, 0, 42]
abbrev dktX0_rule_0 : List UInt8 := dkwX0_rule_0 ++ dktX0_rule_1
theorem dksX0_rule_0 : cX0_rule.data.toList.drop 0 = dktX0_rule_0 := by decide +kernel
theorem dksX0_rule_1 : cX0_rule.data.toList.drop 23 = dktX0_rule_1 := dk_seg dksX0_rule_0 23 rfl rfl
theorem dX0_rule_0 : decode cX0_rule 0 = .ok (.iload_n 1, 1) := dk_27 (dk_at dksX0_rule_0 0 rfl rfl)
theorem dX0_rule_1 : decode cX0_rule 1 = .ok (.iload_n 2, 1) := dk_28 (dk_at dksX0_rule_0 1 rfl rfl)
theorem dX0_rule_2 : decode cX0_rule 2 = .ok (.invokestatic 282, 3) := dk_184 1 26 (dk_at dksX0_rule_0 2 rfl rfl)
theorem dX0_rule_5 : decode cX0_rule 5 = .ok (.iconst 0, 1) := dk_3 (dk_at dksX0_rule_0 5 rfl rfl)
theorem dX0_rule_6 : decode cX0_rule 6 = .ok (.invokestatic 119, 3) := dk_184 0 119 (dk_at dksX0_rule_0 6 rfl rfl)
theorem dX0_rule_9 : decode cX0_rule 9 = .ok (.aload_n 0, 1) := dk_42 (dk_at dksX0_rule_0 9 rfl rfl)
theorem dX0_rule_10 : decode cX0_rule 10 = .ok (.getfield 42, 3) := dk_180 0 42 (dk_at dksX0_rule_0 10 rfl rfl)
theorem dX0_rule_13 : decode cX0_rule 13 = .ok (.getfield 286, 3) := dk_180 1 30 (dk_at dksX0_rule_0 13 rfl rfl)
theorem dX0_rule_16 : decode cX0_rule 16 = .ok (.iload_n 1, 1) := dk_27 (dk_at dksX0_rule_0 16 rfl rfl)
theorem dX0_rule_17 : decode cX0_rule 17 = .ok (.iaload, 1) := dk_46 (dk_at dksX0_rule_0 17 rfl rfl)
theorem dX0_rule_18 : decode cX0_rule 18 = .ok (.istore_n 3, 1) := dk_62 (dk_at dksX0_rule_0 18 rfl rfl)
theorem dX0_rule_19 : decode cX0_rule 19 = .ok (.aload_n 0, 1) := dk_42 (dk_at dksX0_rule_0 19 rfl rfl)
theorem dX0_rule_20 : decode cX0_rule 20 = .ok (.getfield 42, 3) := dk_180 0 42 (dk_at dksX0_rule_0 20 rfl rfl)
theorem dX0_rule_23 : decode cX0_rule 23 = .ok (.getfield 286, 3) := dk_180 1 30 (dk_at dksX0_rule_1 0 rfl rfl)
theorem dX0_rule_26 : decode cX0_rule 26 = .ok (.iload_n 1, 1) := dk_27 (dk_at dksX0_rule_1 3 rfl rfl)
theorem dX0_rule_27 : decode cX0_rule 27 = .ok (.iload_n 2, 1) := dk_28 (dk_at dksX0_rule_1 4 rfl rfl)
theorem dX0_rule_28 : decode cX0_rule 28 = .ok (.iastore, 1) := dk_79 (dk_at dksX0_rule_1 5 rfl rfl)
theorem dX0_rule_29 : decode cX0_rule 29 = .ok (.iload_n 3, 1) := dk_29 (dk_at dksX0_rule_1 6 rfl rfl)
theorem dX0_rule_30 : decode cX0_rule 30 = .ok (.ireturn, 1) := dk_172 (dk_at dksX0_rule_1 7 rfl rfl)
theorem dX0_rule_31 : decode cX0_rule 31 = .ok (.astore_n 3, 1) := dk_78 (dk_at dksX0_rule_1 8 rfl rfl)
theorem dX0_rule_32 : decode cX0_rule 32 = .ok (.aload_n 0, 1) := dk_42 (dk_at dksX0_rule_1 9 rfl rfl)
theorem dX0_rule_33 : decode cX0_rule 33 = .ok (.aload_n 3, 1) := dk_45 (dk_at dksX0_rule_1 10 rfl rfl)
theorem dX0_rule_34 : decode cX0_rule 34 = .ok (.invokevirtual 145, 3) := dk_182 0 145 (dk_at dksX0_rule_1 11 rfl rfl)
theorem dX0_rule_37 : decode cX0_rule 37 = .ok (.ireturn, 1) := dk_172 (dk_at dksX0_rule_1 14 rfl rfl)
abbrev cX0_isRule : ByteArray := prog_1_method_35_code
def yX0_isRule : MethodName := ⟨RX0, "isRule", "(II)Z"⟩
def dkwX0_isRule_4 : List UInt8 := [153, 0, 7, 4, 167, 0, 4, 3, 172]
abbrev dktX0_isRule_4 : List UInt8 := dkwX0_isRule_4 ++ []
def dkwX0_isRule_3 : List UInt8 := [20, 1, 22, 184, 0, 125, 172, 26, 16, 7, 160, 0, 19, 27, 133, 9, 20, 1, 24, 184, 0, 125]
abbrev dktX0_isRule_3 : List UInt8 := dkwX0_isRule_3 ++ dktX0_isRule_4
def dkwX0_isRule_2 : List UInt8 := [27, 133, 10, 20, 1, 18, 184, 0, 125, 172, 27, 133, 9, 20, 1, 20, 184, 0, 125, 172, 27, 133, 9]
abbrev dktX0_isRule_2 : List UInt8 := dkwX0_isRule_2 ++ dktX0_isRule_3
def dkwX0_isRule_1 : List UInt8 := [170, 0, 0, 0, 0, 0, 73, 0, 0, 0, 0, 0, 0, 0, 6, 0, 0, 0, 43, 0, 0, 0, 53, 0, 0, 0, 53, 0, 0, 0, 53, 0, 0, 0, 53, 0, 0, 0, 53, 0, 0, 0, 63]
abbrev dktX0_isRule_1 : List UInt8 := dkwX0_isRule_1 ++ dktX0_isRule_2
def dkwX0_isRule_0 : List UInt8 := [26]
abbrev dktX0_isRule_0 : List UInt8 := dkwX0_isRule_0 ++ dktX0_isRule_1
theorem dksX0_isRule_0 : cX0_isRule.data.toList.drop 0 = dktX0_isRule_0 := by decide +kernel
theorem dksX0_isRule_1 : cX0_isRule.data.toList.drop 1 = dktX0_isRule_1 := dk_seg dksX0_isRule_0 1 rfl rfl
theorem dksX0_isRule_2 : cX0_isRule.data.toList.drop 44 = dktX0_isRule_2 := dk_seg dksX0_isRule_1 43 rfl rfl
theorem dksX0_isRule_3 : cX0_isRule.data.toList.drop 67 = dktX0_isRule_3 := dk_seg dksX0_isRule_2 23 rfl rfl
theorem dksX0_isRule_4 : cX0_isRule.data.toList.drop 89 = dktX0_isRule_4 := dk_seg dksX0_isRule_3 22 rfl rfl
theorem dX0_isRule_0 : decode cX0_isRule 0 = .ok (.iload_n 0, 1) := dk_26 (dk_at dksX0_isRule_0 0 rfl rfl)
theorem dX0_isRule_1 : decode cX0_isRule 1 = .ok (.tableswitch 73 0 6 #[43, 53, 53, 53, 53, 53, 63], 43) := by decide +kernel
theorem dX0_isRule_44 : decode cX0_isRule 44 = .ok (.iload_n 1, 1) := dk_27 (dk_at dksX0_isRule_2 0 rfl rfl)
theorem dX0_isRule_45 : decode cX0_isRule 45 = .ok (.i2l, 1) := dk_133 (dk_at dksX0_isRule_2 1 rfl rfl)
theorem dX0_isRule_46 : decode cX0_isRule 46 = .ok (.lconst 1, 1) := dk_10 (dk_at dksX0_isRule_2 2 rfl rfl)
theorem dX0_isRule_47 : decode cX0_isRule 47 = .ok (.ldc2_w 274, 3) := dk_20 1 18 (dk_at dksX0_isRule_2 3 rfl rfl)
theorem dX0_isRule_50 : decode cX0_isRule 50 = .ok (.invokestatic 125, 3) := dk_184 0 125 (dk_at dksX0_isRule_2 6 rfl rfl)
theorem dX0_isRule_53 : decode cX0_isRule 53 = .ok (.ireturn, 1) := dk_172 (dk_at dksX0_isRule_2 9 rfl rfl)
theorem dX0_isRule_54 : decode cX0_isRule 54 = .ok (.iload_n 1, 1) := dk_27 (dk_at dksX0_isRule_2 10 rfl rfl)
theorem dX0_isRule_55 : decode cX0_isRule 55 = .ok (.i2l, 1) := dk_133 (dk_at dksX0_isRule_2 11 rfl rfl)
theorem dX0_isRule_56 : decode cX0_isRule 56 = .ok (.lconst 0, 1) := dk_9 (dk_at dksX0_isRule_2 12 rfl rfl)
theorem dX0_isRule_57 : decode cX0_isRule 57 = .ok (.ldc2_w 276, 3) := dk_20 1 20 (dk_at dksX0_isRule_2 13 rfl rfl)
theorem dX0_isRule_60 : decode cX0_isRule 60 = .ok (.invokestatic 125, 3) := dk_184 0 125 (dk_at dksX0_isRule_2 16 rfl rfl)
theorem dX0_isRule_63 : decode cX0_isRule 63 = .ok (.ireturn, 1) := dk_172 (dk_at dksX0_isRule_2 19 rfl rfl)
theorem dX0_isRule_64 : decode cX0_isRule 64 = .ok (.iload_n 1, 1) := dk_27 (dk_at dksX0_isRule_2 20 rfl rfl)
theorem dX0_isRule_65 : decode cX0_isRule 65 = .ok (.i2l, 1) := dk_133 (dk_at dksX0_isRule_2 21 rfl rfl)
theorem dX0_isRule_66 : decode cX0_isRule 66 = .ok (.lconst 0, 1) := dk_9 (dk_at dksX0_isRule_2 22 rfl rfl)
theorem dX0_isRule_67 : decode cX0_isRule 67 = .ok (.ldc2_w 278, 3) := dk_20 1 22 (dk_at dksX0_isRule_3 0 rfl rfl)
theorem dX0_isRule_70 : decode cX0_isRule 70 = .ok (.invokestatic 125, 3) := dk_184 0 125 (dk_at dksX0_isRule_3 3 rfl rfl)
theorem dX0_isRule_73 : decode cX0_isRule 73 = .ok (.ireturn, 1) := dk_172 (dk_at dksX0_isRule_3 6 rfl rfl)
theorem dX0_isRule_74 : decode cX0_isRule 74 = .ok (.iload_n 0, 1) := dk_26 (dk_at dksX0_isRule_3 7 rfl rfl)
theorem dX0_isRule_75 : decode cX0_isRule 75 = .ok (.bipush 7, 2) := dk_16 7 (dk_at dksX0_isRule_3 8 rfl rfl)
theorem dX0_isRule_77 : decode cX0_isRule 77 = .ok (.if_icmp .ne 19, 3) := dk_160 0 19 (dk_at dksX0_isRule_3 10 rfl rfl)
theorem dX0_isRule_80 : decode cX0_isRule 80 = .ok (.iload_n 1, 1) := dk_27 (dk_at dksX0_isRule_3 13 rfl rfl)
theorem dX0_isRule_81 : decode cX0_isRule 81 = .ok (.i2l, 1) := dk_133 (dk_at dksX0_isRule_3 14 rfl rfl)
theorem dX0_isRule_82 : decode cX0_isRule 82 = .ok (.lconst 0, 1) := dk_9 (dk_at dksX0_isRule_3 15 rfl rfl)
theorem dX0_isRule_83 : decode cX0_isRule 83 = .ok (.ldc2_w 280, 3) := dk_20 1 24 (dk_at dksX0_isRule_3 16 rfl rfl)
theorem dX0_isRule_86 : decode cX0_isRule 86 = .ok (.invokestatic 125, 3) := dk_184 0 125 (dk_at dksX0_isRule_3 19 rfl rfl)
theorem dX0_isRule_89 : decode cX0_isRule 89 = .ok (.ifCond .eq 7, 3) := dk_153 0 7 (dk_at dksX0_isRule_4 0 rfl rfl)
theorem dX0_isRule_92 : decode cX0_isRule 92 = .ok (.iconst 1, 1) := dk_4 (dk_at dksX0_isRule_4 3 rfl rfl)
theorem dX0_isRule_93 : decode cX0_isRule 93 = .ok (.goto 4, 3) := dk_167 0 4 (dk_at dksX0_isRule_4 4 rfl rfl)
theorem dX0_isRule_96 : decode cX0_isRule 96 = .ok (.iconst 0, 1) := dk_3 (dk_at dksX0_isRule_4 7 rfl rfl)
theorem dX0_isRule_97 : decode cX0_isRule 97 = .ok (.ireturn, 1) := dk_172 (dk_at dksX0_isRule_4 8 rfl rfl)
abbrev cX0_seed : ByteArray := prog_1_method_37_code
def yX0_seed : MethodName := ⟨RX0, "seed", "(I)I"⟩
def dkwX0_seed_0 : List UInt8 := [42, 180, 0, 42, 180, 1, 33, 61, 42, 180, 0, 42, 27, 181, 1, 33, 28, 172]
abbrev dktX0_seed_0 : List UInt8 := dkwX0_seed_0 ++ []
theorem dksX0_seed_0 : cX0_seed.data.toList.drop 0 = dktX0_seed_0 := by decide +kernel
theorem dX0_seed_0 : decode cX0_seed 0 = .ok (.aload_n 0, 1) := dk_42 (dk_at dksX0_seed_0 0 rfl rfl)
theorem dX0_seed_1 : decode cX0_seed 1 = .ok (.getfield 42, 3) := dk_180 0 42 (dk_at dksX0_seed_0 1 rfl rfl)
theorem dX0_seed_4 : decode cX0_seed 4 = .ok (.getfield 289, 3) := dk_180 1 33 (dk_at dksX0_seed_0 4 rfl rfl)
theorem dX0_seed_7 : decode cX0_seed 7 = .ok (.istore_n 2, 1) := dk_61 (dk_at dksX0_seed_0 7 rfl rfl)
theorem dX0_seed_8 : decode cX0_seed 8 = .ok (.aload_n 0, 1) := dk_42 (dk_at dksX0_seed_0 8 rfl rfl)
theorem dX0_seed_9 : decode cX0_seed 9 = .ok (.getfield 42, 3) := dk_180 0 42 (dk_at dksX0_seed_0 9 rfl rfl)
theorem dX0_seed_12 : decode cX0_seed 12 = .ok (.iload_n 1, 1) := dk_27 (dk_at dksX0_seed_0 12 rfl rfl)
theorem dX0_seed_13 : decode cX0_seed 13 = .ok (.putfield 289, 3) := dk_181 1 33 (dk_at dksX0_seed_0 13 rfl rfl)
theorem dX0_seed_16 : decode cX0_seed 16 = .ok (.iload_n 2, 1) := dk_28 (dk_at dksX0_seed_0 16 rfl rfl)
theorem dX0_seed_17 : decode cX0_seed 17 = .ok (.ireturn, 1) := dk_172 (dk_at dksX0_seed_0 17 rfl rfl)
abbrev cX0_week : ByteArray := prog_1_method_42_code
def yX0_week : MethodName := ⟨RX0, "week", "()I"⟩
def dkwX0_week_2 : List UInt8 := [87, 27, 172, 76, 42, 43, 182, 0, 145, 172]
abbrev dktX0_week_2 : List UInt8 := dkwX0_week_2 ++ []
def dkwX0_week_1 : List UInt8 := [184, 0, 105, 7, 162, 0, 15, 27, 4, 42, 182, 1, 60, 120, 128, 60, 167, 255, 239, 42, 27, 182, 1, 63]
abbrev dktX0_week_1 : List UInt8 := dkwX0_week_1 ++ dktX0_week_2
def dkwX0_week_0 : List UInt8 := [42, 180, 0, 42, 180, 0, 185, 16, 40, 162, 0, 7, 4, 167, 0, 4, 3, 4, 184, 0, 119, 3, 60, 27]
abbrev dktX0_week_0 : List UInt8 := dkwX0_week_0 ++ dktX0_week_1
theorem dksX0_week_0 : cX0_week.data.toList.drop 0 = dktX0_week_0 := by decide +kernel
theorem dksX0_week_1 : cX0_week.data.toList.drop 24 = dktX0_week_1 := dk_seg dksX0_week_0 24 rfl rfl
theorem dksX0_week_2 : cX0_week.data.toList.drop 48 = dktX0_week_2 := dk_seg dksX0_week_1 24 rfl rfl
theorem dX0_week_0 : decode cX0_week 0 = .ok (.aload_n 0, 1) := dk_42 (dk_at dksX0_week_0 0 rfl rfl)
theorem dX0_week_1 : decode cX0_week 1 = .ok (.getfield 42, 3) := dk_180 0 42 (dk_at dksX0_week_0 1 rfl rfl)
theorem dX0_week_4 : decode cX0_week 4 = .ok (.getfield 185, 3) := dk_180 0 185 (dk_at dksX0_week_0 4 rfl rfl)
theorem dX0_week_7 : decode cX0_week 7 = .ok (.bipush 40, 2) := dk_16 40 (dk_at dksX0_week_0 7 rfl rfl)
theorem dX0_week_9 : decode cX0_week 9 = .ok (.if_icmp .ge 7, 3) := dk_162 0 7 (dk_at dksX0_week_0 9 rfl rfl)
theorem dX0_week_12 : decode cX0_week 12 = .ok (.iconst 1, 1) := dk_4 (dk_at dksX0_week_0 12 rfl rfl)
theorem dX0_week_13 : decode cX0_week 13 = .ok (.goto 4, 3) := dk_167 0 4 (dk_at dksX0_week_0 13 rfl rfl)
theorem dX0_week_16 : decode cX0_week 16 = .ok (.iconst 0, 1) := dk_3 (dk_at dksX0_week_0 16 rfl rfl)
theorem dX0_week_17 : decode cX0_week 17 = .ok (.iconst 1, 1) := dk_4 (dk_at dksX0_week_0 17 rfl rfl)
theorem dX0_week_18 : decode cX0_week 18 = .ok (.invokestatic 119, 3) := dk_184 0 119 (dk_at dksX0_week_0 18 rfl rfl)
theorem dX0_week_21 : decode cX0_week 21 = .ok (.iconst 0, 1) := dk_3 (dk_at dksX0_week_0 21 rfl rfl)
theorem dX0_week_22 : decode cX0_week 22 = .ok (.istore_n 1, 1) := dk_60 (dk_at dksX0_week_0 22 rfl rfl)
theorem dX0_week_23 : decode cX0_week 23 = .ok (.iload_n 1, 1) := dk_27 (dk_at dksX0_week_0 23 rfl rfl)
theorem dX0_week_24 : decode cX0_week 24 = .ok (.invokestatic 105, 3) := dk_184 0 105 (dk_at dksX0_week_1 0 rfl rfl)
theorem dX0_week_27 : decode cX0_week 27 = .ok (.iconst 4, 1) := dk_7 (dk_at dksX0_week_1 3 rfl rfl)
theorem dX0_week_28 : decode cX0_week 28 = .ok (.if_icmp .ge 15, 3) := dk_162 0 15 (dk_at dksX0_week_1 4 rfl rfl)
theorem dX0_week_31 : decode cX0_week 31 = .ok (.iload_n 1, 1) := dk_27 (dk_at dksX0_week_1 7 rfl rfl)
theorem dX0_week_32 : decode cX0_week 32 = .ok (.iconst 1, 1) := dk_4 (dk_at dksX0_week_1 8 rfl rfl)
theorem dX0_week_33 : decode cX0_week 33 = .ok (.aload_n 0, 1) := dk_42 (dk_at dksX0_week_1 9 rfl rfl)
theorem dX0_week_34 : decode cX0_week 34 = .ok (.invokevirtual 316, 3) := dk_182 1 60 (dk_at dksX0_week_1 10 rfl rfl)
theorem dX0_week_37 : decode cX0_week 37 = .ok (.ishl, 1) := dk_120 (dk_at dksX0_week_1 13 rfl rfl)
theorem dX0_week_38 : decode cX0_week 38 = .ok (.ior, 1) := dk_128 (dk_at dksX0_week_1 14 rfl rfl)
theorem dX0_week_39 : decode cX0_week 39 = .ok (.istore_n 1, 1) := dk_60 (dk_at dksX0_week_1 15 rfl rfl)
theorem dX0_week_40 : decode cX0_week 40 = .ok (.goto (-17), 3) := dk_167 255 239 (dk_at dksX0_week_1 16 rfl rfl)
theorem dX0_week_43 : decode cX0_week 43 = .ok (.aload_n 0, 1) := dk_42 (dk_at dksX0_week_1 19 rfl rfl)
theorem dX0_week_44 : decode cX0_week 44 = .ok (.iload_n 1, 1) := dk_27 (dk_at dksX0_week_1 20 rfl rfl)
theorem dX0_week_45 : decode cX0_week 45 = .ok (.invokevirtual 319, 3) := dk_182 1 63 (dk_at dksX0_week_1 21 rfl rfl)
theorem dX0_week_48 : decode cX0_week 48 = .ok (.pop, 1) := dk_87 (dk_at dksX0_week_2 0 rfl rfl)
theorem dX0_week_49 : decode cX0_week 49 = .ok (.iload_n 1, 1) := dk_27 (dk_at dksX0_week_2 1 rfl rfl)
theorem dX0_week_50 : decode cX0_week 50 = .ok (.ireturn, 1) := dk_172 (dk_at dksX0_week_2 2 rfl rfl)
theorem dX0_week_51 : decode cX0_week 51 = .ok (.astore_n 1, 1) := dk_76 (dk_at dksX0_week_2 3 rfl rfl)
theorem dX0_week_52 : decode cX0_week 52 = .ok (.aload_n 0, 1) := dk_42 (dk_at dksX0_week_2 4 rfl rfl)
theorem dX0_week_53 : decode cX0_week 53 = .ok (.aload_n 1, 1) := dk_43 (dk_at dksX0_week_2 5 rfl rfl)
theorem dX0_week_54 : decode cX0_week 54 = .ok (.invokevirtual 145, 3) := dk_182 0 145 (dk_at dksX0_week_2 6 rfl rfl)
theorem dX0_week_57 : decode cX0_week 57 = .ok (.ireturn, 1) := dk_172 (dk_at dksX0_week_2 9 rfl rfl)
abbrev cX0_lot : ByteArray := prog_1_method_41_code
def yX0_lot : MethodName := ⟨RX0, "lot", "()I"⟩
def dkwX0_lot_1 : List UInt8 := [180, 0, 42, 180, 1, 33, 16, 16, 124, 16, 12, 112, 172]
abbrev dktX0_lot_1 : List UInt8 := dkwX0_lot_1 ++ []
def dkwX0_lot_0 : List UInt8 := [42, 180, 0, 42, 42, 180, 0, 42, 180, 1, 33, 19, 1, 59, 104, 17, 48, 57, 96, 181, 1, 33, 42]
abbrev dktX0_lot_0 : List UInt8 := dkwX0_lot_0 ++ dktX0_lot_1
theorem dksX0_lot_0 : cX0_lot.data.toList.drop 0 = dktX0_lot_0 := by decide +kernel
theorem dksX0_lot_1 : cX0_lot.data.toList.drop 23 = dktX0_lot_1 := dk_seg dksX0_lot_0 23 rfl rfl
theorem dX0_lot_0 : decode cX0_lot 0 = .ok (.aload_n 0, 1) := dk_42 (dk_at dksX0_lot_0 0 rfl rfl)
theorem dX0_lot_1 : decode cX0_lot 1 = .ok (.getfield 42, 3) := dk_180 0 42 (dk_at dksX0_lot_0 1 rfl rfl)
theorem dX0_lot_4 : decode cX0_lot 4 = .ok (.aload_n 0, 1) := dk_42 (dk_at dksX0_lot_0 4 rfl rfl)
theorem dX0_lot_5 : decode cX0_lot 5 = .ok (.getfield 42, 3) := dk_180 0 42 (dk_at dksX0_lot_0 5 rfl rfl)
theorem dX0_lot_8 : decode cX0_lot 8 = .ok (.getfield 289, 3) := dk_180 1 33 (dk_at dksX0_lot_0 8 rfl rfl)
theorem dX0_lot_11 : decode cX0_lot 11 = .ok (.ldc_w 315, 3) := dk_19 1 59 (dk_at dksX0_lot_0 11 rfl rfl)
theorem dX0_lot_14 : decode cX0_lot 14 = .ok (.imul, 1) := dk_104 (dk_at dksX0_lot_0 14 rfl rfl)
theorem dX0_lot_15 : decode cX0_lot 15 = .ok (.sipush 12345, 3) := dk_17 48 57 (dk_at dksX0_lot_0 15 rfl rfl)
theorem dX0_lot_18 : decode cX0_lot 18 = .ok (.iadd, 1) := dk_96 (dk_at dksX0_lot_0 18 rfl rfl)
theorem dX0_lot_19 : decode cX0_lot 19 = .ok (.putfield 289, 3) := dk_181 1 33 (dk_at dksX0_lot_0 19 rfl rfl)
theorem dX0_lot_22 : decode cX0_lot 22 = .ok (.aload_n 0, 1) := dk_42 (dk_at dksX0_lot_0 22 rfl rfl)
theorem dX0_lot_23 : decode cX0_lot 23 = .ok (.getfield 42, 3) := dk_180 0 42 (dk_at dksX0_lot_1 0 rfl rfl)
theorem dX0_lot_26 : decode cX0_lot 26 = .ok (.getfield 289, 3) := dk_180 1 33 (dk_at dksX0_lot_1 3 rfl rfl)
theorem dX0_lot_29 : decode cX0_lot 29 = .ok (.bipush 16, 2) := dk_16 16 (dk_at dksX0_lot_1 6 rfl rfl)
theorem dX0_lot_31 : decode cX0_lot 31 = .ok (.iushr, 1) := dk_124 (dk_at dksX0_lot_1 8 rfl rfl)
theorem dX0_lot_32 : decode cX0_lot 32 = .ok (.bipush 12, 2) := dk_16 12 (dk_at dksX0_lot_1 9 rfl rfl)
theorem dX0_lot_34 : decode cX0_lot 34 = .ok (.irem, 1) := dk_112 (dk_at dksX0_lot_1 11 rfl rfl)
theorem dX0_lot_35 : decode cX0_lot 35 = .ok (.ireturn, 1) := dk_172 (dk_at dksX0_lot_1 12 rfl rfl)
abbrev cX0_plays : ByteArray := prog_1_method_40_code
def yX0_plays : MethodName := ⟨RX0, "plays", "(I)I"⟩
def dkwX0_plays_9 : List UInt8 := [172]
abbrev dktX0_plays_9 : List UInt8 := dkwX0_plays_9 ++ []
def dkwX0_plays_8 : List UInt8 := [180, 0, 185, 4, 96, 181, 0, 185, 42, 3, 181, 0, 166, 42, 180, 0, 42, 180, 1, 40, 4, 50, 28, 46]
abbrev dktX0_plays_8 : List UInt8 := dkwX0_plays_8 ++ dktX0_plays_9
def dkwX0_plays_7 : List UInt8 := [180, 1, 40, 16, 7, 50, 28, 42, 180, 0, 42, 180, 1, 30, 16, 7, 46, 79, 42, 180, 0, 42, 89]
abbrev dktX0_plays_7 : List UInt8 := dkwX0_plays_7 ++ dktX0_plays_8
def dkwX0_plays_6 : List UInt8 := [180, 1, 30, 16, 7, 9, 20, 1, 24, 22, 5, 184, 1, 50, 184, 1, 56, 136, 79, 42, 180, 0, 42]
abbrev dktX0_plays_6 : List UInt8 := dkwX0_plays_6 ++ dktX0_plays_7
def dkwX0_plays_5 : List UInt8 := [79, 22, 5, 22, 9, 21, 8, 133, 105, 101, 55, 5, 132, 7, 1, 167, 255, 168, 42, 180, 0, 42]
abbrev dktX0_plays_5 : List UInt8 := dkwX0_plays_5 ++ dktX0_plays_6
def dkwX0_plays_4 : List UInt8 := [21, 7, 96, 50, 28, 21, 8, 79, 42, 180, 0, 42, 180, 1, 40, 7, 21, 7, 96, 50, 28, 22, 9, 136]
abbrev dktX0_plays_4 : List UInt8 := dkwX0_plays_4 ++ dktX0_plays_5
def dkwX0_plays_3 : List UInt8 := [42, 33, 7, 21, 7, 100, 182, 1, 46, 21, 8, 133, 109, 55, 9, 42, 180, 0, 42, 180, 1, 40, 4]
abbrev dktX0_plays_3 : List UInt8 := dkwX0_plays_3 ++ dktX0_plays_4
def dkwX0_plays_2 : List UInt8 := [6, 162, 0, 88, 42, 7, 21, 7, 100, 27, 182, 1, 43, 54, 8, 21, 8, 154, 0, 7, 9, 167, 0, 16]
abbrev dktX0_plays_2 : List UInt8 := dkwX0_plays_2 ++ dktX0_plays_3
def dkwX0_plays_1 : List UInt8 := [182, 1, 36, 66, 33, 55, 5, 42, 180, 0, 42, 180, 1, 40, 3, 50, 28, 27, 79, 3, 54, 7, 21, 7]
abbrev dktX0_plays_1 : List UInt8 := dkwX0_plays_1 ++ dktX0_plays_2
def dkwX0_plays_0 : List UInt8 := [42, 182, 0, 249, 42, 180, 0, 42, 180, 0, 185, 61, 42, 42, 180, 0, 42, 180, 1, 30, 16, 7, 46, 133]
abbrev dktX0_plays_0 : List UInt8 := dkwX0_plays_0 ++ dktX0_plays_1
theorem dksX0_plays_0 : cX0_plays.data.toList.drop 0 = dktX0_plays_0 := by decide +kernel
theorem dksX0_plays_1 : cX0_plays.data.toList.drop 24 = dktX0_plays_1 := dk_seg dksX0_plays_0 24 rfl rfl
theorem dksX0_plays_2 : cX0_plays.data.toList.drop 48 = dktX0_plays_2 := dk_seg dksX0_plays_1 24 rfl rfl
theorem dksX0_plays_3 : cX0_plays.data.toList.drop 72 = dktX0_plays_3 := dk_seg dksX0_plays_2 24 rfl rfl
theorem dksX0_plays_4 : cX0_plays.data.toList.drop 95 = dktX0_plays_4 := dk_seg dksX0_plays_3 23 rfl rfl
theorem dksX0_plays_5 : cX0_plays.data.toList.drop 119 = dktX0_plays_5 := dk_seg dksX0_plays_4 24 rfl rfl
theorem dksX0_plays_6 : cX0_plays.data.toList.drop 141 = dktX0_plays_6 := dk_seg dksX0_plays_5 22 rfl rfl
theorem dksX0_plays_7 : cX0_plays.data.toList.drop 164 = dktX0_plays_7 := dk_seg dksX0_plays_6 23 rfl rfl
theorem dksX0_plays_8 : cX0_plays.data.toList.drop 187 = dktX0_plays_8 := dk_seg dksX0_plays_7 23 rfl rfl
theorem dksX0_plays_9 : cX0_plays.data.toList.drop 211 = dktX0_plays_9 := dk_seg dksX0_plays_8 24 rfl rfl
theorem dX0_plays_0 : decode cX0_plays 0 = .ok (.aload_n 0, 1) := dk_42 (dk_at dksX0_plays_0 0 rfl rfl)
theorem dX0_plays_1 : decode cX0_plays 1 = .ok (.invokevirtual 249, 3) := dk_182 0 249 (dk_at dksX0_plays_0 1 rfl rfl)
theorem dX0_plays_4 : decode cX0_plays 4 = .ok (.aload_n 0, 1) := dk_42 (dk_at dksX0_plays_0 4 rfl rfl)
theorem dX0_plays_5 : decode cX0_plays 5 = .ok (.getfield 42, 3) := dk_180 0 42 (dk_at dksX0_plays_0 5 rfl rfl)
theorem dX0_plays_8 : decode cX0_plays 8 = .ok (.getfield 185, 3) := dk_180 0 185 (dk_at dksX0_plays_0 8 rfl rfl)
theorem dX0_plays_11 : decode cX0_plays 11 = .ok (.istore_n 2, 1) := dk_61 (dk_at dksX0_plays_0 11 rfl rfl)
theorem dX0_plays_12 : decode cX0_plays 12 = .ok (.aload_n 0, 1) := dk_42 (dk_at dksX0_plays_0 12 rfl rfl)
theorem dX0_plays_13 : decode cX0_plays 13 = .ok (.aload_n 0, 1) := dk_42 (dk_at dksX0_plays_0 13 rfl rfl)
theorem dX0_plays_14 : decode cX0_plays 14 = .ok (.getfield 42, 3) := dk_180 0 42 (dk_at dksX0_plays_0 14 rfl rfl)
theorem dX0_plays_17 : decode cX0_plays 17 = .ok (.getfield 286, 3) := dk_180 1 30 (dk_at dksX0_plays_0 17 rfl rfl)
theorem dX0_plays_20 : decode cX0_plays 20 = .ok (.bipush 7, 2) := dk_16 7 (dk_at dksX0_plays_0 20 rfl rfl)
theorem dX0_plays_22 : decode cX0_plays 22 = .ok (.iaload, 1) := dk_46 (dk_at dksX0_plays_0 22 rfl rfl)
theorem dX0_plays_23 : decode cX0_plays 23 = .ok (.i2l, 1) := dk_133 (dk_at dksX0_plays_0 23 rfl rfl)
theorem dX0_plays_24 : decode cX0_plays 24 = .ok (.invokevirtual 292, 3) := dk_182 1 36 (dk_at dksX0_plays_1 0 rfl rfl)
theorem dX0_plays_27 : decode cX0_plays 27 = .ok (.lstore_n 3, 1) := dk_66 (dk_at dksX0_plays_1 3 rfl rfl)
theorem dX0_plays_28 : decode cX0_plays 28 = .ok (.lload_n 3, 1) := dk_33 (dk_at dksX0_plays_1 4 rfl rfl)
theorem dX0_plays_29 : decode cX0_plays 29 = .ok (.lstore 5, 2) := dk_55 5 (dk_at dksX0_plays_1 5 rfl rfl)
theorem dX0_plays_31 : decode cX0_plays 31 = .ok (.aload_n 0, 1) := dk_42 (dk_at dksX0_plays_1 7 rfl rfl)
theorem dX0_plays_32 : decode cX0_plays 32 = .ok (.getfield 42, 3) := dk_180 0 42 (dk_at dksX0_plays_1 8 rfl rfl)
theorem dX0_plays_35 : decode cX0_plays 35 = .ok (.getfield 296, 3) := dk_180 1 40 (dk_at dksX0_plays_1 11 rfl rfl)
theorem dX0_plays_38 : decode cX0_plays 38 = .ok (.iconst 0, 1) := dk_3 (dk_at dksX0_plays_1 14 rfl rfl)
theorem dX0_plays_39 : decode cX0_plays 39 = .ok (.aaload, 1) := dk_50 (dk_at dksX0_plays_1 15 rfl rfl)
theorem dX0_plays_40 : decode cX0_plays 40 = .ok (.iload_n 2, 1) := dk_28 (dk_at dksX0_plays_1 16 rfl rfl)
theorem dX0_plays_41 : decode cX0_plays 41 = .ok (.iload_n 1, 1) := dk_27 (dk_at dksX0_plays_1 17 rfl rfl)
theorem dX0_plays_42 : decode cX0_plays 42 = .ok (.iastore, 1) := dk_79 (dk_at dksX0_plays_1 18 rfl rfl)
theorem dX0_plays_43 : decode cX0_plays 43 = .ok (.iconst 0, 1) := dk_3 (dk_at dksX0_plays_1 19 rfl rfl)
theorem dX0_plays_44 : decode cX0_plays 44 = .ok (.istore 7, 2) := dk_54 7 (dk_at dksX0_plays_1 20 rfl rfl)
theorem dX0_plays_46 : decode cX0_plays 46 = .ok (.iload 7, 2) := dk_21 7 (dk_at dksX0_plays_1 22 rfl rfl)
theorem dX0_plays_48 : decode cX0_plays 48 = .ok (.iconst 3, 1) := dk_6 (dk_at dksX0_plays_2 0 rfl rfl)
theorem dX0_plays_49 : decode cX0_plays 49 = .ok (.if_icmp .ge 88, 3) := dk_162 0 88 (dk_at dksX0_plays_2 1 rfl rfl)
theorem dX0_plays_52 : decode cX0_plays 52 = .ok (.aload_n 0, 1) := dk_42 (dk_at dksX0_plays_2 4 rfl rfl)
theorem dX0_plays_53 : decode cX0_plays 53 = .ok (.iconst 4, 1) := dk_7 (dk_at dksX0_plays_2 5 rfl rfl)
theorem dX0_plays_54 : decode cX0_plays 54 = .ok (.iload 7, 2) := dk_21 7 (dk_at dksX0_plays_2 6 rfl rfl)
theorem dX0_plays_56 : decode cX0_plays 56 = .ok (.isub, 1) := dk_100 (dk_at dksX0_plays_2 8 rfl rfl)
theorem dX0_plays_57 : decode cX0_plays 57 = .ok (.iload_n 1, 1) := dk_27 (dk_at dksX0_plays_2 9 rfl rfl)
theorem dX0_plays_58 : decode cX0_plays 58 = .ok (.invokevirtual 299, 3) := dk_182 1 43 (dk_at dksX0_plays_2 10 rfl rfl)
theorem dX0_plays_61 : decode cX0_plays 61 = .ok (.istore 8, 2) := dk_54 8 (dk_at dksX0_plays_2 13 rfl rfl)
theorem dX0_plays_63 : decode cX0_plays 63 = .ok (.iload 8, 2) := dk_21 8 (dk_at dksX0_plays_2 15 rfl rfl)
theorem dX0_plays_65 : decode cX0_plays 65 = .ok (.ifCond .ne 7, 3) := dk_154 0 7 (dk_at dksX0_plays_2 17 rfl rfl)
theorem dX0_plays_68 : decode cX0_plays 68 = .ok (.lconst 0, 1) := dk_9 (dk_at dksX0_plays_2 20 rfl rfl)
theorem dX0_plays_69 : decode cX0_plays 69 = .ok (.goto 16, 3) := dk_167 0 16 (dk_at dksX0_plays_2 21 rfl rfl)
theorem dX0_plays_72 : decode cX0_plays 72 = .ok (.aload_n 0, 1) := dk_42 (dk_at dksX0_plays_3 0 rfl rfl)
theorem dX0_plays_73 : decode cX0_plays 73 = .ok (.lload_n 3, 1) := dk_33 (dk_at dksX0_plays_3 1 rfl rfl)
theorem dX0_plays_74 : decode cX0_plays 74 = .ok (.iconst 4, 1) := dk_7 (dk_at dksX0_plays_3 2 rfl rfl)
theorem dX0_plays_75 : decode cX0_plays 75 = .ok (.iload 7, 2) := dk_21 7 (dk_at dksX0_plays_3 3 rfl rfl)
theorem dX0_plays_77 : decode cX0_plays 77 = .ok (.isub, 1) := dk_100 (dk_at dksX0_plays_3 5 rfl rfl)
theorem dX0_plays_78 : decode cX0_plays 78 = .ok (.invokevirtual 302, 3) := dk_182 1 46 (dk_at dksX0_plays_3 6 rfl rfl)
theorem dX0_plays_81 : decode cX0_plays 81 = .ok (.iload 8, 2) := dk_21 8 (dk_at dksX0_plays_3 9 rfl rfl)
theorem dX0_plays_83 : decode cX0_plays 83 = .ok (.i2l, 1) := dk_133 (dk_at dksX0_plays_3 11 rfl rfl)
theorem dX0_plays_84 : decode cX0_plays 84 = .ok (.ldiv, 1) := dk_109 (dk_at dksX0_plays_3 12 rfl rfl)
theorem dX0_plays_85 : decode cX0_plays 85 = .ok (.lstore 9, 2) := dk_55 9 (dk_at dksX0_plays_3 13 rfl rfl)
theorem dX0_plays_87 : decode cX0_plays 87 = .ok (.aload_n 0, 1) := dk_42 (dk_at dksX0_plays_3 15 rfl rfl)
theorem dX0_plays_88 : decode cX0_plays 88 = .ok (.getfield 42, 3) := dk_180 0 42 (dk_at dksX0_plays_3 16 rfl rfl)
theorem dX0_plays_91 : decode cX0_plays 91 = .ok (.getfield 296, 3) := dk_180 1 40 (dk_at dksX0_plays_3 19 rfl rfl)
theorem dX0_plays_94 : decode cX0_plays 94 = .ok (.iconst 1, 1) := dk_4 (dk_at dksX0_plays_3 22 rfl rfl)
theorem dX0_plays_95 : decode cX0_plays 95 = .ok (.iload 7, 2) := dk_21 7 (dk_at dksX0_plays_4 0 rfl rfl)
theorem dX0_plays_97 : decode cX0_plays 97 = .ok (.iadd, 1) := dk_96 (dk_at dksX0_plays_4 2 rfl rfl)
theorem dX0_plays_98 : decode cX0_plays 98 = .ok (.aaload, 1) := dk_50 (dk_at dksX0_plays_4 3 rfl rfl)
theorem dX0_plays_99 : decode cX0_plays 99 = .ok (.iload_n 2, 1) := dk_28 (dk_at dksX0_plays_4 4 rfl rfl)
theorem dX0_plays_100 : decode cX0_plays 100 = .ok (.iload 8, 2) := dk_21 8 (dk_at dksX0_plays_4 5 rfl rfl)
theorem dX0_plays_102 : decode cX0_plays 102 = .ok (.iastore, 1) := dk_79 (dk_at dksX0_plays_4 7 rfl rfl)
theorem dX0_plays_103 : decode cX0_plays 103 = .ok (.aload_n 0, 1) := dk_42 (dk_at dksX0_plays_4 8 rfl rfl)
theorem dX0_plays_104 : decode cX0_plays 104 = .ok (.getfield 42, 3) := dk_180 0 42 (dk_at dksX0_plays_4 9 rfl rfl)
theorem dX0_plays_107 : decode cX0_plays 107 = .ok (.getfield 296, 3) := dk_180 1 40 (dk_at dksX0_plays_4 12 rfl rfl)
theorem dX0_plays_110 : decode cX0_plays 110 = .ok (.iconst 4, 1) := dk_7 (dk_at dksX0_plays_4 15 rfl rfl)
theorem dX0_plays_111 : decode cX0_plays 111 = .ok (.iload 7, 2) := dk_21 7 (dk_at dksX0_plays_4 16 rfl rfl)
theorem dX0_plays_113 : decode cX0_plays 113 = .ok (.iadd, 1) := dk_96 (dk_at dksX0_plays_4 18 rfl rfl)
theorem dX0_plays_114 : decode cX0_plays 114 = .ok (.aaload, 1) := dk_50 (dk_at dksX0_plays_4 19 rfl rfl)
theorem dX0_plays_115 : decode cX0_plays 115 = .ok (.iload_n 2, 1) := dk_28 (dk_at dksX0_plays_4 20 rfl rfl)
theorem dX0_plays_116 : decode cX0_plays 116 = .ok (.lload 9, 2) := dk_22 9 (dk_at dksX0_plays_4 21 rfl rfl)
theorem dX0_plays_118 : decode cX0_plays 118 = .ok (.l2i, 1) := dk_136 (dk_at dksX0_plays_4 23 rfl rfl)
theorem dX0_plays_119 : decode cX0_plays 119 = .ok (.iastore, 1) := dk_79 (dk_at dksX0_plays_5 0 rfl rfl)
theorem dX0_plays_120 : decode cX0_plays 120 = .ok (.lload 5, 2) := dk_22 5 (dk_at dksX0_plays_5 1 rfl rfl)
theorem dX0_plays_122 : decode cX0_plays 122 = .ok (.lload 9, 2) := dk_22 9 (dk_at dksX0_plays_5 3 rfl rfl)
theorem dX0_plays_124 : decode cX0_plays 124 = .ok (.iload 8, 2) := dk_21 8 (dk_at dksX0_plays_5 5 rfl rfl)
theorem dX0_plays_126 : decode cX0_plays 126 = .ok (.i2l, 1) := dk_133 (dk_at dksX0_plays_5 7 rfl rfl)
theorem dX0_plays_127 : decode cX0_plays 127 = .ok (.lmul, 1) := dk_105 (dk_at dksX0_plays_5 8 rfl rfl)
theorem dX0_plays_128 : decode cX0_plays 128 = .ok (.lsub, 1) := dk_101 (dk_at dksX0_plays_5 9 rfl rfl)
theorem dX0_plays_129 : decode cX0_plays 129 = .ok (.lstore 5, 2) := dk_55 5 (dk_at dksX0_plays_5 10 rfl rfl)
theorem dX0_plays_131 : decode cX0_plays 131 = .ok (.iinc 7 1, 3) := dk_132 7 1 (dk_at dksX0_plays_5 12 rfl rfl)
theorem dX0_plays_134 : decode cX0_plays 134 = .ok (.goto (-88), 3) := dk_167 255 168 (dk_at dksX0_plays_5 15 rfl rfl)
theorem dX0_plays_137 : decode cX0_plays 137 = .ok (.aload_n 0, 1) := dk_42 (dk_at dksX0_plays_5 18 rfl rfl)
theorem dX0_plays_138 : decode cX0_plays 138 = .ok (.getfield 42, 3) := dk_180 0 42 (dk_at dksX0_plays_5 19 rfl rfl)
theorem dX0_plays_141 : decode cX0_plays 141 = .ok (.getfield 286, 3) := dk_180 1 30 (dk_at dksX0_plays_6 0 rfl rfl)
theorem dX0_plays_144 : decode cX0_plays 144 = .ok (.bipush 7, 2) := dk_16 7 (dk_at dksX0_plays_6 3 rfl rfl)
theorem dX0_plays_146 : decode cX0_plays 146 = .ok (.lconst 0, 1) := dk_9 (dk_at dksX0_plays_6 5 rfl rfl)
theorem dX0_plays_147 : decode cX0_plays 147 = .ok (.ldc2_w 280, 3) := dk_20 1 24 (dk_at dksX0_plays_6 6 rfl rfl)
theorem dX0_plays_150 : decode cX0_plays 150 = .ok (.lload 5, 2) := dk_22 5 (dk_at dksX0_plays_6 9 rfl rfl)
theorem dX0_plays_152 : decode cX0_plays 152 = .ok (.invokestatic 306, 3) := dk_184 1 50 (dk_at dksX0_plays_6 11 rfl rfl)
theorem dX0_plays_155 : decode cX0_plays 155 = .ok (.invokestatic 312, 3) := dk_184 1 56 (dk_at dksX0_plays_6 14 rfl rfl)
theorem dX0_plays_158 : decode cX0_plays 158 = .ok (.l2i, 1) := dk_136 (dk_at dksX0_plays_6 17 rfl rfl)
theorem dX0_plays_159 : decode cX0_plays 159 = .ok (.iastore, 1) := dk_79 (dk_at dksX0_plays_6 18 rfl rfl)
theorem dX0_plays_160 : decode cX0_plays 160 = .ok (.aload_n 0, 1) := dk_42 (dk_at dksX0_plays_6 19 rfl rfl)
theorem dX0_plays_161 : decode cX0_plays 161 = .ok (.getfield 42, 3) := dk_180 0 42 (dk_at dksX0_plays_6 20 rfl rfl)
theorem dX0_plays_164 : decode cX0_plays 164 = .ok (.getfield 296, 3) := dk_180 1 40 (dk_at dksX0_plays_7 0 rfl rfl)
theorem dX0_plays_167 : decode cX0_plays 167 = .ok (.bipush 7, 2) := dk_16 7 (dk_at dksX0_plays_7 3 rfl rfl)
theorem dX0_plays_169 : decode cX0_plays 169 = .ok (.aaload, 1) := dk_50 (dk_at dksX0_plays_7 5 rfl rfl)
theorem dX0_plays_170 : decode cX0_plays 170 = .ok (.iload_n 2, 1) := dk_28 (dk_at dksX0_plays_7 6 rfl rfl)
theorem dX0_plays_171 : decode cX0_plays 171 = .ok (.aload_n 0, 1) := dk_42 (dk_at dksX0_plays_7 7 rfl rfl)
theorem dX0_plays_172 : decode cX0_plays 172 = .ok (.getfield 42, 3) := dk_180 0 42 (dk_at dksX0_plays_7 8 rfl rfl)
theorem dX0_plays_175 : decode cX0_plays 175 = .ok (.getfield 286, 3) := dk_180 1 30 (dk_at dksX0_plays_7 11 rfl rfl)
theorem dX0_plays_178 : decode cX0_plays 178 = .ok (.bipush 7, 2) := dk_16 7 (dk_at dksX0_plays_7 14 rfl rfl)
theorem dX0_plays_180 : decode cX0_plays 180 = .ok (.iaload, 1) := dk_46 (dk_at dksX0_plays_7 16 rfl rfl)
theorem dX0_plays_181 : decode cX0_plays 181 = .ok (.iastore, 1) := dk_79 (dk_at dksX0_plays_7 17 rfl rfl)
theorem dX0_plays_182 : decode cX0_plays 182 = .ok (.aload_n 0, 1) := dk_42 (dk_at dksX0_plays_7 18 rfl rfl)
theorem dX0_plays_183 : decode cX0_plays 183 = .ok (.getfield 42, 3) := dk_180 0 42 (dk_at dksX0_plays_7 19 rfl rfl)
theorem dX0_plays_186 : decode cX0_plays 186 = .ok (.dup, 1) := dk_89 (dk_at dksX0_plays_7 22 rfl rfl)
theorem dX0_plays_187 : decode cX0_plays 187 = .ok (.getfield 185, 3) := dk_180 0 185 (dk_at dksX0_plays_8 0 rfl rfl)
theorem dX0_plays_190 : decode cX0_plays 190 = .ok (.iconst 1, 1) := dk_4 (dk_at dksX0_plays_8 3 rfl rfl)
theorem dX0_plays_191 : decode cX0_plays 191 = .ok (.iadd, 1) := dk_96 (dk_at dksX0_plays_8 4 rfl rfl)
theorem dX0_plays_192 : decode cX0_plays 192 = .ok (.putfield 185, 3) := dk_181 0 185 (dk_at dksX0_plays_8 5 rfl rfl)
theorem dX0_plays_195 : decode cX0_plays 195 = .ok (.aload_n 0, 1) := dk_42 (dk_at dksX0_plays_8 8 rfl rfl)
theorem dX0_plays_196 : decode cX0_plays 196 = .ok (.iconst 0, 1) := dk_3 (dk_at dksX0_plays_8 9 rfl rfl)
theorem dX0_plays_197 : decode cX0_plays 197 = .ok (.putfield 166, 3) := dk_181 0 166 (dk_at dksX0_plays_8 10 rfl rfl)
theorem dX0_plays_200 : decode cX0_plays 200 = .ok (.aload_n 0, 1) := dk_42 (dk_at dksX0_plays_8 13 rfl rfl)
theorem dX0_plays_201 : decode cX0_plays 201 = .ok (.getfield 42, 3) := dk_180 0 42 (dk_at dksX0_plays_8 14 rfl rfl)
theorem dX0_plays_204 : decode cX0_plays 204 = .ok (.getfield 296, 3) := dk_180 1 40 (dk_at dksX0_plays_8 17 rfl rfl)
theorem dX0_plays_207 : decode cX0_plays 207 = .ok (.iconst 1, 1) := dk_4 (dk_at dksX0_plays_8 20 rfl rfl)
theorem dX0_plays_208 : decode cX0_plays 208 = .ok (.aaload, 1) := dk_50 (dk_at dksX0_plays_8 21 rfl rfl)
theorem dX0_plays_209 : decode cX0_plays 209 = .ok (.iload_n 2, 1) := dk_28 (dk_at dksX0_plays_8 22 rfl rfl)
theorem dX0_plays_210 : decode cX0_plays 210 = .ok (.iaload, 1) := dk_46 (dk_at dksX0_plays_8 23 rfl rfl)
theorem dX0_plays_211 : decode cX0_plays 211 = .ok (.ireturn, 1) := dk_172 (dk_at dksX0_plays_9 0 rfl rfl)
abbrev cX0_potWith : ByteArray := prog_1_method_38_code
def yX0_potWith : MethodName := ⟨RX0, "potWith", "(J)J"⟩
def dkwX0_potWith_1 : List UInt8 := [46, 133, 105, 20, 1, 20, 109, 97, 173]
abbrev dktX0_potWith_1 : List UInt8 := dkwX0_potWith_1 ++ []
def dkwX0_potWith_0 : List UInt8 := [31, 42, 180, 0, 238, 42, 180, 0, 42, 180, 1, 30, 3, 46, 133, 105, 42, 180, 0, 42, 180, 1, 30, 4]
abbrev dktX0_potWith_0 : List UInt8 := dkwX0_potWith_0 ++ dktX0_potWith_1
theorem dksX0_potWith_0 : cX0_potWith.data.toList.drop 0 = dktX0_potWith_0 := by decide +kernel
theorem dksX0_potWith_1 : cX0_potWith.data.toList.drop 24 = dktX0_potWith_1 := dk_seg dksX0_potWith_0 24 rfl rfl
theorem dX0_potWith_0 : decode cX0_potWith 0 = .ok (.lload_n 1, 1) := dk_31 (dk_at dksX0_potWith_0 0 rfl rfl)
theorem dX0_potWith_1 : decode cX0_potWith 1 = .ok (.aload_n 0, 1) := dk_42 (dk_at dksX0_potWith_0 1 rfl rfl)
theorem dX0_potWith_2 : decode cX0_potWith 2 = .ok (.getfield 238, 3) := dk_180 0 238 (dk_at dksX0_potWith_0 2 rfl rfl)
theorem dX0_potWith_5 : decode cX0_potWith 5 = .ok (.aload_n 0, 1) := dk_42 (dk_at dksX0_potWith_0 5 rfl rfl)
theorem dX0_potWith_6 : decode cX0_potWith 6 = .ok (.getfield 42, 3) := dk_180 0 42 (dk_at dksX0_potWith_0 6 rfl rfl)
theorem dX0_potWith_9 : decode cX0_potWith 9 = .ok (.getfield 286, 3) := dk_180 1 30 (dk_at dksX0_potWith_0 9 rfl rfl)
theorem dX0_potWith_12 : decode cX0_potWith 12 = .ok (.iconst 0, 1) := dk_3 (dk_at dksX0_potWith_0 12 rfl rfl)
theorem dX0_potWith_13 : decode cX0_potWith 13 = .ok (.iaload, 1) := dk_46 (dk_at dksX0_potWith_0 13 rfl rfl)
theorem dX0_potWith_14 : decode cX0_potWith 14 = .ok (.i2l, 1) := dk_133 (dk_at dksX0_potWith_0 14 rfl rfl)
theorem dX0_potWith_15 : decode cX0_potWith 15 = .ok (.lmul, 1) := dk_105 (dk_at dksX0_potWith_0 15 rfl rfl)
theorem dX0_potWith_16 : decode cX0_potWith 16 = .ok (.aload_n 0, 1) := dk_42 (dk_at dksX0_potWith_0 16 rfl rfl)
theorem dX0_potWith_17 : decode cX0_potWith 17 = .ok (.getfield 42, 3) := dk_180 0 42 (dk_at dksX0_potWith_0 17 rfl rfl)
theorem dX0_potWith_20 : decode cX0_potWith 20 = .ok (.getfield 286, 3) := dk_180 1 30 (dk_at dksX0_potWith_0 20 rfl rfl)
theorem dX0_potWith_23 : decode cX0_potWith 23 = .ok (.iconst 1, 1) := dk_4 (dk_at dksX0_potWith_0 23 rfl rfl)
theorem dX0_potWith_24 : decode cX0_potWith 24 = .ok (.iaload, 1) := dk_46 (dk_at dksX0_potWith_1 0 rfl rfl)
theorem dX0_potWith_25 : decode cX0_potWith 25 = .ok (.i2l, 1) := dk_133 (dk_at dksX0_potWith_1 1 rfl rfl)
theorem dX0_potWith_26 : decode cX0_potWith 26 = .ok (.lmul, 1) := dk_105 (dk_at dksX0_potWith_1 2 rfl rfl)
theorem dX0_potWith_27 : decode cX0_potWith 27 = .ok (.ldc2_w 276, 3) := dk_20 1 20 (dk_at dksX0_potWith_1 3 rfl rfl)
theorem dX0_potWith_30 : decode cX0_potWith 30 = .ok (.ldiv, 1) := dk_109 (dk_at dksX0_potWith_1 6 rfl rfl)
theorem dX0_potWith_31 : decode cX0_potWith 31 = .ok (.ladd, 1) := dk_97 (dk_at dksX0_potWith_1 7 rfl rfl)
theorem dX0_potWith_32 : decode cX0_potWith 32 = .ok (.lreturn, 1) := dk_173 (dk_at dksX0_potWith_1 8 rfl rfl)
abbrev cX0_winnersOf : ByteArray := prog_1_method_25_code
def yX0_winnersOf : MethodName := ⟨RX0, "winnersOf", "(II)I"⟩
def dkwX0_winnersOf_1 : List UInt8 := [27, 160, 0, 13, 29, 42, 180, 0, 90, 21, 4, 46, 96, 62, 132, 4, 1, 167, 255, 220, 29, 172]
abbrev dktX0_winnersOf_1 : List UInt8 := dkwX0_winnersOf_1 ++ []
def dkwX0_winnersOf_0 : List UInt8 := [3, 62, 3, 54, 4, 21, 4, 17, 1, 239, 162, 0, 34, 42, 180, 0, 67, 21, 4, 46, 28, 184, 0, 245]
abbrev dktX0_winnersOf_0 : List UInt8 := dkwX0_winnersOf_0 ++ dktX0_winnersOf_1
theorem dksX0_winnersOf_0 : cX0_winnersOf.data.toList.drop 0 = dktX0_winnersOf_0 := by decide +kernel
theorem dksX0_winnersOf_1 : cX0_winnersOf.data.toList.drop 24 = dktX0_winnersOf_1 := dk_seg dksX0_winnersOf_0 24 rfl rfl
theorem dX0_winnersOf_0 : decode cX0_winnersOf 0 = .ok (.iconst 0, 1) := dk_3 (dk_at dksX0_winnersOf_0 0 rfl rfl)
theorem dX0_winnersOf_1 : decode cX0_winnersOf 1 = .ok (.istore_n 3, 1) := dk_62 (dk_at dksX0_winnersOf_0 1 rfl rfl)
theorem dX0_winnersOf_2 : decode cX0_winnersOf 2 = .ok (.iconst 0, 1) := dk_3 (dk_at dksX0_winnersOf_0 2 rfl rfl)
theorem dX0_winnersOf_3 : decode cX0_winnersOf 3 = .ok (.istore 4, 2) := dk_54 4 (dk_at dksX0_winnersOf_0 3 rfl rfl)
theorem dX0_winnersOf_5 : decode cX0_winnersOf 5 = .ok (.iload 4, 2) := dk_21 4 (dk_at dksX0_winnersOf_0 5 rfl rfl)
theorem dX0_winnersOf_7 : decode cX0_winnersOf 7 = .ok (.sipush 495, 3) := dk_17 1 239 (dk_at dksX0_winnersOf_0 7 rfl rfl)
theorem dX0_winnersOf_10 : decode cX0_winnersOf 10 = .ok (.if_icmp .ge 34, 3) := dk_162 0 34 (dk_at dksX0_winnersOf_0 10 rfl rfl)
theorem dX0_winnersOf_13 : decode cX0_winnersOf 13 = .ok (.aload_n 0, 1) := dk_42 (dk_at dksX0_winnersOf_0 13 rfl rfl)
theorem dX0_winnersOf_14 : decode cX0_winnersOf 14 = .ok (.getfield 67, 3) := dk_180 0 67 (dk_at dksX0_winnersOf_0 14 rfl rfl)
theorem dX0_winnersOf_17 : decode cX0_winnersOf 17 = .ok (.iload 4, 2) := dk_21 4 (dk_at dksX0_winnersOf_0 17 rfl rfl)
theorem dX0_winnersOf_19 : decode cX0_winnersOf 19 = .ok (.iaload, 1) := dk_46 (dk_at dksX0_winnersOf_0 19 rfl rfl)
theorem dX0_winnersOf_20 : decode cX0_winnersOf 20 = .ok (.iload_n 2, 1) := dk_28 (dk_at dksX0_winnersOf_0 20 rfl rfl)
theorem dX0_winnersOf_21 : decode cX0_winnersOf 21 = .ok (.invokestatic 245, 3) := dk_184 0 245 (dk_at dksX0_winnersOf_0 21 rfl rfl)
theorem dX0_winnersOf_24 : decode cX0_winnersOf 24 = .ok (.iload_n 1, 1) := dk_27 (dk_at dksX0_winnersOf_1 0 rfl rfl)
theorem dX0_winnersOf_25 : decode cX0_winnersOf 25 = .ok (.if_icmp .ne 13, 3) := dk_160 0 13 (dk_at dksX0_winnersOf_1 1 rfl rfl)
theorem dX0_winnersOf_28 : decode cX0_winnersOf 28 = .ok (.iload_n 3, 1) := dk_29 (dk_at dksX0_winnersOf_1 4 rfl rfl)
theorem dX0_winnersOf_29 : decode cX0_winnersOf 29 = .ok (.aload_n 0, 1) := dk_42 (dk_at dksX0_winnersOf_1 5 rfl rfl)
theorem dX0_winnersOf_30 : decode cX0_winnersOf 30 = .ok (.getfield 90, 3) := dk_180 0 90 (dk_at dksX0_winnersOf_1 6 rfl rfl)
theorem dX0_winnersOf_33 : decode cX0_winnersOf 33 = .ok (.iload 4, 2) := dk_21 4 (dk_at dksX0_winnersOf_1 9 rfl rfl)
theorem dX0_winnersOf_35 : decode cX0_winnersOf 35 = .ok (.iaload, 1) := dk_46 (dk_at dksX0_winnersOf_1 11 rfl rfl)
theorem dX0_winnersOf_36 : decode cX0_winnersOf 36 = .ok (.iadd, 1) := dk_96 (dk_at dksX0_winnersOf_1 12 rfl rfl)
theorem dX0_winnersOf_37 : decode cX0_winnersOf 37 = .ok (.istore_n 3, 1) := dk_62 (dk_at dksX0_winnersOf_1 13 rfl rfl)
theorem dX0_winnersOf_38 : decode cX0_winnersOf 38 = .ok (.iinc 4 1, 3) := dk_132 4 1 (dk_at dksX0_winnersOf_1 14 rfl rfl)
theorem dX0_winnersOf_41 : decode cX0_winnersOf 41 = .ok (.goto (-36), 3) := dk_167 255 220 (dk_at dksX0_winnersOf_1 17 rfl rfl)
theorem dX0_winnersOf_44 : decode cX0_winnersOf 44 = .ok (.iload_n 3, 1) := dk_29 (dk_at dksX0_winnersOf_1 20 rfl rfl)
theorem dX0_winnersOf_45 : decode cX0_winnersOf 45 = .ok (.ireturn, 1) := dk_172 (dk_at dksX0_winnersOf_1 21 rfl rfl)
abbrev cX0_rank : ByteArray := prog_1_method_24_code
def yX0_rank : MethodName := ⟨RX0, "rank", "(II)I"⟩
def dkwX0_rank_0 : List UInt8 := [26, 27, 126, 184, 0, 105, 172]
abbrev dktX0_rank_0 : List UInt8 := dkwX0_rank_0 ++ []
theorem dksX0_rank_0 : cX0_rank.data.toList.drop 0 = dktX0_rank_0 := by decide +kernel
theorem dX0_rank_0 : decode cX0_rank 0 = .ok (.iload_n 0, 1) := dk_26 (dk_at dksX0_rank_0 0 rfl rfl)
theorem dX0_rank_1 : decode cX0_rank 1 = .ok (.iload_n 1, 1) := dk_27 (dk_at dksX0_rank_0 1 rfl rfl)
theorem dX0_rank_2 : decode cX0_rank 2 = .ok (.iand, 1) := dk_126 (dk_at dksX0_rank_0 2 rfl rfl)
theorem dX0_rank_3 : decode cX0_rank 3 = .ok (.invokestatic 105, 3) := dk_184 0 105 (dk_at dksX0_rank_0 3 rfl rfl)
theorem dX0_rank_6 : decode cX0_rank 6 = .ok (.ireturn, 1) := dk_172 (dk_at dksX0_rank_0 6 rfl rfl)
abbrev cX0_shareOf : ByteArray := prog_1_method_39_code
def yX0_shareOf : MethodName := ⟨RX0, "shareOf", "(JI)J"⟩
def dkwX0_shareOf_0 : List UInt8 := [31, 42, 180, 0, 42, 180, 1, 30, 16, 6, 29, 100, 46, 133, 105, 20, 1, 20, 109, 173]
abbrev dktX0_shareOf_0 : List UInt8 := dkwX0_shareOf_0 ++ []
theorem dksX0_shareOf_0 : cX0_shareOf.data.toList.drop 0 = dktX0_shareOf_0 := by decide +kernel
theorem dX0_shareOf_0 : decode cX0_shareOf 0 = .ok (.lload_n 1, 1) := dk_31 (dk_at dksX0_shareOf_0 0 rfl rfl)
theorem dX0_shareOf_1 : decode cX0_shareOf 1 = .ok (.aload_n 0, 1) := dk_42 (dk_at dksX0_shareOf_0 1 rfl rfl)
theorem dX0_shareOf_2 : decode cX0_shareOf 2 = .ok (.getfield 42, 3) := dk_180 0 42 (dk_at dksX0_shareOf_0 2 rfl rfl)
theorem dX0_shareOf_5 : decode cX0_shareOf 5 = .ok (.getfield 286, 3) := dk_180 1 30 (dk_at dksX0_shareOf_0 5 rfl rfl)
theorem dX0_shareOf_8 : decode cX0_shareOf 8 = .ok (.bipush 6, 2) := dk_16 6 (dk_at dksX0_shareOf_0 8 rfl rfl)
theorem dX0_shareOf_10 : decode cX0_shareOf 10 = .ok (.iload_n 3, 1) := dk_29 (dk_at dksX0_shareOf_0 10 rfl rfl)
theorem dX0_shareOf_11 : decode cX0_shareOf 11 = .ok (.isub, 1) := dk_100 (dk_at dksX0_shareOf_0 11 rfl rfl)
theorem dX0_shareOf_12 : decode cX0_shareOf 12 = .ok (.iaload, 1) := dk_46 (dk_at dksX0_shareOf_0 12 rfl rfl)
theorem dX0_shareOf_13 : decode cX0_shareOf 13 = .ok (.i2l, 1) := dk_133 (dk_at dksX0_shareOf_0 13 rfl rfl)
theorem dX0_shareOf_14 : decode cX0_shareOf 14 = .ok (.lmul, 1) := dk_105 (dk_at dksX0_shareOf_0 14 rfl rfl)
theorem dX0_shareOf_15 : decode cX0_shareOf 15 = .ok (.ldc2_w 276, 3) := dk_20 1 20 (dk_at dksX0_shareOf_0 15 rfl rfl)
theorem dX0_shareOf_18 : decode cX0_shareOf 18 = .ok (.ldiv, 1) := dk_109 (dk_at dksX0_shareOf_0 18 rfl rfl)
theorem dX0_shareOf_19 : decode cX0_shareOf 19 = .ok (.lreturn, 1) := dk_173 (dk_at dksX0_shareOf_0 19 rfl rfl)
abbrev cX0_told : ByteArray := prog_1_method_43_code
def yX0_told : MethodName := ⟨RX0, "told", "(I)I"⟩
def dkwX0_told_1 : List UInt8 := [3, 4, 184, 0, 119, 42, 27, 182, 1, 63, 172, 77, 42, 44, 182, 0, 145, 172]
abbrev dktX0_told_1 : List UInt8 := dkwX0_told_1 ++ []
def dkwX0_told_0 : List UInt8 := [27, 184, 0, 138, 3, 184, 0, 119, 42, 180, 0, 42, 180, 0, 185, 16, 40, 162, 0, 7, 4, 167, 0, 4]
abbrev dktX0_told_0 : List UInt8 := dkwX0_told_0 ++ dktX0_told_1
theorem dksX0_told_0 : cX0_told.data.toList.drop 0 = dktX0_told_0 := by decide +kernel
theorem dksX0_told_1 : cX0_told.data.toList.drop 24 = dktX0_told_1 := dk_seg dksX0_told_0 24 rfl rfl
theorem dX0_told_0 : decode cX0_told 0 = .ok (.iload_n 1, 1) := dk_27 (dk_at dksX0_told_0 0 rfl rfl)
theorem dX0_told_1 : decode cX0_told 1 = .ok (.invokestatic 138, 3) := dk_184 0 138 (dk_at dksX0_told_0 1 rfl rfl)
theorem dX0_told_4 : decode cX0_told 4 = .ok (.iconst 0, 1) := dk_3 (dk_at dksX0_told_0 4 rfl rfl)
theorem dX0_told_5 : decode cX0_told 5 = .ok (.invokestatic 119, 3) := dk_184 0 119 (dk_at dksX0_told_0 5 rfl rfl)
theorem dX0_told_8 : decode cX0_told 8 = .ok (.aload_n 0, 1) := dk_42 (dk_at dksX0_told_0 8 rfl rfl)
theorem dX0_told_9 : decode cX0_told 9 = .ok (.getfield 42, 3) := dk_180 0 42 (dk_at dksX0_told_0 9 rfl rfl)
theorem dX0_told_12 : decode cX0_told 12 = .ok (.getfield 185, 3) := dk_180 0 185 (dk_at dksX0_told_0 12 rfl rfl)
theorem dX0_told_15 : decode cX0_told 15 = .ok (.bipush 40, 2) := dk_16 40 (dk_at dksX0_told_0 15 rfl rfl)
theorem dX0_told_17 : decode cX0_told 17 = .ok (.if_icmp .ge 7, 3) := dk_162 0 7 (dk_at dksX0_told_0 17 rfl rfl)
theorem dX0_told_20 : decode cX0_told 20 = .ok (.iconst 1, 1) := dk_4 (dk_at dksX0_told_0 20 rfl rfl)
theorem dX0_told_21 : decode cX0_told 21 = .ok (.goto 4, 3) := dk_167 0 4 (dk_at dksX0_told_0 21 rfl rfl)
theorem dX0_told_24 : decode cX0_told 24 = .ok (.iconst 0, 1) := dk_3 (dk_at dksX0_told_1 0 rfl rfl)
theorem dX0_told_25 : decode cX0_told 25 = .ok (.iconst 1, 1) := dk_4 (dk_at dksX0_told_1 1 rfl rfl)
theorem dX0_told_26 : decode cX0_told 26 = .ok (.invokestatic 119, 3) := dk_184 0 119 (dk_at dksX0_told_1 2 rfl rfl)
theorem dX0_told_29 : decode cX0_told 29 = .ok (.aload_n 0, 1) := dk_42 (dk_at dksX0_told_1 5 rfl rfl)
theorem dX0_told_30 : decode cX0_told 30 = .ok (.iload_n 1, 1) := dk_27 (dk_at dksX0_told_1 6 rfl rfl)
theorem dX0_told_31 : decode cX0_told 31 = .ok (.invokevirtual 319, 3) := dk_182 1 63 (dk_at dksX0_told_1 7 rfl rfl)
theorem dX0_told_34 : decode cX0_told 34 = .ok (.ireturn, 1) := dk_172 (dk_at dksX0_told_1 10 rfl rfl)
theorem dX0_told_35 : decode cX0_told 35 = .ok (.astore_n 2, 1) := dk_77 (dk_at dksX0_told_1 11 rfl rfl)
theorem dX0_told_36 : decode cX0_told 36 = .ok (.aload_n 0, 1) := dk_42 (dk_at dksX0_told_1 12 rfl rfl)
theorem dX0_told_37 : decode cX0_told 37 = .ok (.aload_n 2, 1) := dk_44 (dk_at dksX0_told_1 13 rfl rfl)
theorem dX0_told_38 : decode cX0_told 38 = .ok (.invokevirtual 145, 3) := dk_182 0 145 (dk_at dksX0_told_1 14 rfl rfl)
theorem dX0_told_41 : decode cX0_told 41 = .ok (.ireturn, 1) := dk_172 (dk_at dksX0_told_1 17 rfl rfl)
abbrev cX0_book : ByteArray := prog_1_method_44_code
def yX0_book : MethodName := ⟨RX0, "book", "(II)I"⟩
def dkwX0_book_2 : List UInt8 := [180, 1, 40, 28, 50, 27, 46, 172, 78, 42, 45, 182, 0, 145, 172]
abbrev dktX0_book_2 : List UInt8 := dkwX0_book_2 ++ []
def dkwX0_book_1 : List UInt8 := [20, 0, 152, 184, 0, 125, 153, 0, 7, 4, 167, 0, 4, 3, 3, 184, 0, 119, 42, 180, 0, 42]
abbrev dktX0_book_1 : List UInt8 := dkwX0_book_1 ++ dktX0_book_2
def dkwX0_book_0 : List UInt8 := [27, 133, 9, 42, 180, 0, 42, 180, 0, 185, 4, 100, 133, 184, 0, 125, 153, 0, 19, 28, 133, 9]
abbrev dktX0_book_0 : List UInt8 := dkwX0_book_0 ++ dktX0_book_1
theorem dksX0_book_0 : cX0_book.data.toList.drop 0 = dktX0_book_0 := by decide +kernel
theorem dksX0_book_1 : cX0_book.data.toList.drop 22 = dktX0_book_1 := dk_seg dksX0_book_0 22 rfl rfl
theorem dksX0_book_2 : cX0_book.data.toList.drop 44 = dktX0_book_2 := dk_seg dksX0_book_1 22 rfl rfl
theorem dX0_book_0 : decode cX0_book 0 = .ok (.iload_n 1, 1) := dk_27 (dk_at dksX0_book_0 0 rfl rfl)
theorem dX0_book_1 : decode cX0_book 1 = .ok (.i2l, 1) := dk_133 (dk_at dksX0_book_0 1 rfl rfl)
theorem dX0_book_2 : decode cX0_book 2 = .ok (.lconst 0, 1) := dk_9 (dk_at dksX0_book_0 2 rfl rfl)
theorem dX0_book_3 : decode cX0_book 3 = .ok (.aload_n 0, 1) := dk_42 (dk_at dksX0_book_0 3 rfl rfl)
theorem dX0_book_4 : decode cX0_book 4 = .ok (.getfield 42, 3) := dk_180 0 42 (dk_at dksX0_book_0 4 rfl rfl)
theorem dX0_book_7 : decode cX0_book 7 = .ok (.getfield 185, 3) := dk_180 0 185 (dk_at dksX0_book_0 7 rfl rfl)
theorem dX0_book_10 : decode cX0_book 10 = .ok (.iconst 1, 1) := dk_4 (dk_at dksX0_book_0 10 rfl rfl)
theorem dX0_book_11 : decode cX0_book 11 = .ok (.isub, 1) := dk_100 (dk_at dksX0_book_0 11 rfl rfl)
theorem dX0_book_12 : decode cX0_book 12 = .ok (.i2l, 1) := dk_133 (dk_at dksX0_book_0 12 rfl rfl)
theorem dX0_book_13 : decode cX0_book 13 = .ok (.invokestatic 125, 3) := dk_184 0 125 (dk_at dksX0_book_0 13 rfl rfl)
theorem dX0_book_16 : decode cX0_book 16 = .ok (.ifCond .eq 19, 3) := dk_153 0 19 (dk_at dksX0_book_0 16 rfl rfl)
theorem dX0_book_19 : decode cX0_book 19 = .ok (.iload_n 2, 1) := dk_28 (dk_at dksX0_book_0 19 rfl rfl)
theorem dX0_book_20 : decode cX0_book 20 = .ok (.i2l, 1) := dk_133 (dk_at dksX0_book_0 20 rfl rfl)
theorem dX0_book_21 : decode cX0_book 21 = .ok (.lconst 0, 1) := dk_9 (dk_at dksX0_book_0 21 rfl rfl)
theorem dX0_book_22 : decode cX0_book 22 = .ok (.ldc2_w 152, 3) := dk_20 0 152 (dk_at dksX0_book_1 0 rfl rfl)
theorem dX0_book_25 : decode cX0_book 25 = .ok (.invokestatic 125, 3) := dk_184 0 125 (dk_at dksX0_book_1 3 rfl rfl)
theorem dX0_book_28 : decode cX0_book 28 = .ok (.ifCond .eq 7, 3) := dk_153 0 7 (dk_at dksX0_book_1 6 rfl rfl)
theorem dX0_book_31 : decode cX0_book 31 = .ok (.iconst 1, 1) := dk_4 (dk_at dksX0_book_1 9 rfl rfl)
theorem dX0_book_32 : decode cX0_book 32 = .ok (.goto 4, 3) := dk_167 0 4 (dk_at dksX0_book_1 10 rfl rfl)
theorem dX0_book_35 : decode cX0_book 35 = .ok (.iconst 0, 1) := dk_3 (dk_at dksX0_book_1 13 rfl rfl)
theorem dX0_book_36 : decode cX0_book 36 = .ok (.iconst 0, 1) := dk_3 (dk_at dksX0_book_1 14 rfl rfl)
theorem dX0_book_37 : decode cX0_book 37 = .ok (.invokestatic 119, 3) := dk_184 0 119 (dk_at dksX0_book_1 15 rfl rfl)
theorem dX0_book_40 : decode cX0_book 40 = .ok (.aload_n 0, 1) := dk_42 (dk_at dksX0_book_1 18 rfl rfl)
theorem dX0_book_41 : decode cX0_book 41 = .ok (.getfield 42, 3) := dk_180 0 42 (dk_at dksX0_book_1 19 rfl rfl)
theorem dX0_book_44 : decode cX0_book 44 = .ok (.getfield 296, 3) := dk_180 1 40 (dk_at dksX0_book_2 0 rfl rfl)
theorem dX0_book_47 : decode cX0_book 47 = .ok (.iload_n 2, 1) := dk_28 (dk_at dksX0_book_2 3 rfl rfl)
theorem dX0_book_48 : decode cX0_book 48 = .ok (.aaload, 1) := dk_50 (dk_at dksX0_book_2 4 rfl rfl)
theorem dX0_book_49 : decode cX0_book 49 = .ok (.iload_n 1, 1) := dk_27 (dk_at dksX0_book_2 5 rfl rfl)
theorem dX0_book_50 : decode cX0_book 50 = .ok (.iaload, 1) := dk_46 (dk_at dksX0_book_2 6 rfl rfl)
theorem dX0_book_51 : decode cX0_book 51 = .ok (.ireturn, 1) := dk_172 (dk_at dksX0_book_2 7 rfl rfl)
theorem dX0_book_52 : decode cX0_book 52 = .ok (.astore_n 3, 1) := dk_78 (dk_at dksX0_book_2 8 rfl rfl)
theorem dX0_book_53 : decode cX0_book 53 = .ok (.aload_n 0, 1) := dk_42 (dk_at dksX0_book_2 9 rfl rfl)
theorem dX0_book_54 : decode cX0_book 54 = .ok (.aload_n 3, 1) := dk_45 (dk_at dksX0_book_2 10 rfl rfl)
theorem dX0_book_55 : decode cX0_book 55 = .ok (.invokevirtual 145, 3) := dk_182 0 145 (dk_at dksX0_book_2 11 rfl rfl)
theorem dX0_book_58 : decode cX0_book 58 = .ok (.ireturn, 1) := dk_172 (dk_at dksX0_book_2 14 rfl rfl)
abbrev cX0_now : ByteArray := prog_1_method_45_code
def yX0_now : MethodName := ⟨RX0, "now", "()I"⟩
def dkwX0_now_0 : List UInt8 := [42, 182, 0, 249, 42, 42, 180, 0, 42, 180, 1, 30, 16, 7, 46, 133, 182, 1, 36, 136, 172]
abbrev dktX0_now_0 : List UInt8 := dkwX0_now_0 ++ []
theorem dksX0_now_0 : cX0_now.data.toList.drop 0 = dktX0_now_0 := by decide +kernel
theorem dX0_now_0 : decode cX0_now 0 = .ok (.aload_n 0, 1) := dk_42 (dk_at dksX0_now_0 0 rfl rfl)
theorem dX0_now_1 : decode cX0_now 1 = .ok (.invokevirtual 249, 3) := dk_182 0 249 (dk_at dksX0_now_0 1 rfl rfl)
theorem dX0_now_4 : decode cX0_now 4 = .ok (.aload_n 0, 1) := dk_42 (dk_at dksX0_now_0 4 rfl rfl)
theorem dX0_now_5 : decode cX0_now 5 = .ok (.aload_n 0, 1) := dk_42 (dk_at dksX0_now_0 5 rfl rfl)
theorem dX0_now_6 : decode cX0_now 6 = .ok (.getfield 42, 3) := dk_180 0 42 (dk_at dksX0_now_0 6 rfl rfl)
theorem dX0_now_9 : decode cX0_now 9 = .ok (.getfield 286, 3) := dk_180 1 30 (dk_at dksX0_now_0 9 rfl rfl)
theorem dX0_now_12 : decode cX0_now 12 = .ok (.bipush 7, 2) := dk_16 7 (dk_at dksX0_now_0 12 rfl rfl)
theorem dX0_now_14 : decode cX0_now 14 = .ok (.iaload, 1) := dk_46 (dk_at dksX0_now_0 14 rfl rfl)
theorem dX0_now_15 : decode cX0_now 15 = .ok (.i2l, 1) := dk_133 (dk_at dksX0_now_0 15 rfl rfl)
theorem dX0_now_16 : decode cX0_now 16 = .ok (.invokevirtual 292, 3) := dk_182 1 36 (dk_at dksX0_now_0 16 rfl rfl)
theorem dX0_now_19 : decode cX0_now 19 = .ok (.l2i, 1) := dk_136 (dk_at dksX0_now_0 19 rfl rfl)
theorem dX0_now_20 : decode cX0_now 20 = .ok (.ireturn, 1) := dk_172 (dk_at dksX0_now_0 20 rfl rfl)
abbrev cX0_worth : ByteArray := prog_1_method_48_code
def yX0_worth : MethodName := ⟨RX0, "worth", "(I)I"⟩
def dkwX0_worth_1 : List UInt8 := [46, 133, 182, 1, 36, 182, 1, 74, 172, 77, 42, 44, 182, 0, 145, 172]
abbrev dktX0_worth_1 : List UInt8 := dkwX0_worth_1 ++ []
def dkwX0_worth_0 : List UInt8 := [27, 184, 0, 149, 3, 184, 0, 119, 42, 182, 1, 71, 42, 27, 42, 42, 180, 0, 42, 180, 1, 30, 16, 7]
abbrev dktX0_worth_0 : List UInt8 := dkwX0_worth_0 ++ dktX0_worth_1
theorem dksX0_worth_0 : cX0_worth.data.toList.drop 0 = dktX0_worth_0 := by decide +kernel
theorem dksX0_worth_1 : cX0_worth.data.toList.drop 24 = dktX0_worth_1 := dk_seg dksX0_worth_0 24 rfl rfl
theorem dX0_worth_0 : decode cX0_worth 0 = .ok (.iload_n 1, 1) := dk_27 (dk_at dksX0_worth_0 0 rfl rfl)
theorem dX0_worth_1 : decode cX0_worth 1 = .ok (.invokestatic 149, 3) := dk_184 0 149 (dk_at dksX0_worth_0 1 rfl rfl)
theorem dX0_worth_4 : decode cX0_worth 4 = .ok (.iconst 0, 1) := dk_3 (dk_at dksX0_worth_0 4 rfl rfl)
theorem dX0_worth_5 : decode cX0_worth 5 = .ok (.invokestatic 119, 3) := dk_184 0 119 (dk_at dksX0_worth_0 5 rfl rfl)
theorem dX0_worth_8 : decode cX0_worth 8 = .ok (.aload_n 0, 1) := dk_42 (dk_at dksX0_worth_0 8 rfl rfl)
theorem dX0_worth_9 : decode cX0_worth 9 = .ok (.invokevirtual 327, 3) := dk_182 1 71 (dk_at dksX0_worth_0 9 rfl rfl)
theorem dX0_worth_12 : decode cX0_worth 12 = .ok (.aload_n 0, 1) := dk_42 (dk_at dksX0_worth_0 12 rfl rfl)
theorem dX0_worth_13 : decode cX0_worth 13 = .ok (.iload_n 1, 1) := dk_27 (dk_at dksX0_worth_0 13 rfl rfl)
theorem dX0_worth_14 : decode cX0_worth 14 = .ok (.aload_n 0, 1) := dk_42 (dk_at dksX0_worth_0 14 rfl rfl)
theorem dX0_worth_15 : decode cX0_worth 15 = .ok (.aload_n 0, 1) := dk_42 (dk_at dksX0_worth_0 15 rfl rfl)
theorem dX0_worth_16 : decode cX0_worth 16 = .ok (.getfield 42, 3) := dk_180 0 42 (dk_at dksX0_worth_0 16 rfl rfl)
theorem dX0_worth_19 : decode cX0_worth 19 = .ok (.getfield 286, 3) := dk_180 1 30 (dk_at dksX0_worth_0 19 rfl rfl)
theorem dX0_worth_22 : decode cX0_worth 22 = .ok (.bipush 7, 2) := dk_16 7 (dk_at dksX0_worth_0 22 rfl rfl)
theorem dX0_worth_24 : decode cX0_worth 24 = .ok (.iaload, 1) := dk_46 (dk_at dksX0_worth_1 0 rfl rfl)
theorem dX0_worth_25 : decode cX0_worth 25 = .ok (.i2l, 1) := dk_133 (dk_at dksX0_worth_1 1 rfl rfl)
theorem dX0_worth_26 : decode cX0_worth 26 = .ok (.invokevirtual 292, 3) := dk_182 1 36 (dk_at dksX0_worth_1 2 rfl rfl)
theorem dX0_worth_29 : decode cX0_worth 29 = .ok (.invokevirtual 330, 3) := dk_182 1 74 (dk_at dksX0_worth_1 5 rfl rfl)
theorem dX0_worth_32 : decode cX0_worth 32 = .ok (.ireturn, 1) := dk_172 (dk_at dksX0_worth_1 8 rfl rfl)
theorem dX0_worth_33 : decode cX0_worth 33 = .ok (.astore_n 2, 1) := dk_77 (dk_at dksX0_worth_1 9 rfl rfl)
theorem dX0_worth_34 : decode cX0_worth 34 = .ok (.aload_n 0, 1) := dk_42 (dk_at dksX0_worth_1 10 rfl rfl)
theorem dX0_worth_35 : decode cX0_worth 35 = .ok (.aload_n 2, 1) := dk_44 (dk_at dksX0_worth_1 11 rfl rfl)
theorem dX0_worth_36 : decode cX0_worth 36 = .ok (.invokevirtual 145, 3) := dk_182 0 145 (dk_at dksX0_worth_1 12 rfl rfl)
theorem dX0_worth_39 : decode cX0_worth 39 = .ok (.ireturn, 1) := dk_172 (dk_at dksX0_worth_1 15 rfl rfl)
abbrev cX0_findWinners : ByteArray := prog_1_method_26_code
def yX0_findWinners : MethodName := ⟨RX0, "findWinners", "()V"⟩
def dkwX0_findWinners_4 : List UInt8 := [167, 255, 178, 42, 4, 181, 0, 242, 177]
abbrev dktX0_findWinners_4 : List UInt8 := dkwX0_findWinners_4 ++ []
def dkwX0_findWinners_3 : List UInt8 := [184, 0, 245, 50, 27, 92, 46, 42, 180, 0, 90, 28, 46, 96, 79, 132, 2, 1, 167, 255, 215, 132, 1, 1]
abbrev dktX0_findWinners_3 : List UInt8 := dkwX0_findWinners_3 ++ dktX0_findWinners_4
def dkwX0_findWinners_2 : List UInt8 := [17, 1, 239, 162, 0, 40, 42, 180, 0, 95, 42, 180, 0, 67, 28, 46, 42, 180, 0, 67, 27, 46]
abbrev dktX0_findWinners_2 : List UInt8 := dkwX0_findWinners_2 ++ dktX0_findWinners_3
def dkwX0_findWinners_1 : List UInt8 := [7, 163, 0, 18, 42, 180, 0, 95, 28, 50, 27, 3, 79, 132, 2, 1, 167, 255, 239, 3, 61, 28]
abbrev dktX0_findWinners_1 : List UInt8 := dkwX0_findWinners_1 ++ dktX0_findWinners_2
def dkwX0_findWinners_0 : List UInt8 := [42, 182, 0, 249, 42, 180, 0, 242, 153, 0, 4, 177, 3, 60, 27, 17, 1, 239, 162, 0, 77, 3, 61, 28]
abbrev dktX0_findWinners_0 : List UInt8 := dkwX0_findWinners_0 ++ dktX0_findWinners_1
theorem dksX0_findWinners_0 : cX0_findWinners.data.toList.drop 0 = dktX0_findWinners_0 := by decide +kernel
theorem dksX0_findWinners_1 : cX0_findWinners.data.toList.drop 24 = dktX0_findWinners_1 := dk_seg dksX0_findWinners_0 24 rfl rfl
theorem dksX0_findWinners_2 : cX0_findWinners.data.toList.drop 46 = dktX0_findWinners_2 := dk_seg dksX0_findWinners_1 22 rfl rfl
theorem dksX0_findWinners_3 : cX0_findWinners.data.toList.drop 68 = dktX0_findWinners_3 := dk_seg dksX0_findWinners_2 22 rfl rfl
theorem dksX0_findWinners_4 : cX0_findWinners.data.toList.drop 92 = dktX0_findWinners_4 := dk_seg dksX0_findWinners_3 24 rfl rfl
theorem dX0_findWinners_0 : decode cX0_findWinners 0 = .ok (.aload_n 0, 1) := dk_42 (dk_at dksX0_findWinners_0 0 rfl rfl)
theorem dX0_findWinners_1 : decode cX0_findWinners 1 = .ok (.invokevirtual 249, 3) := dk_182 0 249 (dk_at dksX0_findWinners_0 1 rfl rfl)
theorem dX0_findWinners_4 : decode cX0_findWinners 4 = .ok (.aload_n 0, 1) := dk_42 (dk_at dksX0_findWinners_0 4 rfl rfl)
theorem dX0_findWinners_5 : decode cX0_findWinners 5 = .ok (.getfield 242, 3) := dk_180 0 242 (dk_at dksX0_findWinners_0 5 rfl rfl)
theorem dX0_findWinners_8 : decode cX0_findWinners 8 = .ok (.ifCond .eq 4, 3) := dk_153 0 4 (dk_at dksX0_findWinners_0 8 rfl rfl)
theorem dX0_findWinners_11 : decode cX0_findWinners 11 = .ok (.return_, 1) := dk_177 (dk_at dksX0_findWinners_0 11 rfl rfl)
theorem dX0_findWinners_12 : decode cX0_findWinners 12 = .ok (.iconst 0, 1) := dk_3 (dk_at dksX0_findWinners_0 12 rfl rfl)
theorem dX0_findWinners_13 : decode cX0_findWinners 13 = .ok (.istore_n 1, 1) := dk_60 (dk_at dksX0_findWinners_0 13 rfl rfl)
theorem dX0_findWinners_14 : decode cX0_findWinners 14 = .ok (.iload_n 1, 1) := dk_27 (dk_at dksX0_findWinners_0 14 rfl rfl)
theorem dX0_findWinners_15 : decode cX0_findWinners 15 = .ok (.sipush 495, 3) := dk_17 1 239 (dk_at dksX0_findWinners_0 15 rfl rfl)
theorem dX0_findWinners_18 : decode cX0_findWinners 18 = .ok (.if_icmp .ge 77, 3) := dk_162 0 77 (dk_at dksX0_findWinners_0 18 rfl rfl)
theorem dX0_findWinners_21 : decode cX0_findWinners 21 = .ok (.iconst 0, 1) := dk_3 (dk_at dksX0_findWinners_0 21 rfl rfl)
theorem dX0_findWinners_22 : decode cX0_findWinners 22 = .ok (.istore_n 2, 1) := dk_61 (dk_at dksX0_findWinners_0 22 rfl rfl)
theorem dX0_findWinners_23 : decode cX0_findWinners 23 = .ok (.iload_n 2, 1) := dk_28 (dk_at dksX0_findWinners_0 23 rfl rfl)
theorem dX0_findWinners_24 : decode cX0_findWinners 24 = .ok (.iconst 4, 1) := dk_7 (dk_at dksX0_findWinners_1 0 rfl rfl)
theorem dX0_findWinners_25 : decode cX0_findWinners 25 = .ok (.if_icmp .gt 18, 3) := dk_163 0 18 (dk_at dksX0_findWinners_1 1 rfl rfl)
theorem dX0_findWinners_28 : decode cX0_findWinners 28 = .ok (.aload_n 0, 1) := dk_42 (dk_at dksX0_findWinners_1 4 rfl rfl)
theorem dX0_findWinners_29 : decode cX0_findWinners 29 = .ok (.getfield 95, 3) := dk_180 0 95 (dk_at dksX0_findWinners_1 5 rfl rfl)
theorem dX0_findWinners_32 : decode cX0_findWinners 32 = .ok (.iload_n 2, 1) := dk_28 (dk_at dksX0_findWinners_1 8 rfl rfl)
theorem dX0_findWinners_33 : decode cX0_findWinners 33 = .ok (.aaload, 1) := dk_50 (dk_at dksX0_findWinners_1 9 rfl rfl)
theorem dX0_findWinners_34 : decode cX0_findWinners 34 = .ok (.iload_n 1, 1) := dk_27 (dk_at dksX0_findWinners_1 10 rfl rfl)
theorem dX0_findWinners_35 : decode cX0_findWinners 35 = .ok (.iconst 0, 1) := dk_3 (dk_at dksX0_findWinners_1 11 rfl rfl)
theorem dX0_findWinners_36 : decode cX0_findWinners 36 = .ok (.iastore, 1) := dk_79 (dk_at dksX0_findWinners_1 12 rfl rfl)
theorem dX0_findWinners_37 : decode cX0_findWinners 37 = .ok (.iinc 2 1, 3) := dk_132 2 1 (dk_at dksX0_findWinners_1 13 rfl rfl)
theorem dX0_findWinners_40 : decode cX0_findWinners 40 = .ok (.goto (-17), 3) := dk_167 255 239 (dk_at dksX0_findWinners_1 16 rfl rfl)
theorem dX0_findWinners_43 : decode cX0_findWinners 43 = .ok (.iconst 0, 1) := dk_3 (dk_at dksX0_findWinners_1 19 rfl rfl)
theorem dX0_findWinners_44 : decode cX0_findWinners 44 = .ok (.istore_n 2, 1) := dk_61 (dk_at dksX0_findWinners_1 20 rfl rfl)
theorem dX0_findWinners_45 : decode cX0_findWinners 45 = .ok (.iload_n 2, 1) := dk_28 (dk_at dksX0_findWinners_1 21 rfl rfl)
theorem dX0_findWinners_46 : decode cX0_findWinners 46 = .ok (.sipush 495, 3) := dk_17 1 239 (dk_at dksX0_findWinners_2 0 rfl rfl)
theorem dX0_findWinners_49 : decode cX0_findWinners 49 = .ok (.if_icmp .ge 40, 3) := dk_162 0 40 (dk_at dksX0_findWinners_2 3 rfl rfl)
theorem dX0_findWinners_52 : decode cX0_findWinners 52 = .ok (.aload_n 0, 1) := dk_42 (dk_at dksX0_findWinners_2 6 rfl rfl)
theorem dX0_findWinners_53 : decode cX0_findWinners 53 = .ok (.getfield 95, 3) := dk_180 0 95 (dk_at dksX0_findWinners_2 7 rfl rfl)
theorem dX0_findWinners_56 : decode cX0_findWinners 56 = .ok (.aload_n 0, 1) := dk_42 (dk_at dksX0_findWinners_2 10 rfl rfl)
theorem dX0_findWinners_57 : decode cX0_findWinners 57 = .ok (.getfield 67, 3) := dk_180 0 67 (dk_at dksX0_findWinners_2 11 rfl rfl)
theorem dX0_findWinners_60 : decode cX0_findWinners 60 = .ok (.iload_n 2, 1) := dk_28 (dk_at dksX0_findWinners_2 14 rfl rfl)
theorem dX0_findWinners_61 : decode cX0_findWinners 61 = .ok (.iaload, 1) := dk_46 (dk_at dksX0_findWinners_2 15 rfl rfl)
theorem dX0_findWinners_62 : decode cX0_findWinners 62 = .ok (.aload_n 0, 1) := dk_42 (dk_at dksX0_findWinners_2 16 rfl rfl)
theorem dX0_findWinners_63 : decode cX0_findWinners 63 = .ok (.getfield 67, 3) := dk_180 0 67 (dk_at dksX0_findWinners_2 17 rfl rfl)
theorem dX0_findWinners_66 : decode cX0_findWinners 66 = .ok (.iload_n 1, 1) := dk_27 (dk_at dksX0_findWinners_2 20 rfl rfl)
theorem dX0_findWinners_67 : decode cX0_findWinners 67 = .ok (.iaload, 1) := dk_46 (dk_at dksX0_findWinners_2 21 rfl rfl)
theorem dX0_findWinners_68 : decode cX0_findWinners 68 = .ok (.invokestatic 245, 3) := dk_184 0 245 (dk_at dksX0_findWinners_3 0 rfl rfl)
theorem dX0_findWinners_71 : decode cX0_findWinners 71 = .ok (.aaload, 1) := dk_50 (dk_at dksX0_findWinners_3 3 rfl rfl)
theorem dX0_findWinners_72 : decode cX0_findWinners 72 = .ok (.iload_n 1, 1) := dk_27 (dk_at dksX0_findWinners_3 4 rfl rfl)
theorem dX0_findWinners_73 : decode cX0_findWinners 73 = .ok (.dup2, 1) := dk_92 (dk_at dksX0_findWinners_3 5 rfl rfl)
theorem dX0_findWinners_74 : decode cX0_findWinners 74 = .ok (.iaload, 1) := dk_46 (dk_at dksX0_findWinners_3 6 rfl rfl)
theorem dX0_findWinners_75 : decode cX0_findWinners 75 = .ok (.aload_n 0, 1) := dk_42 (dk_at dksX0_findWinners_3 7 rfl rfl)
theorem dX0_findWinners_76 : decode cX0_findWinners 76 = .ok (.getfield 90, 3) := dk_180 0 90 (dk_at dksX0_findWinners_3 8 rfl rfl)
theorem dX0_findWinners_79 : decode cX0_findWinners 79 = .ok (.iload_n 2, 1) := dk_28 (dk_at dksX0_findWinners_3 11 rfl rfl)
theorem dX0_findWinners_80 : decode cX0_findWinners 80 = .ok (.iaload, 1) := dk_46 (dk_at dksX0_findWinners_3 12 rfl rfl)
theorem dX0_findWinners_81 : decode cX0_findWinners 81 = .ok (.iadd, 1) := dk_96 (dk_at dksX0_findWinners_3 13 rfl rfl)
theorem dX0_findWinners_82 : decode cX0_findWinners 82 = .ok (.iastore, 1) := dk_79 (dk_at dksX0_findWinners_3 14 rfl rfl)
theorem dX0_findWinners_83 : decode cX0_findWinners 83 = .ok (.iinc 2 1, 3) := dk_132 2 1 (dk_at dksX0_findWinners_3 15 rfl rfl)
theorem dX0_findWinners_86 : decode cX0_findWinners 86 = .ok (.goto (-41), 3) := dk_167 255 215 (dk_at dksX0_findWinners_3 18 rfl rfl)
theorem dX0_findWinners_89 : decode cX0_findWinners 89 = .ok (.iinc 1 1, 3) := dk_132 1 1 (dk_at dksX0_findWinners_3 21 rfl rfl)
theorem dX0_findWinners_92 : decode cX0_findWinners 92 = .ok (.goto (-78), 3) := dk_167 255 178 (dk_at dksX0_findWinners_4 0 rfl rfl)
theorem dX0_findWinners_95 : decode cX0_findWinners 95 = .ok (.aload_n 0, 1) := dk_42 (dk_at dksX0_findWinners_4 3 rfl rfl)
theorem dX0_findWinners_96 : decode cX0_findWinners 96 = .ok (.iconst 1, 1) := dk_4 (dk_at dksX0_findWinners_4 4 rfl rfl)
theorem dX0_findWinners_97 : decode cX0_findWinners 97 = .ok (.putfield 242, 3) := dk_181 0 242 (dk_at dksX0_findWinners_4 5 rfl rfl)
theorem dX0_findWinners_100 : decode cX0_findWinners 100 = .ok (.return_, 1) := dk_177 (dk_at dksX0_findWinners_4 8 rfl rfl)
abbrev cX0_worthOf : ByteArray := prog_1_method_47_code
def yX0_worthOf : MethodName := ⟨RX0, "worthOf", "(IJ)I"⟩
def dkwX0_worthOf_3 : List UInt8 := [167, 255, 191, 22, 4, 20, 1, 69, 109, 136, 172]
abbrev dktX0_worthOf_3 : List UInt8 := dkwX0_worthOf_3 ++ []
def dkwX0_worthOf_2 : List UInt8 := [42, 180, 0, 95, 21, 7, 50, 21, 6, 46, 4, 96, 133, 109, 182, 1, 66, 97, 55, 4, 132, 6, 1]
abbrev dktX0_worthOf_2 : List UInt8 := dkwX0_worthOf_2 ++ dktX0_worthOf_3
def dkwX0_worthOf_1 : List UInt8 := [21, 6, 46, 184, 0, 245, 54, 7, 21, 7, 4, 164, 0, 33, 22, 4, 42, 42, 32, 21, 7, 182, 1, 46]
abbrev dktX0_worthOf_1 : List UInt8 := dkwX0_worthOf_1 ++ dktX0_worthOf_2
def dkwX0_worthOf_0 : List UInt8 := [9, 55, 4, 3, 54, 6, 21, 6, 17, 1, 239, 162, 0, 63, 42, 180, 0, 67, 27, 46, 42, 180, 0, 67]
abbrev dktX0_worthOf_0 : List UInt8 := dkwX0_worthOf_0 ++ dktX0_worthOf_1
theorem dksX0_worthOf_0 : cX0_worthOf.data.toList.drop 0 = dktX0_worthOf_0 := by decide +kernel
theorem dksX0_worthOf_1 : cX0_worthOf.data.toList.drop 24 = dktX0_worthOf_1 := dk_seg dksX0_worthOf_0 24 rfl rfl
theorem dksX0_worthOf_2 : cX0_worthOf.data.toList.drop 48 = dktX0_worthOf_2 := dk_seg dksX0_worthOf_1 24 rfl rfl
theorem dksX0_worthOf_3 : cX0_worthOf.data.toList.drop 71 = dktX0_worthOf_3 := dk_seg dksX0_worthOf_2 23 rfl rfl
theorem dX0_worthOf_0 : decode cX0_worthOf 0 = .ok (.lconst 0, 1) := dk_9 (dk_at dksX0_worthOf_0 0 rfl rfl)
theorem dX0_worthOf_1 : decode cX0_worthOf 1 = .ok (.lstore 4, 2) := dk_55 4 (dk_at dksX0_worthOf_0 1 rfl rfl)
theorem dX0_worthOf_3 : decode cX0_worthOf 3 = .ok (.iconst 0, 1) := dk_3 (dk_at dksX0_worthOf_0 3 rfl rfl)
theorem dX0_worthOf_4 : decode cX0_worthOf 4 = .ok (.istore 6, 2) := dk_54 6 (dk_at dksX0_worthOf_0 4 rfl rfl)
theorem dX0_worthOf_6 : decode cX0_worthOf 6 = .ok (.iload 6, 2) := dk_21 6 (dk_at dksX0_worthOf_0 6 rfl rfl)
theorem dX0_worthOf_8 : decode cX0_worthOf 8 = .ok (.sipush 495, 3) := dk_17 1 239 (dk_at dksX0_worthOf_0 8 rfl rfl)
theorem dX0_worthOf_11 : decode cX0_worthOf 11 = .ok (.if_icmp .ge 63, 3) := dk_162 0 63 (dk_at dksX0_worthOf_0 11 rfl rfl)
theorem dX0_worthOf_14 : decode cX0_worthOf 14 = .ok (.aload_n 0, 1) := dk_42 (dk_at dksX0_worthOf_0 14 rfl rfl)
theorem dX0_worthOf_15 : decode cX0_worthOf 15 = .ok (.getfield 67, 3) := dk_180 0 67 (dk_at dksX0_worthOf_0 15 rfl rfl)
theorem dX0_worthOf_18 : decode cX0_worthOf 18 = .ok (.iload_n 1, 1) := dk_27 (dk_at dksX0_worthOf_0 18 rfl rfl)
theorem dX0_worthOf_19 : decode cX0_worthOf 19 = .ok (.iaload, 1) := dk_46 (dk_at dksX0_worthOf_0 19 rfl rfl)
theorem dX0_worthOf_20 : decode cX0_worthOf 20 = .ok (.aload_n 0, 1) := dk_42 (dk_at dksX0_worthOf_0 20 rfl rfl)
theorem dX0_worthOf_21 : decode cX0_worthOf 21 = .ok (.getfield 67, 3) := dk_180 0 67 (dk_at dksX0_worthOf_0 21 rfl rfl)
theorem dX0_worthOf_24 : decode cX0_worthOf 24 = .ok (.iload 6, 2) := dk_21 6 (dk_at dksX0_worthOf_1 0 rfl rfl)
theorem dX0_worthOf_26 : decode cX0_worthOf 26 = .ok (.iaload, 1) := dk_46 (dk_at dksX0_worthOf_1 2 rfl rfl)
theorem dX0_worthOf_27 : decode cX0_worthOf 27 = .ok (.invokestatic 245, 3) := dk_184 0 245 (dk_at dksX0_worthOf_1 3 rfl rfl)
theorem dX0_worthOf_30 : decode cX0_worthOf 30 = .ok (.istore 7, 2) := dk_54 7 (dk_at dksX0_worthOf_1 6 rfl rfl)
theorem dX0_worthOf_32 : decode cX0_worthOf 32 = .ok (.iload 7, 2) := dk_21 7 (dk_at dksX0_worthOf_1 8 rfl rfl)
theorem dX0_worthOf_34 : decode cX0_worthOf 34 = .ok (.iconst 1, 1) := dk_4 (dk_at dksX0_worthOf_1 10 rfl rfl)
theorem dX0_worthOf_35 : decode cX0_worthOf 35 = .ok (.if_icmp .le 33, 3) := dk_164 0 33 (dk_at dksX0_worthOf_1 11 rfl rfl)
theorem dX0_worthOf_38 : decode cX0_worthOf 38 = .ok (.lload 4, 2) := dk_22 4 (dk_at dksX0_worthOf_1 14 rfl rfl)
theorem dX0_worthOf_40 : decode cX0_worthOf 40 = .ok (.aload_n 0, 1) := dk_42 (dk_at dksX0_worthOf_1 16 rfl rfl)
theorem dX0_worthOf_41 : decode cX0_worthOf 41 = .ok (.aload_n 0, 1) := dk_42 (dk_at dksX0_worthOf_1 17 rfl rfl)
theorem dX0_worthOf_42 : decode cX0_worthOf 42 = .ok (.lload_n 2, 1) := dk_32 (dk_at dksX0_worthOf_1 18 rfl rfl)
theorem dX0_worthOf_43 : decode cX0_worthOf 43 = .ok (.iload 7, 2) := dk_21 7 (dk_at dksX0_worthOf_1 19 rfl rfl)
theorem dX0_worthOf_45 : decode cX0_worthOf 45 = .ok (.invokevirtual 302, 3) := dk_182 1 46 (dk_at dksX0_worthOf_1 21 rfl rfl)
theorem dX0_worthOf_48 : decode cX0_worthOf 48 = .ok (.aload_n 0, 1) := dk_42 (dk_at dksX0_worthOf_2 0 rfl rfl)
theorem dX0_worthOf_49 : decode cX0_worthOf 49 = .ok (.getfield 95, 3) := dk_180 0 95 (dk_at dksX0_worthOf_2 1 rfl rfl)
theorem dX0_worthOf_52 : decode cX0_worthOf 52 = .ok (.iload 7, 2) := dk_21 7 (dk_at dksX0_worthOf_2 4 rfl rfl)
theorem dX0_worthOf_54 : decode cX0_worthOf 54 = .ok (.aaload, 1) := dk_50 (dk_at dksX0_worthOf_2 6 rfl rfl)
theorem dX0_worthOf_55 : decode cX0_worthOf 55 = .ok (.iload 6, 2) := dk_21 6 (dk_at dksX0_worthOf_2 7 rfl rfl)
theorem dX0_worthOf_57 : decode cX0_worthOf 57 = .ok (.iaload, 1) := dk_46 (dk_at dksX0_worthOf_2 9 rfl rfl)
theorem dX0_worthOf_58 : decode cX0_worthOf 58 = .ok (.iconst 1, 1) := dk_4 (dk_at dksX0_worthOf_2 10 rfl rfl)
theorem dX0_worthOf_59 : decode cX0_worthOf 59 = .ok (.iadd, 1) := dk_96 (dk_at dksX0_worthOf_2 11 rfl rfl)
theorem dX0_worthOf_60 : decode cX0_worthOf 60 = .ok (.i2l, 1) := dk_133 (dk_at dksX0_worthOf_2 12 rfl rfl)
theorem dX0_worthOf_61 : decode cX0_worthOf 61 = .ok (.ldiv, 1) := dk_109 (dk_at dksX0_worthOf_2 13 rfl rfl)
theorem dX0_worthOf_62 : decode cX0_worthOf 62 = .ok (.invokevirtual 322, 3) := dk_182 1 66 (dk_at dksX0_worthOf_2 14 rfl rfl)
theorem dX0_worthOf_65 : decode cX0_worthOf 65 = .ok (.ladd, 1) := dk_97 (dk_at dksX0_worthOf_2 17 rfl rfl)
theorem dX0_worthOf_66 : decode cX0_worthOf 66 = .ok (.lstore 4, 2) := dk_55 4 (dk_at dksX0_worthOf_2 18 rfl rfl)
theorem dX0_worthOf_68 : decode cX0_worthOf 68 = .ok (.iinc 6 1, 3) := dk_132 6 1 (dk_at dksX0_worthOf_2 20 rfl rfl)
theorem dX0_worthOf_71 : decode cX0_worthOf 71 = .ok (.goto (-65), 3) := dk_167 255 191 (dk_at dksX0_worthOf_3 0 rfl rfl)
theorem dX0_worthOf_74 : decode cX0_worthOf 74 = .ok (.lload 4, 2) := dk_22 4 (dk_at dksX0_worthOf_3 3 rfl rfl)
theorem dX0_worthOf_76 : decode cX0_worthOf 76 = .ok (.ldc2_w 325, 3) := dk_20 1 69 (dk_at dksX0_worthOf_3 5 rfl rfl)
theorem dX0_worthOf_79 : decode cX0_worthOf 79 = .ok (.ldiv, 1) := dk_109 (dk_at dksX0_worthOf_3 8 rfl rfl)
theorem dX0_worthOf_80 : decode cX0_worthOf 80 = .ok (.l2i, 1) := dk_136 (dk_at dksX0_worthOf_3 9 rfl rfl)
theorem dX0_worthOf_81 : decode cX0_worthOf 81 = .ok (.ireturn, 1) := dk_172 (dk_at dksX0_worthOf_3 10 rfl rfl)
abbrev cX0_taxed : ByteArray := prog_1_method_46_code
def yX0_taxed : MethodName := ⟨RX0, "taxed", "(J)J"⟩
def dkwX0_taxed_1 : List UInt8 := [180, 0, 42, 180, 1, 30, 8, 46, 133, 105, 20, 1, 20, 109, 101, 167, 0, 4, 31, 173]
abbrev dktX0_taxed_1 : List UInt8 := dkwX0_taxed_1 ++ []
def dkwX0_taxed_0 : List UInt8 := [31, 42, 180, 0, 42, 180, 1, 30, 16, 6, 46, 133, 101, 66, 33, 9, 148, 158, 0, 24, 31, 33, 42]
abbrev dktX0_taxed_0 : List UInt8 := dkwX0_taxed_0 ++ dktX0_taxed_1
theorem dksX0_taxed_0 : cX0_taxed.data.toList.drop 0 = dktX0_taxed_0 := by decide +kernel
theorem dksX0_taxed_1 : cX0_taxed.data.toList.drop 23 = dktX0_taxed_1 := dk_seg dksX0_taxed_0 23 rfl rfl
theorem dX0_taxed_0 : decode cX0_taxed 0 = .ok (.lload_n 1, 1) := dk_31 (dk_at dksX0_taxed_0 0 rfl rfl)
theorem dX0_taxed_1 : decode cX0_taxed 1 = .ok (.aload_n 0, 1) := dk_42 (dk_at dksX0_taxed_0 1 rfl rfl)
theorem dX0_taxed_2 : decode cX0_taxed 2 = .ok (.getfield 42, 3) := dk_180 0 42 (dk_at dksX0_taxed_0 2 rfl rfl)
theorem dX0_taxed_5 : decode cX0_taxed 5 = .ok (.getfield 286, 3) := dk_180 1 30 (dk_at dksX0_taxed_0 5 rfl rfl)
theorem dX0_taxed_8 : decode cX0_taxed 8 = .ok (.bipush 6, 2) := dk_16 6 (dk_at dksX0_taxed_0 8 rfl rfl)
theorem dX0_taxed_10 : decode cX0_taxed 10 = .ok (.iaload, 1) := dk_46 (dk_at dksX0_taxed_0 10 rfl rfl)
theorem dX0_taxed_11 : decode cX0_taxed 11 = .ok (.i2l, 1) := dk_133 (dk_at dksX0_taxed_0 11 rfl rfl)
theorem dX0_taxed_12 : decode cX0_taxed 12 = .ok (.lsub, 1) := dk_101 (dk_at dksX0_taxed_0 12 rfl rfl)
theorem dX0_taxed_13 : decode cX0_taxed 13 = .ok (.lstore_n 3, 1) := dk_66 (dk_at dksX0_taxed_0 13 rfl rfl)
theorem dX0_taxed_14 : decode cX0_taxed 14 = .ok (.lload_n 3, 1) := dk_33 (dk_at dksX0_taxed_0 14 rfl rfl)
theorem dX0_taxed_15 : decode cX0_taxed 15 = .ok (.lconst 0, 1) := dk_9 (dk_at dksX0_taxed_0 15 rfl rfl)
theorem dX0_taxed_16 : decode cX0_taxed 16 = .ok (.lcmp, 1) := dk_148 (dk_at dksX0_taxed_0 16 rfl rfl)
theorem dX0_taxed_17 : decode cX0_taxed 17 = .ok (.ifCond .le 24, 3) := dk_158 0 24 (dk_at dksX0_taxed_0 17 rfl rfl)
theorem dX0_taxed_20 : decode cX0_taxed 20 = .ok (.lload_n 1, 1) := dk_31 (dk_at dksX0_taxed_0 20 rfl rfl)
theorem dX0_taxed_21 : decode cX0_taxed 21 = .ok (.lload_n 3, 1) := dk_33 (dk_at dksX0_taxed_0 21 rfl rfl)
theorem dX0_taxed_22 : decode cX0_taxed 22 = .ok (.aload_n 0, 1) := dk_42 (dk_at dksX0_taxed_0 22 rfl rfl)
theorem dX0_taxed_23 : decode cX0_taxed 23 = .ok (.getfield 42, 3) := dk_180 0 42 (dk_at dksX0_taxed_1 0 rfl rfl)
theorem dX0_taxed_26 : decode cX0_taxed 26 = .ok (.getfield 286, 3) := dk_180 1 30 (dk_at dksX0_taxed_1 3 rfl rfl)
theorem dX0_taxed_29 : decode cX0_taxed 29 = .ok (.iconst 5, 1) := dk_8 (dk_at dksX0_taxed_1 6 rfl rfl)
theorem dX0_taxed_30 : decode cX0_taxed 30 = .ok (.iaload, 1) := dk_46 (dk_at dksX0_taxed_1 7 rfl rfl)
theorem dX0_taxed_31 : decode cX0_taxed 31 = .ok (.i2l, 1) := dk_133 (dk_at dksX0_taxed_1 8 rfl rfl)
theorem dX0_taxed_32 : decode cX0_taxed 32 = .ok (.lmul, 1) := dk_105 (dk_at dksX0_taxed_1 9 rfl rfl)
theorem dX0_taxed_33 : decode cX0_taxed 33 = .ok (.ldc2_w 276, 3) := dk_20 1 20 (dk_at dksX0_taxed_1 10 rfl rfl)
theorem dX0_taxed_36 : decode cX0_taxed 36 = .ok (.ldiv, 1) := dk_109 (dk_at dksX0_taxed_1 13 rfl rfl)
theorem dX0_taxed_37 : decode cX0_taxed 37 = .ok (.lsub, 1) := dk_101 (dk_at dksX0_taxed_1 14 rfl rfl)
theorem dX0_taxed_38 : decode cX0_taxed 38 = .ok (.goto 4, 3) := dk_167 0 4 (dk_at dksX0_taxed_1 15 rfl rfl)
theorem dX0_taxed_41 : decode cX0_taxed 41 = .ok (.lload_n 1, 1) := dk_31 (dk_at dksX0_taxed_1 18 rfl rfl)
theorem dX0_taxed_42 : decode cX0_taxed 42 = .ok (.lreturn, 1) := dk_173 (dk_at dksX0_taxed_1 19 rfl rfl)
abbrev cX0_best : ByteArray := prog_1_method_49_code
def yX0_best : MethodName := ⟨RX0, "best", "(I)I"⟩
def dkwX0_best_4 : List UInt8 := [167, 0, 5, 21, 5, 172, 77, 42, 44, 182, 0, 145, 172]
abbrev dktX0_best_4 : List UInt8 := dkwX0_best_4 ++ []
def dkwX0_best_3 : List UInt8 := [167, 0, 11, 21, 6, 54, 4, 21, 7, 54, 5, 132, 6, 1, 167, 255, 218, 27, 154, 0, 8, 21, 4]
abbrev dktX0_best_3 : List UInt8 := dkwX0_best_3 ++ dktX0_best_4
def dkwX0_best_2 : List UInt8 := [17, 1, 239, 162, 0, 36, 42, 21, 6, 32, 182, 1, 74, 54, 7, 21, 7, 21, 5, 163, 0, 6]
abbrev dktX0_best_2 : List UInt8 := dkwX0_best_2 ++ dktX0_best_3
def dkwX0_best_1 : List UInt8 := [16, 7, 46, 133, 182, 1, 36, 65, 3, 54, 4, 42, 3, 32, 182, 1, 74, 54, 5, 4, 54, 6, 21, 6]
abbrev dktX0_best_1 : List UInt8 := dkwX0_best_1 ++ dktX0_best_2
def dkwX0_best_0 : List UInt8 := [27, 133, 9, 10, 184, 0, 125, 3, 184, 0, 119, 42, 182, 1, 71, 42, 42, 180, 0, 42, 180, 1, 30]
abbrev dktX0_best_0 : List UInt8 := dkwX0_best_0 ++ dktX0_best_1
theorem dksX0_best_0 : cX0_best.data.toList.drop 0 = dktX0_best_0 := by decide +kernel
theorem dksX0_best_1 : cX0_best.data.toList.drop 23 = dktX0_best_1 := dk_seg dksX0_best_0 23 rfl rfl
theorem dksX0_best_2 : cX0_best.data.toList.drop 47 = dktX0_best_2 := dk_seg dksX0_best_1 24 rfl rfl
theorem dksX0_best_3 : cX0_best.data.toList.drop 69 = dktX0_best_3 := dk_seg dksX0_best_2 22 rfl rfl
theorem dksX0_best_4 : cX0_best.data.toList.drop 92 = dktX0_best_4 := dk_seg dksX0_best_3 23 rfl rfl
theorem dX0_best_0 : decode cX0_best 0 = .ok (.iload_n 1, 1) := dk_27 (dk_at dksX0_best_0 0 rfl rfl)
theorem dX0_best_1 : decode cX0_best 1 = .ok (.i2l, 1) := dk_133 (dk_at dksX0_best_0 1 rfl rfl)
theorem dX0_best_2 : decode cX0_best 2 = .ok (.lconst 0, 1) := dk_9 (dk_at dksX0_best_0 2 rfl rfl)
theorem dX0_best_3 : decode cX0_best 3 = .ok (.lconst 1, 1) := dk_10 (dk_at dksX0_best_0 3 rfl rfl)
theorem dX0_best_4 : decode cX0_best 4 = .ok (.invokestatic 125, 3) := dk_184 0 125 (dk_at dksX0_best_0 4 rfl rfl)
theorem dX0_best_7 : decode cX0_best 7 = .ok (.iconst 0, 1) := dk_3 (dk_at dksX0_best_0 7 rfl rfl)
theorem dX0_best_8 : decode cX0_best 8 = .ok (.invokestatic 119, 3) := dk_184 0 119 (dk_at dksX0_best_0 8 rfl rfl)
theorem dX0_best_11 : decode cX0_best 11 = .ok (.aload_n 0, 1) := dk_42 (dk_at dksX0_best_0 11 rfl rfl)
theorem dX0_best_12 : decode cX0_best 12 = .ok (.invokevirtual 327, 3) := dk_182 1 71 (dk_at dksX0_best_0 12 rfl rfl)
theorem dX0_best_15 : decode cX0_best 15 = .ok (.aload_n 0, 1) := dk_42 (dk_at dksX0_best_0 15 rfl rfl)
theorem dX0_best_16 : decode cX0_best 16 = .ok (.aload_n 0, 1) := dk_42 (dk_at dksX0_best_0 16 rfl rfl)
theorem dX0_best_17 : decode cX0_best 17 = .ok (.getfield 42, 3) := dk_180 0 42 (dk_at dksX0_best_0 17 rfl rfl)
theorem dX0_best_20 : decode cX0_best 20 = .ok (.getfield 286, 3) := dk_180 1 30 (dk_at dksX0_best_0 20 rfl rfl)
theorem dX0_best_23 : decode cX0_best 23 = .ok (.bipush 7, 2) := dk_16 7 (dk_at dksX0_best_1 0 rfl rfl)
theorem dX0_best_25 : decode cX0_best 25 = .ok (.iaload, 1) := dk_46 (dk_at dksX0_best_1 2 rfl rfl)
theorem dX0_best_26 : decode cX0_best 26 = .ok (.i2l, 1) := dk_133 (dk_at dksX0_best_1 3 rfl rfl)
theorem dX0_best_27 : decode cX0_best 27 = .ok (.invokevirtual 292, 3) := dk_182 1 36 (dk_at dksX0_best_1 4 rfl rfl)
theorem dX0_best_30 : decode cX0_best 30 = .ok (.lstore_n 2, 1) := dk_65 (dk_at dksX0_best_1 7 rfl rfl)
theorem dX0_best_31 : decode cX0_best 31 = .ok (.iconst 0, 1) := dk_3 (dk_at dksX0_best_1 8 rfl rfl)
theorem dX0_best_32 : decode cX0_best 32 = .ok (.istore 4, 2) := dk_54 4 (dk_at dksX0_best_1 9 rfl rfl)
theorem dX0_best_34 : decode cX0_best 34 = .ok (.aload_n 0, 1) := dk_42 (dk_at dksX0_best_1 11 rfl rfl)
theorem dX0_best_35 : decode cX0_best 35 = .ok (.iconst 0, 1) := dk_3 (dk_at dksX0_best_1 12 rfl rfl)
theorem dX0_best_36 : decode cX0_best 36 = .ok (.lload_n 2, 1) := dk_32 (dk_at dksX0_best_1 13 rfl rfl)
theorem dX0_best_37 : decode cX0_best 37 = .ok (.invokevirtual 330, 3) := dk_182 1 74 (dk_at dksX0_best_1 14 rfl rfl)
theorem dX0_best_40 : decode cX0_best 40 = .ok (.istore 5, 2) := dk_54 5 (dk_at dksX0_best_1 17 rfl rfl)
theorem dX0_best_42 : decode cX0_best 42 = .ok (.iconst 1, 1) := dk_4 (dk_at dksX0_best_1 19 rfl rfl)
theorem dX0_best_43 : decode cX0_best 43 = .ok (.istore 6, 2) := dk_54 6 (dk_at dksX0_best_1 20 rfl rfl)
theorem dX0_best_45 : decode cX0_best 45 = .ok (.iload 6, 2) := dk_21 6 (dk_at dksX0_best_1 22 rfl rfl)
theorem dX0_best_47 : decode cX0_best 47 = .ok (.sipush 495, 3) := dk_17 1 239 (dk_at dksX0_best_2 0 rfl rfl)
theorem dX0_best_50 : decode cX0_best 50 = .ok (.if_icmp .ge 36, 3) := dk_162 0 36 (dk_at dksX0_best_2 3 rfl rfl)
theorem dX0_best_53 : decode cX0_best 53 = .ok (.aload_n 0, 1) := dk_42 (dk_at dksX0_best_2 6 rfl rfl)
theorem dX0_best_54 : decode cX0_best 54 = .ok (.iload 6, 2) := dk_21 6 (dk_at dksX0_best_2 7 rfl rfl)
theorem dX0_best_56 : decode cX0_best 56 = .ok (.lload_n 2, 1) := dk_32 (dk_at dksX0_best_2 9 rfl rfl)
theorem dX0_best_57 : decode cX0_best 57 = .ok (.invokevirtual 330, 3) := dk_182 1 74 (dk_at dksX0_best_2 10 rfl rfl)
theorem dX0_best_60 : decode cX0_best 60 = .ok (.istore 7, 2) := dk_54 7 (dk_at dksX0_best_2 13 rfl rfl)
theorem dX0_best_62 : decode cX0_best 62 = .ok (.iload 7, 2) := dk_21 7 (dk_at dksX0_best_2 15 rfl rfl)
theorem dX0_best_64 : decode cX0_best 64 = .ok (.iload 5, 2) := dk_21 5 (dk_at dksX0_best_2 17 rfl rfl)
theorem dX0_best_66 : decode cX0_best 66 = .ok (.if_icmp .gt 6, 3) := dk_163 0 6 (dk_at dksX0_best_2 19 rfl rfl)
theorem dX0_best_69 : decode cX0_best 69 = .ok (.goto 11, 3) := dk_167 0 11 (dk_at dksX0_best_3 0 rfl rfl)
theorem dX0_best_72 : decode cX0_best 72 = .ok (.iload 6, 2) := dk_21 6 (dk_at dksX0_best_3 3 rfl rfl)
theorem dX0_best_74 : decode cX0_best 74 = .ok (.istore 4, 2) := dk_54 4 (dk_at dksX0_best_3 5 rfl rfl)
theorem dX0_best_76 : decode cX0_best 76 = .ok (.iload 7, 2) := dk_21 7 (dk_at dksX0_best_3 7 rfl rfl)
theorem dX0_best_78 : decode cX0_best 78 = .ok (.istore 5, 2) := dk_54 5 (dk_at dksX0_best_3 9 rfl rfl)
theorem dX0_best_80 : decode cX0_best 80 = .ok (.iinc 6 1, 3) := dk_132 6 1 (dk_at dksX0_best_3 11 rfl rfl)
theorem dX0_best_83 : decode cX0_best 83 = .ok (.goto (-38), 3) := dk_167 255 218 (dk_at dksX0_best_3 14 rfl rfl)
theorem dX0_best_86 : decode cX0_best 86 = .ok (.iload_n 1, 1) := dk_27 (dk_at dksX0_best_3 17 rfl rfl)
theorem dX0_best_87 : decode cX0_best 87 = .ok (.ifCond .ne 8, 3) := dk_154 0 8 (dk_at dksX0_best_3 18 rfl rfl)
theorem dX0_best_90 : decode cX0_best 90 = .ok (.iload 4, 2) := dk_21 4 (dk_at dksX0_best_3 21 rfl rfl)
theorem dX0_best_92 : decode cX0_best 92 = .ok (.goto 5, 3) := dk_167 0 5 (dk_at dksX0_best_4 0 rfl rfl)
theorem dX0_best_95 : decode cX0_best 95 = .ok (.iload 5, 2) := dk_21 5 (dk_at dksX0_best_4 3 rfl rfl)
theorem dX0_best_97 : decode cX0_best 97 = .ok (.ireturn, 1) := dk_172 (dk_at dksX0_best_4 5 rfl rfl)
theorem dX0_best_98 : decode cX0_best 98 = .ok (.astore_n 2, 1) := dk_77 (dk_at dksX0_best_4 6 rfl rfl)
theorem dX0_best_99 : decode cX0_best 99 = .ok (.aload_n 0, 1) := dk_42 (dk_at dksX0_best_4 7 rfl rfl)
theorem dX0_best_100 : decode cX0_best 100 = .ok (.aload_n 2, 1) := dk_44 (dk_at dksX0_best_4 8 rfl rfl)
theorem dX0_best_101 : decode cX0_best 101 = .ok (.invokevirtual 145, 3) := dk_182 0 145 (dk_at dksX0_best_4 9 rfl rfl)
theorem dX0_best_104 : decode cX0_best 104 = .ok (.ireturn, 1) := dk_172 (dk_at dksX0_best_4 12 rfl rfl)
abbrev cX0_alone : ByteArray := prog_1_method_50_code
def yX0_alone : MethodName := ⟨RX0, "alone", "(I)I"⟩
def dkwX0_alone_3 : List UInt8 := [182, 0, 145, 172]
abbrev dktX0_alone_3 : List UInt8 := dkwX0_alone_3 ++ []
def dkwX0_alone_2 : List UInt8 := [132, 4, 255, 167, 255, 229, 27, 154, 0, 7, 28, 167, 0, 7, 29, 184, 1, 78, 172, 77, 42, 44]
abbrev dktX0_alone_2 : List UInt8 := dkwX0_alone_2 ++ dktX0_alone_3
def dkwX0_alone_1 : List UInt8 := [21, 4, 155, 0, 28, 42, 180, 0, 90, 21, 4, 46, 153, 0, 6, 167, 0, 9, 132, 2, 1, 21, 4, 62]
abbrev dktX0_alone_1 : List UInt8 := dkwX0_alone_1 ++ dktX0_alone_2
def dkwX0_alone_0 : List UInt8 := [27, 133, 9, 10, 184, 0, 125, 3, 184, 0, 119, 42, 182, 0, 249, 3, 61, 2, 62, 17, 1, 238, 54, 4]
abbrev dktX0_alone_0 : List UInt8 := dkwX0_alone_0 ++ dktX0_alone_1
theorem dksX0_alone_0 : cX0_alone.data.toList.drop 0 = dktX0_alone_0 := by decide +kernel
theorem dksX0_alone_1 : cX0_alone.data.toList.drop 24 = dktX0_alone_1 := dk_seg dksX0_alone_0 24 rfl rfl
theorem dksX0_alone_2 : cX0_alone.data.toList.drop 48 = dktX0_alone_2 := dk_seg dksX0_alone_1 24 rfl rfl
theorem dksX0_alone_3 : cX0_alone.data.toList.drop 70 = dktX0_alone_3 := dk_seg dksX0_alone_2 22 rfl rfl
theorem dX0_alone_0 : decode cX0_alone 0 = .ok (.iload_n 1, 1) := dk_27 (dk_at dksX0_alone_0 0 rfl rfl)
theorem dX0_alone_1 : decode cX0_alone 1 = .ok (.i2l, 1) := dk_133 (dk_at dksX0_alone_0 1 rfl rfl)
theorem dX0_alone_2 : decode cX0_alone 2 = .ok (.lconst 0, 1) := dk_9 (dk_at dksX0_alone_0 2 rfl rfl)
theorem dX0_alone_3 : decode cX0_alone 3 = .ok (.lconst 1, 1) := dk_10 (dk_at dksX0_alone_0 3 rfl rfl)
theorem dX0_alone_4 : decode cX0_alone 4 = .ok (.invokestatic 125, 3) := dk_184 0 125 (dk_at dksX0_alone_0 4 rfl rfl)
theorem dX0_alone_7 : decode cX0_alone 7 = .ok (.iconst 0, 1) := dk_3 (dk_at dksX0_alone_0 7 rfl rfl)
theorem dX0_alone_8 : decode cX0_alone 8 = .ok (.invokestatic 119, 3) := dk_184 0 119 (dk_at dksX0_alone_0 8 rfl rfl)
theorem dX0_alone_11 : decode cX0_alone 11 = .ok (.aload_n 0, 1) := dk_42 (dk_at dksX0_alone_0 11 rfl rfl)
theorem dX0_alone_12 : decode cX0_alone 12 = .ok (.invokevirtual 249, 3) := dk_182 0 249 (dk_at dksX0_alone_0 12 rfl rfl)
theorem dX0_alone_15 : decode cX0_alone 15 = .ok (.iconst 0, 1) := dk_3 (dk_at dksX0_alone_0 15 rfl rfl)
theorem dX0_alone_16 : decode cX0_alone 16 = .ok (.istore_n 2, 1) := dk_61 (dk_at dksX0_alone_0 16 rfl rfl)
theorem dX0_alone_17 : decode cX0_alone 17 = .ok (.iconst (-1), 1) := dk_2 (dk_at dksX0_alone_0 17 rfl rfl)
theorem dX0_alone_18 : decode cX0_alone 18 = .ok (.istore_n 3, 1) := dk_62 (dk_at dksX0_alone_0 18 rfl rfl)
theorem dX0_alone_19 : decode cX0_alone 19 = .ok (.sipush 494, 3) := dk_17 1 238 (dk_at dksX0_alone_0 19 rfl rfl)
theorem dX0_alone_22 : decode cX0_alone 22 = .ok (.istore 4, 2) := dk_54 4 (dk_at dksX0_alone_0 22 rfl rfl)
theorem dX0_alone_24 : decode cX0_alone 24 = .ok (.iload 4, 2) := dk_21 4 (dk_at dksX0_alone_1 0 rfl rfl)
theorem dX0_alone_26 : decode cX0_alone 26 = .ok (.ifCond .lt 28, 3) := dk_155 0 28 (dk_at dksX0_alone_1 2 rfl rfl)
theorem dX0_alone_29 : decode cX0_alone 29 = .ok (.aload_n 0, 1) := dk_42 (dk_at dksX0_alone_1 5 rfl rfl)
theorem dX0_alone_30 : decode cX0_alone 30 = .ok (.getfield 90, 3) := dk_180 0 90 (dk_at dksX0_alone_1 6 rfl rfl)
theorem dX0_alone_33 : decode cX0_alone 33 = .ok (.iload 4, 2) := dk_21 4 (dk_at dksX0_alone_1 9 rfl rfl)
theorem dX0_alone_35 : decode cX0_alone 35 = .ok (.iaload, 1) := dk_46 (dk_at dksX0_alone_1 11 rfl rfl)
theorem dX0_alone_36 : decode cX0_alone 36 = .ok (.ifCond .eq 6, 3) := dk_153 0 6 (dk_at dksX0_alone_1 12 rfl rfl)
theorem dX0_alone_39 : decode cX0_alone 39 = .ok (.goto 9, 3) := dk_167 0 9 (dk_at dksX0_alone_1 15 rfl rfl)
theorem dX0_alone_42 : decode cX0_alone 42 = .ok (.iinc 2 1, 3) := dk_132 2 1 (dk_at dksX0_alone_1 18 rfl rfl)
theorem dX0_alone_45 : decode cX0_alone 45 = .ok (.iload 4, 2) := dk_21 4 (dk_at dksX0_alone_1 21 rfl rfl)
theorem dX0_alone_47 : decode cX0_alone 47 = .ok (.istore_n 3, 1) := dk_62 (dk_at dksX0_alone_1 23 rfl rfl)
theorem dX0_alone_48 : decode cX0_alone 48 = .ok (.iinc 4 (-1), 3) := dk_132 4 255 (dk_at dksX0_alone_2 0 rfl rfl)
theorem dX0_alone_51 : decode cX0_alone 51 = .ok (.goto (-27), 3) := dk_167 255 229 (dk_at dksX0_alone_2 3 rfl rfl)
theorem dX0_alone_54 : decode cX0_alone 54 = .ok (.iload_n 1, 1) := dk_27 (dk_at dksX0_alone_2 6 rfl rfl)
theorem dX0_alone_55 : decode cX0_alone 55 = .ok (.ifCond .ne 7, 3) := dk_154 0 7 (dk_at dksX0_alone_2 7 rfl rfl)
theorem dX0_alone_58 : decode cX0_alone 58 = .ok (.iload_n 2, 1) := dk_28 (dk_at dksX0_alone_2 10 rfl rfl)
theorem dX0_alone_59 : decode cX0_alone 59 = .ok (.goto 7, 3) := dk_167 0 7 (dk_at dksX0_alone_2 11 rfl rfl)
theorem dX0_alone_62 : decode cX0_alone 62 = .ok (.iload_n 3, 1) := dk_29 (dk_at dksX0_alone_2 14 rfl rfl)
theorem dX0_alone_63 : decode cX0_alone 63 = .ok (.invokestatic 334, 3) := dk_184 1 78 (dk_at dksX0_alone_2 15 rfl rfl)
theorem dX0_alone_66 : decode cX0_alone 66 = .ok (.ireturn, 1) := dk_172 (dk_at dksX0_alone_2 18 rfl rfl)
theorem dX0_alone_67 : decode cX0_alone 67 = .ok (.astore_n 2, 1) := dk_77 (dk_at dksX0_alone_2 19 rfl rfl)
theorem dX0_alone_68 : decode cX0_alone 68 = .ok (.aload_n 0, 1) := dk_42 (dk_at dksX0_alone_2 20 rfl rfl)
theorem dX0_alone_69 : decode cX0_alone 69 = .ok (.aload_n 2, 1) := dk_44 (dk_at dksX0_alone_2 21 rfl rfl)
theorem dX0_alone_70 : decode cX0_alone 70 = .ok (.invokevirtual 145, 3) := dk_182 0 145 (dk_at dksX0_alone_3 0 rfl rfl)
theorem dX0_alone_73 : decode cX0_alone 73 = .ok (.ireturn, 1) := dk_172 (dk_at dksX0_alone_3 3 rfl rfl)
abbrev cX0_orNone : ByteArray := prog_1_method_8_code
def yX0_orNone : MethodName := ⟨RX0, "orNone", "(I)I"⟩
def dkwX0_orNone_0 : List UInt8 := [26, 155, 0, 7, 4, 167, 0, 4, 3, 6, 184, 0, 119, 26, 172]
abbrev dktX0_orNone_0 : List UInt8 := dkwX0_orNone_0 ++ []
theorem dksX0_orNone_0 : cX0_orNone.data.toList.drop 0 = dktX0_orNone_0 := by decide +kernel
theorem dX0_orNone_0 : decode cX0_orNone 0 = .ok (.iload_n 0, 1) := dk_26 (dk_at dksX0_orNone_0 0 rfl rfl)
theorem dX0_orNone_1 : decode cX0_orNone 1 = .ok (.ifCond .lt 7, 3) := dk_155 0 7 (dk_at dksX0_orNone_0 1 rfl rfl)
theorem dX0_orNone_4 : decode cX0_orNone 4 = .ok (.iconst 1, 1) := dk_4 (dk_at dksX0_orNone_0 4 rfl rfl)
theorem dX0_orNone_5 : decode cX0_orNone 5 = .ok (.goto 4, 3) := dk_167 0 4 (dk_at dksX0_orNone_0 5 rfl rfl)
theorem dX0_orNone_8 : decode cX0_orNone 8 = .ok (.iconst 0, 1) := dk_3 (dk_at dksX0_orNone_0 8 rfl rfl)
theorem dX0_orNone_9 : decode cX0_orNone 9 = .ok (.iconst 3, 1) := dk_6 (dk_at dksX0_orNone_0 9 rfl rfl)
theorem dX0_orNone_10 : decode cX0_orNone 10 = .ok (.invokestatic 119, 3) := dk_184 0 119 (dk_at dksX0_orNone_0 10 rfl rfl)
theorem dX0_orNone_13 : decode cX0_orNone 13 = .ok (.iload_n 0, 1) := dk_26 (dk_at dksX0_orNone_0 13 rfl rfl)
theorem dX0_orNone_14 : decode cX0_orNone 14 = .ok (.ireturn, 1) := dk_172 (dk_at dksX0_orNone_0 14 rfl rfl)
abbrev cX0_line : ByteArray := prog_1_method_51_code
def yX0_line : MethodName := ⟨RX0, "line", "(I)I"⟩
def dkwX0_line_4 : List UInt8 := [21, 4, 4, 96, 61, 167, 255, 207, 28, 172, 77, 42, 44, 182, 0, 145, 172]
abbrev dktX0_line_4 : List UInt8 := dkwX0_line_4 ++ []
def dkwX0_line_3 : List UInt8 := [182, 1, 36, 182, 1, 74, 42, 180, 0, 42, 180, 1, 30, 3, 46, 161, 0, 9, 21, 4, 62, 167, 0, 8]
abbrev dktX0_line_3 : List UInt8 := dkwX0_line_3 ++ dktX0_line_4
def dkwX0_line_2 : List UInt8 := [19, 1, 81, 62, 28, 29, 162, 0, 50, 28, 29, 28, 100, 5, 108, 96, 54, 4, 42, 27, 42, 21, 4, 133]
abbrev dktX0_line_2 : List UInt8 := dkwX0_line_2 ++ dktX0_line_3
def dkwX0_line_1 : List UInt8 := [42, 180, 0, 42, 180, 1, 30, 3, 46, 161, 0, 7, 4, 167, 0, 4, 3, 6, 184, 0, 119, 3, 61]
abbrev dktX0_line_1 : List UInt8 := dkwX0_line_1 ++ dktX0_line_2
def dkwX0_line_0 : List UInt8 := [27, 184, 0, 149, 3, 184, 0, 119, 42, 182, 1, 71, 42, 27, 42, 20, 1, 24, 182, 1, 36, 182, 1, 74]
abbrev dktX0_line_0 : List UInt8 := dkwX0_line_0 ++ dktX0_line_1
theorem dksX0_line_0 : cX0_line.data.toList.drop 0 = dktX0_line_0 := by decide +kernel
theorem dksX0_line_1 : cX0_line.data.toList.drop 24 = dktX0_line_1 := dk_seg dksX0_line_0 24 rfl rfl
theorem dksX0_line_2 : cX0_line.data.toList.drop 47 = dktX0_line_2 := dk_seg dksX0_line_1 23 rfl rfl
theorem dksX0_line_3 : cX0_line.data.toList.drop 71 = dktX0_line_3 := dk_seg dksX0_line_2 24 rfl rfl
theorem dksX0_line_4 : cX0_line.data.toList.drop 95 = dktX0_line_4 := dk_seg dksX0_line_3 24 rfl rfl
theorem dX0_line_0 : decode cX0_line 0 = .ok (.iload_n 1, 1) := dk_27 (dk_at dksX0_line_0 0 rfl rfl)
theorem dX0_line_1 : decode cX0_line 1 = .ok (.invokestatic 149, 3) := dk_184 0 149 (dk_at dksX0_line_0 1 rfl rfl)
theorem dX0_line_4 : decode cX0_line 4 = .ok (.iconst 0, 1) := dk_3 (dk_at dksX0_line_0 4 rfl rfl)
theorem dX0_line_5 : decode cX0_line 5 = .ok (.invokestatic 119, 3) := dk_184 0 119 (dk_at dksX0_line_0 5 rfl rfl)
theorem dX0_line_8 : decode cX0_line 8 = .ok (.aload_n 0, 1) := dk_42 (dk_at dksX0_line_0 8 rfl rfl)
theorem dX0_line_9 : decode cX0_line 9 = .ok (.invokevirtual 327, 3) := dk_182 1 71 (dk_at dksX0_line_0 9 rfl rfl)
theorem dX0_line_12 : decode cX0_line 12 = .ok (.aload_n 0, 1) := dk_42 (dk_at dksX0_line_0 12 rfl rfl)
theorem dX0_line_13 : decode cX0_line 13 = .ok (.iload_n 1, 1) := dk_27 (dk_at dksX0_line_0 13 rfl rfl)
theorem dX0_line_14 : decode cX0_line 14 = .ok (.aload_n 0, 1) := dk_42 (dk_at dksX0_line_0 14 rfl rfl)
theorem dX0_line_15 : decode cX0_line 15 = .ok (.ldc2_w 280, 3) := dk_20 1 24 (dk_at dksX0_line_0 15 rfl rfl)
theorem dX0_line_18 : decode cX0_line 18 = .ok (.invokevirtual 292, 3) := dk_182 1 36 (dk_at dksX0_line_0 18 rfl rfl)
theorem dX0_line_21 : decode cX0_line 21 = .ok (.invokevirtual 330, 3) := dk_182 1 74 (dk_at dksX0_line_0 21 rfl rfl)
theorem dX0_line_24 : decode cX0_line 24 = .ok (.aload_n 0, 1) := dk_42 (dk_at dksX0_line_1 0 rfl rfl)
theorem dX0_line_25 : decode cX0_line 25 = .ok (.getfield 42, 3) := dk_180 0 42 (dk_at dksX0_line_1 1 rfl rfl)
theorem dX0_line_28 : decode cX0_line 28 = .ok (.getfield 286, 3) := dk_180 1 30 (dk_at dksX0_line_1 4 rfl rfl)
theorem dX0_line_31 : decode cX0_line 31 = .ok (.iconst 0, 1) := dk_3 (dk_at dksX0_line_1 7 rfl rfl)
theorem dX0_line_32 : decode cX0_line 32 = .ok (.iaload, 1) := dk_46 (dk_at dksX0_line_1 8 rfl rfl)
theorem dX0_line_33 : decode cX0_line 33 = .ok (.if_icmp .lt 7, 3) := dk_161 0 7 (dk_at dksX0_line_1 9 rfl rfl)
theorem dX0_line_36 : decode cX0_line 36 = .ok (.iconst 1, 1) := dk_4 (dk_at dksX0_line_1 12 rfl rfl)
theorem dX0_line_37 : decode cX0_line 37 = .ok (.goto 4, 3) := dk_167 0 4 (dk_at dksX0_line_1 13 rfl rfl)
theorem dX0_line_40 : decode cX0_line 40 = .ok (.iconst 0, 1) := dk_3 (dk_at dksX0_line_1 16 rfl rfl)
theorem dX0_line_41 : decode cX0_line 41 = .ok (.iconst 3, 1) := dk_6 (dk_at dksX0_line_1 17 rfl rfl)
theorem dX0_line_42 : decode cX0_line 42 = .ok (.invokestatic 119, 3) := dk_184 0 119 (dk_at dksX0_line_1 18 rfl rfl)
theorem dX0_line_45 : decode cX0_line 45 = .ok (.iconst 0, 1) := dk_3 (dk_at dksX0_line_1 21 rfl rfl)
theorem dX0_line_46 : decode cX0_line 46 = .ok (.istore_n 2, 1) := dk_61 (dk_at dksX0_line_1 22 rfl rfl)
theorem dX0_line_47 : decode cX0_line 47 = .ok (.ldc_w 337, 3) := dk_19 1 81 (dk_at dksX0_line_2 0 rfl rfl)
theorem dX0_line_50 : decode cX0_line 50 = .ok (.istore_n 3, 1) := dk_62 (dk_at dksX0_line_2 3 rfl rfl)
theorem dX0_line_51 : decode cX0_line 51 = .ok (.iload_n 2, 1) := dk_28 (dk_at dksX0_line_2 4 rfl rfl)
theorem dX0_line_52 : decode cX0_line 52 = .ok (.iload_n 3, 1) := dk_29 (dk_at dksX0_line_2 5 rfl rfl)
theorem dX0_line_53 : decode cX0_line 53 = .ok (.if_icmp .ge 50, 3) := dk_162 0 50 (dk_at dksX0_line_2 6 rfl rfl)
theorem dX0_line_56 : decode cX0_line 56 = .ok (.iload_n 2, 1) := dk_28 (dk_at dksX0_line_2 9 rfl rfl)
theorem dX0_line_57 : decode cX0_line 57 = .ok (.iload_n 3, 1) := dk_29 (dk_at dksX0_line_2 10 rfl rfl)
theorem dX0_line_58 : decode cX0_line 58 = .ok (.iload_n 2, 1) := dk_28 (dk_at dksX0_line_2 11 rfl rfl)
theorem dX0_line_59 : decode cX0_line 59 = .ok (.isub, 1) := dk_100 (dk_at dksX0_line_2 12 rfl rfl)
theorem dX0_line_60 : decode cX0_line 60 = .ok (.iconst 2, 1) := dk_5 (dk_at dksX0_line_2 13 rfl rfl)
theorem dX0_line_61 : decode cX0_line 61 = .ok (.idiv, 1) := dk_108 (dk_at dksX0_line_2 14 rfl rfl)
theorem dX0_line_62 : decode cX0_line 62 = .ok (.iadd, 1) := dk_96 (dk_at dksX0_line_2 15 rfl rfl)
theorem dX0_line_63 : decode cX0_line 63 = .ok (.istore 4, 2) := dk_54 4 (dk_at dksX0_line_2 16 rfl rfl)
theorem dX0_line_65 : decode cX0_line 65 = .ok (.aload_n 0, 1) := dk_42 (dk_at dksX0_line_2 18 rfl rfl)
theorem dX0_line_66 : decode cX0_line 66 = .ok (.iload_n 1, 1) := dk_27 (dk_at dksX0_line_2 19 rfl rfl)
theorem dX0_line_67 : decode cX0_line 67 = .ok (.aload_n 0, 1) := dk_42 (dk_at dksX0_line_2 20 rfl rfl)
theorem dX0_line_68 : decode cX0_line 68 = .ok (.iload 4, 2) := dk_21 4 (dk_at dksX0_line_2 21 rfl rfl)
theorem dX0_line_70 : decode cX0_line 70 = .ok (.i2l, 1) := dk_133 (dk_at dksX0_line_2 23 rfl rfl)
theorem dX0_line_71 : decode cX0_line 71 = .ok (.invokevirtual 292, 3) := dk_182 1 36 (dk_at dksX0_line_3 0 rfl rfl)
theorem dX0_line_74 : decode cX0_line 74 = .ok (.invokevirtual 330, 3) := dk_182 1 74 (dk_at dksX0_line_3 3 rfl rfl)
theorem dX0_line_77 : decode cX0_line 77 = .ok (.aload_n 0, 1) := dk_42 (dk_at dksX0_line_3 6 rfl rfl)
theorem dX0_line_78 : decode cX0_line 78 = .ok (.getfield 42, 3) := dk_180 0 42 (dk_at dksX0_line_3 7 rfl rfl)
theorem dX0_line_81 : decode cX0_line 81 = .ok (.getfield 286, 3) := dk_180 1 30 (dk_at dksX0_line_3 10 rfl rfl)
theorem dX0_line_84 : decode cX0_line 84 = .ok (.iconst 0, 1) := dk_3 (dk_at dksX0_line_3 13 rfl rfl)
theorem dX0_line_85 : decode cX0_line 85 = .ok (.iaload, 1) := dk_46 (dk_at dksX0_line_3 14 rfl rfl)
theorem dX0_line_86 : decode cX0_line 86 = .ok (.if_icmp .lt 9, 3) := dk_161 0 9 (dk_at dksX0_line_3 15 rfl rfl)
theorem dX0_line_89 : decode cX0_line 89 = .ok (.iload 4, 2) := dk_21 4 (dk_at dksX0_line_3 18 rfl rfl)
theorem dX0_line_91 : decode cX0_line 91 = .ok (.istore_n 3, 1) := dk_62 (dk_at dksX0_line_3 20 rfl rfl)
theorem dX0_line_92 : decode cX0_line 92 = .ok (.goto 8, 3) := dk_167 0 8 (dk_at dksX0_line_3 21 rfl rfl)
theorem dX0_line_95 : decode cX0_line 95 = .ok (.iload 4, 2) := dk_21 4 (dk_at dksX0_line_4 0 rfl rfl)
theorem dX0_line_97 : decode cX0_line 97 = .ok (.iconst 1, 1) := dk_4 (dk_at dksX0_line_4 2 rfl rfl)
theorem dX0_line_98 : decode cX0_line 98 = .ok (.iadd, 1) := dk_96 (dk_at dksX0_line_4 3 rfl rfl)
theorem dX0_line_99 : decode cX0_line 99 = .ok (.istore_n 2, 1) := dk_61 (dk_at dksX0_line_4 4 rfl rfl)
theorem dX0_line_100 : decode cX0_line 100 = .ok (.goto (-49), 3) := dk_167 255 207 (dk_at dksX0_line_4 5 rfl rfl)
theorem dX0_line_103 : decode cX0_line 103 = .ok (.iload_n 2, 1) := dk_28 (dk_at dksX0_line_4 8 rfl rfl)
theorem dX0_line_104 : decode cX0_line 104 = .ok (.ireturn, 1) := dk_172 (dk_at dksX0_line_4 9 rfl rfl)
theorem dX0_line_105 : decode cX0_line 105 = .ok (.astore_n 2, 1) := dk_77 (dk_at dksX0_line_4 10 rfl rfl)
theorem dX0_line_106 : decode cX0_line 106 = .ok (.aload_n 0, 1) := dk_42 (dk_at dksX0_line_4 11 rfl rfl)
theorem dX0_line_107 : decode cX0_line 107 = .ok (.aload_n 2, 1) := dk_44 (dk_at dksX0_line_4 12 rfl rfl)
theorem dX0_line_108 : decode cX0_line 108 = .ok (.invokevirtual 145, 3) := dk_182 0 145 (dk_at dksX0_line_4 13 rfl rfl)
theorem dX0_line_111 : decode cX0_line 111 = .ok (.ireturn, 1) := dk_172 (dk_at dksX0_line_4 16 rfl rfl)
abbrev cX0_house : ByteArray := prog_1_method_54_code
def yX0_house : MethodName := ⟨RX0, "house", "(I)J"⟩
def dkwX0_house_10 : List UInt8 := [3, 46, 133, 105, 101, 173, 77, 42, 44, 182, 0, 145, 133, 173]
abbrev dktX0_house_10 : List UInt8 := dkwX0_house_10 ++ []
def dkwX0_house_9 : List UInt8 := [167, 255, 198, 132, 7, 1, 167, 255, 109, 22, 4, 20, 1, 69, 109, 27, 133, 42, 180, 0, 42, 180, 1, 30]
abbrev dktX0_house_9 : List UInt8 := dkwX0_house_9 ++ dktX0_house_10
def dkwX0_house_8 : List UInt8 := [21, 8, 50, 21, 7, 46, 25, 6, 21, 8, 46, 96, 133, 109, 182, 1, 66, 105, 97, 55, 4, 132, 8, 1]
abbrev dktX0_house_8 : List UInt8 := dkwX0_house_8 ++ dktX0_house_9
def dkwX0_house_7 : List UInt8 := [158, 0, 44, 22, 4, 25, 6, 21, 8, 46, 133, 42, 42, 32, 21, 8, 182, 1, 46, 42, 180, 0, 95]
abbrev dktX0_house_7 : List UInt8 := dkwX0_house_7 ++ dktX0_house_8
def dkwX0_house_6 : List UInt8 := [46, 4, 96, 79, 132, 8, 1, 167, 255, 211, 5, 54, 8, 21, 8, 7, 163, 0, 58, 25, 6, 21, 8, 46]
abbrev dktX0_house_6 : List UInt8 := dkwX0_house_6 ++ dktX0_house_7
def dkwX0_house_5 : List UInt8 := [51, 153, 0, 27, 25, 6, 42, 180, 0, 67, 21, 8, 46, 42, 180, 0, 67, 21, 7, 46, 184, 0, 245, 92]
abbrev dktX0_house_5 : List UInt8 := dkwX0_house_5 ++ dktX0_house_6
def dkwX0_house_4 : List UInt8 := [79, 132, 8, 1, 167, 255, 241, 3, 54, 8, 21, 8, 17, 1, 239, 162, 0, 43, 42, 180, 0, 101, 21, 8]
abbrev dktX0_house_4 : List UInt8 := dkwX0_house_4 ++ dktX0_house_5
def dkwX0_house_3 : List UInt8 := [54, 7, 21, 7, 17, 1, 239, 162, 0, 145, 3, 54, 8, 21, 8, 7, 163, 0, 15, 25, 6, 21, 8, 3]
abbrev dktX0_house_3 : List UInt8 := dkwX0_house_3 ++ dktX0_house_4
def dkwX0_house_2 : List UInt8 := [180, 0, 42, 180, 1, 30, 16, 7, 46, 133, 182, 1, 36, 65, 9, 55, 4, 8, 188, 10, 58, 6, 3]
abbrev dktX0_house_2 : List UInt8 := dkwX0_house_2 ++ dktX0_house_3
def dkwX0_house_1 : List UInt8 := [27, 162, 0, 20, 42, 180, 0, 101, 42, 4, 182, 1, 85, 4, 84, 132, 2, 1, 167, 255, 237, 42, 42]
abbrev dktX0_house_1 : List UInt8 := dkwX0_house_1 ++ dktX0_house_2
def dkwX0_house_0 : List UInt8 := [27, 133, 10, 20, 1, 69, 184, 0, 125, 3, 184, 0, 119, 42, 182, 1, 71, 42, 182, 1, 82, 3, 61, 28]
abbrev dktX0_house_0 : List UInt8 := dkwX0_house_0 ++ dktX0_house_1
theorem dksX0_house_0 : cX0_house.data.toList.drop 0 = dktX0_house_0 := by decide +kernel
theorem dksX0_house_1 : cX0_house.data.toList.drop 24 = dktX0_house_1 := dk_seg dksX0_house_0 24 rfl rfl
theorem dksX0_house_2 : cX0_house.data.toList.drop 47 = dktX0_house_2 := dk_seg dksX0_house_1 23 rfl rfl
theorem dksX0_house_3 : cX0_house.data.toList.drop 70 = dktX0_house_3 := dk_seg dksX0_house_2 23 rfl rfl
theorem dksX0_house_4 : cX0_house.data.toList.drop 94 = dktX0_house_4 := dk_seg dksX0_house_3 24 rfl rfl
theorem dksX0_house_5 : cX0_house.data.toList.drop 118 = dktX0_house_5 := dk_seg dksX0_house_4 24 rfl rfl
theorem dksX0_house_6 : cX0_house.data.toList.drop 142 = dktX0_house_6 := dk_seg dksX0_house_5 24 rfl rfl
theorem dksX0_house_7 : cX0_house.data.toList.drop 166 = dktX0_house_7 := dk_seg dksX0_house_6 24 rfl rfl
theorem dksX0_house_8 : cX0_house.data.toList.drop 189 = dktX0_house_8 := dk_seg dksX0_house_7 23 rfl rfl
theorem dksX0_house_9 : cX0_house.data.toList.drop 213 = dktX0_house_9 := dk_seg dksX0_house_8 24 rfl rfl
theorem dksX0_house_10 : cX0_house.data.toList.drop 237 = dktX0_house_10 := dk_seg dksX0_house_9 24 rfl rfl
theorem dX0_house_0 : decode cX0_house 0 = .ok (.iload_n 1, 1) := dk_27 (dk_at dksX0_house_0 0 rfl rfl)
theorem dX0_house_1 : decode cX0_house 1 = .ok (.i2l, 1) := dk_133 (dk_at dksX0_house_0 1 rfl rfl)
theorem dX0_house_2 : decode cX0_house 2 = .ok (.lconst 1, 1) := dk_10 (dk_at dksX0_house_0 2 rfl rfl)
theorem dX0_house_3 : decode cX0_house 3 = .ok (.ldc2_w 325, 3) := dk_20 1 69 (dk_at dksX0_house_0 3 rfl rfl)
theorem dX0_house_6 : decode cX0_house 6 = .ok (.invokestatic 125, 3) := dk_184 0 125 (dk_at dksX0_house_0 6 rfl rfl)
theorem dX0_house_9 : decode cX0_house 9 = .ok (.iconst 0, 1) := dk_3 (dk_at dksX0_house_0 9 rfl rfl)
theorem dX0_house_10 : decode cX0_house 10 = .ok (.invokestatic 119, 3) := dk_184 0 119 (dk_at dksX0_house_0 10 rfl rfl)
theorem dX0_house_13 : decode cX0_house 13 = .ok (.aload_n 0, 1) := dk_42 (dk_at dksX0_house_0 13 rfl rfl)
theorem dX0_house_14 : decode cX0_house 14 = .ok (.invokevirtual 327, 3) := dk_182 1 71 (dk_at dksX0_house_0 14 rfl rfl)
theorem dX0_house_17 : decode cX0_house 17 = .ok (.aload_n 0, 1) := dk_42 (dk_at dksX0_house_0 17 rfl rfl)
theorem dX0_house_18 : decode cX0_house 18 = .ok (.invokevirtual 338, 3) := dk_182 1 82 (dk_at dksX0_house_0 18 rfl rfl)
theorem dX0_house_21 : decode cX0_house 21 = .ok (.iconst 0, 1) := dk_3 (dk_at dksX0_house_0 21 rfl rfl)
theorem dX0_house_22 : decode cX0_house 22 = .ok (.istore_n 2, 1) := dk_61 (dk_at dksX0_house_0 22 rfl rfl)
theorem dX0_house_23 : decode cX0_house 23 = .ok (.iload_n 2, 1) := dk_28 (dk_at dksX0_house_0 23 rfl rfl)
theorem dX0_house_24 : decode cX0_house 24 = .ok (.iload_n 1, 1) := dk_27 (dk_at dksX0_house_1 0 rfl rfl)
theorem dX0_house_25 : decode cX0_house 25 = .ok (.if_icmp .ge 20, 3) := dk_162 0 20 (dk_at dksX0_house_1 1 rfl rfl)
theorem dX0_house_28 : decode cX0_house 28 = .ok (.aload_n 0, 1) := dk_42 (dk_at dksX0_house_1 4 rfl rfl)
theorem dX0_house_29 : decode cX0_house 29 = .ok (.getfield 101, 3) := dk_180 0 101 (dk_at dksX0_house_1 5 rfl rfl)
theorem dX0_house_32 : decode cX0_house 32 = .ok (.aload_n 0, 1) := dk_42 (dk_at dksX0_house_1 8 rfl rfl)
theorem dX0_house_33 : decode cX0_house 33 = .ok (.iconst 1, 1) := dk_4 (dk_at dksX0_house_1 9 rfl rfl)
theorem dX0_house_34 : decode cX0_house 34 = .ok (.invokevirtual 341, 3) := dk_182 1 85 (dk_at dksX0_house_1 10 rfl rfl)
theorem dX0_house_37 : decode cX0_house 37 = .ok (.iconst 1, 1) := dk_4 (dk_at dksX0_house_1 13 rfl rfl)
theorem dX0_house_38 : decode cX0_house 38 = .ok (.bastore, 1) := dk_84 (dk_at dksX0_house_1 14 rfl rfl)
theorem dX0_house_39 : decode cX0_house 39 = .ok (.iinc 2 1, 3) := dk_132 2 1 (dk_at dksX0_house_1 15 rfl rfl)
theorem dX0_house_42 : decode cX0_house 42 = .ok (.goto (-19), 3) := dk_167 255 237 (dk_at dksX0_house_1 18 rfl rfl)
theorem dX0_house_45 : decode cX0_house 45 = .ok (.aload_n 0, 1) := dk_42 (dk_at dksX0_house_1 21 rfl rfl)
theorem dX0_house_46 : decode cX0_house 46 = .ok (.aload_n 0, 1) := dk_42 (dk_at dksX0_house_1 22 rfl rfl)
theorem dX0_house_47 : decode cX0_house 47 = .ok (.getfield 42, 3) := dk_180 0 42 (dk_at dksX0_house_2 0 rfl rfl)
theorem dX0_house_50 : decode cX0_house 50 = .ok (.getfield 286, 3) := dk_180 1 30 (dk_at dksX0_house_2 3 rfl rfl)
theorem dX0_house_53 : decode cX0_house 53 = .ok (.bipush 7, 2) := dk_16 7 (dk_at dksX0_house_2 6 rfl rfl)
theorem dX0_house_55 : decode cX0_house 55 = .ok (.iaload, 1) := dk_46 (dk_at dksX0_house_2 8 rfl rfl)
theorem dX0_house_56 : decode cX0_house 56 = .ok (.i2l, 1) := dk_133 (dk_at dksX0_house_2 9 rfl rfl)
theorem dX0_house_57 : decode cX0_house 57 = .ok (.invokevirtual 292, 3) := dk_182 1 36 (dk_at dksX0_house_2 10 rfl rfl)
theorem dX0_house_60 : decode cX0_house 60 = .ok (.lstore_n 2, 1) := dk_65 (dk_at dksX0_house_2 13 rfl rfl)
theorem dX0_house_61 : decode cX0_house 61 = .ok (.lconst 0, 1) := dk_9 (dk_at dksX0_house_2 14 rfl rfl)
theorem dX0_house_62 : decode cX0_house 62 = .ok (.lstore 4, 2) := dk_55 4 (dk_at dksX0_house_2 15 rfl rfl)
theorem dX0_house_64 : decode cX0_house 64 = .ok (.iconst 5, 1) := dk_8 (dk_at dksX0_house_2 17 rfl rfl)
theorem dX0_house_65 : decode cX0_house 65 = .ok (.newarray .int, 2) := dk_188_10 (dk_at dksX0_house_2 18 rfl rfl)
theorem dX0_house_67 : decode cX0_house 67 = .ok (.astore 6, 2) := dk_58 6 (dk_at dksX0_house_2 20 rfl rfl)
theorem dX0_house_69 : decode cX0_house 69 = .ok (.iconst 0, 1) := dk_3 (dk_at dksX0_house_2 22 rfl rfl)
theorem dX0_house_70 : decode cX0_house 70 = .ok (.istore 7, 2) := dk_54 7 (dk_at dksX0_house_3 0 rfl rfl)
theorem dX0_house_72 : decode cX0_house 72 = .ok (.iload 7, 2) := dk_21 7 (dk_at dksX0_house_3 2 rfl rfl)
theorem dX0_house_74 : decode cX0_house 74 = .ok (.sipush 495, 3) := dk_17 1 239 (dk_at dksX0_house_3 4 rfl rfl)
theorem dX0_house_77 : decode cX0_house 77 = .ok (.if_icmp .ge 145, 3) := dk_162 0 145 (dk_at dksX0_house_3 7 rfl rfl)
theorem dX0_house_80 : decode cX0_house 80 = .ok (.iconst 0, 1) := dk_3 (dk_at dksX0_house_3 10 rfl rfl)
theorem dX0_house_81 : decode cX0_house 81 = .ok (.istore 8, 2) := dk_54 8 (dk_at dksX0_house_3 11 rfl rfl)
theorem dX0_house_83 : decode cX0_house 83 = .ok (.iload 8, 2) := dk_21 8 (dk_at dksX0_house_3 13 rfl rfl)
theorem dX0_house_85 : decode cX0_house 85 = .ok (.iconst 4, 1) := dk_7 (dk_at dksX0_house_3 15 rfl rfl)
theorem dX0_house_86 : decode cX0_house 86 = .ok (.if_icmp .gt 15, 3) := dk_163 0 15 (dk_at dksX0_house_3 16 rfl rfl)
theorem dX0_house_89 : decode cX0_house 89 = .ok (.aload 6, 2) := dk_25 6 (dk_at dksX0_house_3 19 rfl rfl)
theorem dX0_house_91 : decode cX0_house 91 = .ok (.iload 8, 2) := dk_21 8 (dk_at dksX0_house_3 21 rfl rfl)
theorem dX0_house_93 : decode cX0_house 93 = .ok (.iconst 0, 1) := dk_3 (dk_at dksX0_house_3 23 rfl rfl)
theorem dX0_house_94 : decode cX0_house 94 = .ok (.iastore, 1) := dk_79 (dk_at dksX0_house_4 0 rfl rfl)
theorem dX0_house_95 : decode cX0_house 95 = .ok (.iinc 8 1, 3) := dk_132 8 1 (dk_at dksX0_house_4 1 rfl rfl)
theorem dX0_house_98 : decode cX0_house 98 = .ok (.goto (-15), 3) := dk_167 255 241 (dk_at dksX0_house_4 4 rfl rfl)
theorem dX0_house_101 : decode cX0_house 101 = .ok (.iconst 0, 1) := dk_3 (dk_at dksX0_house_4 7 rfl rfl)
theorem dX0_house_102 : decode cX0_house 102 = .ok (.istore 8, 2) := dk_54 8 (dk_at dksX0_house_4 8 rfl rfl)
theorem dX0_house_104 : decode cX0_house 104 = .ok (.iload 8, 2) := dk_21 8 (dk_at dksX0_house_4 10 rfl rfl)
theorem dX0_house_106 : decode cX0_house 106 = .ok (.sipush 495, 3) := dk_17 1 239 (dk_at dksX0_house_4 12 rfl rfl)
theorem dX0_house_109 : decode cX0_house 109 = .ok (.if_icmp .ge 43, 3) := dk_162 0 43 (dk_at dksX0_house_4 15 rfl rfl)
theorem dX0_house_112 : decode cX0_house 112 = .ok (.aload_n 0, 1) := dk_42 (dk_at dksX0_house_4 18 rfl rfl)
theorem dX0_house_113 : decode cX0_house 113 = .ok (.getfield 101, 3) := dk_180 0 101 (dk_at dksX0_house_4 19 rfl rfl)
theorem dX0_house_116 : decode cX0_house 116 = .ok (.iload 8, 2) := dk_21 8 (dk_at dksX0_house_4 22 rfl rfl)
theorem dX0_house_118 : decode cX0_house 118 = .ok (.baload, 1) := dk_51 (dk_at dksX0_house_5 0 rfl rfl)
theorem dX0_house_119 : decode cX0_house 119 = .ok (.ifCond .eq 27, 3) := dk_153 0 27 (dk_at dksX0_house_5 1 rfl rfl)
theorem dX0_house_122 : decode cX0_house 122 = .ok (.aload 6, 2) := dk_25 6 (dk_at dksX0_house_5 4 rfl rfl)
theorem dX0_house_124 : decode cX0_house 124 = .ok (.aload_n 0, 1) := dk_42 (dk_at dksX0_house_5 6 rfl rfl)
theorem dX0_house_125 : decode cX0_house 125 = .ok (.getfield 67, 3) := dk_180 0 67 (dk_at dksX0_house_5 7 rfl rfl)
theorem dX0_house_128 : decode cX0_house 128 = .ok (.iload 8, 2) := dk_21 8 (dk_at dksX0_house_5 10 rfl rfl)
theorem dX0_house_130 : decode cX0_house 130 = .ok (.iaload, 1) := dk_46 (dk_at dksX0_house_5 12 rfl rfl)
theorem dX0_house_131 : decode cX0_house 131 = .ok (.aload_n 0, 1) := dk_42 (dk_at dksX0_house_5 13 rfl rfl)
theorem dX0_house_132 : decode cX0_house 132 = .ok (.getfield 67, 3) := dk_180 0 67 (dk_at dksX0_house_5 14 rfl rfl)
theorem dX0_house_135 : decode cX0_house 135 = .ok (.iload 7, 2) := dk_21 7 (dk_at dksX0_house_5 17 rfl rfl)
theorem dX0_house_137 : decode cX0_house 137 = .ok (.iaload, 1) := dk_46 (dk_at dksX0_house_5 19 rfl rfl)
theorem dX0_house_138 : decode cX0_house 138 = .ok (.invokestatic 245, 3) := dk_184 0 245 (dk_at dksX0_house_5 20 rfl rfl)
theorem dX0_house_141 : decode cX0_house 141 = .ok (.dup2, 1) := dk_92 (dk_at dksX0_house_5 23 rfl rfl)
theorem dX0_house_142 : decode cX0_house 142 = .ok (.iaload, 1) := dk_46 (dk_at dksX0_house_6 0 rfl rfl)
theorem dX0_house_143 : decode cX0_house 143 = .ok (.iconst 1, 1) := dk_4 (dk_at dksX0_house_6 1 rfl rfl)
theorem dX0_house_144 : decode cX0_house 144 = .ok (.iadd, 1) := dk_96 (dk_at dksX0_house_6 2 rfl rfl)
theorem dX0_house_145 : decode cX0_house 145 = .ok (.iastore, 1) := dk_79 (dk_at dksX0_house_6 3 rfl rfl)
theorem dX0_house_146 : decode cX0_house 146 = .ok (.iinc 8 1, 3) := dk_132 8 1 (dk_at dksX0_house_6 4 rfl rfl)
theorem dX0_house_149 : decode cX0_house 149 = .ok (.goto (-45), 3) := dk_167 255 211 (dk_at dksX0_house_6 7 rfl rfl)
theorem dX0_house_152 : decode cX0_house 152 = .ok (.iconst 2, 1) := dk_5 (dk_at dksX0_house_6 10 rfl rfl)
theorem dX0_house_153 : decode cX0_house 153 = .ok (.istore 8, 2) := dk_54 8 (dk_at dksX0_house_6 11 rfl rfl)
theorem dX0_house_155 : decode cX0_house 155 = .ok (.iload 8, 2) := dk_21 8 (dk_at dksX0_house_6 13 rfl rfl)
theorem dX0_house_157 : decode cX0_house 157 = .ok (.iconst 4, 1) := dk_7 (dk_at dksX0_house_6 15 rfl rfl)
theorem dX0_house_158 : decode cX0_house 158 = .ok (.if_icmp .gt 58, 3) := dk_163 0 58 (dk_at dksX0_house_6 16 rfl rfl)
theorem dX0_house_161 : decode cX0_house 161 = .ok (.aload 6, 2) := dk_25 6 (dk_at dksX0_house_6 19 rfl rfl)
theorem dX0_house_163 : decode cX0_house 163 = .ok (.iload 8, 2) := dk_21 8 (dk_at dksX0_house_6 21 rfl rfl)
theorem dX0_house_165 : decode cX0_house 165 = .ok (.iaload, 1) := dk_46 (dk_at dksX0_house_6 23 rfl rfl)
theorem dX0_house_166 : decode cX0_house 166 = .ok (.ifCond .le 44, 3) := dk_158 0 44 (dk_at dksX0_house_7 0 rfl rfl)
theorem dX0_house_169 : decode cX0_house 169 = .ok (.lload 4, 2) := dk_22 4 (dk_at dksX0_house_7 3 rfl rfl)
theorem dX0_house_171 : decode cX0_house 171 = .ok (.aload 6, 2) := dk_25 6 (dk_at dksX0_house_7 5 rfl rfl)
theorem dX0_house_173 : decode cX0_house 173 = .ok (.iload 8, 2) := dk_21 8 (dk_at dksX0_house_7 7 rfl rfl)
theorem dX0_house_175 : decode cX0_house 175 = .ok (.iaload, 1) := dk_46 (dk_at dksX0_house_7 9 rfl rfl)
theorem dX0_house_176 : decode cX0_house 176 = .ok (.i2l, 1) := dk_133 (dk_at dksX0_house_7 10 rfl rfl)
theorem dX0_house_177 : decode cX0_house 177 = .ok (.aload_n 0, 1) := dk_42 (dk_at dksX0_house_7 11 rfl rfl)
theorem dX0_house_178 : decode cX0_house 178 = .ok (.aload_n 0, 1) := dk_42 (dk_at dksX0_house_7 12 rfl rfl)
theorem dX0_house_179 : decode cX0_house 179 = .ok (.lload_n 2, 1) := dk_32 (dk_at dksX0_house_7 13 rfl rfl)
theorem dX0_house_180 : decode cX0_house 180 = .ok (.iload 8, 2) := dk_21 8 (dk_at dksX0_house_7 14 rfl rfl)
theorem dX0_house_182 : decode cX0_house 182 = .ok (.invokevirtual 302, 3) := dk_182 1 46 (dk_at dksX0_house_7 16 rfl rfl)
theorem dX0_house_185 : decode cX0_house 185 = .ok (.aload_n 0, 1) := dk_42 (dk_at dksX0_house_7 19 rfl rfl)
theorem dX0_house_186 : decode cX0_house 186 = .ok (.getfield 95, 3) := dk_180 0 95 (dk_at dksX0_house_7 20 rfl rfl)
theorem dX0_house_189 : decode cX0_house 189 = .ok (.iload 8, 2) := dk_21 8 (dk_at dksX0_house_8 0 rfl rfl)
theorem dX0_house_191 : decode cX0_house 191 = .ok (.aaload, 1) := dk_50 (dk_at dksX0_house_8 2 rfl rfl)
theorem dX0_house_192 : decode cX0_house 192 = .ok (.iload 7, 2) := dk_21 7 (dk_at dksX0_house_8 3 rfl rfl)
theorem dX0_house_194 : decode cX0_house 194 = .ok (.iaload, 1) := dk_46 (dk_at dksX0_house_8 5 rfl rfl)
theorem dX0_house_195 : decode cX0_house 195 = .ok (.aload 6, 2) := dk_25 6 (dk_at dksX0_house_8 6 rfl rfl)
theorem dX0_house_197 : decode cX0_house 197 = .ok (.iload 8, 2) := dk_21 8 (dk_at dksX0_house_8 8 rfl rfl)
theorem dX0_house_199 : decode cX0_house 199 = .ok (.iaload, 1) := dk_46 (dk_at dksX0_house_8 10 rfl rfl)
theorem dX0_house_200 : decode cX0_house 200 = .ok (.iadd, 1) := dk_96 (dk_at dksX0_house_8 11 rfl rfl)
theorem dX0_house_201 : decode cX0_house 201 = .ok (.i2l, 1) := dk_133 (dk_at dksX0_house_8 12 rfl rfl)
theorem dX0_house_202 : decode cX0_house 202 = .ok (.ldiv, 1) := dk_109 (dk_at dksX0_house_8 13 rfl rfl)
theorem dX0_house_203 : decode cX0_house 203 = .ok (.invokevirtual 322, 3) := dk_182 1 66 (dk_at dksX0_house_8 14 rfl rfl)
theorem dX0_house_206 : decode cX0_house 206 = .ok (.lmul, 1) := dk_105 (dk_at dksX0_house_8 17 rfl rfl)
theorem dX0_house_207 : decode cX0_house 207 = .ok (.ladd, 1) := dk_97 (dk_at dksX0_house_8 18 rfl rfl)
theorem dX0_house_208 : decode cX0_house 208 = .ok (.lstore 4, 2) := dk_55 4 (dk_at dksX0_house_8 19 rfl rfl)
theorem dX0_house_210 : decode cX0_house 210 = .ok (.iinc 8 1, 3) := dk_132 8 1 (dk_at dksX0_house_8 21 rfl rfl)
theorem dX0_house_213 : decode cX0_house 213 = .ok (.goto (-58), 3) := dk_167 255 198 (dk_at dksX0_house_9 0 rfl rfl)
theorem dX0_house_216 : decode cX0_house 216 = .ok (.iinc 7 1, 3) := dk_132 7 1 (dk_at dksX0_house_9 3 rfl rfl)
theorem dX0_house_219 : decode cX0_house 219 = .ok (.goto (-147), 3) := dk_167 255 109 (dk_at dksX0_house_9 6 rfl rfl)
theorem dX0_house_222 : decode cX0_house 222 = .ok (.lload 4, 2) := dk_22 4 (dk_at dksX0_house_9 9 rfl rfl)
theorem dX0_house_224 : decode cX0_house 224 = .ok (.ldc2_w 325, 3) := dk_20 1 69 (dk_at dksX0_house_9 11 rfl rfl)
theorem dX0_house_227 : decode cX0_house 227 = .ok (.ldiv, 1) := dk_109 (dk_at dksX0_house_9 14 rfl rfl)
theorem dX0_house_228 : decode cX0_house 228 = .ok (.iload_n 1, 1) := dk_27 (dk_at dksX0_house_9 15 rfl rfl)
theorem dX0_house_229 : decode cX0_house 229 = .ok (.i2l, 1) := dk_133 (dk_at dksX0_house_9 16 rfl rfl)
theorem dX0_house_230 : decode cX0_house 230 = .ok (.aload_n 0, 1) := dk_42 (dk_at dksX0_house_9 17 rfl rfl)
theorem dX0_house_231 : decode cX0_house 231 = .ok (.getfield 42, 3) := dk_180 0 42 (dk_at dksX0_house_9 18 rfl rfl)
theorem dX0_house_234 : decode cX0_house 234 = .ok (.getfield 286, 3) := dk_180 1 30 (dk_at dksX0_house_9 21 rfl rfl)
theorem dX0_house_237 : decode cX0_house 237 = .ok (.iconst 0, 1) := dk_3 (dk_at dksX0_house_10 0 rfl rfl)
theorem dX0_house_238 : decode cX0_house 238 = .ok (.iaload, 1) := dk_46 (dk_at dksX0_house_10 1 rfl rfl)
theorem dX0_house_239 : decode cX0_house 239 = .ok (.i2l, 1) := dk_133 (dk_at dksX0_house_10 2 rfl rfl)
theorem dX0_house_240 : decode cX0_house 240 = .ok (.lmul, 1) := dk_105 (dk_at dksX0_house_10 3 rfl rfl)
theorem dX0_house_241 : decode cX0_house 241 = .ok (.lsub, 1) := dk_101 (dk_at dksX0_house_10 4 rfl rfl)
theorem dX0_house_242 : decode cX0_house 242 = .ok (.lreturn, 1) := dk_173 (dk_at dksX0_house_10 5 rfl rfl)
theorem dX0_house_243 : decode cX0_house 243 = .ok (.astore_n 2, 1) := dk_77 (dk_at dksX0_house_10 6 rfl rfl)
theorem dX0_house_244 : decode cX0_house 244 = .ok (.aload_n 0, 1) := dk_42 (dk_at dksX0_house_10 7 rfl rfl)
theorem dX0_house_245 : decode cX0_house 245 = .ok (.aload_n 2, 1) := dk_44 (dk_at dksX0_house_10 8 rfl rfl)
theorem dX0_house_246 : decode cX0_house 246 = .ok (.invokevirtual 145, 3) := dk_182 0 145 (dk_at dksX0_house_10 9 rfl rfl)
theorem dX0_house_249 : decode cX0_house 249 = .ok (.i2l, 1) := dk_133 (dk_at dksX0_house_10 12 rfl rfl)
theorem dX0_house_250 : decode cX0_house 250 = .ok (.lreturn, 1) := dk_173 (dk_at dksX0_house_10 13 rfl rfl)
abbrev cX0_begins : ByteArray := prog_1_method_52_code
def yX0_begins : MethodName := ⟨RX0, "begins", "()V"⟩
def dkwX0_begins_1 : List UInt8 := [79, 42, 180, 0, 101, 27, 3, 84, 132, 1, 1, 167, 255, 227, 177]
abbrev dktX0_begins_1 : List UInt8 := dkwX0_begins_1 ++ []
def dkwX0_begins_0 : List UInt8 := [42, 182, 0, 249, 3, 60, 27, 17, 1, 239, 162, 0, 28, 42, 180, 0, 98, 27, 42, 180, 0, 90, 27, 46]
abbrev dktX0_begins_0 : List UInt8 := dkwX0_begins_0 ++ dktX0_begins_1
theorem dksX0_begins_0 : cX0_begins.data.toList.drop 0 = dktX0_begins_0 := by decide +kernel
theorem dksX0_begins_1 : cX0_begins.data.toList.drop 24 = dktX0_begins_1 := dk_seg dksX0_begins_0 24 rfl rfl
theorem dX0_begins_0 : decode cX0_begins 0 = .ok (.aload_n 0, 1) := dk_42 (dk_at dksX0_begins_0 0 rfl rfl)
theorem dX0_begins_1 : decode cX0_begins 1 = .ok (.invokevirtual 249, 3) := dk_182 0 249 (dk_at dksX0_begins_0 1 rfl rfl)
theorem dX0_begins_4 : decode cX0_begins 4 = .ok (.iconst 0, 1) := dk_3 (dk_at dksX0_begins_0 4 rfl rfl)
theorem dX0_begins_5 : decode cX0_begins 5 = .ok (.istore_n 1, 1) := dk_60 (dk_at dksX0_begins_0 5 rfl rfl)
theorem dX0_begins_6 : decode cX0_begins 6 = .ok (.iload_n 1, 1) := dk_27 (dk_at dksX0_begins_0 6 rfl rfl)
theorem dX0_begins_7 : decode cX0_begins 7 = .ok (.sipush 495, 3) := dk_17 1 239 (dk_at dksX0_begins_0 7 rfl rfl)
theorem dX0_begins_10 : decode cX0_begins 10 = .ok (.if_icmp .ge 28, 3) := dk_162 0 28 (dk_at dksX0_begins_0 10 rfl rfl)
theorem dX0_begins_13 : decode cX0_begins 13 = .ok (.aload_n 0, 1) := dk_42 (dk_at dksX0_begins_0 13 rfl rfl)
theorem dX0_begins_14 : decode cX0_begins 14 = .ok (.getfield 98, 3) := dk_180 0 98 (dk_at dksX0_begins_0 14 rfl rfl)
theorem dX0_begins_17 : decode cX0_begins 17 = .ok (.iload_n 1, 1) := dk_27 (dk_at dksX0_begins_0 17 rfl rfl)
theorem dX0_begins_18 : decode cX0_begins 18 = .ok (.aload_n 0, 1) := dk_42 (dk_at dksX0_begins_0 18 rfl rfl)
theorem dX0_begins_19 : decode cX0_begins 19 = .ok (.getfield 90, 3) := dk_180 0 90 (dk_at dksX0_begins_0 19 rfl rfl)
theorem dX0_begins_22 : decode cX0_begins 22 = .ok (.iload_n 1, 1) := dk_27 (dk_at dksX0_begins_0 22 rfl rfl)
theorem dX0_begins_23 : decode cX0_begins 23 = .ok (.iaload, 1) := dk_46 (dk_at dksX0_begins_0 23 rfl rfl)
theorem dX0_begins_24 : decode cX0_begins 24 = .ok (.iastore, 1) := dk_79 (dk_at dksX0_begins_1 0 rfl rfl)
theorem dX0_begins_25 : decode cX0_begins 25 = .ok (.aload_n 0, 1) := dk_42 (dk_at dksX0_begins_1 1 rfl rfl)
theorem dX0_begins_26 : decode cX0_begins 26 = .ok (.getfield 101, 3) := dk_180 0 101 (dk_at dksX0_begins_1 2 rfl rfl)
theorem dX0_begins_29 : decode cX0_begins 29 = .ok (.iload_n 1, 1) := dk_27 (dk_at dksX0_begins_1 5 rfl rfl)
theorem dX0_begins_30 : decode cX0_begins 30 = .ok (.iconst 0, 1) := dk_3 (dk_at dksX0_begins_1 6 rfl rfl)
theorem dX0_begins_31 : decode cX0_begins 31 = .ok (.bastore, 1) := dk_84 (dk_at dksX0_begins_1 7 rfl rfl)
theorem dX0_begins_32 : decode cX0_begins 32 = .ok (.iinc 1 1, 3) := dk_132 1 1 (dk_at dksX0_begins_1 8 rfl rfl)
theorem dX0_begins_35 : decode cX0_begins 35 = .ok (.goto (-29), 3) := dk_167 255 227 (dk_at dksX0_begins_1 11 rfl rfl)
theorem dX0_begins_38 : decode cX0_begins 38 = .ok (.return_, 1) := dk_177 (dk_at dksX0_begins_1 14 rfl rfl)
abbrev cX0_leastOf : ByteArray := prog_1_method_53_code
def yX0_leastOf : MethodName := ⟨RX0, "leastOf", "(Z)I"⟩
def dkwX0_leastOf_2 : List UInt8 := [167, 255, 212, 28, 172]
abbrev dktX0_leastOf_2 : List UInt8 := dkwX0_leastOf_2 ++ []
def dkwX0_leastOf_1 : List UInt8 := [28, 155, 0, 18, 42, 180, 0, 98, 29, 46, 42, 180, 0, 98, 28, 46, 162, 0, 5, 29, 61, 132, 3, 1]
abbrev dktX0_leastOf_1 : List UInt8 := dkwX0_leastOf_1 ++ dktX0_leastOf_2
def dkwX0_leastOf_0 : List UInt8 := [2, 61, 3, 62, 29, 17, 1, 239, 162, 0, 43, 27, 153, 0, 12, 42, 180, 0, 101, 29, 51, 154, 0, 24]
abbrev dktX0_leastOf_0 : List UInt8 := dkwX0_leastOf_0 ++ dktX0_leastOf_1
theorem dksX0_leastOf_0 : cX0_leastOf.data.toList.drop 0 = dktX0_leastOf_0 := by decide +kernel
theorem dksX0_leastOf_1 : cX0_leastOf.data.toList.drop 24 = dktX0_leastOf_1 := dk_seg dksX0_leastOf_0 24 rfl rfl
theorem dksX0_leastOf_2 : cX0_leastOf.data.toList.drop 48 = dktX0_leastOf_2 := dk_seg dksX0_leastOf_1 24 rfl rfl
theorem dX0_leastOf_0 : decode cX0_leastOf 0 = .ok (.iconst (-1), 1) := dk_2 (dk_at dksX0_leastOf_0 0 rfl rfl)
theorem dX0_leastOf_1 : decode cX0_leastOf 1 = .ok (.istore_n 2, 1) := dk_61 (dk_at dksX0_leastOf_0 1 rfl rfl)
theorem dX0_leastOf_2 : decode cX0_leastOf 2 = .ok (.iconst 0, 1) := dk_3 (dk_at dksX0_leastOf_0 2 rfl rfl)
theorem dX0_leastOf_3 : decode cX0_leastOf 3 = .ok (.istore_n 3, 1) := dk_62 (dk_at dksX0_leastOf_0 3 rfl rfl)
theorem dX0_leastOf_4 : decode cX0_leastOf 4 = .ok (.iload_n 3, 1) := dk_29 (dk_at dksX0_leastOf_0 4 rfl rfl)
theorem dX0_leastOf_5 : decode cX0_leastOf 5 = .ok (.sipush 495, 3) := dk_17 1 239 (dk_at dksX0_leastOf_0 5 rfl rfl)
theorem dX0_leastOf_8 : decode cX0_leastOf 8 = .ok (.if_icmp .ge 43, 3) := dk_162 0 43 (dk_at dksX0_leastOf_0 8 rfl rfl)
theorem dX0_leastOf_11 : decode cX0_leastOf 11 = .ok (.iload_n 1, 1) := dk_27 (dk_at dksX0_leastOf_0 11 rfl rfl)
theorem dX0_leastOf_12 : decode cX0_leastOf 12 = .ok (.ifCond .eq 12, 3) := dk_153 0 12 (dk_at dksX0_leastOf_0 12 rfl rfl)
theorem dX0_leastOf_15 : decode cX0_leastOf 15 = .ok (.aload_n 0, 1) := dk_42 (dk_at dksX0_leastOf_0 15 rfl rfl)
theorem dX0_leastOf_16 : decode cX0_leastOf 16 = .ok (.getfield 101, 3) := dk_180 0 101 (dk_at dksX0_leastOf_0 16 rfl rfl)
theorem dX0_leastOf_19 : decode cX0_leastOf 19 = .ok (.iload_n 3, 1) := dk_29 (dk_at dksX0_leastOf_0 19 rfl rfl)
theorem dX0_leastOf_20 : decode cX0_leastOf 20 = .ok (.baload, 1) := dk_51 (dk_at dksX0_leastOf_0 20 rfl rfl)
theorem dX0_leastOf_21 : decode cX0_leastOf 21 = .ok (.ifCond .ne 24, 3) := dk_154 0 24 (dk_at dksX0_leastOf_0 21 rfl rfl)
theorem dX0_leastOf_24 : decode cX0_leastOf 24 = .ok (.iload_n 2, 1) := dk_28 (dk_at dksX0_leastOf_1 0 rfl rfl)
theorem dX0_leastOf_25 : decode cX0_leastOf 25 = .ok (.ifCond .lt 18, 3) := dk_155 0 18 (dk_at dksX0_leastOf_1 1 rfl rfl)
theorem dX0_leastOf_28 : decode cX0_leastOf 28 = .ok (.aload_n 0, 1) := dk_42 (dk_at dksX0_leastOf_1 4 rfl rfl)
theorem dX0_leastOf_29 : decode cX0_leastOf 29 = .ok (.getfield 98, 3) := dk_180 0 98 (dk_at dksX0_leastOf_1 5 rfl rfl)
theorem dX0_leastOf_32 : decode cX0_leastOf 32 = .ok (.iload_n 3, 1) := dk_29 (dk_at dksX0_leastOf_1 8 rfl rfl)
theorem dX0_leastOf_33 : decode cX0_leastOf 33 = .ok (.iaload, 1) := dk_46 (dk_at dksX0_leastOf_1 9 rfl rfl)
theorem dX0_leastOf_34 : decode cX0_leastOf 34 = .ok (.aload_n 0, 1) := dk_42 (dk_at dksX0_leastOf_1 10 rfl rfl)
theorem dX0_leastOf_35 : decode cX0_leastOf 35 = .ok (.getfield 98, 3) := dk_180 0 98 (dk_at dksX0_leastOf_1 11 rfl rfl)
theorem dX0_leastOf_38 : decode cX0_leastOf 38 = .ok (.iload_n 2, 1) := dk_28 (dk_at dksX0_leastOf_1 14 rfl rfl)
theorem dX0_leastOf_39 : decode cX0_leastOf 39 = .ok (.iaload, 1) := dk_46 (dk_at dksX0_leastOf_1 15 rfl rfl)
theorem dX0_leastOf_40 : decode cX0_leastOf 40 = .ok (.if_icmp .ge 5, 3) := dk_162 0 5 (dk_at dksX0_leastOf_1 16 rfl rfl)
theorem dX0_leastOf_43 : decode cX0_leastOf 43 = .ok (.iload_n 3, 1) := dk_29 (dk_at dksX0_leastOf_1 19 rfl rfl)
theorem dX0_leastOf_44 : decode cX0_leastOf 44 = .ok (.istore_n 2, 1) := dk_61 (dk_at dksX0_leastOf_1 20 rfl rfl)
theorem dX0_leastOf_45 : decode cX0_leastOf 45 = .ok (.iinc 3 1, 3) := dk_132 3 1 (dk_at dksX0_leastOf_1 21 rfl rfl)
theorem dX0_leastOf_48 : decode cX0_leastOf 48 = .ok (.goto (-44), 3) := dk_167 255 212 (dk_at dksX0_leastOf_2 0 rfl rfl)
theorem dX0_leastOf_51 : decode cX0_leastOf 51 = .ok (.iload_n 2, 1) := dk_28 (dk_at dksX0_leastOf_2 3 rfl rfl)
theorem dX0_leastOf_52 : decode cX0_leastOf 52 = .ok (.ireturn, 1) := dk_172 (dk_at dksX0_leastOf_2 4 rfl rfl)
abbrev cX0_seek : ByteArray := prog_1_method_55_code
def yX0_seek : MethodName := ⟨RX0, "seek", "(II)I"⟩
def dkwX0_seek_5 : List UInt8 := [45, 182, 0, 145, 172]
abbrev dktX0_seek_5 : List UInt8 := dkwX0_seek_5 ++ []
def dkwX0_seek_4 : List UInt8 := [167, 255, 203, 28, 154, 0, 16, 42, 180, 0, 98, 42, 3, 182, 1, 85, 46, 167, 0, 4, 29, 172, 78, 42]
abbrev dktX0_seek_4 : List UInt8 := dkwX0_seek_4 ++ dktX0_seek_5
def dkwX0_seek_3 : List UInt8 := [42, 180, 0, 101, 21, 5, 4, 84, 42, 180, 0, 98, 21, 5, 92, 46, 4, 96, 79, 132, 4, 1]
abbrev dktX0_seek_3 : List UInt8 := dkwX0_seek_3 ++ dktX0_seek_4
def dkwX0_seek_2 : List UInt8 := [3, 182, 1, 85, 54, 5, 29, 42, 180, 0, 101, 21, 5, 51, 153, 0, 7, 3, 167, 0, 4, 4, 96, 62]
abbrev dktX0_seek_2 : List UInt8 := dkwX0_seek_2 ++ dktX0_seek_3
def dkwX0_seek_1 : List UInt8 := [167, 0, 4, 3, 3, 184, 0, 119, 42, 182, 1, 82, 3, 62, 3, 54, 4, 21, 4, 27, 162, 0, 53, 42]
abbrev dktX0_seek_1 : List UInt8 := dkwX0_seek_1 ++ dktX0_seek_2
def dkwX0_seek_0 : List UInt8 := [27, 133, 10, 20, 1, 89, 184, 0, 125, 153, 0, 17, 28, 133, 9, 10, 184, 0, 125, 153, 0, 7, 4]
abbrev dktX0_seek_0 : List UInt8 := dkwX0_seek_0 ++ dktX0_seek_1
theorem dksX0_seek_0 : cX0_seek.data.toList.drop 0 = dktX0_seek_0 := by decide +kernel
theorem dksX0_seek_1 : cX0_seek.data.toList.drop 23 = dktX0_seek_1 := dk_seg dksX0_seek_0 23 rfl rfl
theorem dksX0_seek_2 : cX0_seek.data.toList.drop 47 = dktX0_seek_2 := dk_seg dksX0_seek_1 24 rfl rfl
theorem dksX0_seek_3 : cX0_seek.data.toList.drop 71 = dktX0_seek_3 := dk_seg dksX0_seek_2 24 rfl rfl
theorem dksX0_seek_4 : cX0_seek.data.toList.drop 93 = dktX0_seek_4 := dk_seg dksX0_seek_3 22 rfl rfl
theorem dksX0_seek_5 : cX0_seek.data.toList.drop 117 = dktX0_seek_5 := dk_seg dksX0_seek_4 24 rfl rfl
theorem dX0_seek_0 : decode cX0_seek 0 = .ok (.iload_n 1, 1) := dk_27 (dk_at dksX0_seek_0 0 rfl rfl)
theorem dX0_seek_1 : decode cX0_seek 1 = .ok (.i2l, 1) := dk_133 (dk_at dksX0_seek_0 1 rfl rfl)
theorem dX0_seek_2 : decode cX0_seek 2 = .ok (.lconst 1, 1) := dk_10 (dk_at dksX0_seek_0 2 rfl rfl)
theorem dX0_seek_3 : decode cX0_seek 3 = .ok (.ldc2_w 345, 3) := dk_20 1 89 (dk_at dksX0_seek_0 3 rfl rfl)
theorem dX0_seek_6 : decode cX0_seek 6 = .ok (.invokestatic 125, 3) := dk_184 0 125 (dk_at dksX0_seek_0 6 rfl rfl)
theorem dX0_seek_9 : decode cX0_seek 9 = .ok (.ifCond .eq 17, 3) := dk_153 0 17 (dk_at dksX0_seek_0 9 rfl rfl)
theorem dX0_seek_12 : decode cX0_seek 12 = .ok (.iload_n 2, 1) := dk_28 (dk_at dksX0_seek_0 12 rfl rfl)
theorem dX0_seek_13 : decode cX0_seek 13 = .ok (.i2l, 1) := dk_133 (dk_at dksX0_seek_0 13 rfl rfl)
theorem dX0_seek_14 : decode cX0_seek 14 = .ok (.lconst 0, 1) := dk_9 (dk_at dksX0_seek_0 14 rfl rfl)
theorem dX0_seek_15 : decode cX0_seek 15 = .ok (.lconst 1, 1) := dk_10 (dk_at dksX0_seek_0 15 rfl rfl)
theorem dX0_seek_16 : decode cX0_seek 16 = .ok (.invokestatic 125, 3) := dk_184 0 125 (dk_at dksX0_seek_0 16 rfl rfl)
theorem dX0_seek_19 : decode cX0_seek 19 = .ok (.ifCond .eq 7, 3) := dk_153 0 7 (dk_at dksX0_seek_0 19 rfl rfl)
theorem dX0_seek_22 : decode cX0_seek 22 = .ok (.iconst 1, 1) := dk_4 (dk_at dksX0_seek_0 22 rfl rfl)
theorem dX0_seek_23 : decode cX0_seek 23 = .ok (.goto 4, 3) := dk_167 0 4 (dk_at dksX0_seek_1 0 rfl rfl)
theorem dX0_seek_26 : decode cX0_seek 26 = .ok (.iconst 0, 1) := dk_3 (dk_at dksX0_seek_1 3 rfl rfl)
theorem dX0_seek_27 : decode cX0_seek 27 = .ok (.iconst 0, 1) := dk_3 (dk_at dksX0_seek_1 4 rfl rfl)
theorem dX0_seek_28 : decode cX0_seek 28 = .ok (.invokestatic 119, 3) := dk_184 0 119 (dk_at dksX0_seek_1 5 rfl rfl)
theorem dX0_seek_31 : decode cX0_seek 31 = .ok (.aload_n 0, 1) := dk_42 (dk_at dksX0_seek_1 8 rfl rfl)
theorem dX0_seek_32 : decode cX0_seek 32 = .ok (.invokevirtual 338, 3) := dk_182 1 82 (dk_at dksX0_seek_1 9 rfl rfl)
theorem dX0_seek_35 : decode cX0_seek 35 = .ok (.iconst 0, 1) := dk_3 (dk_at dksX0_seek_1 12 rfl rfl)
theorem dX0_seek_36 : decode cX0_seek 36 = .ok (.istore_n 3, 1) := dk_62 (dk_at dksX0_seek_1 13 rfl rfl)
theorem dX0_seek_37 : decode cX0_seek 37 = .ok (.iconst 0, 1) := dk_3 (dk_at dksX0_seek_1 14 rfl rfl)
theorem dX0_seek_38 : decode cX0_seek 38 = .ok (.istore 4, 2) := dk_54 4 (dk_at dksX0_seek_1 15 rfl rfl)
theorem dX0_seek_40 : decode cX0_seek 40 = .ok (.iload 4, 2) := dk_21 4 (dk_at dksX0_seek_1 17 rfl rfl)
theorem dX0_seek_42 : decode cX0_seek 42 = .ok (.iload_n 1, 1) := dk_27 (dk_at dksX0_seek_1 19 rfl rfl)
theorem dX0_seek_43 : decode cX0_seek 43 = .ok (.if_icmp .ge 53, 3) := dk_162 0 53 (dk_at dksX0_seek_1 20 rfl rfl)
theorem dX0_seek_46 : decode cX0_seek 46 = .ok (.aload_n 0, 1) := dk_42 (dk_at dksX0_seek_1 23 rfl rfl)
theorem dX0_seek_47 : decode cX0_seek 47 = .ok (.iconst 0, 1) := dk_3 (dk_at dksX0_seek_2 0 rfl rfl)
theorem dX0_seek_48 : decode cX0_seek 48 = .ok (.invokevirtual 341, 3) := dk_182 1 85 (dk_at dksX0_seek_2 1 rfl rfl)
theorem dX0_seek_51 : decode cX0_seek 51 = .ok (.istore 5, 2) := dk_54 5 (dk_at dksX0_seek_2 4 rfl rfl)
theorem dX0_seek_53 : decode cX0_seek 53 = .ok (.iload_n 3, 1) := dk_29 (dk_at dksX0_seek_2 6 rfl rfl)
theorem dX0_seek_54 : decode cX0_seek 54 = .ok (.aload_n 0, 1) := dk_42 (dk_at dksX0_seek_2 7 rfl rfl)
theorem dX0_seek_55 : decode cX0_seek 55 = .ok (.getfield 101, 3) := dk_180 0 101 (dk_at dksX0_seek_2 8 rfl rfl)
theorem dX0_seek_58 : decode cX0_seek 58 = .ok (.iload 5, 2) := dk_21 5 (dk_at dksX0_seek_2 11 rfl rfl)
theorem dX0_seek_60 : decode cX0_seek 60 = .ok (.baload, 1) := dk_51 (dk_at dksX0_seek_2 13 rfl rfl)
theorem dX0_seek_61 : decode cX0_seek 61 = .ok (.ifCond .eq 7, 3) := dk_153 0 7 (dk_at dksX0_seek_2 14 rfl rfl)
theorem dX0_seek_64 : decode cX0_seek 64 = .ok (.iconst 0, 1) := dk_3 (dk_at dksX0_seek_2 17 rfl rfl)
theorem dX0_seek_65 : decode cX0_seek 65 = .ok (.goto 4, 3) := dk_167 0 4 (dk_at dksX0_seek_2 18 rfl rfl)
theorem dX0_seek_68 : decode cX0_seek 68 = .ok (.iconst 1, 1) := dk_4 (dk_at dksX0_seek_2 21 rfl rfl)
theorem dX0_seek_69 : decode cX0_seek 69 = .ok (.iadd, 1) := dk_96 (dk_at dksX0_seek_2 22 rfl rfl)
theorem dX0_seek_70 : decode cX0_seek 70 = .ok (.istore_n 3, 1) := dk_62 (dk_at dksX0_seek_2 23 rfl rfl)
theorem dX0_seek_71 : decode cX0_seek 71 = .ok (.aload_n 0, 1) := dk_42 (dk_at dksX0_seek_3 0 rfl rfl)
theorem dX0_seek_72 : decode cX0_seek 72 = .ok (.getfield 101, 3) := dk_180 0 101 (dk_at dksX0_seek_3 1 rfl rfl)
theorem dX0_seek_75 : decode cX0_seek 75 = .ok (.iload 5, 2) := dk_21 5 (dk_at dksX0_seek_3 4 rfl rfl)
theorem dX0_seek_77 : decode cX0_seek 77 = .ok (.iconst 1, 1) := dk_4 (dk_at dksX0_seek_3 6 rfl rfl)
theorem dX0_seek_78 : decode cX0_seek 78 = .ok (.bastore, 1) := dk_84 (dk_at dksX0_seek_3 7 rfl rfl)
theorem dX0_seek_79 : decode cX0_seek 79 = .ok (.aload_n 0, 1) := dk_42 (dk_at dksX0_seek_3 8 rfl rfl)
theorem dX0_seek_80 : decode cX0_seek 80 = .ok (.getfield 98, 3) := dk_180 0 98 (dk_at dksX0_seek_3 9 rfl rfl)
theorem dX0_seek_83 : decode cX0_seek 83 = .ok (.iload 5, 2) := dk_21 5 (dk_at dksX0_seek_3 12 rfl rfl)
theorem dX0_seek_85 : decode cX0_seek 85 = .ok (.dup2, 1) := dk_92 (dk_at dksX0_seek_3 14 rfl rfl)
theorem dX0_seek_86 : decode cX0_seek 86 = .ok (.iaload, 1) := dk_46 (dk_at dksX0_seek_3 15 rfl rfl)
theorem dX0_seek_87 : decode cX0_seek 87 = .ok (.iconst 1, 1) := dk_4 (dk_at dksX0_seek_3 16 rfl rfl)
theorem dX0_seek_88 : decode cX0_seek 88 = .ok (.iadd, 1) := dk_96 (dk_at dksX0_seek_3 17 rfl rfl)
theorem dX0_seek_89 : decode cX0_seek 89 = .ok (.iastore, 1) := dk_79 (dk_at dksX0_seek_3 18 rfl rfl)
theorem dX0_seek_90 : decode cX0_seek 90 = .ok (.iinc 4 1, 3) := dk_132 4 1 (dk_at dksX0_seek_3 19 rfl rfl)
theorem dX0_seek_93 : decode cX0_seek 93 = .ok (.goto (-53), 3) := dk_167 255 203 (dk_at dksX0_seek_4 0 rfl rfl)
theorem dX0_seek_96 : decode cX0_seek 96 = .ok (.iload_n 2, 1) := dk_28 (dk_at dksX0_seek_4 3 rfl rfl)
theorem dX0_seek_97 : decode cX0_seek 97 = .ok (.ifCond .ne 16, 3) := dk_154 0 16 (dk_at dksX0_seek_4 4 rfl rfl)
theorem dX0_seek_100 : decode cX0_seek 100 = .ok (.aload_n 0, 1) := dk_42 (dk_at dksX0_seek_4 7 rfl rfl)
theorem dX0_seek_101 : decode cX0_seek 101 = .ok (.getfield 98, 3) := dk_180 0 98 (dk_at dksX0_seek_4 8 rfl rfl)
theorem dX0_seek_104 : decode cX0_seek 104 = .ok (.aload_n 0, 1) := dk_42 (dk_at dksX0_seek_4 11 rfl rfl)
theorem dX0_seek_105 : decode cX0_seek 105 = .ok (.iconst 0, 1) := dk_3 (dk_at dksX0_seek_4 12 rfl rfl)
theorem dX0_seek_106 : decode cX0_seek 106 = .ok (.invokevirtual 341, 3) := dk_182 1 85 (dk_at dksX0_seek_4 13 rfl rfl)
theorem dX0_seek_109 : decode cX0_seek 109 = .ok (.iaload, 1) := dk_46 (dk_at dksX0_seek_4 16 rfl rfl)
theorem dX0_seek_110 : decode cX0_seek 110 = .ok (.goto 4, 3) := dk_167 0 4 (dk_at dksX0_seek_4 17 rfl rfl)
theorem dX0_seek_113 : decode cX0_seek 113 = .ok (.iload_n 3, 1) := dk_29 (dk_at dksX0_seek_4 20 rfl rfl)
theorem dX0_seek_114 : decode cX0_seek 114 = .ok (.ireturn, 1) := dk_172 (dk_at dksX0_seek_4 21 rfl rfl)
theorem dX0_seek_115 : decode cX0_seek 115 = .ok (.astore_n 3, 1) := dk_78 (dk_at dksX0_seek_4 22 rfl rfl)
theorem dX0_seek_116 : decode cX0_seek 116 = .ok (.aload_n 0, 1) := dk_42 (dk_at dksX0_seek_4 23 rfl rfl)
theorem dX0_seek_117 : decode cX0_seek 117 = .ok (.aload_n 3, 1) := dk_45 (dk_at dksX0_seek_5 0 rfl rfl)
theorem dX0_seek_118 : decode cX0_seek 118 = .ok (.invokevirtual 145, 3) := dk_182 0 145 (dk_at dksX0_seek_5 1 rfl rfl)
theorem dX0_seek_121 : decode cX0_seek 121 = .ok (.ireturn, 1) := dk_172 (dk_at dksX0_seek_5 4 rfl rfl)
abbrev cX0_shares : ByteArray := prog_1_method_56_code
def yX0_shares : MethodName := ⟨RX0, "shares", "(I)I"⟩
def dkwX0_shares_1 : List UInt8 := [182, 0, 145, 172]
abbrev dktX0_shares_1 : List UInt8 := dkwX0_shares_1 ++ []
def dkwX0_shares_0 : List UInt8 := [27, 184, 0, 149, 3, 184, 0, 119, 42, 182, 0, 249, 42, 180, 0, 90, 27, 46, 172, 77, 42, 44]
abbrev dktX0_shares_0 : List UInt8 := dkwX0_shares_0 ++ dktX0_shares_1
theorem dksX0_shares_0 : cX0_shares.data.toList.drop 0 = dktX0_shares_0 := by decide +kernel
theorem dksX0_shares_1 : cX0_shares.data.toList.drop 22 = dktX0_shares_1 := dk_seg dksX0_shares_0 22 rfl rfl
theorem dX0_shares_0 : decode cX0_shares 0 = .ok (.iload_n 1, 1) := dk_27 (dk_at dksX0_shares_0 0 rfl rfl)
theorem dX0_shares_1 : decode cX0_shares 1 = .ok (.invokestatic 149, 3) := dk_184 0 149 (dk_at dksX0_shares_0 1 rfl rfl)
theorem dX0_shares_4 : decode cX0_shares 4 = .ok (.iconst 0, 1) := dk_3 (dk_at dksX0_shares_0 4 rfl rfl)
theorem dX0_shares_5 : decode cX0_shares 5 = .ok (.invokestatic 119, 3) := dk_184 0 119 (dk_at dksX0_shares_0 5 rfl rfl)
theorem dX0_shares_8 : decode cX0_shares 8 = .ok (.aload_n 0, 1) := dk_42 (dk_at dksX0_shares_0 8 rfl rfl)
theorem dX0_shares_9 : decode cX0_shares 9 = .ok (.invokevirtual 249, 3) := dk_182 0 249 (dk_at dksX0_shares_0 9 rfl rfl)
theorem dX0_shares_12 : decode cX0_shares 12 = .ok (.aload_n 0, 1) := dk_42 (dk_at dksX0_shares_0 12 rfl rfl)
theorem dX0_shares_13 : decode cX0_shares 13 = .ok (.getfield 90, 3) := dk_180 0 90 (dk_at dksX0_shares_0 13 rfl rfl)
theorem dX0_shares_16 : decode cX0_shares 16 = .ok (.iload_n 1, 1) := dk_27 (dk_at dksX0_shares_0 16 rfl rfl)
theorem dX0_shares_17 : decode cX0_shares 17 = .ok (.iaload, 1) := dk_46 (dk_at dksX0_shares_0 17 rfl rfl)
theorem dX0_shares_18 : decode cX0_shares 18 = .ok (.ireturn, 1) := dk_172 (dk_at dksX0_shares_0 18 rfl rfl)
theorem dX0_shares_19 : decode cX0_shares 19 = .ok (.astore_n 2, 1) := dk_77 (dk_at dksX0_shares_0 19 rfl rfl)
theorem dX0_shares_20 : decode cX0_shares 20 = .ok (.aload_n 0, 1) := dk_42 (dk_at dksX0_shares_0 20 rfl rfl)
theorem dX0_shares_21 : decode cX0_shares 21 = .ok (.aload_n 2, 1) := dk_44 (dk_at dksX0_shares_0 21 rfl rfl)
theorem dX0_shares_22 : decode cX0_shares 22 = .ok (.invokevirtual 145, 3) := dk_182 0 145 (dk_at dksX0_shares_1 0 rfl rfl)
theorem dX0_shares_25 : decode cX0_shares 25 = .ok (.ireturn, 1) := dk_172 (dk_at dksX0_shares_1 3 rfl rfl)
abbrev cX0_due : ByteArray := prog_1_method_59_code
def yX0_due : MethodName := ⟨RX0, "due", "(I)I"⟩
def dkwX0_due_2 : List UInt8 := [154, 0, 9, 132, 2, 1, 167, 255, 214, 28, 172, 77, 42, 44, 182, 0, 145, 172]
abbrev dktX0_due_2 : List UInt8 := dkwX0_due_2 ++ []
def dkwX0_due_1 : List UInt8 := [180, 0, 42, 180, 1, 40, 3, 50, 42, 180, 0, 42, 180, 0, 185, 4, 100, 28, 100, 46, 27, 184, 1, 93]
abbrev dktX0_due_1 : List UInt8 := dkwX0_due_1 ++ dktX0_due_2
def dkwX0_due_0 : List UInt8 := [27, 184, 1, 96, 3, 184, 0, 119, 3, 61, 28, 42, 180, 0, 42, 180, 0, 185, 162, 0, 37, 42]
abbrev dktX0_due_0 : List UInt8 := dkwX0_due_0 ++ dktX0_due_1
theorem dksX0_due_0 : cX0_due.data.toList.drop 0 = dktX0_due_0 := by decide +kernel
theorem dksX0_due_1 : cX0_due.data.toList.drop 22 = dktX0_due_1 := dk_seg dksX0_due_0 22 rfl rfl
theorem dksX0_due_2 : cX0_due.data.toList.drop 46 = dktX0_due_2 := dk_seg dksX0_due_1 24 rfl rfl
theorem dX0_due_0 : decode cX0_due 0 = .ok (.iload_n 1, 1) := dk_27 (dk_at dksX0_due_0 0 rfl rfl)
theorem dX0_due_1 : decode cX0_due 1 = .ok (.invokestatic 352, 3) := dk_184 1 96 (dk_at dksX0_due_0 1 rfl rfl)
theorem dX0_due_4 : decode cX0_due 4 = .ok (.iconst 0, 1) := dk_3 (dk_at dksX0_due_0 4 rfl rfl)
theorem dX0_due_5 : decode cX0_due 5 = .ok (.invokestatic 119, 3) := dk_184 0 119 (dk_at dksX0_due_0 5 rfl rfl)
theorem dX0_due_8 : decode cX0_due 8 = .ok (.iconst 0, 1) := dk_3 (dk_at dksX0_due_0 8 rfl rfl)
theorem dX0_due_9 : decode cX0_due 9 = .ok (.istore_n 2, 1) := dk_61 (dk_at dksX0_due_0 9 rfl rfl)
theorem dX0_due_10 : decode cX0_due 10 = .ok (.iload_n 2, 1) := dk_28 (dk_at dksX0_due_0 10 rfl rfl)
theorem dX0_due_11 : decode cX0_due 11 = .ok (.aload_n 0, 1) := dk_42 (dk_at dksX0_due_0 11 rfl rfl)
theorem dX0_due_12 : decode cX0_due 12 = .ok (.getfield 42, 3) := dk_180 0 42 (dk_at dksX0_due_0 12 rfl rfl)
theorem dX0_due_15 : decode cX0_due 15 = .ok (.getfield 185, 3) := dk_180 0 185 (dk_at dksX0_due_0 15 rfl rfl)
theorem dX0_due_18 : decode cX0_due 18 = .ok (.if_icmp .ge 37, 3) := dk_162 0 37 (dk_at dksX0_due_0 18 rfl rfl)
theorem dX0_due_21 : decode cX0_due 21 = .ok (.aload_n 0, 1) := dk_42 (dk_at dksX0_due_0 21 rfl rfl)
theorem dX0_due_22 : decode cX0_due 22 = .ok (.getfield 42, 3) := dk_180 0 42 (dk_at dksX0_due_1 0 rfl rfl)
theorem dX0_due_25 : decode cX0_due 25 = .ok (.getfield 296, 3) := dk_180 1 40 (dk_at dksX0_due_1 3 rfl rfl)
theorem dX0_due_28 : decode cX0_due 28 = .ok (.iconst 0, 1) := dk_3 (dk_at dksX0_due_1 6 rfl rfl)
theorem dX0_due_29 : decode cX0_due 29 = .ok (.aaload, 1) := dk_50 (dk_at dksX0_due_1 7 rfl rfl)
theorem dX0_due_30 : decode cX0_due 30 = .ok (.aload_n 0, 1) := dk_42 (dk_at dksX0_due_1 8 rfl rfl)
theorem dX0_due_31 : decode cX0_due 31 = .ok (.getfield 42, 3) := dk_180 0 42 (dk_at dksX0_due_1 9 rfl rfl)
theorem dX0_due_34 : decode cX0_due 34 = .ok (.getfield 185, 3) := dk_180 0 185 (dk_at dksX0_due_1 12 rfl rfl)
theorem dX0_due_37 : decode cX0_due 37 = .ok (.iconst 1, 1) := dk_4 (dk_at dksX0_due_1 15 rfl rfl)
theorem dX0_due_38 : decode cX0_due 38 = .ok (.isub, 1) := dk_100 (dk_at dksX0_due_1 16 rfl rfl)
theorem dX0_due_39 : decode cX0_due 39 = .ok (.iload_n 2, 1) := dk_28 (dk_at dksX0_due_1 17 rfl rfl)
theorem dX0_due_40 : decode cX0_due 40 = .ok (.isub, 1) := dk_100 (dk_at dksX0_due_1 18 rfl rfl)
theorem dX0_due_41 : decode cX0_due 41 = .ok (.iaload, 1) := dk_46 (dk_at dksX0_due_1 19 rfl rfl)
theorem dX0_due_42 : decode cX0_due 42 = .ok (.iload_n 1, 1) := dk_27 (dk_at dksX0_due_1 20 rfl rfl)
theorem dX0_due_43 : decode cX0_due 43 = .ok (.invokestatic 349, 3) := dk_184 1 93 (dk_at dksX0_due_1 21 rfl rfl)
theorem dX0_due_46 : decode cX0_due 46 = .ok (.ifCond .ne 9, 3) := dk_154 0 9 (dk_at dksX0_due_2 0 rfl rfl)
theorem dX0_due_49 : decode cX0_due 49 = .ok (.iinc 2 1, 3) := dk_132 2 1 (dk_at dksX0_due_2 3 rfl rfl)
theorem dX0_due_52 : decode cX0_due 52 = .ok (.goto (-42), 3) := dk_167 255 214 (dk_at dksX0_due_2 6 rfl rfl)
theorem dX0_due_55 : decode cX0_due 55 = .ok (.iload_n 2, 1) := dk_28 (dk_at dksX0_due_2 9 rfl rfl)
theorem dX0_due_56 : decode cX0_due 56 = .ok (.ireturn, 1) := dk_172 (dk_at dksX0_due_2 10 rfl rfl)
theorem dX0_due_57 : decode cX0_due 57 = .ok (.astore_n 2, 1) := dk_77 (dk_at dksX0_due_2 11 rfl rfl)
theorem dX0_due_58 : decode cX0_due 58 = .ok (.aload_n 0, 1) := dk_42 (dk_at dksX0_due_2 12 rfl rfl)
theorem dX0_due_59 : decode cX0_due 59 = .ok (.aload_n 2, 1) := dk_44 (dk_at dksX0_due_2 13 rfl rfl)
theorem dX0_due_60 : decode cX0_due 60 = .ok (.invokevirtual 145, 3) := dk_182 0 145 (dk_at dksX0_due_2 14 rfl rfl)
theorem dX0_due_63 : decode cX0_due 63 = .ok (.ireturn, 1) := dk_172 (dk_at dksX0_due_2 17 rfl rfl)
abbrev cX0_isNumber : ByteArray := prog_1_method_57_code
def yX0_isNumber : MethodName := ⟨RX0, "isNumber", "(I)Z"⟩
def dkwX0_isNumber_0 : List UInt8 := [26, 133, 9, 20, 1, 91, 184, 0, 125, 172]
abbrev dktX0_isNumber_0 : List UInt8 := dkwX0_isNumber_0 ++ []
theorem dksX0_isNumber_0 : cX0_isNumber.data.toList.drop 0 = dktX0_isNumber_0 := by decide +kernel
theorem dX0_isNumber_0 : decode cX0_isNumber 0 = .ok (.iload_n 0, 1) := dk_26 (dk_at dksX0_isNumber_0 0 rfl rfl)
theorem dX0_isNumber_1 : decode cX0_isNumber 1 = .ok (.i2l, 1) := dk_133 (dk_at dksX0_isNumber_0 1 rfl rfl)
theorem dX0_isNumber_2 : decode cX0_isNumber 2 = .ok (.lconst 0, 1) := dk_9 (dk_at dksX0_isNumber_0 2 rfl rfl)
theorem dX0_isNumber_3 : decode cX0_isNumber 3 = .ok (.ldc2_w 347, 3) := dk_20 1 91 (dk_at dksX0_isNumber_0 3 rfl rfl)
theorem dX0_isNumber_6 : decode cX0_isNumber 6 = .ok (.invokestatic 125, 3) := dk_184 0 125 (dk_at dksX0_isNumber_0 6 rfl rfl)
theorem dX0_isNumber_9 : decode cX0_isNumber 9 = .ok (.ireturn, 1) := dk_172 (dk_at dksX0_isNumber_0 9 rfl rfl)
abbrev cX0_came : ByteArray := prog_1_method_60_code
def yX0_came : MethodName := ⟨RX0, "came", "(I)I"⟩
def dkwX0_came_0 : List UInt8 := [27, 184, 1, 96, 3, 184, 0, 119, 42, 27, 182, 1, 99, 172, 77, 42, 44, 182, 0, 145, 172]
abbrev dktX0_came_0 : List UInt8 := dkwX0_came_0 ++ []
theorem dksX0_came_0 : cX0_came.data.toList.drop 0 = dktX0_came_0 := by decide +kernel
theorem dX0_came_0 : decode cX0_came 0 = .ok (.iload_n 1, 1) := dk_27 (dk_at dksX0_came_0 0 rfl rfl)
theorem dX0_came_1 : decode cX0_came 1 = .ok (.invokestatic 352, 3) := dk_184 1 96 (dk_at dksX0_came_0 1 rfl rfl)
theorem dX0_came_4 : decode cX0_came 4 = .ok (.iconst 0, 1) := dk_3 (dk_at dksX0_came_0 4 rfl rfl)
theorem dX0_came_5 : decode cX0_came 5 = .ok (.invokestatic 119, 3) := dk_184 0 119 (dk_at dksX0_came_0 5 rfl rfl)
theorem dX0_came_8 : decode cX0_came 8 = .ok (.aload_n 0, 1) := dk_42 (dk_at dksX0_came_0 8 rfl rfl)
theorem dX0_came_9 : decode cX0_came 9 = .ok (.iload_n 1, 1) := dk_27 (dk_at dksX0_came_0 9 rfl rfl)
theorem dX0_came_10 : decode cX0_came 10 = .ok (.invokevirtual 355, 3) := dk_182 1 99 (dk_at dksX0_came_0 10 rfl rfl)
theorem dX0_came_13 : decode cX0_came 13 = .ok (.ireturn, 1) := dk_172 (dk_at dksX0_came_0 13 rfl rfl)
theorem dX0_came_14 : decode cX0_came 14 = .ok (.astore_n 2, 1) := dk_77 (dk_at dksX0_came_0 14 rfl rfl)
theorem dX0_came_15 : decode cX0_came 15 = .ok (.aload_n 0, 1) := dk_42 (dk_at dksX0_came_0 15 rfl rfl)
theorem dX0_came_16 : decode cX0_came 16 = .ok (.aload_n 2, 1) := dk_44 (dk_at dksX0_came_0 16 rfl rfl)
theorem dX0_came_17 : decode cX0_came 17 = .ok (.invokevirtual 145, 3) := dk_182 0 145 (dk_at dksX0_came_0 17 rfl rfl)
theorem dX0_came_20 : decode cX0_came 20 = .ok (.ireturn, 1) := dk_172 (dk_at dksX0_came_0 20 rfl rfl)
abbrev cX0_cameOf : ByteArray := prog_1_method_58_code
def yX0_cameOf : MethodName := ⟨RX0, "cameOf", "(I)I"⟩
def dkwX0_cameOf_1 : List UInt8 := [29, 46, 27, 184, 1, 93, 153, 0, 6, 132, 2, 1, 132, 3, 1, 167, 255, 221, 28, 172]
abbrev dktX0_cameOf_1 : List UInt8 := dkwX0_cameOf_1 ++ []
def dkwX0_cameOf_0 : List UInt8 := [3, 61, 3, 62, 29, 42, 180, 0, 42, 180, 0, 185, 162, 0, 30, 42, 180, 0, 42, 180, 1, 40, 3, 50]
abbrev dktX0_cameOf_0 : List UInt8 := dkwX0_cameOf_0 ++ dktX0_cameOf_1
theorem dksX0_cameOf_0 : cX0_cameOf.data.toList.drop 0 = dktX0_cameOf_0 := by decide +kernel
theorem dksX0_cameOf_1 : cX0_cameOf.data.toList.drop 24 = dktX0_cameOf_1 := dk_seg dksX0_cameOf_0 24 rfl rfl
theorem dX0_cameOf_0 : decode cX0_cameOf 0 = .ok (.iconst 0, 1) := dk_3 (dk_at dksX0_cameOf_0 0 rfl rfl)
theorem dX0_cameOf_1 : decode cX0_cameOf 1 = .ok (.istore_n 2, 1) := dk_61 (dk_at dksX0_cameOf_0 1 rfl rfl)
theorem dX0_cameOf_2 : decode cX0_cameOf 2 = .ok (.iconst 0, 1) := dk_3 (dk_at dksX0_cameOf_0 2 rfl rfl)
theorem dX0_cameOf_3 : decode cX0_cameOf 3 = .ok (.istore_n 3, 1) := dk_62 (dk_at dksX0_cameOf_0 3 rfl rfl)
theorem dX0_cameOf_4 : decode cX0_cameOf 4 = .ok (.iload_n 3, 1) := dk_29 (dk_at dksX0_cameOf_0 4 rfl rfl)
theorem dX0_cameOf_5 : decode cX0_cameOf 5 = .ok (.aload_n 0, 1) := dk_42 (dk_at dksX0_cameOf_0 5 rfl rfl)
theorem dX0_cameOf_6 : decode cX0_cameOf 6 = .ok (.getfield 42, 3) := dk_180 0 42 (dk_at dksX0_cameOf_0 6 rfl rfl)
theorem dX0_cameOf_9 : decode cX0_cameOf 9 = .ok (.getfield 185, 3) := dk_180 0 185 (dk_at dksX0_cameOf_0 9 rfl rfl)
theorem dX0_cameOf_12 : decode cX0_cameOf 12 = .ok (.if_icmp .ge 30, 3) := dk_162 0 30 (dk_at dksX0_cameOf_0 12 rfl rfl)
theorem dX0_cameOf_15 : decode cX0_cameOf 15 = .ok (.aload_n 0, 1) := dk_42 (dk_at dksX0_cameOf_0 15 rfl rfl)
theorem dX0_cameOf_16 : decode cX0_cameOf 16 = .ok (.getfield 42, 3) := dk_180 0 42 (dk_at dksX0_cameOf_0 16 rfl rfl)
theorem dX0_cameOf_19 : decode cX0_cameOf 19 = .ok (.getfield 296, 3) := dk_180 1 40 (dk_at dksX0_cameOf_0 19 rfl rfl)
theorem dX0_cameOf_22 : decode cX0_cameOf 22 = .ok (.iconst 0, 1) := dk_3 (dk_at dksX0_cameOf_0 22 rfl rfl)
theorem dX0_cameOf_23 : decode cX0_cameOf 23 = .ok (.aaload, 1) := dk_50 (dk_at dksX0_cameOf_0 23 rfl rfl)
theorem dX0_cameOf_24 : decode cX0_cameOf 24 = .ok (.iload_n 3, 1) := dk_29 (dk_at dksX0_cameOf_1 0 rfl rfl)
theorem dX0_cameOf_25 : decode cX0_cameOf 25 = .ok (.iaload, 1) := dk_46 (dk_at dksX0_cameOf_1 1 rfl rfl)
theorem dX0_cameOf_26 : decode cX0_cameOf 26 = .ok (.iload_n 1, 1) := dk_27 (dk_at dksX0_cameOf_1 2 rfl rfl)
theorem dX0_cameOf_27 : decode cX0_cameOf 27 = .ok (.invokestatic 349, 3) := dk_184 1 93 (dk_at dksX0_cameOf_1 3 rfl rfl)
theorem dX0_cameOf_30 : decode cX0_cameOf 30 = .ok (.ifCond .eq 6, 3) := dk_153 0 6 (dk_at dksX0_cameOf_1 6 rfl rfl)
theorem dX0_cameOf_33 : decode cX0_cameOf 33 = .ok (.iinc 2 1, 3) := dk_132 2 1 (dk_at dksX0_cameOf_1 9 rfl rfl)
theorem dX0_cameOf_36 : decode cX0_cameOf 36 = .ok (.iinc 3 1, 3) := dk_132 3 1 (dk_at dksX0_cameOf_1 12 rfl rfl)
theorem dX0_cameOf_39 : decode cX0_cameOf 39 = .ok (.goto (-35), 3) := dk_167 255 221 (dk_at dksX0_cameOf_1 15 rfl rfl)
theorem dX0_cameOf_42 : decode cX0_cameOf 42 = .ok (.iload_n 2, 1) := dk_28 (dk_at dksX0_cameOf_1 18 rfl rfl)
theorem dX0_cameOf_43 : decode cX0_cameOf 43 = .ok (.ireturn, 1) := dk_172 (dk_at dksX0_cameOf_1 19 rfl rfl)
abbrev cX0_drum : ByteArray := prog_1_method_61_code
def yX0_drum : MethodName := ⟨RX0, "drum", "()J"⟩
def dkwX0_drum_1 : List UInt8 := [180, 0, 185, 104, 100, 133, 55, 4, 31, 22, 4, 22, 4, 105, 97, 64, 132, 3, 1, 167, 255, 218, 31, 173]
abbrev dktX0_drum_1 : List UInt8 := dkwX0_drum_1 ++ []
def dkwX0_drum_0 : List UInt8 := [9, 64, 3, 62, 29, 16, 12, 162, 0, 38, 16, 12, 42, 29, 182, 1, 99, 104, 7, 42, 180, 0, 42]
abbrev dktX0_drum_0 : List UInt8 := dkwX0_drum_0 ++ dktX0_drum_1
theorem dksX0_drum_0 : cX0_drum.data.toList.drop 0 = dktX0_drum_0 := by decide +kernel
theorem dksX0_drum_1 : cX0_drum.data.toList.drop 23 = dktX0_drum_1 := dk_seg dksX0_drum_0 23 rfl rfl
theorem dX0_drum_0 : decode cX0_drum 0 = .ok (.lconst 0, 1) := dk_9 (dk_at dksX0_drum_0 0 rfl rfl)
theorem dX0_drum_1 : decode cX0_drum 1 = .ok (.lstore_n 1, 1) := dk_64 (dk_at dksX0_drum_0 1 rfl rfl)
theorem dX0_drum_2 : decode cX0_drum 2 = .ok (.iconst 0, 1) := dk_3 (dk_at dksX0_drum_0 2 rfl rfl)
theorem dX0_drum_3 : decode cX0_drum 3 = .ok (.istore_n 3, 1) := dk_62 (dk_at dksX0_drum_0 3 rfl rfl)
theorem dX0_drum_4 : decode cX0_drum 4 = .ok (.iload_n 3, 1) := dk_29 (dk_at dksX0_drum_0 4 rfl rfl)
theorem dX0_drum_5 : decode cX0_drum 5 = .ok (.bipush 12, 2) := dk_16 12 (dk_at dksX0_drum_0 5 rfl rfl)
theorem dX0_drum_7 : decode cX0_drum 7 = .ok (.if_icmp .ge 38, 3) := dk_162 0 38 (dk_at dksX0_drum_0 7 rfl rfl)
theorem dX0_drum_10 : decode cX0_drum 10 = .ok (.bipush 12, 2) := dk_16 12 (dk_at dksX0_drum_0 10 rfl rfl)
theorem dX0_drum_12 : decode cX0_drum 12 = .ok (.aload_n 0, 1) := dk_42 (dk_at dksX0_drum_0 12 rfl rfl)
theorem dX0_drum_13 : decode cX0_drum 13 = .ok (.iload_n 3, 1) := dk_29 (dk_at dksX0_drum_0 13 rfl rfl)
theorem dX0_drum_14 : decode cX0_drum 14 = .ok (.invokevirtual 355, 3) := dk_182 1 99 (dk_at dksX0_drum_0 14 rfl rfl)
theorem dX0_drum_17 : decode cX0_drum 17 = .ok (.imul, 1) := dk_104 (dk_at dksX0_drum_0 17 rfl rfl)
theorem dX0_drum_18 : decode cX0_drum 18 = .ok (.iconst 4, 1) := dk_7 (dk_at dksX0_drum_0 18 rfl rfl)
theorem dX0_drum_19 : decode cX0_drum 19 = .ok (.aload_n 0, 1) := dk_42 (dk_at dksX0_drum_0 19 rfl rfl)
theorem dX0_drum_20 : decode cX0_drum 20 = .ok (.getfield 42, 3) := dk_180 0 42 (dk_at dksX0_drum_0 20 rfl rfl)
theorem dX0_drum_23 : decode cX0_drum 23 = .ok (.getfield 185, 3) := dk_180 0 185 (dk_at dksX0_drum_1 0 rfl rfl)
theorem dX0_drum_26 : decode cX0_drum 26 = .ok (.imul, 1) := dk_104 (dk_at dksX0_drum_1 3 rfl rfl)
theorem dX0_drum_27 : decode cX0_drum 27 = .ok (.isub, 1) := dk_100 (dk_at dksX0_drum_1 4 rfl rfl)
theorem dX0_drum_28 : decode cX0_drum 28 = .ok (.i2l, 1) := dk_133 (dk_at dksX0_drum_1 5 rfl rfl)
theorem dX0_drum_29 : decode cX0_drum 29 = .ok (.lstore 4, 2) := dk_55 4 (dk_at dksX0_drum_1 6 rfl rfl)
theorem dX0_drum_31 : decode cX0_drum 31 = .ok (.lload_n 1, 1) := dk_31 (dk_at dksX0_drum_1 8 rfl rfl)
theorem dX0_drum_32 : decode cX0_drum 32 = .ok (.lload 4, 2) := dk_22 4 (dk_at dksX0_drum_1 9 rfl rfl)
theorem dX0_drum_34 : decode cX0_drum 34 = .ok (.lload 4, 2) := dk_22 4 (dk_at dksX0_drum_1 11 rfl rfl)
theorem dX0_drum_36 : decode cX0_drum 36 = .ok (.lmul, 1) := dk_105 (dk_at dksX0_drum_1 13 rfl rfl)
theorem dX0_drum_37 : decode cX0_drum 37 = .ok (.ladd, 1) := dk_97 (dk_at dksX0_drum_1 14 rfl rfl)
theorem dX0_drum_38 : decode cX0_drum 38 = .ok (.lstore_n 1, 1) := dk_64 (dk_at dksX0_drum_1 15 rfl rfl)
theorem dX0_drum_39 : decode cX0_drum 39 = .ok (.iinc 3 1, 3) := dk_132 3 1 (dk_at dksX0_drum_1 16 rfl rfl)
theorem dX0_drum_42 : decode cX0_drum 42 = .ok (.goto (-38), 3) := dk_167 255 218 (dk_at dksX0_drum_1 19 rfl rfl)
theorem dX0_drum_45 : decode cX0_drum 45 = .ok (.lload_n 1, 1) := dk_31 (dk_at dksX0_drum_1 22 rfl rfl)
theorem dX0_drum_46 : decode cX0_drum 46 = .ok (.lreturn, 1) := dk_173 (dk_at dksX0_drum_1 23 rfl rfl)
abbrev cX0_felt : ByteArray := prog_1_method_62_code
def yX0_felt : MethodName := ⟨RX0, "felt", "(I)I"⟩
def dkwX0_felt_6 : List UInt8 := [172]
abbrev dktX0_felt_6 : List UInt8 := dkwX0_felt_6 ++ []
def dkwX0_felt_5 : List UInt8 := [133, 109, 22, 5, 42, 180, 0, 42, 180, 0, 185, 28, 100, 133, 109, 101, 136, 172, 77, 42, 44, 182, 0, 145]
abbrev dktX0_felt_5 : List UInt8 := dkwX0_felt_5 ++ dktX0_felt_6
def dkwX0_felt_4 : List UInt8 := [42, 180, 0, 42, 180, 1, 40, 6, 50, 21, 7, 46, 133, 97, 55, 5, 132, 7, 1, 167, 255, 185, 33, 28]
abbrev dktX0_felt_4 : List UInt8 := dkwX0_felt_4 ++ dktX0_felt_5
def dkwX0_felt_3 : List UInt8 := [153, 0, 22, 33, 42, 180, 0, 42, 180, 1, 40, 6, 50, 21, 7, 46, 133, 97, 66, 167, 0, 21, 22, 5]
abbrev dktX0_felt_3 : List UInt8 := dkwX0_felt_3 ++ dktX0_felt_4
def dkwX0_felt_2 : List UInt8 := [180, 0, 185, 162, 0, 65, 42, 180, 0, 42, 180, 1, 40, 3, 50, 21, 7, 46, 27, 184, 1, 93]
abbrev dktX0_felt_2 : List UInt8 := dkwX0_felt_2 ++ dktX0_felt_3
def dkwX0_felt_1 : List UInt8 := [4, 100, 133, 184, 0, 125, 6, 184, 0, 119, 9, 66, 9, 55, 5, 3, 54, 7, 21, 7, 42, 180, 0, 42]
abbrev dktX0_felt_1 : List UInt8 := dkwX0_felt_1 ++ dktX0_felt_2
def dkwX0_felt_0 : List UInt8 := [27, 184, 1, 96, 3, 184, 0, 119, 42, 27, 182, 1, 99, 61, 28, 133, 10, 42, 180, 0, 42, 180, 0, 185]
abbrev dktX0_felt_0 : List UInt8 := dkwX0_felt_0 ++ dktX0_felt_1
theorem dksX0_felt_0 : cX0_felt.data.toList.drop 0 = dktX0_felt_0 := by decide +kernel
theorem dksX0_felt_1 : cX0_felt.data.toList.drop 24 = dktX0_felt_1 := dk_seg dksX0_felt_0 24 rfl rfl
theorem dksX0_felt_2 : cX0_felt.data.toList.drop 48 = dktX0_felt_2 := dk_seg dksX0_felt_1 24 rfl rfl
theorem dksX0_felt_3 : cX0_felt.data.toList.drop 70 = dktX0_felt_3 := dk_seg dksX0_felt_2 22 rfl rfl
theorem dksX0_felt_4 : cX0_felt.data.toList.drop 94 = dktX0_felt_4 := dk_seg dksX0_felt_3 24 rfl rfl
theorem dksX0_felt_5 : cX0_felt.data.toList.drop 118 = dktX0_felt_5 := dk_seg dksX0_felt_4 24 rfl rfl
theorem dksX0_felt_6 : cX0_felt.data.toList.drop 142 = dktX0_felt_6 := dk_seg dksX0_felt_5 24 rfl rfl
theorem dX0_felt_0 : decode cX0_felt 0 = .ok (.iload_n 1, 1) := dk_27 (dk_at dksX0_felt_0 0 rfl rfl)
theorem dX0_felt_1 : decode cX0_felt 1 = .ok (.invokestatic 352, 3) := dk_184 1 96 (dk_at dksX0_felt_0 1 rfl rfl)
theorem dX0_felt_4 : decode cX0_felt 4 = .ok (.iconst 0, 1) := dk_3 (dk_at dksX0_felt_0 4 rfl rfl)
theorem dX0_felt_5 : decode cX0_felt 5 = .ok (.invokestatic 119, 3) := dk_184 0 119 (dk_at dksX0_felt_0 5 rfl rfl)
theorem dX0_felt_8 : decode cX0_felt 8 = .ok (.aload_n 0, 1) := dk_42 (dk_at dksX0_felt_0 8 rfl rfl)
theorem dX0_felt_9 : decode cX0_felt 9 = .ok (.iload_n 1, 1) := dk_27 (dk_at dksX0_felt_0 9 rfl rfl)
theorem dX0_felt_10 : decode cX0_felt 10 = .ok (.invokevirtual 355, 3) := dk_182 1 99 (dk_at dksX0_felt_0 10 rfl rfl)
theorem dX0_felt_13 : decode cX0_felt 13 = .ok (.istore_n 2, 1) := dk_61 (dk_at dksX0_felt_0 13 rfl rfl)
theorem dX0_felt_14 : decode cX0_felt 14 = .ok (.iload_n 2, 1) := dk_28 (dk_at dksX0_felt_0 14 rfl rfl)
theorem dX0_felt_15 : decode cX0_felt 15 = .ok (.i2l, 1) := dk_133 (dk_at dksX0_felt_0 15 rfl rfl)
theorem dX0_felt_16 : decode cX0_felt 16 = .ok (.lconst 1, 1) := dk_10 (dk_at dksX0_felt_0 16 rfl rfl)
theorem dX0_felt_17 : decode cX0_felt 17 = .ok (.aload_n 0, 1) := dk_42 (dk_at dksX0_felt_0 17 rfl rfl)
theorem dX0_felt_18 : decode cX0_felt 18 = .ok (.getfield 42, 3) := dk_180 0 42 (dk_at dksX0_felt_0 18 rfl rfl)
theorem dX0_felt_21 : decode cX0_felt 21 = .ok (.getfield 185, 3) := dk_180 0 185 (dk_at dksX0_felt_0 21 rfl rfl)
theorem dX0_felt_24 : decode cX0_felt 24 = .ok (.iconst 1, 1) := dk_4 (dk_at dksX0_felt_1 0 rfl rfl)
theorem dX0_felt_25 : decode cX0_felt 25 = .ok (.isub, 1) := dk_100 (dk_at dksX0_felt_1 1 rfl rfl)
theorem dX0_felt_26 : decode cX0_felt 26 = .ok (.i2l, 1) := dk_133 (dk_at dksX0_felt_1 2 rfl rfl)
theorem dX0_felt_27 : decode cX0_felt 27 = .ok (.invokestatic 125, 3) := dk_184 0 125 (dk_at dksX0_felt_1 3 rfl rfl)
theorem dX0_felt_30 : decode cX0_felt 30 = .ok (.iconst 3, 1) := dk_6 (dk_at dksX0_felt_1 6 rfl rfl)
theorem dX0_felt_31 : decode cX0_felt 31 = .ok (.invokestatic 119, 3) := dk_184 0 119 (dk_at dksX0_felt_1 7 rfl rfl)
theorem dX0_felt_34 : decode cX0_felt 34 = .ok (.lconst 0, 1) := dk_9 (dk_at dksX0_felt_1 10 rfl rfl)
theorem dX0_felt_35 : decode cX0_felt 35 = .ok (.lstore_n 3, 1) := dk_66 (dk_at dksX0_felt_1 11 rfl rfl)
theorem dX0_felt_36 : decode cX0_felt 36 = .ok (.lconst 0, 1) := dk_9 (dk_at dksX0_felt_1 12 rfl rfl)
theorem dX0_felt_37 : decode cX0_felt 37 = .ok (.lstore 5, 2) := dk_55 5 (dk_at dksX0_felt_1 13 rfl rfl)
theorem dX0_felt_39 : decode cX0_felt 39 = .ok (.iconst 0, 1) := dk_3 (dk_at dksX0_felt_1 15 rfl rfl)
theorem dX0_felt_40 : decode cX0_felt 40 = .ok (.istore 7, 2) := dk_54 7 (dk_at dksX0_felt_1 16 rfl rfl)
theorem dX0_felt_42 : decode cX0_felt 42 = .ok (.iload 7, 2) := dk_21 7 (dk_at dksX0_felt_1 18 rfl rfl)
theorem dX0_felt_44 : decode cX0_felt 44 = .ok (.aload_n 0, 1) := dk_42 (dk_at dksX0_felt_1 20 rfl rfl)
theorem dX0_felt_45 : decode cX0_felt 45 = .ok (.getfield 42, 3) := dk_180 0 42 (dk_at dksX0_felt_1 21 rfl rfl)
theorem dX0_felt_48 : decode cX0_felt 48 = .ok (.getfield 185, 3) := dk_180 0 185 (dk_at dksX0_felt_2 0 rfl rfl)
theorem dX0_felt_51 : decode cX0_felt 51 = .ok (.if_icmp .ge 65, 3) := dk_162 0 65 (dk_at dksX0_felt_2 3 rfl rfl)
theorem dX0_felt_54 : decode cX0_felt 54 = .ok (.aload_n 0, 1) := dk_42 (dk_at dksX0_felt_2 6 rfl rfl)
theorem dX0_felt_55 : decode cX0_felt 55 = .ok (.getfield 42, 3) := dk_180 0 42 (dk_at dksX0_felt_2 7 rfl rfl)
theorem dX0_felt_58 : decode cX0_felt 58 = .ok (.getfield 296, 3) := dk_180 1 40 (dk_at dksX0_felt_2 10 rfl rfl)
theorem dX0_felt_61 : decode cX0_felt 61 = .ok (.iconst 0, 1) := dk_3 (dk_at dksX0_felt_2 13 rfl rfl)
theorem dX0_felt_62 : decode cX0_felt 62 = .ok (.aaload, 1) := dk_50 (dk_at dksX0_felt_2 14 rfl rfl)
theorem dX0_felt_63 : decode cX0_felt 63 = .ok (.iload 7, 2) := dk_21 7 (dk_at dksX0_felt_2 15 rfl rfl)
theorem dX0_felt_65 : decode cX0_felt 65 = .ok (.iaload, 1) := dk_46 (dk_at dksX0_felt_2 17 rfl rfl)
theorem dX0_felt_66 : decode cX0_felt 66 = .ok (.iload_n 1, 1) := dk_27 (dk_at dksX0_felt_2 18 rfl rfl)
theorem dX0_felt_67 : decode cX0_felt 67 = .ok (.invokestatic 349, 3) := dk_184 1 93 (dk_at dksX0_felt_2 19 rfl rfl)
theorem dX0_felt_70 : decode cX0_felt 70 = .ok (.ifCond .eq 22, 3) := dk_153 0 22 (dk_at dksX0_felt_3 0 rfl rfl)
theorem dX0_felt_73 : decode cX0_felt 73 = .ok (.lload_n 3, 1) := dk_33 (dk_at dksX0_felt_3 3 rfl rfl)
theorem dX0_felt_74 : decode cX0_felt 74 = .ok (.aload_n 0, 1) := dk_42 (dk_at dksX0_felt_3 4 rfl rfl)
theorem dX0_felt_75 : decode cX0_felt 75 = .ok (.getfield 42, 3) := dk_180 0 42 (dk_at dksX0_felt_3 5 rfl rfl)
theorem dX0_felt_78 : decode cX0_felt 78 = .ok (.getfield 296, 3) := dk_180 1 40 (dk_at dksX0_felt_3 8 rfl rfl)
theorem dX0_felt_81 : decode cX0_felt 81 = .ok (.iconst 3, 1) := dk_6 (dk_at dksX0_felt_3 11 rfl rfl)
theorem dX0_felt_82 : decode cX0_felt 82 = .ok (.aaload, 1) := dk_50 (dk_at dksX0_felt_3 12 rfl rfl)
theorem dX0_felt_83 : decode cX0_felt 83 = .ok (.iload 7, 2) := dk_21 7 (dk_at dksX0_felt_3 13 rfl rfl)
theorem dX0_felt_85 : decode cX0_felt 85 = .ok (.iaload, 1) := dk_46 (dk_at dksX0_felt_3 15 rfl rfl)
theorem dX0_felt_86 : decode cX0_felt 86 = .ok (.i2l, 1) := dk_133 (dk_at dksX0_felt_3 16 rfl rfl)
theorem dX0_felt_87 : decode cX0_felt 87 = .ok (.ladd, 1) := dk_97 (dk_at dksX0_felt_3 17 rfl rfl)
theorem dX0_felt_88 : decode cX0_felt 88 = .ok (.lstore_n 3, 1) := dk_66 (dk_at dksX0_felt_3 18 rfl rfl)
theorem dX0_felt_89 : decode cX0_felt 89 = .ok (.goto 21, 3) := dk_167 0 21 (dk_at dksX0_felt_3 19 rfl rfl)
theorem dX0_felt_92 : decode cX0_felt 92 = .ok (.lload 5, 2) := dk_22 5 (dk_at dksX0_felt_3 22 rfl rfl)
theorem dX0_felt_94 : decode cX0_felt 94 = .ok (.aload_n 0, 1) := dk_42 (dk_at dksX0_felt_4 0 rfl rfl)
theorem dX0_felt_95 : decode cX0_felt 95 = .ok (.getfield 42, 3) := dk_180 0 42 (dk_at dksX0_felt_4 1 rfl rfl)
theorem dX0_felt_98 : decode cX0_felt 98 = .ok (.getfield 296, 3) := dk_180 1 40 (dk_at dksX0_felt_4 4 rfl rfl)
theorem dX0_felt_101 : decode cX0_felt 101 = .ok (.iconst 3, 1) := dk_6 (dk_at dksX0_felt_4 7 rfl rfl)
theorem dX0_felt_102 : decode cX0_felt 102 = .ok (.aaload, 1) := dk_50 (dk_at dksX0_felt_4 8 rfl rfl)
theorem dX0_felt_103 : decode cX0_felt 103 = .ok (.iload 7, 2) := dk_21 7 (dk_at dksX0_felt_4 9 rfl rfl)
theorem dX0_felt_105 : decode cX0_felt 105 = .ok (.iaload, 1) := dk_46 (dk_at dksX0_felt_4 11 rfl rfl)
theorem dX0_felt_106 : decode cX0_felt 106 = .ok (.i2l, 1) := dk_133 (dk_at dksX0_felt_4 12 rfl rfl)
theorem dX0_felt_107 : decode cX0_felt 107 = .ok (.ladd, 1) := dk_97 (dk_at dksX0_felt_4 13 rfl rfl)
theorem dX0_felt_108 : decode cX0_felt 108 = .ok (.lstore 5, 2) := dk_55 5 (dk_at dksX0_felt_4 14 rfl rfl)
theorem dX0_felt_110 : decode cX0_felt 110 = .ok (.iinc 7 1, 3) := dk_132 7 1 (dk_at dksX0_felt_4 16 rfl rfl)
theorem dX0_felt_113 : decode cX0_felt 113 = .ok (.goto (-71), 3) := dk_167 255 185 (dk_at dksX0_felt_4 19 rfl rfl)
theorem dX0_felt_116 : decode cX0_felt 116 = .ok (.lload_n 3, 1) := dk_33 (dk_at dksX0_felt_4 22 rfl rfl)
theorem dX0_felt_117 : decode cX0_felt 117 = .ok (.iload_n 2, 1) := dk_28 (dk_at dksX0_felt_4 23 rfl rfl)
theorem dX0_felt_118 : decode cX0_felt 118 = .ok (.i2l, 1) := dk_133 (dk_at dksX0_felt_5 0 rfl rfl)
theorem dX0_felt_119 : decode cX0_felt 119 = .ok (.ldiv, 1) := dk_109 (dk_at dksX0_felt_5 1 rfl rfl)
theorem dX0_felt_120 : decode cX0_felt 120 = .ok (.lload 5, 2) := dk_22 5 (dk_at dksX0_felt_5 2 rfl rfl)
theorem dX0_felt_122 : decode cX0_felt 122 = .ok (.aload_n 0, 1) := dk_42 (dk_at dksX0_felt_5 4 rfl rfl)
theorem dX0_felt_123 : decode cX0_felt 123 = .ok (.getfield 42, 3) := dk_180 0 42 (dk_at dksX0_felt_5 5 rfl rfl)
theorem dX0_felt_126 : decode cX0_felt 126 = .ok (.getfield 185, 3) := dk_180 0 185 (dk_at dksX0_felt_5 8 rfl rfl)
theorem dX0_felt_129 : decode cX0_felt 129 = .ok (.iload_n 2, 1) := dk_28 (dk_at dksX0_felt_5 11 rfl rfl)
theorem dX0_felt_130 : decode cX0_felt 130 = .ok (.isub, 1) := dk_100 (dk_at dksX0_felt_5 12 rfl rfl)
theorem dX0_felt_131 : decode cX0_felt 131 = .ok (.i2l, 1) := dk_133 (dk_at dksX0_felt_5 13 rfl rfl)
theorem dX0_felt_132 : decode cX0_felt 132 = .ok (.ldiv, 1) := dk_109 (dk_at dksX0_felt_5 14 rfl rfl)
theorem dX0_felt_133 : decode cX0_felt 133 = .ok (.lsub, 1) := dk_101 (dk_at dksX0_felt_5 15 rfl rfl)
theorem dX0_felt_134 : decode cX0_felt 134 = .ok (.l2i, 1) := dk_136 (dk_at dksX0_felt_5 16 rfl rfl)
theorem dX0_felt_135 : decode cX0_felt 135 = .ok (.ireturn, 1) := dk_172 (dk_at dksX0_felt_5 17 rfl rfl)
theorem dX0_felt_136 : decode cX0_felt 136 = .ok (.astore_n 2, 1) := dk_77 (dk_at dksX0_felt_5 18 rfl rfl)
theorem dX0_felt_137 : decode cX0_felt 137 = .ok (.aload_n 0, 1) := dk_42 (dk_at dksX0_felt_5 19 rfl rfl)
theorem dX0_felt_138 : decode cX0_felt 138 = .ok (.aload_n 2, 1) := dk_44 (dk_at dksX0_felt_5 20 rfl rfl)
theorem dX0_felt_139 : decode cX0_felt 139 = .ok (.invokevirtual 145, 3) := dk_182 0 145 (dk_at dksX0_felt_5 21 rfl rfl)
theorem dX0_felt_142 : decode cX0_felt 142 = .ok (.ireturn, 1) := dk_172 (dk_at dksX0_felt_6 0 rfl rfl)
abbrev cX0_weeks : ByteArray := prog_1_method_63_code
def yX0_weeks : MethodName := ⟨RX0, "weeks", "(I)I"⟩
def dkwX0_weeks_3 : List UInt8 := [136, 182, 1, 63, 87, 132, 3, 1, 132, 4, 1, 167, 255, 189, 29, 172, 77, 42, 44, 182, 0, 145, 172]
abbrev dktX0_weeks_3 : List UInt8 := dkwX0_weeks_3 ++ []
def dkwX0_weeks_2 : List UInt8 := [20, 0, 129, 184, 0, 125, 153, 0, 26, 22, 5, 136, 184, 0, 138, 154, 0, 6, 167, 0, 14, 42, 22, 5]
abbrev dktX0_weeks_2 : List UInt8 := dkwX0_weeks_2 ++ dktX0_weeks_3
def dkwX0_weeks_1 : List UInt8 := [42, 180, 0, 42, 180, 0, 185, 16, 40, 162, 0, 52, 44, 21, 4, 184, 1, 113, 55, 5, 22, 5, 9]
abbrev dktX0_weeks_1 : List UInt8 := dkwX0_weeks_1 ++ dktX0_weeks_2
def dkwX0_weeks_0 : List UInt8 := [27, 184, 1, 102, 42, 27, 182, 1, 105, 77, 3, 62, 3, 54, 4, 21, 4, 44, 184, 1, 109, 162, 0, 64]
abbrev dktX0_weeks_0 : List UInt8 := dkwX0_weeks_0 ++ dktX0_weeks_1
theorem dksX0_weeks_0 : cX0_weeks.data.toList.drop 0 = dktX0_weeks_0 := by decide +kernel
theorem dksX0_weeks_1 : cX0_weeks.data.toList.drop 24 = dktX0_weeks_1 := dk_seg dksX0_weeks_0 24 rfl rfl
theorem dksX0_weeks_2 : cX0_weeks.data.toList.drop 47 = dktX0_weeks_2 := dk_seg dksX0_weeks_1 23 rfl rfl
theorem dksX0_weeks_3 : cX0_weeks.data.toList.drop 71 = dktX0_weeks_3 := dk_seg dksX0_weeks_2 24 rfl rfl
theorem dX0_weeks_0 : decode cX0_weeks 0 = .ok (.iload_n 1, 1) := dk_27 (dk_at dksX0_weeks_0 0 rfl rfl)
theorem dX0_weeks_1 : decode cX0_weeks 1 = .ok (.invokestatic 358, 3) := dk_184 1 102 (dk_at dksX0_weeks_0 1 rfl rfl)
theorem dX0_weeks_4 : decode cX0_weeks 4 = .ok (.aload_n 0, 1) := dk_42 (dk_at dksX0_weeks_0 4 rfl rfl)
theorem dX0_weeks_5 : decode cX0_weeks 5 = .ok (.iload_n 1, 1) := dk_27 (dk_at dksX0_weeks_0 5 rfl rfl)
theorem dX0_weeks_6 : decode cX0_weeks 6 = .ok (.invokevirtual 361, 3) := dk_182 1 105 (dk_at dksX0_weeks_0 6 rfl rfl)
theorem dX0_weeks_9 : decode cX0_weeks 9 = .ok (.astore_n 2, 1) := dk_77 (dk_at dksX0_weeks_0 9 rfl rfl)
theorem dX0_weeks_10 : decode cX0_weeks 10 = .ok (.iconst 0, 1) := dk_3 (dk_at dksX0_weeks_0 10 rfl rfl)
theorem dX0_weeks_11 : decode cX0_weeks 11 = .ok (.istore_n 3, 1) := dk_62 (dk_at dksX0_weeks_0 11 rfl rfl)
theorem dX0_weeks_12 : decode cX0_weeks 12 = .ok (.iconst 0, 1) := dk_3 (dk_at dksX0_weeks_0 12 rfl rfl)
theorem dX0_weeks_13 : decode cX0_weeks 13 = .ok (.istore 4, 2) := dk_54 4 (dk_at dksX0_weeks_0 13 rfl rfl)
theorem dX0_weeks_15 : decode cX0_weeks 15 = .ok (.iload 4, 2) := dk_21 4 (dk_at dksX0_weeks_0 15 rfl rfl)
theorem dX0_weeks_17 : decode cX0_weeks 17 = .ok (.aload_n 2, 1) := dk_44 (dk_at dksX0_weeks_0 17 rfl rfl)
theorem dX0_weeks_18 : decode cX0_weeks 18 = .ok (.invokestatic 365, 3) := dk_184 1 109 (dk_at dksX0_weeks_0 18 rfl rfl)
theorem dX0_weeks_21 : decode cX0_weeks 21 = .ok (.if_icmp .ge 64, 3) := dk_162 0 64 (dk_at dksX0_weeks_0 21 rfl rfl)
theorem dX0_weeks_24 : decode cX0_weeks 24 = .ok (.aload_n 0, 1) := dk_42 (dk_at dksX0_weeks_1 0 rfl rfl)
theorem dX0_weeks_25 : decode cX0_weeks 25 = .ok (.getfield 42, 3) := dk_180 0 42 (dk_at dksX0_weeks_1 1 rfl rfl)
theorem dX0_weeks_28 : decode cX0_weeks 28 = .ok (.getfield 185, 3) := dk_180 0 185 (dk_at dksX0_weeks_1 4 rfl rfl)
theorem dX0_weeks_31 : decode cX0_weeks 31 = .ok (.bipush 40, 2) := dk_16 40 (dk_at dksX0_weeks_1 7 rfl rfl)
theorem dX0_weeks_33 : decode cX0_weeks 33 = .ok (.if_icmp .ge 52, 3) := dk_162 0 52 (dk_at dksX0_weeks_1 9 rfl rfl)
theorem dX0_weeks_36 : decode cX0_weeks 36 = .ok (.aload_n 2, 1) := dk_44 (dk_at dksX0_weeks_1 12 rfl rfl)
theorem dX0_weeks_37 : decode cX0_weeks 37 = .ok (.iload 4, 2) := dk_21 4 (dk_at dksX0_weeks_1 13 rfl rfl)
theorem dX0_weeks_39 : decode cX0_weeks 39 = .ok (.invokestatic 369, 3) := dk_184 1 113 (dk_at dksX0_weeks_1 15 rfl rfl)
theorem dX0_weeks_42 : decode cX0_weeks 42 = .ok (.lstore 5, 2) := dk_55 5 (dk_at dksX0_weeks_1 18 rfl rfl)
theorem dX0_weeks_44 : decode cX0_weeks 44 = .ok (.lload 5, 2) := dk_22 5 (dk_at dksX0_weeks_1 20 rfl rfl)
theorem dX0_weeks_46 : decode cX0_weeks 46 = .ok (.lconst 0, 1) := dk_9 (dk_at dksX0_weeks_1 22 rfl rfl)
theorem dX0_weeks_47 : decode cX0_weeks 47 = .ok (.ldc2_w 129, 3) := dk_20 0 129 (dk_at dksX0_weeks_2 0 rfl rfl)
theorem dX0_weeks_50 : decode cX0_weeks 50 = .ok (.invokestatic 125, 3) := dk_184 0 125 (dk_at dksX0_weeks_2 3 rfl rfl)
theorem dX0_weeks_53 : decode cX0_weeks 53 = .ok (.ifCond .eq 26, 3) := dk_153 0 26 (dk_at dksX0_weeks_2 6 rfl rfl)
theorem dX0_weeks_56 : decode cX0_weeks 56 = .ok (.lload 5, 2) := dk_22 5 (dk_at dksX0_weeks_2 9 rfl rfl)
theorem dX0_weeks_58 : decode cX0_weeks 58 = .ok (.l2i, 1) := dk_136 (dk_at dksX0_weeks_2 11 rfl rfl)
theorem dX0_weeks_59 : decode cX0_weeks 59 = .ok (.invokestatic 138, 3) := dk_184 0 138 (dk_at dksX0_weeks_2 12 rfl rfl)
theorem dX0_weeks_62 : decode cX0_weeks 62 = .ok (.ifCond .ne 6, 3) := dk_154 0 6 (dk_at dksX0_weeks_2 15 rfl rfl)
theorem dX0_weeks_65 : decode cX0_weeks 65 = .ok (.goto 14, 3) := dk_167 0 14 (dk_at dksX0_weeks_2 18 rfl rfl)
theorem dX0_weeks_68 : decode cX0_weeks 68 = .ok (.aload_n 0, 1) := dk_42 (dk_at dksX0_weeks_2 21 rfl rfl)
theorem dX0_weeks_69 : decode cX0_weeks 69 = .ok (.lload 5, 2) := dk_22 5 (dk_at dksX0_weeks_2 22 rfl rfl)
theorem dX0_weeks_71 : decode cX0_weeks 71 = .ok (.l2i, 1) := dk_136 (dk_at dksX0_weeks_3 0 rfl rfl)
theorem dX0_weeks_72 : decode cX0_weeks 72 = .ok (.invokevirtual 319, 3) := dk_182 1 63 (dk_at dksX0_weeks_3 1 rfl rfl)
theorem dX0_weeks_75 : decode cX0_weeks 75 = .ok (.pop, 1) := dk_87 (dk_at dksX0_weeks_3 4 rfl rfl)
theorem dX0_weeks_76 : decode cX0_weeks 76 = .ok (.iinc 3 1, 3) := dk_132 3 1 (dk_at dksX0_weeks_3 5 rfl rfl)
theorem dX0_weeks_79 : decode cX0_weeks 79 = .ok (.iinc 4 1, 3) := dk_132 4 1 (dk_at dksX0_weeks_3 8 rfl rfl)
theorem dX0_weeks_82 : decode cX0_weeks 82 = .ok (.goto (-67), 3) := dk_167 255 189 (dk_at dksX0_weeks_3 11 rfl rfl)
theorem dX0_weeks_85 : decode cX0_weeks 85 = .ok (.iload_n 3, 1) := dk_29 (dk_at dksX0_weeks_3 14 rfl rfl)
theorem dX0_weeks_86 : decode cX0_weeks 86 = .ok (.ireturn, 1) := dk_172 (dk_at dksX0_weeks_3 15 rfl rfl)
theorem dX0_weeks_87 : decode cX0_weeks 87 = .ok (.astore_n 2, 1) := dk_77 (dk_at dksX0_weeks_3 16 rfl rfl)
theorem dX0_weeks_88 : decode cX0_weeks 88 = .ok (.aload_n 0, 1) := dk_42 (dk_at dksX0_weeks_3 17 rfl rfl)
theorem dX0_weeks_89 : decode cX0_weeks 89 = .ok (.aload_n 2, 1) := dk_44 (dk_at dksX0_weeks_3 18 rfl rfl)
theorem dX0_weeks_90 : decode cX0_weeks 90 = .ok (.invokevirtual 145, 3) := dk_182 0 145 (dk_at dksX0_weeks_3 19 rfl rfl)
theorem dX0_weeks_93 : decode cX0_weeks 93 = .ok (.ireturn, 1) := dk_172 (dk_at dksX0_weeks_3 22 rfl rfl)
abbrev cX0_sheetAt : ByteArray := prog_1_method_65_code
def yX0_sheetAt : MethodName := ⟨RX0, "sheetAt", "(I)V"⟩
def dkwX0_sheetAt_0 : List UInt8 := [26, 133, 9, 20, 1, 117, 184, 0, 125, 3, 184, 0, 119, 177]
abbrev dktX0_sheetAt_0 : List UInt8 := dkwX0_sheetAt_0 ++ []
theorem dksX0_sheetAt_0 : cX0_sheetAt.data.toList.drop 0 = dktX0_sheetAt_0 := by decide +kernel
theorem dX0_sheetAt_0 : decode cX0_sheetAt 0 = .ok (.iload_n 0, 1) := dk_26 (dk_at dksX0_sheetAt_0 0 rfl rfl)
theorem dX0_sheetAt_1 : decode cX0_sheetAt 1 = .ok (.i2l, 1) := dk_133 (dk_at dksX0_sheetAt_0 1 rfl rfl)
theorem dX0_sheetAt_2 : decode cX0_sheetAt 2 = .ok (.lconst 0, 1) := dk_9 (dk_at dksX0_sheetAt_0 2 rfl rfl)
theorem dX0_sheetAt_3 : decode cX0_sheetAt 3 = .ok (.ldc2_w 373, 3) := dk_20 1 117 (dk_at dksX0_sheetAt_0 3 rfl rfl)
theorem dX0_sheetAt_6 : decode cX0_sheetAt 6 = .ok (.invokestatic 125, 3) := dk_184 0 125 (dk_at dksX0_sheetAt_0 6 rfl rfl)
theorem dX0_sheetAt_9 : decode cX0_sheetAt 9 = .ok (.iconst 0, 1) := dk_3 (dk_at dksX0_sheetAt_0 9 rfl rfl)
theorem dX0_sheetAt_10 : decode cX0_sheetAt 10 = .ok (.invokestatic 119, 3) := dk_184 0 119 (dk_at dksX0_sheetAt_0 10 rfl rfl)
theorem dX0_sheetAt_13 : decode cX0_sheetAt 13 = .ok (.return_, 1) := dk_177 (dk_at dksX0_sheetAt_0 13 rfl rfl)
abbrev cX0_there : ByteArray := prog_1_method_66_code
def yX0_there : MethodName := ⟨RX0, "there", "(I)Ljava/lang/Object;"⟩
def dkwX0_there_1 : List UInt8 := [176]
abbrev dktX0_there_1 : List UInt8 := dkwX0_there_1 ++ []
def dkwX0_there_0 : List UInt8 := [42, 180, 0, 59, 27, 50, 180, 0, 162, 77, 44, 198, 0, 7, 4, 167, 0, 4, 3, 8, 184, 0, 119, 44]
abbrev dktX0_there_0 : List UInt8 := dkwX0_there_0 ++ dktX0_there_1
theorem dksX0_there_0 : cX0_there.data.toList.drop 0 = dktX0_there_0 := by decide +kernel
theorem dksX0_there_1 : cX0_there.data.toList.drop 24 = dktX0_there_1 := dk_seg dksX0_there_0 24 rfl rfl
theorem dX0_there_0 : decode cX0_there 0 = .ok (.aload_n 0, 1) := dk_42 (dk_at dksX0_there_0 0 rfl rfl)
theorem dX0_there_1 : decode cX0_there 1 = .ok (.getfield 59, 3) := dk_180 0 59 (dk_at dksX0_there_0 1 rfl rfl)
theorem dX0_there_4 : decode cX0_there 4 = .ok (.iload_n 1, 1) := dk_27 (dk_at dksX0_there_0 4 rfl rfl)
theorem dX0_there_5 : decode cX0_there 5 = .ok (.aaload, 1) := dk_50 (dk_at dksX0_there_0 5 rfl rfl)
theorem dX0_there_6 : decode cX0_there 6 = .ok (.getfield 162, 3) := dk_180 0 162 (dk_at dksX0_there_0 6 rfl rfl)
theorem dX0_there_9 : decode cX0_there 9 = .ok (.astore_n 2, 1) := dk_77 (dk_at dksX0_there_0 9 rfl rfl)
theorem dX0_there_10 : decode cX0_there 10 = .ok (.aload_n 2, 1) := dk_44 (dk_at dksX0_there_0 10 rfl rfl)
theorem dX0_there_11 : decode cX0_there 11 = .ok (.ifnull 7, 3) := dk_198 0 7 (dk_at dksX0_there_0 11 rfl rfl)
theorem dX0_there_14 : decode cX0_there 14 = .ok (.iconst 1, 1) := dk_4 (dk_at dksX0_there_0 14 rfl rfl)
theorem dX0_there_15 : decode cX0_there 15 = .ok (.goto 4, 3) := dk_167 0 4 (dk_at dksX0_there_0 15 rfl rfl)
theorem dX0_there_18 : decode cX0_there 18 = .ok (.iconst 0, 1) := dk_3 (dk_at dksX0_there_0 18 rfl rfl)
theorem dX0_there_19 : decode cX0_there 19 = .ok (.iconst 5, 1) := dk_8 (dk_at dksX0_there_0 19 rfl rfl)
theorem dX0_there_20 : decode cX0_there 20 = .ok (.invokestatic 119, 3) := dk_184 0 119 (dk_at dksX0_there_0 20 rfl rfl)
theorem dX0_there_23 : decode cX0_there 23 = .ok (.aload_n 2, 1) := dk_44 (dk_at dksX0_there_0 23 rfl rfl)
theorem dX0_there_24 : decode cX0_there 24 = .ok (.areturn, 1) := dk_176 (dk_at dksX0_there_1 0 rfl rfl)
abbrev cX0_length : ByteArray := prog_1_method_68_code
def yX0_length : MethodName := ⟨RX0, "length", "(Ljava/lang/Object;)I"⟩
def dkwX0_length_1 : List UInt8 := [190, 167, 0, 8, 42, 192, 1, 122, 190, 172]
abbrev dktX0_length_1 : List UInt8 := dkwX0_length_1 ++ []
def dkwX0_length_0 : List UInt8 := [42, 193, 1, 119, 153, 0, 9, 42, 192, 1, 119, 190, 172, 42, 193, 1, 120, 153, 0, 11, 42, 192, 1, 120]
abbrev dktX0_length_0 : List UInt8 := dkwX0_length_0 ++ dktX0_length_1
theorem dksX0_length_0 : cX0_length.data.toList.drop 0 = dktX0_length_0 := by decide +kernel
theorem dksX0_length_1 : cX0_length.data.toList.drop 24 = dktX0_length_1 := dk_seg dksX0_length_0 24 rfl rfl
theorem dX0_length_0 : decode cX0_length 0 = .ok (.aload_n 0, 1) := dk_42 (dk_at dksX0_length_0 0 rfl rfl)
theorem dX0_length_1 : decode cX0_length 1 = .ok (.instanceof 375, 3) := dk_193 1 119 (dk_at dksX0_length_0 1 rfl rfl)
theorem dX0_length_4 : decode cX0_length 4 = .ok (.ifCond .eq 9, 3) := dk_153 0 9 (dk_at dksX0_length_0 4 rfl rfl)
theorem dX0_length_7 : decode cX0_length 7 = .ok (.aload_n 0, 1) := dk_42 (dk_at dksX0_length_0 7 rfl rfl)
theorem dX0_length_8 : decode cX0_length 8 = .ok (.checkcast 375, 3) := dk_192 1 119 (dk_at dksX0_length_0 8 rfl rfl)
theorem dX0_length_11 : decode cX0_length 11 = .ok (.arraylength, 1) := dk_190 (dk_at dksX0_length_0 11 rfl rfl)
theorem dX0_length_12 : decode cX0_length 12 = .ok (.ireturn, 1) := dk_172 (dk_at dksX0_length_0 12 rfl rfl)
theorem dX0_length_13 : decode cX0_length 13 = .ok (.aload_n 0, 1) := dk_42 (dk_at dksX0_length_0 13 rfl rfl)
theorem dX0_length_14 : decode cX0_length 14 = .ok (.instanceof 376, 3) := dk_193 1 120 (dk_at dksX0_length_0 14 rfl rfl)
theorem dX0_length_17 : decode cX0_length 17 = .ok (.ifCond .eq 11, 3) := dk_153 0 11 (dk_at dksX0_length_0 17 rfl rfl)
theorem dX0_length_20 : decode cX0_length 20 = .ok (.aload_n 0, 1) := dk_42 (dk_at dksX0_length_0 20 rfl rfl)
theorem dX0_length_21 : decode cX0_length 21 = .ok (.checkcast 376, 3) := dk_192 1 120 (dk_at dksX0_length_0 21 rfl rfl)
theorem dX0_length_24 : decode cX0_length 24 = .ok (.arraylength, 1) := dk_190 (dk_at dksX0_length_1 0 rfl rfl)
theorem dX0_length_25 : decode cX0_length 25 = .ok (.goto 8, 3) := dk_167 0 8 (dk_at dksX0_length_1 1 rfl rfl)
theorem dX0_length_28 : decode cX0_length 28 = .ok (.aload_n 0, 1) := dk_42 (dk_at dksX0_length_1 4 rfl rfl)
theorem dX0_length_29 : decode cX0_length 29 = .ok (.checkcast 378, 3) := dk_192 1 122 (dk_at dksX0_length_1 5 rfl rfl)
theorem dX0_length_32 : decode cX0_length 32 = .ok (.arraylength, 1) := dk_190 (dk_at dksX0_length_1 8 rfl rfl)
theorem dX0_length_33 : decode cX0_length 33 = .ok (.ireturn, 1) := dk_172 (dk_at dksX0_length_1 9 rfl rfl)
abbrev cX0_get : ByteArray := prog_1_method_69_code
def yX0_get : MethodName := ⟨RX0, "get", "(Ljava/lang/Object;I)J"⟩
def dkwX0_get_1 : List UInt8 := [192, 1, 120, 27, 53, 133, 167, 0, 9, 42, 192, 1, 122, 27, 47, 173]
abbrev dktX0_get_1 : List UInt8 := dkwX0_get_1 ++ []
def dkwX0_get_0 : List UInt8 := [42, 193, 1, 119, 153, 0, 11, 42, 192, 1, 119, 27, 51, 133, 173, 42, 193, 1, 120, 153, 0, 13, 42]
abbrev dktX0_get_0 : List UInt8 := dkwX0_get_0 ++ dktX0_get_1
theorem dksX0_get_0 : cX0_get.data.toList.drop 0 = dktX0_get_0 := by decide +kernel
theorem dksX0_get_1 : cX0_get.data.toList.drop 23 = dktX0_get_1 := dk_seg dksX0_get_0 23 rfl rfl
theorem dX0_get_0 : decode cX0_get 0 = .ok (.aload_n 0, 1) := dk_42 (dk_at dksX0_get_0 0 rfl rfl)
theorem dX0_get_1 : decode cX0_get 1 = .ok (.instanceof 375, 3) := dk_193 1 119 (dk_at dksX0_get_0 1 rfl rfl)
theorem dX0_get_4 : decode cX0_get 4 = .ok (.ifCond .eq 11, 3) := dk_153 0 11 (dk_at dksX0_get_0 4 rfl rfl)
theorem dX0_get_7 : decode cX0_get 7 = .ok (.aload_n 0, 1) := dk_42 (dk_at dksX0_get_0 7 rfl rfl)
theorem dX0_get_8 : decode cX0_get 8 = .ok (.checkcast 375, 3) := dk_192 1 119 (dk_at dksX0_get_0 8 rfl rfl)
theorem dX0_get_11 : decode cX0_get 11 = .ok (.iload_n 1, 1) := dk_27 (dk_at dksX0_get_0 11 rfl rfl)
theorem dX0_get_12 : decode cX0_get 12 = .ok (.baload, 1) := dk_51 (dk_at dksX0_get_0 12 rfl rfl)
theorem dX0_get_13 : decode cX0_get 13 = .ok (.i2l, 1) := dk_133 (dk_at dksX0_get_0 13 rfl rfl)
theorem dX0_get_14 : decode cX0_get 14 = .ok (.lreturn, 1) := dk_173 (dk_at dksX0_get_0 14 rfl rfl)
theorem dX0_get_15 : decode cX0_get 15 = .ok (.aload_n 0, 1) := dk_42 (dk_at dksX0_get_0 15 rfl rfl)
theorem dX0_get_16 : decode cX0_get 16 = .ok (.instanceof 376, 3) := dk_193 1 120 (dk_at dksX0_get_0 16 rfl rfl)
theorem dX0_get_19 : decode cX0_get 19 = .ok (.ifCond .eq 13, 3) := dk_153 0 13 (dk_at dksX0_get_0 19 rfl rfl)
theorem dX0_get_22 : decode cX0_get 22 = .ok (.aload_n 0, 1) := dk_42 (dk_at dksX0_get_0 22 rfl rfl)
theorem dX0_get_23 : decode cX0_get 23 = .ok (.checkcast 376, 3) := dk_192 1 120 (dk_at dksX0_get_1 0 rfl rfl)
theorem dX0_get_26 : decode cX0_get 26 = .ok (.iload_n 1, 1) := dk_27 (dk_at dksX0_get_1 3 rfl rfl)
theorem dX0_get_27 : decode cX0_get 27 = .ok (.saload, 1) := dk_53 (dk_at dksX0_get_1 4 rfl rfl)
theorem dX0_get_28 : decode cX0_get 28 = .ok (.i2l, 1) := dk_133 (dk_at dksX0_get_1 5 rfl rfl)
theorem dX0_get_29 : decode cX0_get 29 = .ok (.goto 9, 3) := dk_167 0 9 (dk_at dksX0_get_1 6 rfl rfl)
theorem dX0_get_32 : decode cX0_get 32 = .ok (.aload_n 0, 1) := dk_42 (dk_at dksX0_get_1 9 rfl rfl)
theorem dX0_get_33 : decode cX0_get 33 = .ok (.checkcast 378, 3) := dk_192 1 122 (dk_at dksX0_get_1 10 rfl rfl)
theorem dX0_get_36 : decode cX0_get 36 = .ok (.iload_n 1, 1) := dk_27 (dk_at dksX0_get_1 13 rfl rfl)
theorem dX0_get_37 : decode cX0_get 37 = .ok (.laload, 1) := dk_47 (dk_at dksX0_get_1 14 rfl rfl)
theorem dX0_get_38 : decode cX0_get 38 = .ok (.lreturn, 1) := dk_173 (dk_at dksX0_get_1 15 rfl rfl)
abbrev cX0_read : ByteArray := prog_1_method_64_code
def yX0_read : MethodName := ⟨RX0, "read", "(I)I"⟩
def dkwX0_read_3 : List UInt8 := [172]
abbrev dktX0_read_3 : List UInt8 := dkwX0_read_3 ++ []
def dkwX0_read_2 : List UInt8 := [46, 133, 148, 153, 0, 7, 4, 29, 96, 172, 132, 3, 1, 167, 255, 209, 3, 172, 77, 42, 44, 182, 0, 145]
abbrev dktX0_read_2 : List UInt8 := dkwX0_read_2 ++ dktX0_read_3
def dkwX0_read_1 : List UInt8 := [180, 0, 42, 180, 0, 185, 162, 0, 24, 44, 29, 184, 1, 113, 42, 180, 0, 42, 180, 1, 40, 6, 50, 29]
abbrev dktX0_read_1 : List UInt8 := dkwX0_read_1 ++ dktX0_read_2
def dkwX0_read_0 : List UInt8 := [27, 184, 1, 102, 42, 27, 182, 1, 105, 77, 3, 62, 29, 44, 184, 1, 109, 162, 0, 45, 29, 42]
abbrev dktX0_read_0 : List UInt8 := dkwX0_read_0 ++ dktX0_read_1
theorem dksX0_read_0 : cX0_read.data.toList.drop 0 = dktX0_read_0 := by decide +kernel
theorem dksX0_read_1 : cX0_read.data.toList.drop 22 = dktX0_read_1 := dk_seg dksX0_read_0 22 rfl rfl
theorem dksX0_read_2 : cX0_read.data.toList.drop 46 = dktX0_read_2 := dk_seg dksX0_read_1 24 rfl rfl
theorem dksX0_read_3 : cX0_read.data.toList.drop 70 = dktX0_read_3 := dk_seg dksX0_read_2 24 rfl rfl
theorem dX0_read_0 : decode cX0_read 0 = .ok (.iload_n 1, 1) := dk_27 (dk_at dksX0_read_0 0 rfl rfl)
theorem dX0_read_1 : decode cX0_read 1 = .ok (.invokestatic 358, 3) := dk_184 1 102 (dk_at dksX0_read_0 1 rfl rfl)
theorem dX0_read_4 : decode cX0_read 4 = .ok (.aload_n 0, 1) := dk_42 (dk_at dksX0_read_0 4 rfl rfl)
theorem dX0_read_5 : decode cX0_read 5 = .ok (.iload_n 1, 1) := dk_27 (dk_at dksX0_read_0 5 rfl rfl)
theorem dX0_read_6 : decode cX0_read 6 = .ok (.invokevirtual 361, 3) := dk_182 1 105 (dk_at dksX0_read_0 6 rfl rfl)
theorem dX0_read_9 : decode cX0_read 9 = .ok (.astore_n 2, 1) := dk_77 (dk_at dksX0_read_0 9 rfl rfl)
theorem dX0_read_10 : decode cX0_read 10 = .ok (.iconst 0, 1) := dk_3 (dk_at dksX0_read_0 10 rfl rfl)
theorem dX0_read_11 : decode cX0_read 11 = .ok (.istore_n 3, 1) := dk_62 (dk_at dksX0_read_0 11 rfl rfl)
theorem dX0_read_12 : decode cX0_read 12 = .ok (.iload_n 3, 1) := dk_29 (dk_at dksX0_read_0 12 rfl rfl)
theorem dX0_read_13 : decode cX0_read 13 = .ok (.aload_n 2, 1) := dk_44 (dk_at dksX0_read_0 13 rfl rfl)
theorem dX0_read_14 : decode cX0_read 14 = .ok (.invokestatic 365, 3) := dk_184 1 109 (dk_at dksX0_read_0 14 rfl rfl)
theorem dX0_read_17 : decode cX0_read 17 = .ok (.if_icmp .ge 45, 3) := dk_162 0 45 (dk_at dksX0_read_0 17 rfl rfl)
theorem dX0_read_20 : decode cX0_read 20 = .ok (.iload_n 3, 1) := dk_29 (dk_at dksX0_read_0 20 rfl rfl)
theorem dX0_read_21 : decode cX0_read 21 = .ok (.aload_n 0, 1) := dk_42 (dk_at dksX0_read_0 21 rfl rfl)
theorem dX0_read_22 : decode cX0_read 22 = .ok (.getfield 42, 3) := dk_180 0 42 (dk_at dksX0_read_1 0 rfl rfl)
theorem dX0_read_25 : decode cX0_read 25 = .ok (.getfield 185, 3) := dk_180 0 185 (dk_at dksX0_read_1 3 rfl rfl)
theorem dX0_read_28 : decode cX0_read 28 = .ok (.if_icmp .ge 24, 3) := dk_162 0 24 (dk_at dksX0_read_1 6 rfl rfl)
theorem dX0_read_31 : decode cX0_read 31 = .ok (.aload_n 2, 1) := dk_44 (dk_at dksX0_read_1 9 rfl rfl)
theorem dX0_read_32 : decode cX0_read 32 = .ok (.iload_n 3, 1) := dk_29 (dk_at dksX0_read_1 10 rfl rfl)
theorem dX0_read_33 : decode cX0_read 33 = .ok (.invokestatic 369, 3) := dk_184 1 113 (dk_at dksX0_read_1 11 rfl rfl)
theorem dX0_read_36 : decode cX0_read 36 = .ok (.aload_n 0, 1) := dk_42 (dk_at dksX0_read_1 14 rfl rfl)
theorem dX0_read_37 : decode cX0_read 37 = .ok (.getfield 42, 3) := dk_180 0 42 (dk_at dksX0_read_1 15 rfl rfl)
theorem dX0_read_40 : decode cX0_read 40 = .ok (.getfield 296, 3) := dk_180 1 40 (dk_at dksX0_read_1 18 rfl rfl)
theorem dX0_read_43 : decode cX0_read 43 = .ok (.iconst 3, 1) := dk_6 (dk_at dksX0_read_1 21 rfl rfl)
theorem dX0_read_44 : decode cX0_read 44 = .ok (.aaload, 1) := dk_50 (dk_at dksX0_read_1 22 rfl rfl)
theorem dX0_read_45 : decode cX0_read 45 = .ok (.iload_n 3, 1) := dk_29 (dk_at dksX0_read_1 23 rfl rfl)
theorem dX0_read_46 : decode cX0_read 46 = .ok (.iaload, 1) := dk_46 (dk_at dksX0_read_2 0 rfl rfl)
theorem dX0_read_47 : decode cX0_read 47 = .ok (.i2l, 1) := dk_133 (dk_at dksX0_read_2 1 rfl rfl)
theorem dX0_read_48 : decode cX0_read 48 = .ok (.lcmp, 1) := dk_148 (dk_at dksX0_read_2 2 rfl rfl)
theorem dX0_read_49 : decode cX0_read 49 = .ok (.ifCond .eq 7, 3) := dk_153 0 7 (dk_at dksX0_read_2 3 rfl rfl)
theorem dX0_read_52 : decode cX0_read 52 = .ok (.iconst 1, 1) := dk_4 (dk_at dksX0_read_2 6 rfl rfl)
theorem dX0_read_53 : decode cX0_read 53 = .ok (.iload_n 3, 1) := dk_29 (dk_at dksX0_read_2 7 rfl rfl)
theorem dX0_read_54 : decode cX0_read 54 = .ok (.iadd, 1) := dk_96 (dk_at dksX0_read_2 8 rfl rfl)
theorem dX0_read_55 : decode cX0_read 55 = .ok (.ireturn, 1) := dk_172 (dk_at dksX0_read_2 9 rfl rfl)
theorem dX0_read_56 : decode cX0_read 56 = .ok (.iinc 3 1, 3) := dk_132 3 1 (dk_at dksX0_read_2 10 rfl rfl)
theorem dX0_read_59 : decode cX0_read 59 = .ok (.goto (-47), 3) := dk_167 255 209 (dk_at dksX0_read_2 13 rfl rfl)
theorem dX0_read_62 : decode cX0_read 62 = .ok (.iconst 0, 1) := dk_3 (dk_at dksX0_read_2 16 rfl rfl)
theorem dX0_read_63 : decode cX0_read 63 = .ok (.ireturn, 1) := dk_172 (dk_at dksX0_read_2 17 rfl rfl)
theorem dX0_read_64 : decode cX0_read 64 = .ok (.astore_n 2, 1) := dk_77 (dk_at dksX0_read_2 18 rfl rfl)
theorem dX0_read_65 : decode cX0_read 65 = .ok (.aload_n 0, 1) := dk_42 (dk_at dksX0_read_2 19 rfl rfl)
theorem dX0_read_66 : decode cX0_read 66 = .ok (.aload_n 2, 1) := dk_44 (dk_at dksX0_read_2 20 rfl rfl)
theorem dX0_read_67 : decode cX0_read 67 = .ok (.invokevirtual 145, 3) := dk_182 0 145 (dk_at dksX0_read_2 21 rfl rfl)
theorem dX0_read_70 : decode cX0_read 70 = .ok (.ireturn, 1) := dk_172 (dk_at dksX0_read_3 0 rfl rfl)
abbrev cX0_sheet : ByteArray := prog_1_method_72_code
def yX0_sheet : MethodName := ⟨RX0, "sheet", "(III)I"⟩
def dkwX0_sheet_4 : List UInt8 := [182, 0, 145, 172]
abbrev dktX0_sheet_4 : List UInt8 := dkwX0_sheet_4 ++ []
def dkwX0_sheet_3 : List UInt8 := [28, 29, 184, 1, 124, 181, 0, 162, 28, 154, 0, 7, 3, 167, 0, 4, 29, 172, 58, 4, 42, 25, 4]
abbrev dktX0_sheet_3 : List UInt8 := dkwX0_sheet_3 ++ dktX0_sheet_4
def dkwX0_sheet_2 : List UInt8 := [184, 0, 119, 29, 16, 40, 163, 0, 7, 4, 167, 0, 4, 3, 3, 184, 0, 119, 42, 180, 0, 59, 27, 50]
abbrev dktX0_sheet_2 : List UInt8 := dkwX0_sheet_2 ++ dktX0_sheet_3
def dkwX0_sheet_1 : List UInt8 := [160, 0, 7, 4, 167, 0, 4, 3, 3, 184, 0, 119, 29, 155, 0, 7, 4, 167, 0, 4, 3, 16, 6]
abbrev dktX0_sheet_1 : List UInt8 := dkwX0_sheet_1 ++ dktX0_sheet_2
def dkwX0_sheet_0 : List UInt8 := [27, 184, 1, 102, 28, 153, 0, 21, 28, 16, 8, 159, 0, 15, 28, 16, 16, 159, 0, 9, 28, 16, 64]
abbrev dktX0_sheet_0 : List UInt8 := dkwX0_sheet_0 ++ dktX0_sheet_1
theorem dksX0_sheet_0 : cX0_sheet.data.toList.drop 0 = dktX0_sheet_0 := by decide +kernel
theorem dksX0_sheet_1 : cX0_sheet.data.toList.drop 23 = dktX0_sheet_1 := dk_seg dksX0_sheet_0 23 rfl rfl
theorem dksX0_sheet_2 : cX0_sheet.data.toList.drop 46 = dktX0_sheet_2 := dk_seg dksX0_sheet_1 23 rfl rfl
theorem dksX0_sheet_3 : cX0_sheet.data.toList.drop 70 = dktX0_sheet_3 := dk_seg dksX0_sheet_2 24 rfl rfl
theorem dksX0_sheet_4 : cX0_sheet.data.toList.drop 93 = dktX0_sheet_4 := dk_seg dksX0_sheet_3 23 rfl rfl
theorem dX0_sheet_0 : decode cX0_sheet 0 = .ok (.iload_n 1, 1) := dk_27 (dk_at dksX0_sheet_0 0 rfl rfl)
theorem dX0_sheet_1 : decode cX0_sheet 1 = .ok (.invokestatic 358, 3) := dk_184 1 102 (dk_at dksX0_sheet_0 1 rfl rfl)
theorem dX0_sheet_4 : decode cX0_sheet 4 = .ok (.iload_n 2, 1) := dk_28 (dk_at dksX0_sheet_0 4 rfl rfl)
theorem dX0_sheet_5 : decode cX0_sheet 5 = .ok (.ifCond .eq 21, 3) := dk_153 0 21 (dk_at dksX0_sheet_0 5 rfl rfl)
theorem dX0_sheet_8 : decode cX0_sheet 8 = .ok (.iload_n 2, 1) := dk_28 (dk_at dksX0_sheet_0 8 rfl rfl)
theorem dX0_sheet_9 : decode cX0_sheet 9 = .ok (.bipush 8, 2) := dk_16 8 (dk_at dksX0_sheet_0 9 rfl rfl)
theorem dX0_sheet_11 : decode cX0_sheet 11 = .ok (.if_icmp .eq 15, 3) := dk_159 0 15 (dk_at dksX0_sheet_0 11 rfl rfl)
theorem dX0_sheet_14 : decode cX0_sheet 14 = .ok (.iload_n 2, 1) := dk_28 (dk_at dksX0_sheet_0 14 rfl rfl)
theorem dX0_sheet_15 : decode cX0_sheet 15 = .ok (.bipush 16, 2) := dk_16 16 (dk_at dksX0_sheet_0 15 rfl rfl)
theorem dX0_sheet_17 : decode cX0_sheet 17 = .ok (.if_icmp .eq 9, 3) := dk_159 0 9 (dk_at dksX0_sheet_0 17 rfl rfl)
theorem dX0_sheet_20 : decode cX0_sheet 20 = .ok (.iload_n 2, 1) := dk_28 (dk_at dksX0_sheet_0 20 rfl rfl)
theorem dX0_sheet_21 : decode cX0_sheet 21 = .ok (.bipush 64, 2) := dk_16 64 (dk_at dksX0_sheet_0 21 rfl rfl)
theorem dX0_sheet_23 : decode cX0_sheet 23 = .ok (.if_icmp .ne 7, 3) := dk_160 0 7 (dk_at dksX0_sheet_1 0 rfl rfl)
theorem dX0_sheet_26 : decode cX0_sheet 26 = .ok (.iconst 1, 1) := dk_4 (dk_at dksX0_sheet_1 3 rfl rfl)
theorem dX0_sheet_27 : decode cX0_sheet 27 = .ok (.goto 4, 3) := dk_167 0 4 (dk_at dksX0_sheet_1 4 rfl rfl)
theorem dX0_sheet_30 : decode cX0_sheet 30 = .ok (.iconst 0, 1) := dk_3 (dk_at dksX0_sheet_1 7 rfl rfl)
theorem dX0_sheet_31 : decode cX0_sheet 31 = .ok (.iconst 0, 1) := dk_3 (dk_at dksX0_sheet_1 8 rfl rfl)
theorem dX0_sheet_32 : decode cX0_sheet 32 = .ok (.invokestatic 119, 3) := dk_184 0 119 (dk_at dksX0_sheet_1 9 rfl rfl)
theorem dX0_sheet_35 : decode cX0_sheet 35 = .ok (.iload_n 3, 1) := dk_29 (dk_at dksX0_sheet_1 12 rfl rfl)
theorem dX0_sheet_36 : decode cX0_sheet 36 = .ok (.ifCond .lt 7, 3) := dk_155 0 7 (dk_at dksX0_sheet_1 13 rfl rfl)
theorem dX0_sheet_39 : decode cX0_sheet 39 = .ok (.iconst 1, 1) := dk_4 (dk_at dksX0_sheet_1 16 rfl rfl)
theorem dX0_sheet_40 : decode cX0_sheet 40 = .ok (.goto 4, 3) := dk_167 0 4 (dk_at dksX0_sheet_1 17 rfl rfl)
theorem dX0_sheet_43 : decode cX0_sheet 43 = .ok (.iconst 0, 1) := dk_3 (dk_at dksX0_sheet_1 20 rfl rfl)
theorem dX0_sheet_44 : decode cX0_sheet 44 = .ok (.bipush 6, 2) := dk_16 6 (dk_at dksX0_sheet_1 21 rfl rfl)
theorem dX0_sheet_46 : decode cX0_sheet 46 = .ok (.invokestatic 119, 3) := dk_184 0 119 (dk_at dksX0_sheet_2 0 rfl rfl)
theorem dX0_sheet_49 : decode cX0_sheet 49 = .ok (.iload_n 3, 1) := dk_29 (dk_at dksX0_sheet_2 3 rfl rfl)
theorem dX0_sheet_50 : decode cX0_sheet 50 = .ok (.bipush 40, 2) := dk_16 40 (dk_at dksX0_sheet_2 4 rfl rfl)
theorem dX0_sheet_52 : decode cX0_sheet 52 = .ok (.if_icmp .gt 7, 3) := dk_163 0 7 (dk_at dksX0_sheet_2 6 rfl rfl)
theorem dX0_sheet_55 : decode cX0_sheet 55 = .ok (.iconst 1, 1) := dk_4 (dk_at dksX0_sheet_2 9 rfl rfl)
theorem dX0_sheet_56 : decode cX0_sheet 56 = .ok (.goto 4, 3) := dk_167 0 4 (dk_at dksX0_sheet_2 10 rfl rfl)
theorem dX0_sheet_59 : decode cX0_sheet 59 = .ok (.iconst 0, 1) := dk_3 (dk_at dksX0_sheet_2 13 rfl rfl)
theorem dX0_sheet_60 : decode cX0_sheet 60 = .ok (.iconst 0, 1) := dk_3 (dk_at dksX0_sheet_2 14 rfl rfl)
theorem dX0_sheet_61 : decode cX0_sheet 61 = .ok (.invokestatic 119, 3) := dk_184 0 119 (dk_at dksX0_sheet_2 15 rfl rfl)
theorem dX0_sheet_64 : decode cX0_sheet 64 = .ok (.aload_n 0, 1) := dk_42 (dk_at dksX0_sheet_2 18 rfl rfl)
theorem dX0_sheet_65 : decode cX0_sheet 65 = .ok (.getfield 59, 3) := dk_180 0 59 (dk_at dksX0_sheet_2 19 rfl rfl)
theorem dX0_sheet_68 : decode cX0_sheet 68 = .ok (.iload_n 1, 1) := dk_27 (dk_at dksX0_sheet_2 22 rfl rfl)
theorem dX0_sheet_69 : decode cX0_sheet 69 = .ok (.aaload, 1) := dk_50 (dk_at dksX0_sheet_2 23 rfl rfl)
theorem dX0_sheet_70 : decode cX0_sheet 70 = .ok (.iload_n 2, 1) := dk_28 (dk_at dksX0_sheet_3 0 rfl rfl)
theorem dX0_sheet_71 : decode cX0_sheet 71 = .ok (.iload_n 3, 1) := dk_29 (dk_at dksX0_sheet_3 1 rfl rfl)
theorem dX0_sheet_72 : decode cX0_sheet 72 = .ok (.invokestatic 380, 3) := dk_184 1 124 (dk_at dksX0_sheet_3 2 rfl rfl)
theorem dX0_sheet_75 : decode cX0_sheet 75 = .ok (.putfield 162, 3) := dk_181 0 162 (dk_at dksX0_sheet_3 5 rfl rfl)
theorem dX0_sheet_78 : decode cX0_sheet 78 = .ok (.iload_n 2, 1) := dk_28 (dk_at dksX0_sheet_3 8 rfl rfl)
theorem dX0_sheet_79 : decode cX0_sheet 79 = .ok (.ifCond .ne 7, 3) := dk_154 0 7 (dk_at dksX0_sheet_3 9 rfl rfl)
theorem dX0_sheet_82 : decode cX0_sheet 82 = .ok (.iconst 0, 1) := dk_3 (dk_at dksX0_sheet_3 12 rfl rfl)
theorem dX0_sheet_83 : decode cX0_sheet 83 = .ok (.goto 4, 3) := dk_167 0 4 (dk_at dksX0_sheet_3 13 rfl rfl)
theorem dX0_sheet_86 : decode cX0_sheet 86 = .ok (.iload_n 3, 1) := dk_29 (dk_at dksX0_sheet_3 16 rfl rfl)
theorem dX0_sheet_87 : decode cX0_sheet 87 = .ok (.ireturn, 1) := dk_172 (dk_at dksX0_sheet_3 17 rfl rfl)
theorem dX0_sheet_88 : decode cX0_sheet 88 = .ok (.astore 4, 2) := dk_58 4 (dk_at dksX0_sheet_3 18 rfl rfl)
theorem dX0_sheet_90 : decode cX0_sheet 90 = .ok (.aload_n 0, 1) := dk_42 (dk_at dksX0_sheet_3 20 rfl rfl)
theorem dX0_sheet_91 : decode cX0_sheet 91 = .ok (.aload 4, 2) := dk_25 4 (dk_at dksX0_sheet_3 21 rfl rfl)
theorem dX0_sheet_93 : decode cX0_sheet 93 = .ok (.invokevirtual 145, 3) := dk_182 0 145 (dk_at dksX0_sheet_4 0 rfl rfl)
theorem dX0_sheet_96 : decode cX0_sheet 96 = .ok (.ireturn, 1) := dk_172 (dk_at dksX0_sheet_4 3 rfl rfl)
abbrev cX0_made : ByteArray := prog_1_method_71_code
def yX0_made : MethodName := ⟨RX0, "made", "(II)Ljava/lang/Object;"⟩
def dkwX0_made_2 : List UInt8 := [27, 188, 8, 176, 27, 188, 9, 176, 27, 188, 11, 176, 1, 176]
abbrev dktX0_made_2 : List UInt8 := dkwX0_made_2 ++ []
def dkwX0_made_1 : List UInt8 := [171, 0, 0, 0, 0, 0, 47, 0, 0, 0, 3, 0, 0, 0, 8, 0, 0, 0, 35, 0, 0, 0, 16, 0, 0, 0, 39, 0, 0, 0, 64, 0, 0, 0, 43]
abbrev dktX0_made_1 : List UInt8 := dkwX0_made_1 ++ dktX0_made_2
def dkwX0_made_0 : List UInt8 := [26]
abbrev dktX0_made_0 : List UInt8 := dkwX0_made_0 ++ dktX0_made_1
theorem dksX0_made_0 : cX0_made.data.toList.drop 0 = dktX0_made_0 := by decide +kernel
theorem dksX0_made_1 : cX0_made.data.toList.drop 1 = dktX0_made_1 := dk_seg dksX0_made_0 1 rfl rfl
theorem dksX0_made_2 : cX0_made.data.toList.drop 36 = dktX0_made_2 := dk_seg dksX0_made_1 35 rfl rfl
theorem dX0_made_0 : decode cX0_made 0 = .ok (.iload_n 0, 1) := dk_26 (dk_at dksX0_made_0 0 rfl rfl)
theorem dX0_made_1 : decode cX0_made 1 = .ok (.lookupswitch 47 #[(8, 35), (16, 39), (64, 43)], 35) := by decide +kernel
theorem dX0_made_36 : decode cX0_made 36 = .ok (.iload_n 1, 1) := dk_27 (dk_at dksX0_made_2 0 rfl rfl)
theorem dX0_made_37 : decode cX0_made 37 = .ok (.newarray .byte, 2) := dk_188_8 (dk_at dksX0_made_2 1 rfl rfl)
theorem dX0_made_39 : decode cX0_made 39 = .ok (.areturn, 1) := dk_176 (dk_at dksX0_made_2 3 rfl rfl)
theorem dX0_made_40 : decode cX0_made 40 = .ok (.iload_n 1, 1) := dk_27 (dk_at dksX0_made_2 4 rfl rfl)
theorem dX0_made_41 : decode cX0_made 41 = .ok (.newarray .short, 2) := dk_188_9 (dk_at dksX0_made_2 5 rfl rfl)
theorem dX0_made_43 : decode cX0_made 43 = .ok (.areturn, 1) := dk_176 (dk_at dksX0_made_2 7 rfl rfl)
theorem dX0_made_44 : decode cX0_made 44 = .ok (.iload_n 1, 1) := dk_27 (dk_at dksX0_made_2 8 rfl rfl)
theorem dX0_made_45 : decode cX0_made 45 = .ok (.newarray .long, 2) := dk_188_11 (dk_at dksX0_made_2 9 rfl rfl)
theorem dX0_made_47 : decode cX0_made 47 = .ok (.areturn, 1) := dk_176 (dk_at dksX0_made_2 11 rfl rfl)
theorem dX0_made_48 : decode cX0_made 48 = .ok (.aconst_null, 1) := dk_1 (dk_at dksX0_made_2 12 rfl rfl)
theorem dX0_made_49 : decode cX0_made 49 = .ok (.areturn, 1) := dk_176 (dk_at dksX0_made_2 13 rfl rfl)
abbrev cX0_write : ByteArray := prog_1_method_74_code
def yX0_write : MethodName := ⟨RX0, "write", "(IIJ)J"⟩
def dkwX0_write_1 : List UInt8 := [22, 6, 173, 58, 5, 42, 25, 5, 182, 0, 145, 133, 173]
abbrev dktX0_write_1 : List UInt8 := dkwX0_write_1 ++ []
def dkwX0_write_0 : List UInt8 := [42, 27, 28, 182, 1, 128, 58, 5, 25, 5, 28, 184, 1, 113, 55, 6, 25, 5, 28, 33, 184, 1, 131]
abbrev dktX0_write_0 : List UInt8 := dkwX0_write_0 ++ dktX0_write_1
theorem dksX0_write_0 : cX0_write.data.toList.drop 0 = dktX0_write_0 := by decide +kernel
theorem dksX0_write_1 : cX0_write.data.toList.drop 23 = dktX0_write_1 := dk_seg dksX0_write_0 23 rfl rfl
theorem dX0_write_0 : decode cX0_write 0 = .ok (.aload_n 0, 1) := dk_42 (dk_at dksX0_write_0 0 rfl rfl)
theorem dX0_write_1 : decode cX0_write 1 = .ok (.iload_n 1, 1) := dk_27 (dk_at dksX0_write_0 1 rfl rfl)
theorem dX0_write_2 : decode cX0_write 2 = .ok (.iload_n 2, 1) := dk_28 (dk_at dksX0_write_0 2 rfl rfl)
theorem dX0_write_3 : decode cX0_write 3 = .ok (.invokevirtual 384, 3) := dk_182 1 128 (dk_at dksX0_write_0 3 rfl rfl)
theorem dX0_write_6 : decode cX0_write 6 = .ok (.astore 5, 2) := dk_58 5 (dk_at dksX0_write_0 6 rfl rfl)
theorem dX0_write_8 : decode cX0_write 8 = .ok (.aload 5, 2) := dk_25 5 (dk_at dksX0_write_0 8 rfl rfl)
theorem dX0_write_10 : decode cX0_write 10 = .ok (.iload_n 2, 1) := dk_28 (dk_at dksX0_write_0 10 rfl rfl)
theorem dX0_write_11 : decode cX0_write 11 = .ok (.invokestatic 369, 3) := dk_184 1 113 (dk_at dksX0_write_0 11 rfl rfl)
theorem dX0_write_14 : decode cX0_write 14 = .ok (.lstore 6, 2) := dk_55 6 (dk_at dksX0_write_0 14 rfl rfl)
theorem dX0_write_16 : decode cX0_write 16 = .ok (.aload 5, 2) := dk_25 5 (dk_at dksX0_write_0 16 rfl rfl)
theorem dX0_write_18 : decode cX0_write 18 = .ok (.iload_n 2, 1) := dk_28 (dk_at dksX0_write_0 18 rfl rfl)
theorem dX0_write_19 : decode cX0_write 19 = .ok (.lload_n 3, 1) := dk_33 (dk_at dksX0_write_0 19 rfl rfl)
theorem dX0_write_20 : decode cX0_write 20 = .ok (.invokestatic 387, 3) := dk_184 1 131 (dk_at dksX0_write_0 20 rfl rfl)
theorem dX0_write_23 : decode cX0_write 23 = .ok (.lload 6, 2) := dk_22 6 (dk_at dksX0_write_1 0 rfl rfl)
theorem dX0_write_25 : decode cX0_write 25 = .ok (.lreturn, 1) := dk_173 (dk_at dksX0_write_1 2 rfl rfl)
theorem dX0_write_26 : decode cX0_write 26 = .ok (.astore 5, 2) := dk_58 5 (dk_at dksX0_write_1 3 rfl rfl)
theorem dX0_write_28 : decode cX0_write 28 = .ok (.aload_n 0, 1) := dk_42 (dk_at dksX0_write_1 5 rfl rfl)
theorem dX0_write_29 : decode cX0_write 29 = .ok (.aload 5, 2) := dk_25 5 (dk_at dksX0_write_1 6 rfl rfl)
theorem dX0_write_31 : decode cX0_write 31 = .ok (.invokevirtual 145, 3) := dk_182 0 145 (dk_at dksX0_write_1 8 rfl rfl)
theorem dX0_write_34 : decode cX0_write 34 = .ok (.i2l, 1) := dk_133 (dk_at dksX0_write_1 11 rfl rfl)
theorem dX0_write_35 : decode cX0_write 35 = .ok (.lreturn, 1) := dk_173 (dk_at dksX0_write_1 12 rfl rfl)
abbrev cX0_numberAt : ByteArray := prog_1_method_73_code
def yX0_numberAt : MethodName := ⟨RX0, "numberAt", "(II)Ljava/lang/Object;"⟩
def dkwX0_numberAt_1 : List UInt8 := [184, 0, 119, 45, 176]
abbrev dktX0_numberAt_1 : List UInt8 := dkwX0_numberAt_1 ++ []
def dkwX0_numberAt_0 : List UInt8 := [27, 184, 1, 102, 42, 27, 182, 1, 105, 78, 28, 133, 9, 45, 184, 1, 109, 4, 100, 133, 184, 0, 125, 3]
abbrev dktX0_numberAt_0 : List UInt8 := dkwX0_numberAt_0 ++ dktX0_numberAt_1
theorem dksX0_numberAt_0 : cX0_numberAt.data.toList.drop 0 = dktX0_numberAt_0 := by decide +kernel
theorem dksX0_numberAt_1 : cX0_numberAt.data.toList.drop 24 = dktX0_numberAt_1 := dk_seg dksX0_numberAt_0 24 rfl rfl
theorem dX0_numberAt_0 : decode cX0_numberAt 0 = .ok (.iload_n 1, 1) := dk_27 (dk_at dksX0_numberAt_0 0 rfl rfl)
theorem dX0_numberAt_1 : decode cX0_numberAt 1 = .ok (.invokestatic 358, 3) := dk_184 1 102 (dk_at dksX0_numberAt_0 1 rfl rfl)
theorem dX0_numberAt_4 : decode cX0_numberAt 4 = .ok (.aload_n 0, 1) := dk_42 (dk_at dksX0_numberAt_0 4 rfl rfl)
theorem dX0_numberAt_5 : decode cX0_numberAt 5 = .ok (.iload_n 1, 1) := dk_27 (dk_at dksX0_numberAt_0 5 rfl rfl)
theorem dX0_numberAt_6 : decode cX0_numberAt 6 = .ok (.invokevirtual 361, 3) := dk_182 1 105 (dk_at dksX0_numberAt_0 6 rfl rfl)
theorem dX0_numberAt_9 : decode cX0_numberAt 9 = .ok (.astore_n 3, 1) := dk_78 (dk_at dksX0_numberAt_0 9 rfl rfl)
theorem dX0_numberAt_10 : decode cX0_numberAt 10 = .ok (.iload_n 2, 1) := dk_28 (dk_at dksX0_numberAt_0 10 rfl rfl)
theorem dX0_numberAt_11 : decode cX0_numberAt 11 = .ok (.i2l, 1) := dk_133 (dk_at dksX0_numberAt_0 11 rfl rfl)
theorem dX0_numberAt_12 : decode cX0_numberAt 12 = .ok (.lconst 0, 1) := dk_9 (dk_at dksX0_numberAt_0 12 rfl rfl)
theorem dX0_numberAt_13 : decode cX0_numberAt 13 = .ok (.aload_n 3, 1) := dk_45 (dk_at dksX0_numberAt_0 13 rfl rfl)
theorem dX0_numberAt_14 : decode cX0_numberAt 14 = .ok (.invokestatic 365, 3) := dk_184 1 109 (dk_at dksX0_numberAt_0 14 rfl rfl)
theorem dX0_numberAt_17 : decode cX0_numberAt 17 = .ok (.iconst 1, 1) := dk_4 (dk_at dksX0_numberAt_0 17 rfl rfl)
theorem dX0_numberAt_18 : decode cX0_numberAt 18 = .ok (.isub, 1) := dk_100 (dk_at dksX0_numberAt_0 18 rfl rfl)
theorem dX0_numberAt_19 : decode cX0_numberAt 19 = .ok (.i2l, 1) := dk_133 (dk_at dksX0_numberAt_0 19 rfl rfl)
theorem dX0_numberAt_20 : decode cX0_numberAt 20 = .ok (.invokestatic 125, 3) := dk_184 0 125 (dk_at dksX0_numberAt_0 20 rfl rfl)
theorem dX0_numberAt_23 : decode cX0_numberAt 23 = .ok (.iconst 0, 1) := dk_3 (dk_at dksX0_numberAt_0 23 rfl rfl)
theorem dX0_numberAt_24 : decode cX0_numberAt 24 = .ok (.invokestatic 119, 3) := dk_184 0 119 (dk_at dksX0_numberAt_1 0 rfl rfl)
theorem dX0_numberAt_27 : decode cX0_numberAt 27 = .ok (.aload_n 3, 1) := dk_45 (dk_at dksX0_numberAt_1 3 rfl rfl)
theorem dX0_numberAt_28 : decode cX0_numberAt 28 = .ok (.areturn, 1) := dk_176 (dk_at dksX0_numberAt_1 4 rfl rfl)
abbrev cX0_put : ByteArray := prog_1_method_70_code
def yX0_put : MethodName := ⟨RX0, "put", "(Ljava/lang/Object;IJ)V"⟩
def dkwX0_put_1 : List UInt8 := [153, 0, 15, 42, 192, 1, 120, 27, 32, 136, 147, 86, 167, 0, 10, 42, 192, 1, 122, 27, 32, 80, 177]
abbrev dktX0_put_1 : List UInt8 := dkwX0_put_1 ++ []
def dkwX0_put_0 : List UInt8 := [42, 193, 1, 119, 153, 0, 15, 42, 192, 1, 119, 27, 32, 136, 145, 84, 167, 0, 29, 42, 193, 1, 120]
abbrev dktX0_put_0 : List UInt8 := dkwX0_put_0 ++ dktX0_put_1
theorem dksX0_put_0 : cX0_put.data.toList.drop 0 = dktX0_put_0 := by decide +kernel
theorem dksX0_put_1 : cX0_put.data.toList.drop 23 = dktX0_put_1 := dk_seg dksX0_put_0 23 rfl rfl
theorem dX0_put_0 : decode cX0_put 0 = .ok (.aload_n 0, 1) := dk_42 (dk_at dksX0_put_0 0 rfl rfl)
theorem dX0_put_1 : decode cX0_put 1 = .ok (.instanceof 375, 3) := dk_193 1 119 (dk_at dksX0_put_0 1 rfl rfl)
theorem dX0_put_4 : decode cX0_put 4 = .ok (.ifCond .eq 15, 3) := dk_153 0 15 (dk_at dksX0_put_0 4 rfl rfl)
theorem dX0_put_7 : decode cX0_put 7 = .ok (.aload_n 0, 1) := dk_42 (dk_at dksX0_put_0 7 rfl rfl)
theorem dX0_put_8 : decode cX0_put 8 = .ok (.checkcast 375, 3) := dk_192 1 119 (dk_at dksX0_put_0 8 rfl rfl)
theorem dX0_put_11 : decode cX0_put 11 = .ok (.iload_n 1, 1) := dk_27 (dk_at dksX0_put_0 11 rfl rfl)
theorem dX0_put_12 : decode cX0_put 12 = .ok (.lload_n 2, 1) := dk_32 (dk_at dksX0_put_0 12 rfl rfl)
theorem dX0_put_13 : decode cX0_put 13 = .ok (.l2i, 1) := dk_136 (dk_at dksX0_put_0 13 rfl rfl)
theorem dX0_put_14 : decode cX0_put 14 = .ok (.i2b, 1) := dk_145 (dk_at dksX0_put_0 14 rfl rfl)
theorem dX0_put_15 : decode cX0_put 15 = .ok (.bastore, 1) := dk_84 (dk_at dksX0_put_0 15 rfl rfl)
theorem dX0_put_16 : decode cX0_put 16 = .ok (.goto 29, 3) := dk_167 0 29 (dk_at dksX0_put_0 16 rfl rfl)
theorem dX0_put_19 : decode cX0_put 19 = .ok (.aload_n 0, 1) := dk_42 (dk_at dksX0_put_0 19 rfl rfl)
theorem dX0_put_20 : decode cX0_put 20 = .ok (.instanceof 376, 3) := dk_193 1 120 (dk_at dksX0_put_0 20 rfl rfl)
theorem dX0_put_23 : decode cX0_put 23 = .ok (.ifCond .eq 15, 3) := dk_153 0 15 (dk_at dksX0_put_1 0 rfl rfl)
theorem dX0_put_26 : decode cX0_put 26 = .ok (.aload_n 0, 1) := dk_42 (dk_at dksX0_put_1 3 rfl rfl)
theorem dX0_put_27 : decode cX0_put 27 = .ok (.checkcast 376, 3) := dk_192 1 120 (dk_at dksX0_put_1 4 rfl rfl)
theorem dX0_put_30 : decode cX0_put 30 = .ok (.iload_n 1, 1) := dk_27 (dk_at dksX0_put_1 7 rfl rfl)
theorem dX0_put_31 : decode cX0_put 31 = .ok (.lload_n 2, 1) := dk_32 (dk_at dksX0_put_1 8 rfl rfl)
theorem dX0_put_32 : decode cX0_put 32 = .ok (.l2i, 1) := dk_136 (dk_at dksX0_put_1 9 rfl rfl)
theorem dX0_put_33 : decode cX0_put 33 = .ok (.i2s, 1) := dk_147 (dk_at dksX0_put_1 10 rfl rfl)
theorem dX0_put_34 : decode cX0_put 34 = .ok (.sastore, 1) := dk_86 (dk_at dksX0_put_1 11 rfl rfl)
theorem dX0_put_35 : decode cX0_put 35 = .ok (.goto 10, 3) := dk_167 0 10 (dk_at dksX0_put_1 12 rfl rfl)
theorem dX0_put_38 : decode cX0_put 38 = .ok (.aload_n 0, 1) := dk_42 (dk_at dksX0_put_1 15 rfl rfl)
theorem dX0_put_39 : decode cX0_put 39 = .ok (.checkcast 378, 3) := dk_192 1 122 (dk_at dksX0_put_1 16 rfl rfl)
theorem dX0_put_42 : decode cX0_put 42 = .ok (.iload_n 1, 1) := dk_27 (dk_at dksX0_put_1 19 rfl rfl)
theorem dX0_put_43 : decode cX0_put 43 = .ok (.lload_n 2, 1) := dk_32 (dk_at dksX0_put_1 20 rfl rfl)
theorem dX0_put_44 : decode cX0_put 44 = .ok (.lastore, 1) := dk_80 (dk_at dksX0_put_1 21 rfl rfl)
theorem dX0_put_45 : decode cX0_put 45 = .ok (.return_, 1) := dk_177 (dk_at dksX0_put_1 22 rfl rfl)
abbrev cX0_copy : ByteArray := prog_1_method_75_code
def yX0_copy : MethodName := ⟨RX0, "copy", "(IIIII)I"⟩
def dkwX0_copy_5 : List UInt8 := [184, 1, 138, 21, 5, 172, 58, 6, 42, 25, 6, 182, 0, 145, 172]
abbrev dktX0_copy_5 : List UInt8 := dkwX0_copy_5 ++ []
def dkwX0_copy_4 : List UInt8 := [148, 157, 0, 7, 4, 167, 0, 4, 3, 3, 184, 0, 119, 25, 6, 28, 25, 7, 21, 4, 21, 5]
abbrev dktX0_copy_4 : List UInt8 := dkwX0_copy_4 ++ dktX0_copy_5
def dkwX0_copy_3 : List UInt8 := [97, 25, 6, 184, 1, 109, 133, 148, 157, 0, 24, 21, 4, 133, 21, 5, 133, 97, 25, 7, 184, 1, 109, 133]
abbrev dktX0_copy_3 : List UInt8 := dkwX0_copy_3 ++ dktX0_copy_4
def dkwX0_copy_2 : List UInt8 := [21, 4, 155, 0, 12, 21, 5, 155, 0, 7, 4, 167, 0, 4, 3, 3, 184, 0, 119, 28, 133, 21, 5, 133]
abbrev dktX0_copy_2 : List UInt8 := dkwX0_copy_2 ++ dktX0_copy_3
def dkwX0_copy_1 : List UInt8 := [184, 1, 135, 25, 7, 184, 1, 135, 160, 0, 7, 4, 167, 0, 4, 3, 5, 184, 0, 119, 28, 155, 0, 17]
abbrev dktX0_copy_1 : List UInt8 := dkwX0_copy_1 ++ dktX0_copy_2
def dkwX0_copy_0 : List UInt8 := [27, 184, 1, 102, 29, 184, 1, 102, 42, 27, 182, 1, 105, 58, 6, 42, 29, 182, 1, 105, 58, 7, 25, 6]
abbrev dktX0_copy_0 : List UInt8 := dkwX0_copy_0 ++ dktX0_copy_1
theorem dksX0_copy_0 : cX0_copy.data.toList.drop 0 = dktX0_copy_0 := by decide +kernel
theorem dksX0_copy_1 : cX0_copy.data.toList.drop 24 = dktX0_copy_1 := dk_seg dksX0_copy_0 24 rfl rfl
theorem dksX0_copy_2 : cX0_copy.data.toList.drop 48 = dktX0_copy_2 := dk_seg dksX0_copy_1 24 rfl rfl
theorem dksX0_copy_3 : cX0_copy.data.toList.drop 72 = dktX0_copy_3 := dk_seg dksX0_copy_2 24 rfl rfl
theorem dksX0_copy_4 : cX0_copy.data.toList.drop 96 = dktX0_copy_4 := dk_seg dksX0_copy_3 24 rfl rfl
theorem dksX0_copy_5 : cX0_copy.data.toList.drop 118 = dktX0_copy_5 := dk_seg dksX0_copy_4 22 rfl rfl
theorem dX0_copy_0 : decode cX0_copy 0 = .ok (.iload_n 1, 1) := dk_27 (dk_at dksX0_copy_0 0 rfl rfl)
theorem dX0_copy_1 : decode cX0_copy 1 = .ok (.invokestatic 358, 3) := dk_184 1 102 (dk_at dksX0_copy_0 1 rfl rfl)
theorem dX0_copy_4 : decode cX0_copy 4 = .ok (.iload_n 3, 1) := dk_29 (dk_at dksX0_copy_0 4 rfl rfl)
theorem dX0_copy_5 : decode cX0_copy 5 = .ok (.invokestatic 358, 3) := dk_184 1 102 (dk_at dksX0_copy_0 5 rfl rfl)
theorem dX0_copy_8 : decode cX0_copy 8 = .ok (.aload_n 0, 1) := dk_42 (dk_at dksX0_copy_0 8 rfl rfl)
theorem dX0_copy_9 : decode cX0_copy 9 = .ok (.iload_n 1, 1) := dk_27 (dk_at dksX0_copy_0 9 rfl rfl)
theorem dX0_copy_10 : decode cX0_copy 10 = .ok (.invokevirtual 361, 3) := dk_182 1 105 (dk_at dksX0_copy_0 10 rfl rfl)
theorem dX0_copy_13 : decode cX0_copy 13 = .ok (.astore 6, 2) := dk_58 6 (dk_at dksX0_copy_0 13 rfl rfl)
theorem dX0_copy_15 : decode cX0_copy 15 = .ok (.aload_n 0, 1) := dk_42 (dk_at dksX0_copy_0 15 rfl rfl)
theorem dX0_copy_16 : decode cX0_copy 16 = .ok (.iload_n 3, 1) := dk_29 (dk_at dksX0_copy_0 16 rfl rfl)
theorem dX0_copy_17 : decode cX0_copy 17 = .ok (.invokevirtual 361, 3) := dk_182 1 105 (dk_at dksX0_copy_0 17 rfl rfl)
theorem dX0_copy_20 : decode cX0_copy 20 = .ok (.astore 7, 2) := dk_58 7 (dk_at dksX0_copy_0 20 rfl rfl)
theorem dX0_copy_22 : decode cX0_copy 22 = .ok (.aload 6, 2) := dk_25 6 (dk_at dksX0_copy_0 22 rfl rfl)
theorem dX0_copy_24 : decode cX0_copy 24 = .ok (.invokestatic 391, 3) := dk_184 1 135 (dk_at dksX0_copy_1 0 rfl rfl)
theorem dX0_copy_27 : decode cX0_copy 27 = .ok (.aload 7, 2) := dk_25 7 (dk_at dksX0_copy_1 3 rfl rfl)
theorem dX0_copy_29 : decode cX0_copy 29 = .ok (.invokestatic 391, 3) := dk_184 1 135 (dk_at dksX0_copy_1 5 rfl rfl)
theorem dX0_copy_32 : decode cX0_copy 32 = .ok (.if_icmp .ne 7, 3) := dk_160 0 7 (dk_at dksX0_copy_1 8 rfl rfl)
theorem dX0_copy_35 : decode cX0_copy 35 = .ok (.iconst 1, 1) := dk_4 (dk_at dksX0_copy_1 11 rfl rfl)
theorem dX0_copy_36 : decode cX0_copy 36 = .ok (.goto 4, 3) := dk_167 0 4 (dk_at dksX0_copy_1 12 rfl rfl)
theorem dX0_copy_39 : decode cX0_copy 39 = .ok (.iconst 0, 1) := dk_3 (dk_at dksX0_copy_1 15 rfl rfl)
theorem dX0_copy_40 : decode cX0_copy 40 = .ok (.iconst 2, 1) := dk_5 (dk_at dksX0_copy_1 16 rfl rfl)
theorem dX0_copy_41 : decode cX0_copy 41 = .ok (.invokestatic 119, 3) := dk_184 0 119 (dk_at dksX0_copy_1 17 rfl rfl)
theorem dX0_copy_44 : decode cX0_copy 44 = .ok (.iload_n 2, 1) := dk_28 (dk_at dksX0_copy_1 20 rfl rfl)
theorem dX0_copy_45 : decode cX0_copy 45 = .ok (.ifCond .lt 17, 3) := dk_155 0 17 (dk_at dksX0_copy_1 21 rfl rfl)
theorem dX0_copy_48 : decode cX0_copy 48 = .ok (.iload 4, 2) := dk_21 4 (dk_at dksX0_copy_2 0 rfl rfl)
theorem dX0_copy_50 : decode cX0_copy 50 = .ok (.ifCond .lt 12, 3) := dk_155 0 12 (dk_at dksX0_copy_2 2 rfl rfl)
theorem dX0_copy_53 : decode cX0_copy 53 = .ok (.iload 5, 2) := dk_21 5 (dk_at dksX0_copy_2 5 rfl rfl)
theorem dX0_copy_55 : decode cX0_copy 55 = .ok (.ifCond .lt 7, 3) := dk_155 0 7 (dk_at dksX0_copy_2 7 rfl rfl)
theorem dX0_copy_58 : decode cX0_copy 58 = .ok (.iconst 1, 1) := dk_4 (dk_at dksX0_copy_2 10 rfl rfl)
theorem dX0_copy_59 : decode cX0_copy 59 = .ok (.goto 4, 3) := dk_167 0 4 (dk_at dksX0_copy_2 11 rfl rfl)
theorem dX0_copy_62 : decode cX0_copy 62 = .ok (.iconst 0, 1) := dk_3 (dk_at dksX0_copy_2 14 rfl rfl)
theorem dX0_copy_63 : decode cX0_copy 63 = .ok (.iconst 0, 1) := dk_3 (dk_at dksX0_copy_2 15 rfl rfl)
theorem dX0_copy_64 : decode cX0_copy 64 = .ok (.invokestatic 119, 3) := dk_184 0 119 (dk_at dksX0_copy_2 16 rfl rfl)
theorem dX0_copy_67 : decode cX0_copy 67 = .ok (.iload_n 2, 1) := dk_28 (dk_at dksX0_copy_2 19 rfl rfl)
theorem dX0_copy_68 : decode cX0_copy 68 = .ok (.i2l, 1) := dk_133 (dk_at dksX0_copy_2 20 rfl rfl)
theorem dX0_copy_69 : decode cX0_copy 69 = .ok (.iload 5, 2) := dk_21 5 (dk_at dksX0_copy_2 21 rfl rfl)
theorem dX0_copy_71 : decode cX0_copy 71 = .ok (.i2l, 1) := dk_133 (dk_at dksX0_copy_2 23 rfl rfl)
theorem dX0_copy_72 : decode cX0_copy 72 = .ok (.ladd, 1) := dk_97 (dk_at dksX0_copy_3 0 rfl rfl)
theorem dX0_copy_73 : decode cX0_copy 73 = .ok (.aload 6, 2) := dk_25 6 (dk_at dksX0_copy_3 1 rfl rfl)
theorem dX0_copy_75 : decode cX0_copy 75 = .ok (.invokestatic 365, 3) := dk_184 1 109 (dk_at dksX0_copy_3 3 rfl rfl)
theorem dX0_copy_78 : decode cX0_copy 78 = .ok (.i2l, 1) := dk_133 (dk_at dksX0_copy_3 6 rfl rfl)
theorem dX0_copy_79 : decode cX0_copy 79 = .ok (.lcmp, 1) := dk_148 (dk_at dksX0_copy_3 7 rfl rfl)
theorem dX0_copy_80 : decode cX0_copy 80 = .ok (.ifCond .gt 24, 3) := dk_157 0 24 (dk_at dksX0_copy_3 8 rfl rfl)
theorem dX0_copy_83 : decode cX0_copy 83 = .ok (.iload 4, 2) := dk_21 4 (dk_at dksX0_copy_3 11 rfl rfl)
theorem dX0_copy_85 : decode cX0_copy 85 = .ok (.i2l, 1) := dk_133 (dk_at dksX0_copy_3 13 rfl rfl)
theorem dX0_copy_86 : decode cX0_copy 86 = .ok (.iload 5, 2) := dk_21 5 (dk_at dksX0_copy_3 14 rfl rfl)
theorem dX0_copy_88 : decode cX0_copy 88 = .ok (.i2l, 1) := dk_133 (dk_at dksX0_copy_3 16 rfl rfl)
theorem dX0_copy_89 : decode cX0_copy 89 = .ok (.ladd, 1) := dk_97 (dk_at dksX0_copy_3 17 rfl rfl)
theorem dX0_copy_90 : decode cX0_copy 90 = .ok (.aload 7, 2) := dk_25 7 (dk_at dksX0_copy_3 18 rfl rfl)
theorem dX0_copy_92 : decode cX0_copy 92 = .ok (.invokestatic 365, 3) := dk_184 1 109 (dk_at dksX0_copy_3 20 rfl rfl)
theorem dX0_copy_95 : decode cX0_copy 95 = .ok (.i2l, 1) := dk_133 (dk_at dksX0_copy_3 23 rfl rfl)
theorem dX0_copy_96 : decode cX0_copy 96 = .ok (.lcmp, 1) := dk_148 (dk_at dksX0_copy_4 0 rfl rfl)
theorem dX0_copy_97 : decode cX0_copy 97 = .ok (.ifCond .gt 7, 3) := dk_157 0 7 (dk_at dksX0_copy_4 1 rfl rfl)
theorem dX0_copy_100 : decode cX0_copy 100 = .ok (.iconst 1, 1) := dk_4 (dk_at dksX0_copy_4 4 rfl rfl)
theorem dX0_copy_101 : decode cX0_copy 101 = .ok (.goto 4, 3) := dk_167 0 4 (dk_at dksX0_copy_4 5 rfl rfl)
theorem dX0_copy_104 : decode cX0_copy 104 = .ok (.iconst 0, 1) := dk_3 (dk_at dksX0_copy_4 8 rfl rfl)
theorem dX0_copy_105 : decode cX0_copy 105 = .ok (.iconst 0, 1) := dk_3 (dk_at dksX0_copy_4 9 rfl rfl)
theorem dX0_copy_106 : decode cX0_copy 106 = .ok (.invokestatic 119, 3) := dk_184 0 119 (dk_at dksX0_copy_4 10 rfl rfl)
theorem dX0_copy_109 : decode cX0_copy 109 = .ok (.aload 6, 2) := dk_25 6 (dk_at dksX0_copy_4 13 rfl rfl)
theorem dX0_copy_111 : decode cX0_copy 111 = .ok (.iload_n 2, 1) := dk_28 (dk_at dksX0_copy_4 15 rfl rfl)
theorem dX0_copy_112 : decode cX0_copy 112 = .ok (.aload 7, 2) := dk_25 7 (dk_at dksX0_copy_4 16 rfl rfl)
theorem dX0_copy_114 : decode cX0_copy 114 = .ok (.iload 4, 2) := dk_21 4 (dk_at dksX0_copy_4 18 rfl rfl)
theorem dX0_copy_116 : decode cX0_copy 116 = .ok (.iload 5, 2) := dk_21 5 (dk_at dksX0_copy_4 20 rfl rfl)
theorem dX0_copy_118 : decode cX0_copy 118 = .ok (.invokestatic 394, 3) := dk_184 1 138 (dk_at dksX0_copy_5 0 rfl rfl)
theorem dX0_copy_121 : decode cX0_copy 121 = .ok (.iload 5, 2) := dk_21 5 (dk_at dksX0_copy_5 3 rfl rfl)
theorem dX0_copy_123 : decode cX0_copy 123 = .ok (.ireturn, 1) := dk_172 (dk_at dksX0_copy_5 5 rfl rfl)
theorem dX0_copy_124 : decode cX0_copy 124 = .ok (.astore 6, 2) := dk_58 6 (dk_at dksX0_copy_5 6 rfl rfl)
theorem dX0_copy_126 : decode cX0_copy 126 = .ok (.aload_n 0, 1) := dk_42 (dk_at dksX0_copy_5 8 rfl rfl)
theorem dX0_copy_127 : decode cX0_copy 127 = .ok (.aload 6, 2) := dk_25 6 (dk_at dksX0_copy_5 9 rfl rfl)
theorem dX0_copy_129 : decode cX0_copy 129 = .ok (.invokevirtual 145, 3) := dk_182 0 145 (dk_at dksX0_copy_5 11 rfl rfl)
theorem dX0_copy_132 : decode cX0_copy 132 = .ok (.ireturn, 1) := dk_172 (dk_at dksX0_copy_5 14 rfl rfl)
abbrev cX0_wide : ByteArray := prog_1_method_67_code
def yX0_wide : MethodName := ⟨RX0, "wide", "(Ljava/lang/Object;)I"⟩
def dkwX0_wide_1 : List UInt8 := [16, 64, 172]
abbrev dktX0_wide_1 : List UInt8 := dkwX0_wide_1 ++ []
def dkwX0_wide_0 : List UInt8 := [42, 193, 1, 119, 153, 0, 8, 16, 8, 167, 0, 17, 42, 193, 1, 120, 153, 0, 8, 16, 16, 167, 0, 5]
abbrev dktX0_wide_0 : List UInt8 := dkwX0_wide_0 ++ dktX0_wide_1
theorem dksX0_wide_0 : cX0_wide.data.toList.drop 0 = dktX0_wide_0 := by decide +kernel
theorem dksX0_wide_1 : cX0_wide.data.toList.drop 24 = dktX0_wide_1 := dk_seg dksX0_wide_0 24 rfl rfl
theorem dX0_wide_0 : decode cX0_wide 0 = .ok (.aload_n 0, 1) := dk_42 (dk_at dksX0_wide_0 0 rfl rfl)
theorem dX0_wide_1 : decode cX0_wide 1 = .ok (.instanceof 375, 3) := dk_193 1 119 (dk_at dksX0_wide_0 1 rfl rfl)
theorem dX0_wide_4 : decode cX0_wide 4 = .ok (.ifCond .eq 8, 3) := dk_153 0 8 (dk_at dksX0_wide_0 4 rfl rfl)
theorem dX0_wide_7 : decode cX0_wide 7 = .ok (.bipush 8, 2) := dk_16 8 (dk_at dksX0_wide_0 7 rfl rfl)
theorem dX0_wide_9 : decode cX0_wide 9 = .ok (.goto 17, 3) := dk_167 0 17 (dk_at dksX0_wide_0 9 rfl rfl)
theorem dX0_wide_12 : decode cX0_wide 12 = .ok (.aload_n 0, 1) := dk_42 (dk_at dksX0_wide_0 12 rfl rfl)
theorem dX0_wide_13 : decode cX0_wide 13 = .ok (.instanceof 376, 3) := dk_193 1 120 (dk_at dksX0_wide_0 13 rfl rfl)
theorem dX0_wide_16 : decode cX0_wide 16 = .ok (.ifCond .eq 8, 3) := dk_153 0 8 (dk_at dksX0_wide_0 16 rfl rfl)
theorem dX0_wide_19 : decode cX0_wide 19 = .ok (.bipush 16, 2) := dk_16 16 (dk_at dksX0_wide_0 19 rfl rfl)
theorem dX0_wide_21 : decode cX0_wide 21 = .ok (.goto 5, 3) := dk_167 0 5 (dk_at dksX0_wide_0 21 rfl rfl)
theorem dX0_wide_24 : decode cX0_wide 24 = .ok (.bipush 64, 2) := dk_16 64 (dk_at dksX0_wide_1 0 rfl rfl)
theorem dX0_wide_26 : decode cX0_wide 26 = .ok (.ireturn, 1) := dk_172 (dk_at dksX0_wide_1 2 rfl rfl)
abbrev cX0_image : ByteArray := prog_1_method_76_code
def yX0_image : MethodName := ⟨RX0, "image", "()I"⟩
def dkwX0_image_0 : List UInt8 := [42, 180, 0, 48, 42, 180, 0, 42, 182, 1, 144, 42, 4, 181, 1, 148, 4, 172]
abbrev dktX0_image_0 : List UInt8 := dkwX0_image_0 ++ []
theorem dksX0_image_0 : cX0_image.data.toList.drop 0 = dktX0_image_0 := by decide +kernel
theorem dX0_image_0 : decode cX0_image 0 = .ok (.aload_n 0, 1) := dk_42 (dk_at dksX0_image_0 0 rfl rfl)
theorem dX0_image_1 : decode cX0_image 1 = .ok (.getfield 48, 3) := dk_180 0 48 (dk_at dksX0_image_0 1 rfl rfl)
theorem dX0_image_4 : decode cX0_image 4 = .ok (.aload_n 0, 1) := dk_42 (dk_at dksX0_image_0 4 rfl rfl)
theorem dX0_image_5 : decode cX0_image 5 = .ok (.getfield 42, 3) := dk_180 0 42 (dk_at dksX0_image_0 5 rfl rfl)
theorem dX0_image_8 : decode cX0_image 8 = .ok (.invokevirtual 400, 3) := dk_182 1 144 (dk_at dksX0_image_0 8 rfl rfl)
theorem dX0_image_11 : decode cX0_image 11 = .ok (.aload_n 0, 1) := dk_42 (dk_at dksX0_image_0 11 rfl rfl)
theorem dX0_image_12 : decode cX0_image 12 = .ok (.iconst 1, 1) := dk_4 (dk_at dksX0_image_0 12 rfl rfl)
theorem dX0_image_13 : decode cX0_image 13 = .ok (.putfield 404, 3) := dk_181 1 148 (dk_at dksX0_image_0 13 rfl rfl)
theorem dX0_image_16 : decode cX0_image 16 = .ok (.iconst 1, 1) := dk_4 (dk_at dksX0_image_0 16 rfl rfl)
theorem dX0_image_17 : decode cX0_image 17 = .ok (.ireturn, 1) := dk_172 (dk_at dksX0_image_0 17 rfl rfl)
abbrev cX0_undo : ByteArray := prog_1_method_77_code
def yX0_undo : MethodName := ⟨RX0, "undo", "()I"⟩
def dkwX0_undo_1 : List UInt8 := [42, 180, 0, 42, 180, 0, 185, 172, 76, 42, 43, 182, 0, 145, 172]
abbrev dktX0_undo_1 : List UInt8 := dkwX0_undo_1 ++ []
def dkwX0_undo_0 : List UInt8 := [42, 180, 1, 148, 6, 184, 0, 119, 42, 180, 0, 42, 42, 180, 0, 48, 182, 1, 144, 42, 3, 181, 0, 166]
abbrev dktX0_undo_0 : List UInt8 := dkwX0_undo_0 ++ dktX0_undo_1
theorem dksX0_undo_0 : cX0_undo.data.toList.drop 0 = dktX0_undo_0 := by decide +kernel
theorem dksX0_undo_1 : cX0_undo.data.toList.drop 24 = dktX0_undo_1 := dk_seg dksX0_undo_0 24 rfl rfl
theorem dX0_undo_0 : decode cX0_undo 0 = .ok (.aload_n 0, 1) := dk_42 (dk_at dksX0_undo_0 0 rfl rfl)
theorem dX0_undo_1 : decode cX0_undo 1 = .ok (.getfield 404, 3) := dk_180 1 148 (dk_at dksX0_undo_0 1 rfl rfl)
theorem dX0_undo_4 : decode cX0_undo 4 = .ok (.iconst 3, 1) := dk_6 (dk_at dksX0_undo_0 4 rfl rfl)
theorem dX0_undo_5 : decode cX0_undo 5 = .ok (.invokestatic 119, 3) := dk_184 0 119 (dk_at dksX0_undo_0 5 rfl rfl)
theorem dX0_undo_8 : decode cX0_undo 8 = .ok (.aload_n 0, 1) := dk_42 (dk_at dksX0_undo_0 8 rfl rfl)
theorem dX0_undo_9 : decode cX0_undo 9 = .ok (.getfield 42, 3) := dk_180 0 42 (dk_at dksX0_undo_0 9 rfl rfl)
theorem dX0_undo_12 : decode cX0_undo 12 = .ok (.aload_n 0, 1) := dk_42 (dk_at dksX0_undo_0 12 rfl rfl)
theorem dX0_undo_13 : decode cX0_undo 13 = .ok (.getfield 48, 3) := dk_180 0 48 (dk_at dksX0_undo_0 13 rfl rfl)
theorem dX0_undo_16 : decode cX0_undo 16 = .ok (.invokevirtual 400, 3) := dk_182 1 144 (dk_at dksX0_undo_0 16 rfl rfl)
theorem dX0_undo_19 : decode cX0_undo 19 = .ok (.aload_n 0, 1) := dk_42 (dk_at dksX0_undo_0 19 rfl rfl)
theorem dX0_undo_20 : decode cX0_undo 20 = .ok (.iconst 0, 1) := dk_3 (dk_at dksX0_undo_0 20 rfl rfl)
theorem dX0_undo_21 : decode cX0_undo 21 = .ok (.putfield 166, 3) := dk_181 0 166 (dk_at dksX0_undo_0 21 rfl rfl)
theorem dX0_undo_24 : decode cX0_undo 24 = .ok (.aload_n 0, 1) := dk_42 (dk_at dksX0_undo_1 0 rfl rfl)
theorem dX0_undo_25 : decode cX0_undo 25 = .ok (.getfield 42, 3) := dk_180 0 42 (dk_at dksX0_undo_1 1 rfl rfl)
theorem dX0_undo_28 : decode cX0_undo 28 = .ok (.getfield 185, 3) := dk_180 0 185 (dk_at dksX0_undo_1 4 rfl rfl)
theorem dX0_undo_31 : decode cX0_undo 31 = .ok (.ireturn, 1) := dk_172 (dk_at dksX0_undo_1 7 rfl rfl)
theorem dX0_undo_32 : decode cX0_undo 32 = .ok (.astore_n 1, 1) := dk_76 (dk_at dksX0_undo_1 8 rfl rfl)
theorem dX0_undo_33 : decode cX0_undo 33 = .ok (.aload_n 0, 1) := dk_42 (dk_at dksX0_undo_1 9 rfl rfl)
theorem dX0_undo_34 : decode cX0_undo 34 = .ok (.aload_n 1, 1) := dk_43 (dk_at dksX0_undo_1 10 rfl rfl)
theorem dX0_undo_35 : decode cX0_undo 35 = .ok (.invokevirtual 145, 3) := dk_182 0 145 (dk_at dksX0_undo_1 11 rfl rfl)
theorem dX0_undo_38 : decode cX0_undo 38 = .ok (.ireturn, 1) := dk_172 (dk_at dksX0_undo_1 14 rfl rfl)
abbrev cX0_tear : ByteArray := prog_1_method_78_code
def yX0_tear : MethodName := ⟨RX0, "tear", "()I"⟩
def dkwX0_tear_0 : List UInt8 := [42, 180, 1, 148, 153, 0, 7, 4, 167, 0, 4, 3, 60, 42, 3, 181, 1, 148, 27, 172]
abbrev dktX0_tear_0 : List UInt8 := dkwX0_tear_0 ++ []
theorem dksX0_tear_0 : cX0_tear.data.toList.drop 0 = dktX0_tear_0 := by decide +kernel
theorem dX0_tear_0 : decode cX0_tear 0 = .ok (.aload_n 0, 1) := dk_42 (dk_at dksX0_tear_0 0 rfl rfl)
theorem dX0_tear_1 : decode cX0_tear 1 = .ok (.getfield 404, 3) := dk_180 1 148 (dk_at dksX0_tear_0 1 rfl rfl)
theorem dX0_tear_4 : decode cX0_tear 4 = .ok (.ifCond .eq 7, 3) := dk_153 0 7 (dk_at dksX0_tear_0 4 rfl rfl)
theorem dX0_tear_7 : decode cX0_tear 7 = .ok (.iconst 1, 1) := dk_4 (dk_at dksX0_tear_0 7 rfl rfl)
theorem dX0_tear_8 : decode cX0_tear 8 = .ok (.goto 4, 3) := dk_167 0 4 (dk_at dksX0_tear_0 8 rfl rfl)
theorem dX0_tear_11 : decode cX0_tear 11 = .ok (.iconst 0, 1) := dk_3 (dk_at dksX0_tear_0 11 rfl rfl)
theorem dX0_tear_12 : decode cX0_tear 12 = .ok (.istore_n 1, 1) := dk_60 (dk_at dksX0_tear_0 12 rfl rfl)
theorem dX0_tear_13 : decode cX0_tear 13 = .ok (.aload_n 0, 1) := dk_42 (dk_at dksX0_tear_0 13 rfl rfl)
theorem dX0_tear_14 : decode cX0_tear 14 = .ok (.iconst 0, 1) := dk_3 (dk_at dksX0_tear_0 14 rfl rfl)
theorem dX0_tear_15 : decode cX0_tear 15 = .ok (.putfield 404, 3) := dk_181 1 148 (dk_at dksX0_tear_0 15 rfl rfl)
theorem dX0_tear_18 : decode cX0_tear 18 = .ok (.iload_n 1, 1) := dk_27 (dk_at dksX0_tear_0 18 rfl rfl)
theorem dX0_tear_19 : decode cX0_tear 19 = .ok (.ireturn, 1) := dk_172 (dk_at dksX0_tear_0 19 rfl rfl)
abbrev cX0_count : ByteArray := prog_1_method_80_code
def yX0_count : MethodName := ⟨RX0, "count", "(I)I"⟩
def dkwX0_count_5 : List UInt8 := [46, 172, 187, 0, 1, 89, 3, 183, 0, 3, 191, 77, 42, 44, 182, 0, 145, 172]
abbrev dktX0_count_5 : List UInt8 := dkwX0_count_5 ++ []
def dkwX0_count_4 : List UInt8 := [4, 172, 42, 180, 1, 3, 172, 42, 180, 0, 42, 180, 1, 33, 172, 42, 180, 0, 42, 180, 1, 30, 16, 7]
abbrev dktX0_count_4 : List UInt8 := dkwX0_count_4 ++ dktX0_count_5
def dkwX0_count_3 : List UInt8 := [180, 0, 42, 180, 0, 229, 172, 42, 180, 0, 42, 180, 0, 191, 180, 0, 162, 199, 0, 7, 3, 167, 0, 4]
abbrev dktX0_count_3 : List UInt8 := dkwX0_count_3 ++ dktX0_count_4
def dkwX0_count_2 : List UInt8 := [42, 180, 0, 42, 180, 0, 131, 172, 42, 180, 0, 42, 180, 0, 185, 172, 42, 182, 1, 151, 172, 42]
abbrev dktX0_count_2 : List UInt8 := dkwX0_count_2 ++ dktX0_count_3
def dkwX0_count_1 : List UInt8 := [170, 0, 0, 0, 0, 0, 119, 0, 0, 0, 0, 0, 0, 0, 7, 0, 0, 0, 47, 0, 0, 0, 55, 0, 0, 0, 63, 0, 0, 0, 68, 0, 0, 0, 76, 0, 0, 0, 95, 0, 0, 0, 100, 0, 0, 0, 108]
abbrev dktX0_count_1 : List UInt8 := dkwX0_count_1 ++ dktX0_count_2
def dkwX0_count_0 : List UInt8 := [27]
abbrev dktX0_count_0 : List UInt8 := dkwX0_count_0 ++ dktX0_count_1
theorem dksX0_count_0 : cX0_count.data.toList.drop 0 = dktX0_count_0 := by decide +kernel
theorem dksX0_count_1 : cX0_count.data.toList.drop 1 = dktX0_count_1 := dk_seg dksX0_count_0 1 rfl rfl
theorem dksX0_count_2 : cX0_count.data.toList.drop 48 = dktX0_count_2 := dk_seg dksX0_count_1 47 rfl rfl
theorem dksX0_count_3 : cX0_count.data.toList.drop 70 = dktX0_count_3 := dk_seg dksX0_count_2 22 rfl rfl
theorem dksX0_count_4 : cX0_count.data.toList.drop 94 = dktX0_count_4 := dk_seg dksX0_count_3 24 rfl rfl
theorem dksX0_count_5 : cX0_count.data.toList.drop 118 = dktX0_count_5 := dk_seg dksX0_count_4 24 rfl rfl
theorem dX0_count_0 : decode cX0_count 0 = .ok (.iload_n 1, 1) := dk_27 (dk_at dksX0_count_0 0 rfl rfl)
theorem dX0_count_1 : decode cX0_count 1 = .ok (.tableswitch 119 0 7 #[47, 55, 63, 68, 76, 95, 100, 108], 47) := by decide +kernel
theorem dX0_count_48 : decode cX0_count 48 = .ok (.aload_n 0, 1) := dk_42 (dk_at dksX0_count_2 0 rfl rfl)
theorem dX0_count_49 : decode cX0_count 49 = .ok (.getfield 42, 3) := dk_180 0 42 (dk_at dksX0_count_2 1 rfl rfl)
theorem dX0_count_52 : decode cX0_count 52 = .ok (.getfield 131, 3) := dk_180 0 131 (dk_at dksX0_count_2 4 rfl rfl)
theorem dX0_count_55 : decode cX0_count 55 = .ok (.ireturn, 1) := dk_172 (dk_at dksX0_count_2 7 rfl rfl)
theorem dX0_count_56 : decode cX0_count 56 = .ok (.aload_n 0, 1) := dk_42 (dk_at dksX0_count_2 8 rfl rfl)
theorem dX0_count_57 : decode cX0_count 57 = .ok (.getfield 42, 3) := dk_180 0 42 (dk_at dksX0_count_2 9 rfl rfl)
theorem dX0_count_60 : decode cX0_count 60 = .ok (.getfield 185, 3) := dk_180 0 185 (dk_at dksX0_count_2 12 rfl rfl)
theorem dX0_count_63 : decode cX0_count 63 = .ok (.ireturn, 1) := dk_172 (dk_at dksX0_count_2 15 rfl rfl)
theorem dX0_count_64 : decode cX0_count 64 = .ok (.aload_n 0, 1) := dk_42 (dk_at dksX0_count_2 16 rfl rfl)
theorem dX0_count_65 : decode cX0_count 65 = .ok (.invokevirtual 407, 3) := dk_182 1 151 (dk_at dksX0_count_2 17 rfl rfl)
theorem dX0_count_68 : decode cX0_count 68 = .ok (.ireturn, 1) := dk_172 (dk_at dksX0_count_2 20 rfl rfl)
theorem dX0_count_69 : decode cX0_count 69 = .ok (.aload_n 0, 1) := dk_42 (dk_at dksX0_count_2 21 rfl rfl)
theorem dX0_count_70 : decode cX0_count 70 = .ok (.getfield 42, 3) := dk_180 0 42 (dk_at dksX0_count_3 0 rfl rfl)
theorem dX0_count_73 : decode cX0_count 73 = .ok (.getfield 229, 3) := dk_180 0 229 (dk_at dksX0_count_3 3 rfl rfl)
theorem dX0_count_76 : decode cX0_count 76 = .ok (.ireturn, 1) := dk_172 (dk_at dksX0_count_3 6 rfl rfl)
theorem dX0_count_77 : decode cX0_count 77 = .ok (.aload_n 0, 1) := dk_42 (dk_at dksX0_count_3 7 rfl rfl)
theorem dX0_count_78 : decode cX0_count 78 = .ok (.getfield 42, 3) := dk_180 0 42 (dk_at dksX0_count_3 8 rfl rfl)
theorem dX0_count_81 : decode cX0_count 81 = .ok (.getfield 191, 3) := dk_180 0 191 (dk_at dksX0_count_3 11 rfl rfl)
theorem dX0_count_84 : decode cX0_count 84 = .ok (.getfield 162, 3) := dk_180 0 162 (dk_at dksX0_count_3 14 rfl rfl)
theorem dX0_count_87 : decode cX0_count 87 = .ok (.ifnonnull 7, 3) := dk_199 0 7 (dk_at dksX0_count_3 17 rfl rfl)
theorem dX0_count_90 : decode cX0_count 90 = .ok (.iconst 0, 1) := dk_3 (dk_at dksX0_count_3 20 rfl rfl)
theorem dX0_count_91 : decode cX0_count 91 = .ok (.goto 4, 3) := dk_167 0 4 (dk_at dksX0_count_3 21 rfl rfl)
theorem dX0_count_94 : decode cX0_count 94 = .ok (.iconst 1, 1) := dk_4 (dk_at dksX0_count_4 0 rfl rfl)
theorem dX0_count_95 : decode cX0_count 95 = .ok (.ireturn, 1) := dk_172 (dk_at dksX0_count_4 1 rfl rfl)
theorem dX0_count_96 : decode cX0_count 96 = .ok (.aload_n 0, 1) := dk_42 (dk_at dksX0_count_4 2 rfl rfl)
theorem dX0_count_97 : decode cX0_count 97 = .ok (.getfield 259, 3) := dk_180 1 3 (dk_at dksX0_count_4 3 rfl rfl)
theorem dX0_count_100 : decode cX0_count 100 = .ok (.ireturn, 1) := dk_172 (dk_at dksX0_count_4 6 rfl rfl)
theorem dX0_count_101 : decode cX0_count 101 = .ok (.aload_n 0, 1) := dk_42 (dk_at dksX0_count_4 7 rfl rfl)
theorem dX0_count_102 : decode cX0_count 102 = .ok (.getfield 42, 3) := dk_180 0 42 (dk_at dksX0_count_4 8 rfl rfl)
theorem dX0_count_105 : decode cX0_count 105 = .ok (.getfield 289, 3) := dk_180 1 33 (dk_at dksX0_count_4 11 rfl rfl)
theorem dX0_count_108 : decode cX0_count 108 = .ok (.ireturn, 1) := dk_172 (dk_at dksX0_count_4 14 rfl rfl)
theorem dX0_count_109 : decode cX0_count 109 = .ok (.aload_n 0, 1) := dk_42 (dk_at dksX0_count_4 15 rfl rfl)
theorem dX0_count_110 : decode cX0_count 110 = .ok (.getfield 42, 3) := dk_180 0 42 (dk_at dksX0_count_4 16 rfl rfl)
theorem dX0_count_113 : decode cX0_count 113 = .ok (.getfield 286, 3) := dk_180 1 30 (dk_at dksX0_count_4 19 rfl rfl)
theorem dX0_count_116 : decode cX0_count 116 = .ok (.bipush 7, 2) := dk_16 7 (dk_at dksX0_count_4 22 rfl rfl)
theorem dX0_count_118 : decode cX0_count 118 = .ok (.iaload, 1) := dk_46 (dk_at dksX0_count_5 0 rfl rfl)
theorem dX0_count_119 : decode cX0_count 119 = .ok (.ireturn, 1) := dk_172 (dk_at dksX0_count_5 1 rfl rfl)
theorem dX0_count_120 : decode cX0_count 120 = .ok (.new 1, 3) := dk_187 0 1 (dk_at dksX0_count_5 2 rfl rfl)
theorem dX0_count_123 : decode cX0_count 123 = .ok (.dup, 1) := dk_89 (dk_at dksX0_count_5 5 rfl rfl)
theorem dX0_count_124 : decode cX0_count 124 = .ok (.iconst 0, 1) := dk_3 (dk_at dksX0_count_5 6 rfl rfl)
theorem dX0_count_125 : decode cX0_count 125 = .ok (.invokespecial 3, 3) := dk_183 0 3 (dk_at dksX0_count_5 7 rfl rfl)
theorem dX0_count_128 : decode cX0_count 128 = .ok (.athrow, 1) := dk_191 (dk_at dksX0_count_5 10 rfl rfl)
theorem dX0_count_129 : decode cX0_count 129 = .ok (.astore_n 2, 1) := dk_77 (dk_at dksX0_count_5 11 rfl rfl)
theorem dX0_count_130 : decode cX0_count 130 = .ok (.aload_n 0, 1) := dk_42 (dk_at dksX0_count_5 12 rfl rfl)
theorem dX0_count_131 : decode cX0_count 131 = .ok (.aload_n 2, 1) := dk_44 (dk_at dksX0_count_5 13 rfl rfl)
theorem dX0_count_132 : decode cX0_count 132 = .ok (.invokevirtual 145, 3) := dk_182 0 145 (dk_at dksX0_count_5 14 rfl rfl)
theorem dX0_count_135 : decode cX0_count 135 = .ok (.ireturn, 1) := dk_172 (dk_at dksX0_count_5 17 rfl rfl)
abbrev cX0_all : ByteArray := prog_1_method_79_code
def yX0_all : MethodName := ⟨RX0, "all", "()I"⟩
def dkwX0_all_0 : List UInt8 := [42, 182, 0, 249, 42, 180, 0, 238, 136, 172]
abbrev dktX0_all_0 : List UInt8 := dkwX0_all_0 ++ []
theorem dksX0_all_0 : cX0_all.data.toList.drop 0 = dktX0_all_0 := by decide +kernel
theorem dX0_all_0 : decode cX0_all 0 = .ok (.aload_n 0, 1) := dk_42 (dk_at dksX0_all_0 0 rfl rfl)
theorem dX0_all_1 : decode cX0_all 1 = .ok (.invokevirtual 249, 3) := dk_182 0 249 (dk_at dksX0_all_0 1 rfl rfl)
theorem dX0_all_4 : decode cX0_all 4 = .ok (.aload_n 0, 1) := dk_42 (dk_at dksX0_all_0 4 rfl rfl)
theorem dX0_all_5 : decode cX0_all 5 = .ok (.getfield 238, 3) := dk_180 0 238 (dk_at dksX0_all_0 5 rfl rfl)
theorem dX0_all_8 : decode cX0_all 8 = .ok (.l2i, 1) := dk_136 (dk_at dksX0_all_0 8 rfl rfl)
theorem dX0_all_9 : decode cX0_all 9 = .ok (.ireturn, 1) := dk_172 (dk_at dksX0_all_0 9 rfl rfl)
abbrev cX0_status : ByteArray := prog_1_method_81_code
def yX0_status : MethodName := ⟨RX0, "status", "(I)I"⟩
def dkwX0_status_2 : List UInt8 := [167, 255, 238, 28, 172, 77, 42, 44, 182, 0, 145, 172]
abbrev dktX0_status_2 : List UInt8 := dkwX0_status_2 ++ []
def dkwX0_status_1 : List UInt8 := [46, 172, 3, 61, 3, 62, 29, 16, 7, 162, 0, 18, 28, 42, 180, 0, 63, 29, 46, 96, 61, 132, 3, 1]
abbrev dktX0_status_1 : List UInt8 := dkwX0_status_1 ++ dktX0_status_2
def dkwX0_status_0 : List UInt8 := [27, 133, 20, 0, 252, 20, 1, 154, 184, 0, 125, 3, 184, 0, 119, 27, 155, 0, 10, 42, 180, 0, 63, 27]
abbrev dktX0_status_0 : List UInt8 := dkwX0_status_0 ++ dktX0_status_1
theorem dksX0_status_0 : cX0_status.data.toList.drop 0 = dktX0_status_0 := by decide +kernel
theorem dksX0_status_1 : cX0_status.data.toList.drop 24 = dktX0_status_1 := dk_seg dksX0_status_0 24 rfl rfl
theorem dksX0_status_2 : cX0_status.data.toList.drop 48 = dktX0_status_2 := dk_seg dksX0_status_1 24 rfl rfl
theorem dX0_status_0 : decode cX0_status 0 = .ok (.iload_n 1, 1) := dk_27 (dk_at dksX0_status_0 0 rfl rfl)
theorem dX0_status_1 : decode cX0_status 1 = .ok (.i2l, 1) := dk_133 (dk_at dksX0_status_0 1 rfl rfl)
theorem dX0_status_2 : decode cX0_status 2 = .ok (.ldc2_w 252, 3) := dk_20 0 252 (dk_at dksX0_status_0 2 rfl rfl)
theorem dX0_status_5 : decode cX0_status 5 = .ok (.ldc2_w 410, 3) := dk_20 1 154 (dk_at dksX0_status_0 5 rfl rfl)
theorem dX0_status_8 : decode cX0_status 8 = .ok (.invokestatic 125, 3) := dk_184 0 125 (dk_at dksX0_status_0 8 rfl rfl)
theorem dX0_status_11 : decode cX0_status 11 = .ok (.iconst 0, 1) := dk_3 (dk_at dksX0_status_0 11 rfl rfl)
theorem dX0_status_12 : decode cX0_status 12 = .ok (.invokestatic 119, 3) := dk_184 0 119 (dk_at dksX0_status_0 12 rfl rfl)
theorem dX0_status_15 : decode cX0_status 15 = .ok (.iload_n 1, 1) := dk_27 (dk_at dksX0_status_0 15 rfl rfl)
theorem dX0_status_16 : decode cX0_status 16 = .ok (.ifCond .lt 10, 3) := dk_155 0 10 (dk_at dksX0_status_0 16 rfl rfl)
theorem dX0_status_19 : decode cX0_status 19 = .ok (.aload_n 0, 1) := dk_42 (dk_at dksX0_status_0 19 rfl rfl)
theorem dX0_status_20 : decode cX0_status 20 = .ok (.getfield 63, 3) := dk_180 0 63 (dk_at dksX0_status_0 20 rfl rfl)
theorem dX0_status_23 : decode cX0_status 23 = .ok (.iload_n 1, 1) := dk_27 (dk_at dksX0_status_0 23 rfl rfl)
theorem dX0_status_24 : decode cX0_status 24 = .ok (.iaload, 1) := dk_46 (dk_at dksX0_status_1 0 rfl rfl)
theorem dX0_status_25 : decode cX0_status 25 = .ok (.ireturn, 1) := dk_172 (dk_at dksX0_status_1 1 rfl rfl)
theorem dX0_status_26 : decode cX0_status 26 = .ok (.iconst 0, 1) := dk_3 (dk_at dksX0_status_1 2 rfl rfl)
theorem dX0_status_27 : decode cX0_status 27 = .ok (.istore_n 2, 1) := dk_61 (dk_at dksX0_status_1 3 rfl rfl)
theorem dX0_status_28 : decode cX0_status 28 = .ok (.iconst 0, 1) := dk_3 (dk_at dksX0_status_1 4 rfl rfl)
theorem dX0_status_29 : decode cX0_status 29 = .ok (.istore_n 3, 1) := dk_62 (dk_at dksX0_status_1 5 rfl rfl)
theorem dX0_status_30 : decode cX0_status 30 = .ok (.iload_n 3, 1) := dk_29 (dk_at dksX0_status_1 6 rfl rfl)
theorem dX0_status_31 : decode cX0_status 31 = .ok (.bipush 7, 2) := dk_16 7 (dk_at dksX0_status_1 7 rfl rfl)
theorem dX0_status_33 : decode cX0_status 33 = .ok (.if_icmp .ge 18, 3) := dk_162 0 18 (dk_at dksX0_status_1 9 rfl rfl)
theorem dX0_status_36 : decode cX0_status 36 = .ok (.iload_n 2, 1) := dk_28 (dk_at dksX0_status_1 12 rfl rfl)
theorem dX0_status_37 : decode cX0_status 37 = .ok (.aload_n 0, 1) := dk_42 (dk_at dksX0_status_1 13 rfl rfl)
theorem dX0_status_38 : decode cX0_status 38 = .ok (.getfield 63, 3) := dk_180 0 63 (dk_at dksX0_status_1 14 rfl rfl)
theorem dX0_status_41 : decode cX0_status 41 = .ok (.iload_n 3, 1) := dk_29 (dk_at dksX0_status_1 17 rfl rfl)
theorem dX0_status_42 : decode cX0_status 42 = .ok (.iaload, 1) := dk_46 (dk_at dksX0_status_1 18 rfl rfl)
theorem dX0_status_43 : decode cX0_status 43 = .ok (.iadd, 1) := dk_96 (dk_at dksX0_status_1 19 rfl rfl)
theorem dX0_status_44 : decode cX0_status 44 = .ok (.istore_n 2, 1) := dk_61 (dk_at dksX0_status_1 20 rfl rfl)
theorem dX0_status_45 : decode cX0_status 45 = .ok (.iinc 3 1, 3) := dk_132 3 1 (dk_at dksX0_status_1 21 rfl rfl)
theorem dX0_status_48 : decode cX0_status 48 = .ok (.goto (-18), 3) := dk_167 255 238 (dk_at dksX0_status_2 0 rfl rfl)
theorem dX0_status_51 : decode cX0_status 51 = .ok (.iload_n 2, 1) := dk_28 (dk_at dksX0_status_2 3 rfl rfl)
theorem dX0_status_52 : decode cX0_status 52 = .ok (.ireturn, 1) := dk_172 (dk_at dksX0_status_2 4 rfl rfl)
theorem dX0_status_53 : decode cX0_status 53 = .ok (.astore_n 2, 1) := dk_77 (dk_at dksX0_status_2 5 rfl rfl)
theorem dX0_status_54 : decode cX0_status 54 = .ok (.aload_n 0, 1) := dk_42 (dk_at dksX0_status_2 6 rfl rfl)
theorem dX0_status_55 : decode cX0_status 55 = .ok (.aload_n 2, 1) := dk_44 (dk_at dksX0_status_2 7 rfl rfl)
theorem dX0_status_56 : decode cX0_status 56 = .ok (.invokevirtual 145, 3) := dk_182 0 145 (dk_at dksX0_status_2 8 rfl rfl)
theorem dX0_status_59 : decode cX0_status 59 = .ok (.ireturn, 1) := dk_172 (dk_at dksX0_status_2 11 rfl rfl)
theorem q62 : (Jvm.Cond.initialized "SlipWeeks") ∈ lw_all := lw_g (lw_at lw_m1 1 rfl) rfl
theorem q89 : (Jvm.Cond.instantiable "SlipWeeks" (19 : Nat)) ∈ lw_all := lw_g (lw_at lw_m1 28 rfl) rfl
theorem q91 : (Jvm.Cond.instanceMethod ({ cls := "SlipWeeks", name := "<init>", desc := "()V" } : Jvm.MethodName)) ∈ lw_all := lw_g (lw_at lw_m1 30 rfl) rfl
theorem q92 : (Jvm.Cond.code ({ cls := "SlipWeeks", name := "<init>", desc := "()V" } : Jvm.MethodName) prog_1_method_6_code (3 : Nat) (Option.none : Option Jvm.ClassFile.FieldType)) ∈ lw_all := lw_g (lw_at lw_m1 31 rfl) rfl
theorem q93 : (Jvm.Cond.methodLink "SlipWeeks" (36 : Nat) ({ cls := "java/lang/Object", name := "<init>", desc := "()V" } : Jvm.MethodName)) ∈ lw_all := lw_g (lw_at lw_m1 32 rfl) rfl
theorem q96 : (Jvm.Cond.classLink "SlipWeeks" (39 : Nat) "SlipWeeks$Game") ∈ lw_all := lw_g (lw_at lw_m1 35 rfl) rfl
theorem q98 : (Jvm.Cond.methodLinkNest "SlipWeeks" (41 : Nat) ({ cls := "SlipWeeks$Game", name := "<init>", desc := "()V" } : Jvm.MethodName) "SlipWeeks") ∈ lw_tbl := lw_at lw_m1 37 rfl
theorem q103 : (Jvm.Cond.static ({ cls := "SlipWeeks", name := "slots", desc := "(I)[LSlipWeeks$Slot;" } : Jvm.MethodName)) ∈ lw_all := lw_g (lw_at lw_m1 42 rfl) rfl
theorem q104 : (Jvm.Cond.code ({ cls := "SlipWeeks", name := "slots", desc := "(I)[LSlipWeeks$Slot;" } : Jvm.MethodName) prog_1_method_4_code (3 : Nat) (Option.some (Jvm.ClassFile.FieldType.array (Jvm.ClassFile.FieldType.object "SlipWeeks$Slot")))) ∈ lw_all := lw_g (lw_at lw_m1 43 rfl) rfl
theorem q105 : (Jvm.Cond.classLink "SlipWeeks" (7 : Nat) "SlipWeeks$Slot") ∈ lw_all := lw_g (lw_at lw_m1 44 rfl) rfl
theorem q108 : (Jvm.Cond.methodLinkNest "SlipWeeks" (9 : Nat) ({ cls := "SlipWeeks$Slot", name := "<init>", desc := "()V" } : Jvm.MethodName) "SlipWeeks") ∈ lw_tbl := lw_at lw_m1 47 rfl
theorem q113 : (Jvm.Cond.fieldLink "SlipWeeks" (162 : Nat) "SlipWeeks$Slot" "held" "Ljava/lang/Object;") ∈ lw_all := lw_g (lw_at lw_m1 52 rfl) rfl
theorem q123 : (Jvm.Cond.fieldLink "SlipWeeks" (131 : Nat) "SlipWeeks$Game" "people" "I") ∈ lw_all := lw_g (lw_at lw_m1 62 rfl) rfl
theorem q125 : (Jvm.Cond.fieldLink "SlipWeeks" (185 : Nat) "SlipWeeks$Game" "weeks" "I") ∈ lw_all := lw_g (lw_at lw_m1 64 rfl) rfl
theorem q127 : (Jvm.Cond.fieldLink "SlipWeeks" (229 : Nat) "SlipWeeks$Game" "bought" "I") ∈ lw_all := lw_g (lw_at lw_m1 66 rfl) rfl
theorem q129 : (Jvm.Cond.fieldLink "SlipWeeks" (289 : Nat) "SlipWeeks$Game" "z" "I") ∈ lw_all := lw_g (lw_at lw_m1 68 rfl) rfl
theorem q131 : (Jvm.Cond.fieldLink "SlipWeeks" (286 : Nat) "SlipWeeks$Game" "rule" "[I") ∈ lw_all := lw_g (lw_at lw_m1 70 rfl) rfl
theorem q133 : (Jvm.Cond.fieldLink "SlipWeeks" (156 : Nat) "SlipWeeks$Game" "group" "[LSlipWeeks$Slot;") ∈ lw_all := lw_g (lw_at lw_m1 72 rfl) rfl
theorem q135 : (Jvm.Cond.fieldLink "SlipWeeks" (191 : Nat) "SlipWeeks$Game" "liking" "LSlipWeeks$Slot;") ∈ lw_all := lw_g (lw_at lw_m1 74 rfl) rfl
theorem q137 : (Jvm.Cond.fieldLink "SlipWeeks" (232 : Nat) "SlipWeeks$Game" "boughtPlace" "[I") ∈ lw_all := lw_g (lw_at lw_m1 76 rfl) rfl
theorem q139 : (Jvm.Cond.fieldLink "SlipWeeks" (235 : Nat) "SlipWeeks$Game" "boughtMany" "[I") ∈ lw_all := lw_g (lw_at lw_m1 78 rfl) rfl
theorem q141 : (Jvm.Cond.fieldLink "SlipWeeks" (296 : Nat) "SlipWeeks$Game" "book" "[[I") ∈ lw_all := lw_g (lw_at lw_m1 80 rfl) rfl
theorem q163 : (Jvm.Cond.methodLink "SlipWeeks" (55 : Nat) ({ cls := "SlipWeeks", name := "slots", desc := "(I)[LSlipWeeks$Slot;" } : Jvm.MethodName)) ∈ lw_all := lw_g (lw_at lw_m1 102 rfl) rfl
theorem q164 : (Jvm.Cond.classLink "SlipWeeks" (70 : Nat) "SlipWeeks$Look") ∈ lw_all := lw_g (lw_at lw_m1 103 rfl) rfl
theorem q166 : (Jvm.Cond.methodLinkNest "SlipWeeks" (72 : Nat) ({ cls := "SlipWeeks$Look", name := "<init>", desc := "()V" } : Jvm.MethodName) "SlipWeeks") ∈ lw_tbl := lw_at lw_m1 105 rfl
theorem q175 : (Jvm.Cond.fieldLink "SlipWeeks" (200 : Nat) "SlipWeeks$Look" "row" "I") ∈ lw_all := lw_g (lw_at lw_m1 114 rfl) rfl
theorem q177 : (Jvm.Cond.fieldLink "SlipWeeks" (203 : Nat) "SlipWeeks$Look" "place" "I") ∈ lw_all := lw_g (lw_at lw_m1 116 rfl) rfl
theorem q179 : (Jvm.Cond.fieldLink "SlipWeeks" (206 : Nat) "SlipWeeks$Look" "latest" "I") ∈ lw_all := lw_g (lw_at lw_m1 118 rfl) rfl
theorem q181 : (Jvm.Cond.fieldLink "SlipWeeks" (208 : Nat) "SlipWeeks$Look" "liked" "I") ∈ lw_all := lw_g (lw_at lw_m1 120 rfl) rfl
theorem q192 : (Jvm.Cond.classLink "SlipWeeks" (77 : Nat) "SlipWeeks$Named") ∈ lw_all := lw_g (lw_at lw_m1 131 rfl) rfl
theorem q194 : (Jvm.Cond.methodLinkNest "SlipWeeks" (79 : Nat) ({ cls := "SlipWeeks$Named", name := "<init>", desc := "()V" } : Jvm.MethodName) "SlipWeeks") ∈ lw_tbl := lw_at lw_m1 133 rfl
theorem q203 : (Jvm.Cond.classLink "SlipWeeks" (93 : Nat) "[[I") ∈ lw_all := lw_g (lw_at lw_m1 142 rfl) rfl
theorem q204 : (Jvm.Cond.methodLink "SlipWeeks" (105 : Nat) ({ cls := "java/lang/Integer", name := "bitCount", desc := "(I)I" } : Jvm.MethodName)) ∈ lw_all := lw_g (lw_at lw_m1 143 rfl) rfl
theorem q210 : (Jvm.Cond.fieldLink "SlipWeeks" (42 : Nat) "SlipWeeks" "game" "LSlipWeeks$Game;") ∈ lw_all := lw_g (lw_at lw_m1 149 rfl) rfl
theorem q211 : (Jvm.Cond.fieldLink "SlipWeeks" (48 : Nat) "SlipWeeks" "kept" "LSlipWeeks$Game;") ∈ lw_all := lw_g (lw_at lw_m1 150 rfl) rfl
theorem q212 : (Jvm.Cond.fieldLink "SlipWeeks" (404 : Nat) "SlipWeeks" "isKept" "Z") ∈ lw_all := lw_g (lw_at lw_m1 151 rfl) rfl
theorem q213 : (Jvm.Cond.fieldLink "SlipWeeks" (51 : Nat) "SlipWeeks" "tape" "[B") ∈ lw_all := lw_g (lw_at lw_m1 152 rfl) rfl
theorem q214 : (Jvm.Cond.fieldLink "SlipWeeks" (259 : Nat) "SlipWeeks" "taped" "I") ∈ lw_all := lw_g (lw_at lw_m1 153 rfl) rfl
theorem q215 : (Jvm.Cond.fieldLink "SlipWeeks" (59 : Nat) "SlipWeeks" "sheets" "[LSlipWeeks$Slot;") ∈ lw_all := lw_g (lw_at lw_m1 154 rfl) rfl
theorem q216 : (Jvm.Cond.fieldLink "SlipWeeks" (63 : Nat) "SlipWeeks" "found" "[I") ∈ lw_all := lw_g (lw_at lw_m1 155 rfl) rfl
theorem q217 : (Jvm.Cond.fieldLink "SlipWeeks" (67 : Nat) "SlipWeeks" "rows" "[I") ∈ lw_all := lw_g (lw_at lw_m1 156 rfl) rfl
theorem q218 : (Jvm.Cond.fieldLink "SlipWeeks" (73 : Nat) "SlipWeeks" "look" "LSlipWeeks$Look;") ∈ lw_all := lw_g (lw_at lw_m1 157 rfl) rfl
theorem q219 : (Jvm.Cond.fieldLink "SlipWeeks" (80 : Nat) "SlipWeeks" "named" "LSlipWeeks$Named;") ∈ lw_all := lw_g (lw_at lw_m1 158 rfl) rfl
theorem q220 : (Jvm.Cond.fieldLink "SlipWeeks" (166 : Nat) "SlipWeeks" "isFresh" "Z") ∈ lw_all := lw_g (lw_at lw_m1 159 rfl) rfl
theorem q221 : (Jvm.Cond.fieldLink "SlipWeeks" (242 : Nat) "SlipWeeks" "areWinners" "Z") ∈ lw_all := lw_g (lw_at lw_m1 160 rfl) rfl
theorem q222 : (Jvm.Cond.fieldLink "SlipWeeks" (84 : Nat) "SlipWeeks" "says" "[I") ∈ lw_all := lw_g (lw_at lw_m1 161 rfl) rfl
theorem q223 : (Jvm.Cond.fieldLink "SlipWeeks" (87 : Nat) "SlipWeeks" "liked" "[I") ∈ lw_all := lw_g (lw_at lw_m1 162 rfl) rfl
theorem q224 : (Jvm.Cond.fieldLink "SlipWeeks" (90 : Nat) "SlipWeeks" "crossed" "[I") ∈ lw_all := lw_g (lw_at lw_m1 163 rfl) rfl
theorem q225 : (Jvm.Cond.fieldLink "SlipWeeks" (238 : Nat) "SlipWeeks" "total" "J") ∈ lw_all := lw_g (lw_at lw_m1 164 rfl) rfl
theorem q226 : (Jvm.Cond.fieldLink "SlipWeeks" (95 : Nat) "SlipWeeks" "winners" "[[I") ∈ lw_all := lw_g (lw_at lw_m1 165 rfl) rfl
theorem q227 : (Jvm.Cond.fieldLink "SlipWeeks" (98 : Nat) "SlipWeeks" "tried" "[I") ∈ lw_all := lw_g (lw_at lw_m1 166 rfl) rfl
theorem q228 : (Jvm.Cond.fieldLink "SlipWeeks" (101 : Nat) "SlipWeeks" "isTaken" "[Z") ∈ lw_all := lw_g (lw_at lw_m1 167 rfl) rfl
theorem q229 : (Jvm.Cond.laysFinal "SlipWeeks" "SlipWeeks" "game" "LSlipWeeks$Game;") ∈ lw_all := lw_g (lw_at lw_m1 168 rfl) rfl
theorem q230 : (Jvm.Cond.soleField "SlipWeeks" "game") ∈ lw_all := lw_g (lw_at lw_m1 169 rfl) rfl
theorem q231 : (Jvm.Cond.laysFinal "SlipWeeks" "SlipWeeks" "kept" "LSlipWeeks$Game;") ∈ lw_all := lw_g (lw_at lw_m1 170 rfl) rfl
theorem q232 : (Jvm.Cond.soleField "SlipWeeks" "kept") ∈ lw_all := lw_g (lw_at lw_m1 171 rfl) rfl
theorem q233 : (Jvm.Cond.lays "SlipWeeks" "SlipWeeks" "isKept" "Z") ∈ lw_all := lw_g (lw_at lw_m1 172 rfl) rfl
theorem q234 : (Jvm.Cond.soleField "SlipWeeks" "isKept") ∈ lw_all := lw_g (lw_at lw_m1 173 rfl) rfl
theorem q235 : (Jvm.Cond.laysFinal "SlipWeeks" "SlipWeeks" "tape" "[B") ∈ lw_all := lw_g (lw_at lw_m1 174 rfl) rfl
theorem q236 : (Jvm.Cond.soleField "SlipWeeks" "tape") ∈ lw_all := lw_g (lw_at lw_m1 175 rfl) rfl
theorem q237 : (Jvm.Cond.lays "SlipWeeks" "SlipWeeks" "taped" "I") ∈ lw_all := lw_g (lw_at lw_m1 176 rfl) rfl
theorem q238 : (Jvm.Cond.soleField "SlipWeeks" "taped") ∈ lw_all := lw_g (lw_at lw_m1 177 rfl) rfl
theorem q239 : (Jvm.Cond.laysFinal "SlipWeeks" "SlipWeeks" "sheets" "[LSlipWeeks$Slot;") ∈ lw_all := lw_g (lw_at lw_m1 178 rfl) rfl
theorem q240 : (Jvm.Cond.soleField "SlipWeeks" "sheets") ∈ lw_all := lw_g (lw_at lw_m1 179 rfl) rfl
theorem q241 : (Jvm.Cond.laysFinal "SlipWeeks" "SlipWeeks" "found" "[I") ∈ lw_all := lw_g (lw_at lw_m1 180 rfl) rfl
theorem q242 : (Jvm.Cond.soleField "SlipWeeks" "found") ∈ lw_all := lw_g (lw_at lw_m1 181 rfl) rfl
theorem q243 : (Jvm.Cond.laysFinal "SlipWeeks" "SlipWeeks" "rows" "[I") ∈ lw_all := lw_g (lw_at lw_m1 182 rfl) rfl
theorem q244 : (Jvm.Cond.soleField "SlipWeeks" "rows") ∈ lw_all := lw_g (lw_at lw_m1 183 rfl) rfl
theorem q245 : (Jvm.Cond.laysFinal "SlipWeeks" "SlipWeeks" "look" "LSlipWeeks$Look;") ∈ lw_all := lw_g (lw_at lw_m1 184 rfl) rfl
theorem q246 : (Jvm.Cond.soleField "SlipWeeks" "look") ∈ lw_all := lw_g (lw_at lw_m1 185 rfl) rfl
theorem q247 : (Jvm.Cond.laysFinal "SlipWeeks" "SlipWeeks" "named" "LSlipWeeks$Named;") ∈ lw_all := lw_g (lw_at lw_m1 186 rfl) rfl
theorem q248 : (Jvm.Cond.soleField "SlipWeeks" "named") ∈ lw_all := lw_g (lw_at lw_m1 187 rfl) rfl
theorem q249 : (Jvm.Cond.lays "SlipWeeks" "SlipWeeks" "isFresh" "Z") ∈ lw_all := lw_g (lw_at lw_m1 188 rfl) rfl
theorem q250 : (Jvm.Cond.soleField "SlipWeeks" "isFresh") ∈ lw_all := lw_g (lw_at lw_m1 189 rfl) rfl
theorem q251 : (Jvm.Cond.lays "SlipWeeks" "SlipWeeks" "areWinners" "Z") ∈ lw_all := lw_g (lw_at lw_m1 190 rfl) rfl
theorem q252 : (Jvm.Cond.soleField "SlipWeeks" "areWinners") ∈ lw_all := lw_g (lw_at lw_m1 191 rfl) rfl
theorem q253 : (Jvm.Cond.laysFinal "SlipWeeks" "SlipWeeks" "says" "[I") ∈ lw_all := lw_g (lw_at lw_m1 192 rfl) rfl
theorem q254 : (Jvm.Cond.soleField "SlipWeeks" "says") ∈ lw_all := lw_g (lw_at lw_m1 193 rfl) rfl
theorem q255 : (Jvm.Cond.laysFinal "SlipWeeks" "SlipWeeks" "liked" "[I") ∈ lw_all := lw_g (lw_at lw_m1 194 rfl) rfl
theorem q256 : (Jvm.Cond.soleField "SlipWeeks" "liked") ∈ lw_all := lw_g (lw_at lw_m1 195 rfl) rfl
theorem q257 : (Jvm.Cond.laysFinal "SlipWeeks" "SlipWeeks" "crossed" "[I") ∈ lw_all := lw_g (lw_at lw_m1 196 rfl) rfl
theorem q258 : (Jvm.Cond.soleField "SlipWeeks" "crossed") ∈ lw_all := lw_g (lw_at lw_m1 197 rfl) rfl
theorem q259 : (Jvm.Cond.lays "SlipWeeks" "SlipWeeks" "total" "J") ∈ lw_all := lw_g (lw_at lw_m1 198 rfl) rfl
theorem q260 : (Jvm.Cond.soleField "SlipWeeks" "total") ∈ lw_all := lw_g (lw_at lw_m1 199 rfl) rfl
theorem q261 : (Jvm.Cond.laysFinal "SlipWeeks" "SlipWeeks" "winners" "[[I") ∈ lw_all := lw_g (lw_at lw_m1 200 rfl) rfl
theorem q262 : (Jvm.Cond.soleField "SlipWeeks" "winners") ∈ lw_all := lw_g (lw_at lw_m1 201 rfl) rfl
theorem q263 : (Jvm.Cond.laysFinal "SlipWeeks" "SlipWeeks" "tried" "[I") ∈ lw_all := lw_g (lw_at lw_m1 202 rfl) rfl
theorem q264 : (Jvm.Cond.soleField "SlipWeeks" "tried") ∈ lw_all := lw_g (lw_at lw_m1 203 rfl) rfl
theorem q265 : (Jvm.Cond.laysFinal "SlipWeeks" "SlipWeeks" "isTaken" "[Z") ∈ lw_all := lw_g (lw_at lw_m1 204 rfl) rfl
theorem q266 : (Jvm.Cond.soleField "SlipWeeks" "isTaken") ∈ lw_all := lw_g (lw_at lw_m1 205 rfl) rfl
theorem q267 : (Jvm.Cond.superclass "SlipWeeks" "java/lang/Object") ∈ lw_all := lw_g (lw_at lw_m1 206 rfl) rfl
theorem q270 : (Jvm.Cond.instanceMethod ({ cls := "SlipWeeks", name := "place", desc := "(I)I" } : Jvm.MethodName)) ∈ lw_all := lw_g (lw_at lw_m1 209 rfl) rfl
theorem q271 : (Jvm.Cond.selects "SlipWeeks" ({ cls := "SlipWeeks", name := "place", desc := "(I)I" } : Jvm.MethodName) ({ cls := "SlipWeeks", name := "place", desc := "(I)I" } : Jvm.MethodName)) ∈ lw_all := lw_g (lw_at lw_m1 210 rfl) rfl
theorem q272 : (Jvm.Cond.codeWith ({ cls := "SlipWeeks", name := "place", desc := "(I)I" } : Jvm.MethodName) prog_1_method_13_code (3 : Nat) (Option.some Jvm.ClassFile.FieldType.int) [((0 : Nat), (13 : Nat), (14 : Nat), (1 : Nat))]) ∈ lw_all := lw_g (lw_at lw_m1 211 rfl) rfl
theorem q273 : (Jvm.Cond.classLink "SlipWeeks" (1 : Nat) "SlipWeeks$Finding") ∈ lw_all := lw_g (lw_at lw_m1 212 rfl) rfl
theorem q274 : (Jvm.Cond.methodLink "SlipWeeks" (138 : Nat) ({ cls := "SlipWeeks", name := "isRow", desc := "(I)Z" } : Jvm.MethodName)) ∈ lw_all := lw_g (lw_at lw_m1 213 rfl) rfl
theorem q275 : (Jvm.Cond.static ({ cls := "SlipWeeks", name := "isRow", desc := "(I)Z" } : Jvm.MethodName)) ∈ lw_all := lw_g (lw_at lw_m1 214 rfl) rfl
theorem q276 : (Jvm.Cond.code ({ cls := "SlipWeeks", name := "isRow", desc := "(I)Z" } : Jvm.MethodName) prog_1_method_10_code (1 : Nat) (Option.some Jvm.ClassFile.FieldType.boolean)) ∈ lw_all := lw_g (lw_at lw_m1 215 rfl) rfl
theorem q277 : (Jvm.Cond.constantLong "SlipWeeks" (129 : Nat) (4095 : Int64)) ∈ lw_all := lw_g (lw_at lw_m1 216 rfl) rfl
theorem q278 : (Jvm.Cond.methodLink "SlipWeeks" (125 : Nat) ({ cls := "SlipWeeks", name := "in", desc := "(JJJ)Z" } : Jvm.MethodName)) ∈ lw_all := lw_g (lw_at lw_m1 217 rfl) rfl
theorem q279 : (Jvm.Cond.static ({ cls := "SlipWeeks", name := "in", desc := "(JJJ)Z" } : Jvm.MethodName)) ∈ lw_all := lw_g (lw_at lw_m1 218 rfl) rfl
theorem q280 : (Jvm.Cond.code ({ cls := "SlipWeeks", name := "in", desc := "(JJJ)Z" } : Jvm.MethodName) prog_1_method_2_code (6 : Nat) (Option.some Jvm.ClassFile.FieldType.boolean)) ∈ lw_all := lw_g (lw_at lw_m1 219 rfl) rfl
theorem q281 : (Jvm.Cond.methodLink "SlipWeeks" (119 : Nat) ({ cls := "SlipWeeks", name := "need", desc := "(ZI)V" } : Jvm.MethodName)) ∈ lw_all := lw_g (lw_at lw_m1 220 rfl) rfl
theorem q282 : (Jvm.Cond.static ({ cls := "SlipWeeks", name := "need", desc := "(ZI)V" } : Jvm.MethodName)) ∈ lw_all := lw_g (lw_at lw_m1 221 rfl) rfl
theorem q283 : (Jvm.Cond.code ({ cls := "SlipWeeks", name := "need", desc := "(ZI)V" } : Jvm.MethodName) prog_1_method_1_code (2 : Nat) (Option.none : Option Jvm.ClassFile.FieldType)) ∈ lw_all := lw_g (lw_at lw_m1 222 rfl) rfl
theorem q321 : (Jvm.Cond.methodLink "SlipWeeks" (3 : Nat) ({ cls := "SlipWeeks$Finding", name := "<init>", desc := "(I)V" } : Jvm.MethodName)) ∈ lw_all := lw_g (lw_at lw_m2 20 rfl) rfl
theorem q331 : (Jvm.Cond.fieldLink "SlipWeeks" (111 : Nat) "SlipWeeks$Finding" "which" "I") ∈ lw_all := lw_g (lw_at lw_m2 30 rfl) rfl
theorem q347 : (Jvm.Cond.methodLink "SlipWeeks" (142 : Nat) ({ cls := "SlipWeeks", name := "placeOf", desc := "(I)I" } : Jvm.MethodName)) ∈ lw_all := lw_g (lw_at lw_m2 46 rfl) rfl
theorem q348 : (Jvm.Cond.privateMethod ({ cls := "SlipWeeks", name := "placeOf", desc := "(I)I" } : Jvm.MethodName)) ∈ lw_tbl := lw_at lw_m2 47 rfl
theorem q349 : (Jvm.Cond.instanceMethod ({ cls := "SlipWeeks", name := "placeOf", desc := "(I)I" } : Jvm.MethodName)) ∈ lw_all := lw_g (lw_at lw_m2 48 rfl) rfl
theorem q350 : (Jvm.Cond.code ({ cls := "SlipWeeks", name := "placeOf", desc := "(I)I" } : Jvm.MethodName) prog_1_method_12_code (5 : Nat) (Option.some Jvm.ClassFile.FieldType.int)) ∈ lw_all := lw_g (lw_at lw_m2 49 rfl) rfl
theorem q351 : (Jvm.Cond.methodLink "SlipWeeks" (145 : Nat) ({ cls := "SlipWeeks", name := "finds", desc := "(LSlipWeeks$Finding;)I" } : Jvm.MethodName)) ∈ lw_all := lw_g (lw_at lw_m2 50 rfl) rfl
theorem q352 : (Jvm.Cond.privateMethod ({ cls := "SlipWeeks", name := "finds", desc := "(LSlipWeeks$Finding;)I" } : Jvm.MethodName)) ∈ lw_tbl := lw_at lw_m2 51 rfl
theorem q353 : (Jvm.Cond.instanceMethod ({ cls := "SlipWeeks", name := "finds", desc := "(LSlipWeeks$Finding;)I" } : Jvm.MethodName)) ∈ lw_all := lw_g (lw_at lw_m2 52 rfl) rfl
theorem q354 : (Jvm.Cond.code ({ cls := "SlipWeeks", name := "finds", desc := "(LSlipWeeks$Finding;)I" } : Jvm.MethodName) prog_1_method_7_code (2 : Nat) (Option.some Jvm.ClassFile.FieldType.int)) ∈ lw_all := lw_g (lw_at lw_m2 53 rfl) rfl
theorem q355 : (Jvm.Cond.methodLink "SlipWeeks" (115 : Nat) ({ cls := "SlipWeeks$Finding", name := "answer", desc := "()I" } : Jvm.MethodName)) ∈ lw_all := lw_g (lw_at lw_m2 54 rfl) rfl
theorem q361 : (Jvm.Cond.instanceMethod ({ cls := "SlipWeeks", name := "row", desc := "(I)I" } : Jvm.MethodName)) ∈ lw_all := lw_g (lw_at lw_m2 60 rfl) rfl
theorem q362 : (Jvm.Cond.selects "SlipWeeks" ({ cls := "SlipWeeks", name := "row", desc := "(I)I" } : Jvm.MethodName) ({ cls := "SlipWeeks", name := "row", desc := "(I)I" } : Jvm.MethodName)) ∈ lw_all := lw_g (lw_at lw_m2 61 rfl) rfl
theorem q363 : (Jvm.Cond.codeWith ({ cls := "SlipWeeks", name := "row", desc := "(I)I" } : Jvm.MethodName) prog_1_method_14_code (3 : Nat) (Option.some Jvm.ClassFile.FieldType.int) [((0 : Nat), (14 : Nat), (15 : Nat), (1 : Nat))]) ∈ lw_all := lw_g (lw_at lw_m2 62 rfl) rfl
theorem q364 : (Jvm.Cond.methodLink "SlipWeeks" (149 : Nat) ({ cls := "SlipWeeks", name := "isPlace", desc := "(I)Z" } : Jvm.MethodName)) ∈ lw_all := lw_g (lw_at lw_m2 63 rfl) rfl
theorem q365 : (Jvm.Cond.static ({ cls := "SlipWeeks", name := "isPlace", desc := "(I)Z" } : Jvm.MethodName)) ∈ lw_all := lw_g (lw_at lw_m2 64 rfl) rfl
theorem q366 : (Jvm.Cond.code ({ cls := "SlipWeeks", name := "isPlace", desc := "(I)Z" } : Jvm.MethodName) prog_1_method_9_code (1 : Nat) (Option.some Jvm.ClassFile.FieldType.boolean)) ∈ lw_all := lw_g (lw_at lw_m2 65 rfl) rfl
theorem q367 : (Jvm.Cond.constantLong "SlipWeeks" (123 : Nat) (494 : Int64)) ∈ lw_all := lw_g (lw_at lw_m2 66 rfl) rfl
theorem q369 : (Jvm.Cond.instanceMethod ({ cls := "SlipWeeks", name := "people", desc := "(II)I" } : Jvm.MethodName)) ∈ lw_all := lw_g (lw_at lw_m2 68 rfl) rfl
theorem q370 : (Jvm.Cond.selects "SlipWeeks" ({ cls := "SlipWeeks", name := "people", desc := "(II)I" } : Jvm.MethodName) ({ cls := "SlipWeeks", name := "people", desc := "(II)I" } : Jvm.MethodName)) ∈ lw_all := lw_g (lw_at lw_m2 69 rfl) rfl
theorem q371 : (Jvm.Cond.codeWith ({ cls := "SlipWeeks", name := "people", desc := "(II)I" } : Jvm.MethodName) prog_1_method_15_code (4 : Nat) (Option.some Jvm.ClassFile.FieldType.int) [((0 : Nat), (104 : Nat), (105 : Nat), (1 : Nat))]) ∈ lw_all := lw_g (lw_at lw_m2 70 rfl) rfl
theorem q372 : (Jvm.Cond.constantLong "SlipWeeks" (152 : Nat) (7 : Int64)) ∈ lw_all := lw_g (lw_at lw_m2 71 rfl) rfl
theorem q373 : (Jvm.Cond.constantLong "SlipWeeks" (154 : Nat) (99999 : Int64)) ∈ lw_all := lw_g (lw_at lw_m2 72 rfl) rfl
theorem q374 : (Jvm.Cond.methodLink "SlipWeeks" (158 : Nat) ({ cls := "SlipWeeks", name := "groupOf", desc := "(II)LSlipWeeks$Cross;" } : Jvm.MethodName)) ∈ lw_all := lw_g (lw_at lw_m2 73 rfl) rfl
theorem q375 : (Jvm.Cond.static ({ cls := "SlipWeeks", name := "groupOf", desc := "(II)LSlipWeeks$Cross;" } : Jvm.MethodName)) ∈ lw_all := lw_g (lw_at lw_m2 74 rfl) rfl
theorem q376 : (Jvm.Cond.code ({ cls := "SlipWeeks", name := "groupOf", desc := "(II)LSlipWeeks$Cross;" } : Jvm.MethodName) prog_1_method_5_code (2 : Nat) (Option.some (Jvm.ClassFile.FieldType.object "SlipWeeks$Cross"))) ∈ lw_all := lw_g (lw_at lw_m2 75 rfl) rfl
theorem q377 : (Jvm.Cond.classLink "SlipWeeks" (12 : Nat) "SlipWeeks$Cross") ∈ lw_all := lw_g (lw_at lw_m2 76 rfl) rfl
theorem q379 : (Jvm.Cond.methodLink "SlipWeeks" (14 : Nat) ({ cls := "SlipWeeks$Cross", name := "<init>", desc := "(I)V" } : Jvm.MethodName)) ∈ lw_all := lw_g (lw_at lw_m2 78 rfl) rfl
theorem q398 : (Jvm.Cond.fieldLink "SlipWeeks" (176 : Nat) "SlipWeeks$Cross" "many" "I") ∈ lw_all := lw_g (lw_at lw_m2 97 rfl) rfl
theorem q402 : (Jvm.Cond.classLink "SlipWeeks" (15 : Nat) "SlipWeeks$Born") ∈ lw_all := lw_g (lw_at lw_m2 101 rfl) rfl
theorem q404 : (Jvm.Cond.methodLink "SlipWeeks" (17 : Nat) ({ cls := "SlipWeeks$Born", name := "<init>", desc := "(I)V" } : Jvm.MethodName)) ∈ lw_all := lw_g (lw_at lw_m2 103 rfl) rfl
theorem q410 : (Jvm.Cond.classLink "SlipWeeks" (18 : Nat) "SlipWeeks$Drawn") ∈ lw_all := lw_g (lw_at lw_m2 109 rfl) rfl
theorem q412 : (Jvm.Cond.methodLink "SlipWeeks" (20 : Nat) ({ cls := "SlipWeeks$Drawn", name := "<init>", desc := "(I)V" } : Jvm.MethodName)) ∈ lw_all := lw_g (lw_at lw_m2 111 rfl) rfl
theorem q418 : (Jvm.Cond.classLink "SlipWeeks" (21 : Nat) "SlipWeeks$Machine") ∈ lw_all := lw_g (lw_at lw_m2 117 rfl) rfl
theorem q420 : (Jvm.Cond.methodLink "SlipWeeks" (23 : Nat) ({ cls := "SlipWeeks$Machine", name := "<init>", desc := "(I)V" } : Jvm.MethodName)) ∈ lw_all := lw_g (lw_at lw_m2 119 rfl) rfl
theorem q426 : (Jvm.Cond.classLink "SlipWeeks" (24 : Nat) "SlipWeeks$Last") ∈ lw_all := lw_g (lw_at lw_m2 125 rfl) rfl
theorem q428 : (Jvm.Cond.methodLink "SlipWeeks" (26 : Nat) ({ cls := "SlipWeeks$Last", name := "<init>", desc := "(I)V" } : Jvm.MethodName)) ∈ lw_all := lw_g (lw_at lw_m2 127 rfl) rfl
theorem q434 : (Jvm.Cond.classLink "SlipWeeks" (27 : Nat) "SlipWeeks$Lucky") ∈ lw_all := lw_g (lw_at lw_m2 133 rfl) rfl
theorem q436 : (Jvm.Cond.methodLink "SlipWeeks" (29 : Nat) ({ cls := "SlipWeeks$Lucky", name := "<init>", desc := "(I)V" } : Jvm.MethodName)) ∈ lw_all := lw_g (lw_at lw_m2 135 rfl) rfl
theorem q442 : (Jvm.Cond.classLink "SlipWeeks" (30 : Nat) "SlipWeeks$Sought") ∈ lw_all := lw_g (lw_at lw_m2 141 rfl) rfl
theorem q444 : (Jvm.Cond.methodLink "SlipWeeks" (32 : Nat) ({ cls := "SlipWeeks$Sought", name := "<init>", desc := "(I)V" } : Jvm.MethodName)) ∈ lw_all := lw_g (lw_at lw_m2 143 rfl) rfl
theorem q450 : (Jvm.Cond.classLink "SlipWeeks" (33 : Nat) "SlipWeeks$Bought") ∈ lw_all := lw_g (lw_at lw_m2 149 rfl) rfl
theorem q452 : (Jvm.Cond.methodLink "SlipWeeks" (35 : Nat) ({ cls := "SlipWeeks$Bought", name := "<init>", desc := "(I)V" } : Jvm.MethodName)) ∈ lw_all := lw_g (lw_at lw_m2 151 rfl) rfl
theorem q459 : (Jvm.Cond.instanceMethod ({ cls := "SlipWeeks", name := "of", desc := "(II)I" } : Jvm.MethodName)) ∈ lw_all := lw_g (lw_at lw_m2 158 rfl) rfl
theorem q460 : (Jvm.Cond.selects "SlipWeeks" ({ cls := "SlipWeeks", name := "of", desc := "(II)I" } : Jvm.MethodName) ({ cls := "SlipWeeks", name := "of", desc := "(II)I" } : Jvm.MethodName)) ∈ lw_all := lw_g (lw_at lw_m2 159 rfl) rfl
theorem q461 : (Jvm.Cond.codeWith ({ cls := "SlipWeeks", name := "of", desc := "(II)I" } : Jvm.MethodName) prog_1_method_16_code (4 : Nat) (Option.some Jvm.ClassFile.FieldType.int) [((0 : Nat), (32 : Nat), (33 : Nat), (1 : Nat))]) ∈ lw_all := lw_g (lw_at lw_m2 160 rfl) rfl
theorem q462 : (Jvm.Cond.methodLink "SlipWeeks" (170 : Nat) ({ cls := "SlipWeeks", name := "peopleAt", desc := "(I)LSlipWeeks$Cross;" } : Jvm.MethodName)) ∈ lw_all := lw_g (lw_at lw_m2 161 rfl) rfl
theorem q463 : (Jvm.Cond.privateMethod ({ cls := "SlipWeeks", name := "peopleAt", desc := "(I)LSlipWeeks$Cross;" } : Jvm.MethodName)) ∈ lw_tbl := lw_at lw_m2 162 rfl
theorem q464 : (Jvm.Cond.instanceMethod ({ cls := "SlipWeeks", name := "peopleAt", desc := "(I)LSlipWeeks$Cross;" } : Jvm.MethodName)) ∈ lw_all := lw_g (lw_at lw_m2 163 rfl) rfl
theorem q465 : (Jvm.Cond.code ({ cls := "SlipWeeks", name := "peopleAt", desc := "(I)LSlipWeeks$Cross;" } : Jvm.MethodName) prog_1_method_11_code (2 : Nat) (Option.some (Jvm.ClassFile.FieldType.object "SlipWeeks$Cross"))) ∈ lw_all := lw_g (lw_at lw_m2 164 rfl) rfl
theorem q466 : (Jvm.Cond.methodLink "SlipWeeks" (134 : Nat) ({ cls := "SlipWeeks$Game", name := "group", desc := "(I)LSlipWeeks$Cross;" } : Jvm.MethodName)) ∈ lw_all := lw_g (lw_at lw_m2 165 rfl) rfl
theorem q471 : (Jvm.Cond.methodLink "SlipWeeks" (173 : Nat) ({ cls := "SlipWeeks$Cross", name := "kind", desc := "()I" } : Jvm.MethodName)) ∈ lw_all := lw_g (lw_at lw_m2 170 rfl) rfl
theorem q505 : (Jvm.Cond.instanceMethod ({ cls := "SlipWeeks", name := "many", desc := "(II)I" } : Jvm.MethodName)) ∈ lw_all := lw_g (lw_at lw_m2 204 rfl) rfl
theorem q506 : (Jvm.Cond.selects "SlipWeeks" ({ cls := "SlipWeeks", name := "many", desc := "(II)I" } : Jvm.MethodName) ({ cls := "SlipWeeks", name := "many", desc := "(II)I" } : Jvm.MethodName)) ∈ lw_all := lw_g (lw_at lw_m2 205 rfl) rfl
theorem q507 : (Jvm.Cond.codeWith ({ cls := "SlipWeeks", name := "many", desc := "(II)I" } : Jvm.MethodName) prog_1_method_17_code (5 : Nat) (Option.some Jvm.ClassFile.FieldType.int) [((0 : Nat), (37 : Nat), (38 : Nat), (1 : Nat))]) ∈ lw_all := lw_g (lw_at lw_m2 206 rfl) rfl
theorem q509 : (Jvm.Cond.instanceMethod ({ cls := "SlipWeeks", name := "as", desc := "(II)I" } : Jvm.MethodName)) ∈ lw_all := lw_g (lw_at lw_m2 208 rfl) rfl
theorem q510 : (Jvm.Cond.selects "SlipWeeks" ({ cls := "SlipWeeks", name := "as", desc := "(II)I" } : Jvm.MethodName) ({ cls := "SlipWeeks", name := "as", desc := "(II)I" } : Jvm.MethodName)) ∈ lw_all := lw_g (lw_at lw_m2 209 rfl) rfl
theorem q511 : (Jvm.Cond.codeWith ({ cls := "SlipWeeks", name := "as", desc := "(II)I" } : Jvm.MethodName) prog_1_method_18_code (4 : Nat) (Option.some Jvm.ClassFile.FieldType.int) [((0 : Nat), (32 : Nat), (33 : Nat), (1 : Nat))]) ∈ lw_all := lw_g (lw_at lw_m2 210 rfl) rfl
theorem q512 : (Jvm.Cond.methodLink "SlipWeeks" (179 : Nat) ({ cls := "SlipWeeks$Cross", name := "is", desc := "(I)Z" } : Jvm.MethodName)) ∈ lw_all := lw_g (lw_at lw_m2 211 rfl) rfl
theorem q535 : (Jvm.Cond.instanceMethod ({ cls := "SlipWeeks", name := "likes", desc := "(II)I" } : Jvm.MethodName)) ∈ lw_all := lw_g (lw_at lw_m2 234 rfl) rfl
theorem q536 : (Jvm.Cond.selects "SlipWeeks" ({ cls := "SlipWeeks", name := "likes", desc := "(II)I" } : Jvm.MethodName) ({ cls := "SlipWeeks", name := "likes", desc := "(II)I" } : Jvm.MethodName)) ∈ lw_all := lw_g (lw_at lw_m2 235 rfl) rfl
theorem q537 : (Jvm.Cond.codeWith ({ cls := "SlipWeeks", name := "likes", desc := "(II)I" } : Jvm.MethodName) prog_1_method_27_code (4 : Nat) (Option.some Jvm.ClassFile.FieldType.int) [((0 : Nat), (24 : Nat), (25 : Nat), (1 : Nat))]) ∈ lw_all := lw_g (lw_at lw_m2 236 rfl) rfl
theorem q538 : (Jvm.Cond.methodLink "SlipWeeks" (249 : Nat) ({ cls := "SlipWeeks", name := "findCrossed", desc := "()V" } : Jvm.MethodName)) ∈ lw_all := lw_g (lw_at lw_m2 237 rfl) rfl
theorem q539 : (Jvm.Cond.privateMethod ({ cls := "SlipWeeks", name := "findCrossed", desc := "()V" } : Jvm.MethodName)) ∈ lw_tbl := lw_at lw_m2 238 rfl
theorem q540 : (Jvm.Cond.instanceMethod ({ cls := "SlipWeeks", name := "findCrossed", desc := "()V" } : Jvm.MethodName)) ∈ lw_all := lw_g (lw_at lw_m2 239 rfl) rfl
theorem q541 : (Jvm.Cond.code ({ cls := "SlipWeeks", name := "findCrossed", desc := "()V" } : Jvm.MethodName) prog_1_method_23_code (5 : Nat) (Option.none : Option Jvm.ClassFile.FieldType)) ∈ lw_all := lw_g (lw_at lw_m3 0 rfl) rfl
theorem q542 : (Jvm.Cond.methodLink "SlipWeeks" (218 : Nat) ({ cls := "SlipWeeks", name := "findSays", desc := "()V" } : Jvm.MethodName)) ∈ lw_all := lw_g (lw_at lw_m3 1 rfl) rfl
theorem q543 : (Jvm.Cond.privateMethod ({ cls := "SlipWeeks", name := "findSays", desc := "()V" } : Jvm.MethodName)) ∈ lw_tbl := lw_at lw_m3 2 rfl
theorem q544 : (Jvm.Cond.instanceMethod ({ cls := "SlipWeeks", name := "findSays", desc := "()V" } : Jvm.MethodName)) ∈ lw_all := lw_g (lw_at lw_m3 3 rfl) rfl
theorem q545 : (Jvm.Cond.code ({ cls := "SlipWeeks", name := "findSays", desc := "()V" } : Jvm.MethodName) prog_1_method_19_code (2 : Nat) (Option.none : Option Jvm.ClassFile.FieldType)) ∈ lw_all := lw_g (lw_at lw_m3 4 rfl) rfl
theorem q546 : (Jvm.Cond.methodLink "SlipWeeks" (182 : Nat) ({ cls := "SlipWeeks$Game", name := "latest", desc := "()I" } : Jvm.MethodName)) ∈ lw_all := lw_g (lw_at lw_m3 5 rfl) rfl
theorem q550 : (Jvm.Cond.methodLink "SlipWeeks" (188 : Nat) ({ cls := "SlipWeeks$Named", name := "finds", desc := "(III)V" } : Jvm.MethodName)) ∈ lw_all := lw_g (lw_at lw_m3 9 rfl) rfl
theorem q555 : (Jvm.Cond.static ({ cls := "SlipWeeks", name := "has", desc := "(II)Z" } : Jvm.MethodName)) ∈ lw_all := lw_g (lw_at lw_m3 14 rfl) rfl
theorem q556 : (Jvm.Cond.code ({ cls := "SlipWeeks", name := "has", desc := "(II)Z" } : Jvm.MethodName) prog_1_method_3_code (2 : Nat) (Option.some Jvm.ClassFile.FieldType.boolean)) ∈ lw_all := lw_g (lw_at lw_m3 15 rfl) rfl
theorem q568 : (Jvm.Cond.classLink "SlipWeeks" (195 : Nat) "SlipWeeks$Part") ∈ lw_all := lw_g (lw_at lw_m3 27 rfl) rfl
theorem q569 : (Jvm.Cond.interfaceEntry "SlipWeeks" (197 : Nat)) ∈ lw_tbl := lw_at lw_m3 28 rfl
theorem q570 : (Jvm.Cond.methodLink "SlipWeeks" (197 : Nat) ({ cls := "SlipWeeks$Part", name := "held", desc := "(LSlipWeeks$Named;)I" } : Jvm.MethodName)) ∈ lw_all := lw_g (lw_at lw_m3 29 rfl) rfl
theorem q618 : (Jvm.Cond.methodLink "SlipWeeks" (221 : Nat) ({ cls := "SlipWeeks", name := "findLiked", desc := "(LSlipWeeks$Cross;)I" } : Jvm.MethodName)) ∈ lw_all := lw_g (lw_at lw_m3 77 rfl) rfl
theorem q619 : (Jvm.Cond.privateMethod ({ cls := "SlipWeeks", name := "findLiked", desc := "(LSlipWeeks$Cross;)I" } : Jvm.MethodName)) ∈ lw_tbl := lw_at lw_m3 78 rfl
theorem q620 : (Jvm.Cond.instanceMethod ({ cls := "SlipWeeks", name := "findLiked", desc := "(LSlipWeeks$Cross;)I" } : Jvm.MethodName)) ∈ lw_all := lw_g (lw_at lw_m3 79 rfl) rfl
theorem q621 : (Jvm.Cond.code ({ cls := "SlipWeeks", name := "findLiked", desc := "(LSlipWeeks$Cross;)I" } : Jvm.MethodName) prog_1_method_21_code (4 : Nat) (Option.some Jvm.ClassFile.FieldType.int)) ∈ lw_all := lw_g (lw_at lw_m3 80 rfl) rfl
theorem q622 : (Jvm.Cond.methodLink "SlipWeeks" (214 : Nat) ({ cls := "SlipWeeks", name := "likesOf", desc := "(LSlipWeeks$Cross;I)I" } : Jvm.MethodName)) ∈ lw_all := lw_g (lw_at lw_m3 81 rfl) rfl
theorem q623 : (Jvm.Cond.privateMethod ({ cls := "SlipWeeks", name := "likesOf", desc := "(LSlipWeeks$Cross;I)I" } : Jvm.MethodName)) ∈ lw_tbl := lw_at lw_m3 82 rfl
theorem q624 : (Jvm.Cond.instanceMethod ({ cls := "SlipWeeks", name := "likesOf", desc := "(LSlipWeeks$Cross;I)I" } : Jvm.MethodName)) ∈ lw_all := lw_g (lw_at lw_m3 83 rfl) rfl
theorem q625 : (Jvm.Cond.code ({ cls := "SlipWeeks", name := "likesOf", desc := "(LSlipWeeks$Cross;I)I" } : Jvm.MethodName) prog_1_method_20_code (3 : Nat) (Option.some Jvm.ClassFile.FieldType.int)) ∈ lw_all := lw_g (lw_at lw_m3 84 rfl) rfl
theorem q626 : (Jvm.Cond.methodLink "SlipWeeks" (210 : Nat) ({ cls := "SlipWeeks$Cross", name := "likes", desc := "(LSlipWeeks$Look;)I" } : Jvm.MethodName)) ∈ lw_all := lw_g (lw_at lw_m3 85 rfl) rfl
theorem q662 : (Jvm.Cond.methodLink "SlipWeeks" (225 : Nat) ({ cls := "SlipWeeks", name := "crossedBy", desc := "(LSlipWeeks$Cross;II)I" } : Jvm.MethodName)) ∈ lw_all := lw_g (lw_at lw_m3 121 rfl) rfl
theorem q663 : (Jvm.Cond.static ({ cls := "SlipWeeks", name := "crossedBy", desc := "(LSlipWeeks$Cross;II)I" } : Jvm.MethodName)) ∈ lw_all := lw_g (lw_at lw_m3 122 rfl) rfl
theorem q664 : (Jvm.Cond.code ({ cls := "SlipWeeks", name := "crossedBy", desc := "(LSlipWeeks$Cross;II)I" } : Jvm.MethodName) prog_1_method_22_code (3 : Nat) (Option.some Jvm.ClassFile.FieldType.int)) ∈ lw_all := lw_g (lw_at lw_m3 123 rfl) rfl
theorem q666 : (Jvm.Cond.instanceMethod ({ cls := "SlipWeeks", name := "crossed", desc := "(II)I" } : Jvm.MethodName)) ∈ lw_all := lw_g (lw_at lw_m3 125 rfl) rfl
theorem q667 : (Jvm.Cond.selects "SlipWeeks" ({ cls := "SlipWeeks", name := "crossed", desc := "(II)I" } : Jvm.MethodName) ({ cls := "SlipWeeks", name := "crossed", desc := "(II)I" } : Jvm.MethodName)) ∈ lw_all := lw_g (lw_at lw_m3 126 rfl) rfl
theorem q668 : (Jvm.Cond.codeWith ({ cls := "SlipWeeks", name := "crossed", desc := "(II)I" } : Jvm.MethodName) prog_1_method_28_code (5 : Nat) (Option.some Jvm.ClassFile.FieldType.int) [((0 : Nat), (51 : Nat), (81 : Nat), (1 : Nat)), ((52 : Nat), (80 : Nat), (81 : Nat), (1 : Nat))]) ∈ lw_all := lw_g (lw_at lw_m3 127 rfl) rfl
theorem q669 : (Jvm.Cond.constantLong "SlipWeeks" (252 : Nat) (-1 : Int64)) ∈ lw_all := lw_g (lw_at lw_m3 128 rfl) rfl
theorem q671 : (Jvm.Cond.instanceMethod ({ cls := "SlipWeeks", name := "buys", desc := "(II)I" } : Jvm.MethodName)) ∈ lw_all := lw_g (lw_at lw_m3 130 rfl) rfl
theorem q672 : (Jvm.Cond.selects "SlipWeeks" ({ cls := "SlipWeeks", name := "buys", desc := "(II)I" } : Jvm.MethodName) ({ cls := "SlipWeeks", name := "buys", desc := "(II)I" } : Jvm.MethodName)) ∈ lw_all := lw_g (lw_at lw_m3 131 rfl) rfl
theorem q673 : (Jvm.Cond.codeWith ({ cls := "SlipWeeks", name := "buys", desc := "(II)I" } : Jvm.MethodName) prog_1_method_29_code (4 : Nat) (Option.some Jvm.ClassFile.FieldType.int) [((0 : Nat), (182 : Nat), (183 : Nat), (1 : Nat))]) ∈ lw_all := lw_g (lw_at lw_m3 132 rfl) rfl
theorem q674 : (Jvm.Cond.constantLong "SlipWeeks" (254 : Nat) (9999 : Int64)) ∈ lw_all := lw_g (lw_at lw_m3 133 rfl) rfl
theorem q675 : (Jvm.Cond.constant "SlipWeeks" (256 : Nat) (99999 : Int32)) ∈ lw_all := lw_g (lw_at lw_m3 134 rfl) rfl
theorem q677 : (Jvm.Cond.instanceMethod ({ cls := "SlipWeeks", name := "returned", desc := "()I" } : Jvm.MethodName)) ∈ lw_all := lw_g (lw_at lw_m3 136 rfl) rfl
theorem q678 : (Jvm.Cond.selects "SlipWeeks" ({ cls := "SlipWeeks", name := "returned", desc := "()I" } : Jvm.MethodName) ({ cls := "SlipWeeks", name := "returned", desc := "()I" } : Jvm.MethodName)) ∈ lw_all := lw_g (lw_at lw_m3 137 rfl) rfl
theorem q679 : (Jvm.Cond.code ({ cls := "SlipWeeks", name := "returned", desc := "()I" } : Jvm.MethodName) prog_1_method_30_code (3 : Nat) (Option.some Jvm.ClassFile.FieldType.int)) ∈ lw_all := lw_g (lw_at lw_m3 138 rfl) rfl
theorem q681 : (Jvm.Cond.instanceMethod ({ cls := "SlipWeeks", name := "feed", desc := "(II)I" } : Jvm.MethodName)) ∈ lw_all := lw_g (lw_at lw_m3 140 rfl) rfl
theorem q682 : (Jvm.Cond.selects "SlipWeeks" ({ cls := "SlipWeeks", name := "feed", desc := "(II)I" } : Jvm.MethodName) ({ cls := "SlipWeeks", name := "feed", desc := "(II)I" } : Jvm.MethodName)) ∈ lw_all := lw_g (lw_at lw_m3 141 rfl) rfl
theorem q683 : (Jvm.Cond.codeWith ({ cls := "SlipWeeks", name := "feed", desc := "(II)I" } : Jvm.MethodName) prog_1_method_31_code (4 : Nat) (Option.some Jvm.ClassFile.FieldType.int) [((0 : Nat), (77 : Nat), (78 : Nat), (1 : Nat))]) ∈ lw_all := lw_g (lw_at lw_m3 142 rfl) rfl
theorem q684 : (Jvm.Cond.constantLong "SlipWeeks" (257 : Nat) (4 : Int64)) ∈ lw_all := lw_g (lw_at lw_m3 143 rfl) rfl
theorem q686 : (Jvm.Cond.instanceMethod ({ cls := "SlipWeeks", name := "wipe", desc := "()I" } : Jvm.MethodName)) ∈ lw_all := lw_g (lw_at lw_m3 145 rfl) rfl
theorem q687 : (Jvm.Cond.selects "SlipWeeks" ({ cls := "SlipWeeks", name := "wipe", desc := "()I" } : Jvm.MethodName) ({ cls := "SlipWeeks", name := "wipe", desc := "()I" } : Jvm.MethodName)) ∈ lw_all := lw_g (lw_at lw_m3 146 rfl) rfl
theorem q688 : (Jvm.Cond.code ({ cls := "SlipWeeks", name := "wipe", desc := "()I" } : Jvm.MethodName) prog_1_method_32_code (2 : Nat) (Option.some Jvm.ClassFile.FieldType.int)) ∈ lw_all := lw_g (lw_at lw_m3 147 rfl) rfl
theorem q690 : (Jvm.Cond.instanceMethod ({ cls := "SlipWeeks", name := "liking", desc := "()I" } : Jvm.MethodName)) ∈ lw_all := lw_g (lw_at lw_m3 149 rfl) rfl
theorem q691 : (Jvm.Cond.selects "SlipWeeks" ({ cls := "SlipWeeks", name := "liking", desc := "()I" } : Jvm.MethodName) ({ cls := "SlipWeeks", name := "liking", desc := "()I" } : Jvm.MethodName)) ∈ lw_all := lw_g (lw_at lw_m3 150 rfl) rfl
theorem q692 : (Jvm.Cond.codeWith ({ cls := "SlipWeeks", name := "liking", desc := "()I" } : Jvm.MethodName) prog_1_method_33_code (2 : Nat) (Option.some Jvm.ClassFile.FieldType.int) [((0 : Nat), (39 : Nat), (40 : Nat), (271 : Nat))]) ∈ lw_all := lw_g (lw_at lw_m3 151 rfl) rfl
theorem q693 : (Jvm.Cond.classLink "SlipWeeks" (271 : Nat) "SlipWeeks$Fault") ∈ lw_all := lw_g (lw_at lw_m3 152 rfl) rfl
theorem q694 : (Jvm.Cond.classLink "SlipWeeks" (262 : Nat) "SlipWeeks$Reader") ∈ lw_all := lw_g (lw_at lw_m3 153 rfl) rfl
theorem q696 : (Jvm.Cond.methodLink "SlipWeeks" (264 : Nat) ({ cls := "SlipWeeks$Reader", name := "<init>", desc := "([BI)V" } : Jvm.MethodName)) ∈ lw_all := lw_g (lw_at lw_m3 155 rfl) rfl
theorem q713 : (Jvm.Cond.methodLink "SlipWeeks" (267 : Nat) ({ cls := "SlipWeeks$Reader", name := "read", desc := "()LSlipWeeks$Part;" } : Jvm.MethodName)) ∈ lw_all := lw_g (lw_at lw_m3 172 rfl) rfl
theorem q778 : (Jvm.Cond.fieldLink "SlipWeeks" (273 : Nat) "SlipWeeks$Fault" "place" "I") ∈ lw_all := lw_g (lw_at lw_m3 237 rfl) rfl
theorem q821 : (Jvm.Cond.instanceMethod ({ cls := "SlipWeeks", name := "even", desc := "()I" } : Jvm.MethodName)) ∈ lw_all := lw_g (lw_at lw_m4 40 rfl) rfl
theorem q822 : (Jvm.Cond.selects "SlipWeeks" ({ cls := "SlipWeeks", name := "even", desc := "()I" } : Jvm.MethodName) ({ cls := "SlipWeeks", name := "even", desc := "()I" } : Jvm.MethodName)) ∈ lw_all := lw_g (lw_at lw_m4 41 rfl) rfl
theorem q823 : (Jvm.Cond.code ({ cls := "SlipWeeks", name := "even", desc := "()I" } : Jvm.MethodName) prog_1_method_34_code (2 : Nat) (Option.some Jvm.ClassFile.FieldType.int)) ∈ lw_all := lw_g (lw_at lw_m4 42 rfl) rfl
theorem q825 : (Jvm.Cond.instanceMethod ({ cls := "SlipWeeks", name := "rule", desc := "(II)I" } : Jvm.MethodName)) ∈ lw_all := lw_g (lw_at lw_m4 44 rfl) rfl
theorem q826 : (Jvm.Cond.selects "SlipWeeks" ({ cls := "SlipWeeks", name := "rule", desc := "(II)I" } : Jvm.MethodName) ({ cls := "SlipWeeks", name := "rule", desc := "(II)I" } : Jvm.MethodName)) ∈ lw_all := lw_g (lw_at lw_m4 45 rfl) rfl
theorem q827 : (Jvm.Cond.codeWith ({ cls := "SlipWeeks", name := "rule", desc := "(II)I" } : Jvm.MethodName) prog_1_method_36_code (4 : Nat) (Option.some Jvm.ClassFile.FieldType.int) [((0 : Nat), (30 : Nat), (31 : Nat), (1 : Nat))]) ∈ lw_all := lw_g (lw_at lw_m4 46 rfl) rfl
theorem q828 : (Jvm.Cond.methodLink "SlipWeeks" (282 : Nat) ({ cls := "SlipWeeks", name := "isRule", desc := "(II)Z" } : Jvm.MethodName)) ∈ lw_all := lw_g (lw_at lw_m4 47 rfl) rfl
theorem q829 : (Jvm.Cond.static ({ cls := "SlipWeeks", name := "isRule", desc := "(II)Z" } : Jvm.MethodName)) ∈ lw_all := lw_g (lw_at lw_m4 48 rfl) rfl
theorem q830 : (Jvm.Cond.code ({ cls := "SlipWeeks", name := "isRule", desc := "(II)Z" } : Jvm.MethodName) prog_1_method_35_code (2 : Nat) (Option.some Jvm.ClassFile.FieldType.boolean)) ∈ lw_all := lw_g (lw_at lw_m4 49 rfl) rfl
theorem q831 : (Jvm.Cond.constantLong "SlipWeeks" (274 : Nat) (99 : Int64)) ∈ lw_all := lw_g (lw_at lw_m4 50 rfl) rfl
theorem q832 : (Jvm.Cond.constantLong "SlipWeeks" (276 : Nat) (100 : Int64)) ∈ lw_all := lw_g (lw_at lw_m4 51 rfl) rfl
theorem q833 : (Jvm.Cond.constantLong "SlipWeeks" (278 : Nat) (999999 : Int64)) ∈ lw_all := lw_g (lw_at lw_m4 52 rfl) rfl
theorem q834 : (Jvm.Cond.constantLong "SlipWeeks" (280 : Nat) (99999999 : Int64)) ∈ lw_all := lw_g (lw_at lw_m4 53 rfl) rfl
theorem q836 : (Jvm.Cond.instanceMethod ({ cls := "SlipWeeks", name := "seed", desc := "(I)I" } : Jvm.MethodName)) ∈ lw_all := lw_g (lw_at lw_m4 55 rfl) rfl
theorem q837 : (Jvm.Cond.selects "SlipWeeks" ({ cls := "SlipWeeks", name := "seed", desc := "(I)I" } : Jvm.MethodName) ({ cls := "SlipWeeks", name := "seed", desc := "(I)I" } : Jvm.MethodName)) ∈ lw_all := lw_g (lw_at lw_m4 56 rfl) rfl
theorem q838 : (Jvm.Cond.code ({ cls := "SlipWeeks", name := "seed", desc := "(I)I" } : Jvm.MethodName) prog_1_method_37_code (3 : Nat) (Option.some Jvm.ClassFile.FieldType.int)) ∈ lw_all := lw_g (lw_at lw_m4 57 rfl) rfl
theorem q840 : (Jvm.Cond.instanceMethod ({ cls := "SlipWeeks", name := "week", desc := "()I" } : Jvm.MethodName)) ∈ lw_all := lw_g (lw_at lw_m4 59 rfl) rfl
theorem q841 : (Jvm.Cond.selects "SlipWeeks" ({ cls := "SlipWeeks", name := "week", desc := "()I" } : Jvm.MethodName) ({ cls := "SlipWeeks", name := "week", desc := "()I" } : Jvm.MethodName)) ∈ lw_all := lw_g (lw_at lw_m4 60 rfl) rfl
theorem q842 : (Jvm.Cond.codeWith ({ cls := "SlipWeeks", name := "week", desc := "()I" } : Jvm.MethodName) prog_1_method_42_code (2 : Nat) (Option.some Jvm.ClassFile.FieldType.int) [((0 : Nat), (50 : Nat), (51 : Nat), (1 : Nat))]) ∈ lw_all := lw_g (lw_at lw_m4 61 rfl) rfl
theorem q843 : (Jvm.Cond.methodLink "SlipWeeks" (316 : Nat) ({ cls := "SlipWeeks", name := "lot", desc := "()I" } : Jvm.MethodName)) ∈ lw_all := lw_g (lw_at lw_m4 62 rfl) rfl
theorem q844 : (Jvm.Cond.privateMethod ({ cls := "SlipWeeks", name := "lot", desc := "()I" } : Jvm.MethodName)) ∈ lw_tbl := lw_at lw_m4 63 rfl
theorem q845 : (Jvm.Cond.instanceMethod ({ cls := "SlipWeeks", name := "lot", desc := "()I" } : Jvm.MethodName)) ∈ lw_all := lw_g (lw_at lw_m4 64 rfl) rfl
theorem q846 : (Jvm.Cond.code ({ cls := "SlipWeeks", name := "lot", desc := "()I" } : Jvm.MethodName) prog_1_method_41_code (1 : Nat) (Option.some Jvm.ClassFile.FieldType.int)) ∈ lw_all := lw_g (lw_at lw_m4 65 rfl) rfl
theorem q847 : (Jvm.Cond.constant "SlipWeeks" (315 : Nat) (1103515245 : Int32)) ∈ lw_all := lw_g (lw_at lw_m4 66 rfl) rfl
theorem q848 : (Jvm.Cond.methodLink "SlipWeeks" (319 : Nat) ({ cls := "SlipWeeks", name := "plays", desc := "(I)I" } : Jvm.MethodName)) ∈ lw_all := lw_g (lw_at lw_m4 67 rfl) rfl
theorem q849 : (Jvm.Cond.privateMethod ({ cls := "SlipWeeks", name := "plays", desc := "(I)I" } : Jvm.MethodName)) ∈ lw_tbl := lw_at lw_m4 68 rfl
theorem q850 : (Jvm.Cond.instanceMethod ({ cls := "SlipWeeks", name := "plays", desc := "(I)I" } : Jvm.MethodName)) ∈ lw_all := lw_g (lw_at lw_m4 69 rfl) rfl
theorem q851 : (Jvm.Cond.code ({ cls := "SlipWeeks", name := "plays", desc := "(I)I" } : Jvm.MethodName) prog_1_method_40_code (11 : Nat) (Option.some Jvm.ClassFile.FieldType.int)) ∈ lw_all := lw_g (lw_at lw_m4 70 rfl) rfl
theorem q852 : (Jvm.Cond.methodLink "SlipWeeks" (292 : Nat) ({ cls := "SlipWeeks", name := "potWith", desc := "(J)J" } : Jvm.MethodName)) ∈ lw_all := lw_g (lw_at lw_m4 71 rfl) rfl
theorem q853 : (Jvm.Cond.privateMethod ({ cls := "SlipWeeks", name := "potWith", desc := "(J)J" } : Jvm.MethodName)) ∈ lw_tbl := lw_at lw_m4 72 rfl
theorem q854 : (Jvm.Cond.instanceMethod ({ cls := "SlipWeeks", name := "potWith", desc := "(J)J" } : Jvm.MethodName)) ∈ lw_all := lw_g (lw_at lw_m4 73 rfl) rfl
theorem q855 : (Jvm.Cond.code ({ cls := "SlipWeeks", name := "potWith", desc := "(J)J" } : Jvm.MethodName) prog_1_method_38_code (3 : Nat) (Option.some Jvm.ClassFile.FieldType.long)) ∈ lw_all := lw_g (lw_at lw_m4 74 rfl) rfl
theorem q856 : (Jvm.Cond.methodLink "SlipWeeks" (299 : Nat) ({ cls := "SlipWeeks", name := "winnersOf", desc := "(II)I" } : Jvm.MethodName)) ∈ lw_all := lw_g (lw_at lw_m4 75 rfl) rfl
theorem q857 : (Jvm.Cond.privateMethod ({ cls := "SlipWeeks", name := "winnersOf", desc := "(II)I" } : Jvm.MethodName)) ∈ lw_tbl := lw_at lw_m4 76 rfl
theorem q858 : (Jvm.Cond.instanceMethod ({ cls := "SlipWeeks", name := "winnersOf", desc := "(II)I" } : Jvm.MethodName)) ∈ lw_all := lw_g (lw_at lw_m4 77 rfl) rfl
theorem q859 : (Jvm.Cond.code ({ cls := "SlipWeeks", name := "winnersOf", desc := "(II)I" } : Jvm.MethodName) prog_1_method_25_code (5 : Nat) (Option.some Jvm.ClassFile.FieldType.int)) ∈ lw_all := lw_g (lw_at lw_m4 78 rfl) rfl
theorem q860 : (Jvm.Cond.methodLink "SlipWeeks" (245 : Nat) ({ cls := "SlipWeeks", name := "rank", desc := "(II)I" } : Jvm.MethodName)) ∈ lw_all := lw_g (lw_at lw_m4 79 rfl) rfl
theorem q861 : (Jvm.Cond.static ({ cls := "SlipWeeks", name := "rank", desc := "(II)I" } : Jvm.MethodName)) ∈ lw_all := lw_g (lw_at lw_m4 80 rfl) rfl
theorem q862 : (Jvm.Cond.code ({ cls := "SlipWeeks", name := "rank", desc := "(II)I" } : Jvm.MethodName) prog_1_method_24_code (2 : Nat) (Option.some Jvm.ClassFile.FieldType.int)) ∈ lw_all := lw_g (lw_at lw_m4 81 rfl) rfl
theorem q863 : (Jvm.Cond.methodLink "SlipWeeks" (302 : Nat) ({ cls := "SlipWeeks", name := "shareOf", desc := "(JI)J" } : Jvm.MethodName)) ∈ lw_all := lw_g (lw_at lw_m4 82 rfl) rfl
theorem q864 : (Jvm.Cond.privateMethod ({ cls := "SlipWeeks", name := "shareOf", desc := "(JI)J" } : Jvm.MethodName)) ∈ lw_tbl := lw_at lw_m4 83 rfl
theorem q865 : (Jvm.Cond.instanceMethod ({ cls := "SlipWeeks", name := "shareOf", desc := "(JI)J" } : Jvm.MethodName)) ∈ lw_all := lw_g (lw_at lw_m4 84 rfl) rfl
theorem q866 : (Jvm.Cond.code ({ cls := "SlipWeeks", name := "shareOf", desc := "(JI)J" } : Jvm.MethodName) prog_1_method_39_code (4 : Nat) (Option.some Jvm.ClassFile.FieldType.long)) ∈ lw_all := lw_g (lw_at lw_m4 85 rfl) rfl
theorem q867 : (Jvm.Cond.methodLink "SlipWeeks" (306 : Nat) ({ cls := "java/lang/Math", name := "min", desc := "(JJ)J" } : Jvm.MethodName)) ∈ lw_all := lw_g (lw_at lw_m4 86 rfl) rfl
theorem q870 : (Jvm.Cond.methodLink "SlipWeeks" (312 : Nat) ({ cls := "java/lang/Math", name := "max", desc := "(JJ)J" } : Jvm.MethodName)) ∈ lw_all := lw_g (lw_at lw_m4 89 rfl) rfl
theorem q874 : (Jvm.Cond.instanceMethod ({ cls := "SlipWeeks", name := "told", desc := "(I)I" } : Jvm.MethodName)) ∈ lw_all := lw_g (lw_at lw_m4 93 rfl) rfl
theorem q875 : (Jvm.Cond.selects "SlipWeeks" ({ cls := "SlipWeeks", name := "told", desc := "(I)I" } : Jvm.MethodName) ({ cls := "SlipWeeks", name := "told", desc := "(I)I" } : Jvm.MethodName)) ∈ lw_all := lw_g (lw_at lw_m4 94 rfl) rfl
theorem q876 : (Jvm.Cond.codeWith ({ cls := "SlipWeeks", name := "told", desc := "(I)I" } : Jvm.MethodName) prog_1_method_43_code (3 : Nat) (Option.some Jvm.ClassFile.FieldType.int) [((0 : Nat), (34 : Nat), (35 : Nat), (1 : Nat))]) ∈ lw_all := lw_g (lw_at lw_m4 95 rfl) rfl
theorem q878 : (Jvm.Cond.instanceMethod ({ cls := "SlipWeeks", name := "book", desc := "(II)I" } : Jvm.MethodName)) ∈ lw_all := lw_g (lw_at lw_m4 97 rfl) rfl
theorem q879 : (Jvm.Cond.selects "SlipWeeks" ({ cls := "SlipWeeks", name := "book", desc := "(II)I" } : Jvm.MethodName) ({ cls := "SlipWeeks", name := "book", desc := "(II)I" } : Jvm.MethodName)) ∈ lw_all := lw_g (lw_at lw_m4 98 rfl) rfl
theorem q880 : (Jvm.Cond.codeWith ({ cls := "SlipWeeks", name := "book", desc := "(II)I" } : Jvm.MethodName) prog_1_method_44_code (4 : Nat) (Option.some Jvm.ClassFile.FieldType.int) [((0 : Nat), (51 : Nat), (52 : Nat), (1 : Nat))]) ∈ lw_all := lw_g (lw_at lw_m4 99 rfl) rfl
theorem q882 : (Jvm.Cond.instanceMethod ({ cls := "SlipWeeks", name := "now", desc := "()I" } : Jvm.MethodName)) ∈ lw_all := lw_g (lw_at lw_m4 101 rfl) rfl
theorem q883 : (Jvm.Cond.selects "SlipWeeks" ({ cls := "SlipWeeks", name := "now", desc := "()I" } : Jvm.MethodName) ({ cls := "SlipWeeks", name := "now", desc := "()I" } : Jvm.MethodName)) ∈ lw_all := lw_g (lw_at lw_m4 102 rfl) rfl
theorem q884 : (Jvm.Cond.code ({ cls := "SlipWeeks", name := "now", desc := "()I" } : Jvm.MethodName) prog_1_method_45_code (1 : Nat) (Option.some Jvm.ClassFile.FieldType.int)) ∈ lw_all := lw_g (lw_at lw_m4 103 rfl) rfl
theorem q886 : (Jvm.Cond.instanceMethod ({ cls := "SlipWeeks", name := "worth", desc := "(I)I" } : Jvm.MethodName)) ∈ lw_all := lw_g (lw_at lw_m4 105 rfl) rfl
theorem q887 : (Jvm.Cond.selects "SlipWeeks" ({ cls := "SlipWeeks", name := "worth", desc := "(I)I" } : Jvm.MethodName) ({ cls := "SlipWeeks", name := "worth", desc := "(I)I" } : Jvm.MethodName)) ∈ lw_all := lw_g (lw_at lw_m4 106 rfl) rfl
theorem q888 : (Jvm.Cond.codeWith ({ cls := "SlipWeeks", name := "worth", desc := "(I)I" } : Jvm.MethodName) prog_1_method_48_code (3 : Nat) (Option.some Jvm.ClassFile.FieldType.int) [((0 : Nat), (32 : Nat), (33 : Nat), (1 : Nat))]) ∈ lw_all := lw_g (lw_at lw_m4 107 rfl) rfl
theorem q889 : (Jvm.Cond.methodLink "SlipWeeks" (327 : Nat) ({ cls := "SlipWeeks", name := "findWinners", desc := "()V" } : Jvm.MethodName)) ∈ lw_all := lw_g (lw_at lw_m4 108 rfl) rfl
theorem q890 : (Jvm.Cond.privateMethod ({ cls := "SlipWeeks", name := "findWinners", desc := "()V" } : Jvm.MethodName)) ∈ lw_tbl := lw_at lw_m4 109 rfl
theorem q891 : (Jvm.Cond.instanceMethod ({ cls := "SlipWeeks", name := "findWinners", desc := "()V" } : Jvm.MethodName)) ∈ lw_all := lw_g (lw_at lw_m4 110 rfl) rfl
theorem q892 : (Jvm.Cond.code ({ cls := "SlipWeeks", name := "findWinners", desc := "()V" } : Jvm.MethodName) prog_1_method_26_code (3 : Nat) (Option.none : Option Jvm.ClassFile.FieldType)) ∈ lw_all := lw_g (lw_at lw_m4 111 rfl) rfl
theorem q893 : (Jvm.Cond.methodLink "SlipWeeks" (330 : Nat) ({ cls := "SlipWeeks", name := "worthOf", desc := "(IJ)I" } : Jvm.MethodName)) ∈ lw_all := lw_g (lw_at lw_m4 112 rfl) rfl
theorem q894 : (Jvm.Cond.privateMethod ({ cls := "SlipWeeks", name := "worthOf", desc := "(IJ)I" } : Jvm.MethodName)) ∈ lw_tbl := lw_at lw_m4 113 rfl
theorem q895 : (Jvm.Cond.instanceMethod ({ cls := "SlipWeeks", name := "worthOf", desc := "(IJ)I" } : Jvm.MethodName)) ∈ lw_all := lw_g (lw_at lw_m4 114 rfl) rfl
theorem q896 : (Jvm.Cond.code ({ cls := "SlipWeeks", name := "worthOf", desc := "(IJ)I" } : Jvm.MethodName) prog_1_method_47_code (8 : Nat) (Option.some Jvm.ClassFile.FieldType.int)) ∈ lw_all := lw_g (lw_at lw_m4 115 rfl) rfl
theorem q897 : (Jvm.Cond.methodLink "SlipWeeks" (322 : Nat) ({ cls := "SlipWeeks", name := "taxed", desc := "(J)J" } : Jvm.MethodName)) ∈ lw_all := lw_g (lw_at lw_m4 116 rfl) rfl
theorem q898 : (Jvm.Cond.privateMethod ({ cls := "SlipWeeks", name := "taxed", desc := "(J)J" } : Jvm.MethodName)) ∈ lw_tbl := lw_at lw_m4 117 rfl
theorem q899 : (Jvm.Cond.instanceMethod ({ cls := "SlipWeeks", name := "taxed", desc := "(J)J" } : Jvm.MethodName)) ∈ lw_all := lw_g (lw_at lw_m4 118 rfl) rfl
theorem q900 : (Jvm.Cond.code ({ cls := "SlipWeeks", name := "taxed", desc := "(J)J" } : Jvm.MethodName) prog_1_method_46_code (5 : Nat) (Option.some Jvm.ClassFile.FieldType.long)) ∈ lw_all := lw_g (lw_at lw_m4 119 rfl) rfl
theorem q901 : (Jvm.Cond.constantLong "SlipWeeks" (325 : Nat) (495 : Int64)) ∈ lw_all := lw_g (lw_at lw_m4 120 rfl) rfl
theorem q903 : (Jvm.Cond.instanceMethod ({ cls := "SlipWeeks", name := "best", desc := "(I)I" } : Jvm.MethodName)) ∈ lw_all := lw_g (lw_at lw_m4 122 rfl) rfl
theorem q904 : (Jvm.Cond.selects "SlipWeeks" ({ cls := "SlipWeeks", name := "best", desc := "(I)I" } : Jvm.MethodName) ({ cls := "SlipWeeks", name := "best", desc := "(I)I" } : Jvm.MethodName)) ∈ lw_all := lw_g (lw_at lw_m4 123 rfl) rfl
theorem q905 : (Jvm.Cond.codeWith ({ cls := "SlipWeeks", name := "best", desc := "(I)I" } : Jvm.MethodName) prog_1_method_49_code (8 : Nat) (Option.some Jvm.ClassFile.FieldType.int) [((0 : Nat), (97 : Nat), (98 : Nat), (1 : Nat))]) ∈ lw_all := lw_g (lw_at lw_m4 124 rfl) rfl
theorem q907 : (Jvm.Cond.instanceMethod ({ cls := "SlipWeeks", name := "alone", desc := "(I)I" } : Jvm.MethodName)) ∈ lw_all := lw_g (lw_at lw_m4 126 rfl) rfl
theorem q908 : (Jvm.Cond.selects "SlipWeeks" ({ cls := "SlipWeeks", name := "alone", desc := "(I)I" } : Jvm.MethodName) ({ cls := "SlipWeeks", name := "alone", desc := "(I)I" } : Jvm.MethodName)) ∈ lw_all := lw_g (lw_at lw_m4 127 rfl) rfl
theorem q909 : (Jvm.Cond.codeWith ({ cls := "SlipWeeks", name := "alone", desc := "(I)I" } : Jvm.MethodName) prog_1_method_50_code (5 : Nat) (Option.some Jvm.ClassFile.FieldType.int) [((0 : Nat), (66 : Nat), (67 : Nat), (1 : Nat))]) ∈ lw_all := lw_g (lw_at lw_m4 128 rfl) rfl
theorem q910 : (Jvm.Cond.methodLink "SlipWeeks" (334 : Nat) ({ cls := "SlipWeeks", name := "orNone", desc := "(I)I" } : Jvm.MethodName)) ∈ lw_all := lw_g (lw_at lw_m4 129 rfl) rfl
theorem q911 : (Jvm.Cond.static ({ cls := "SlipWeeks", name := "orNone", desc := "(I)I" } : Jvm.MethodName)) ∈ lw_all := lw_g (lw_at lw_m4 130 rfl) rfl
theorem q912 : (Jvm.Cond.code ({ cls := "SlipWeeks", name := "orNone", desc := "(I)I" } : Jvm.MethodName) prog_1_method_8_code (1 : Nat) (Option.some Jvm.ClassFile.FieldType.int)) ∈ lw_all := lw_g (lw_at lw_m4 131 rfl) rfl
theorem q914 : (Jvm.Cond.instanceMethod ({ cls := "SlipWeeks", name := "line", desc := "(I)I" } : Jvm.MethodName)) ∈ lw_all := lw_g (lw_at lw_m4 133 rfl) rfl
theorem q915 : (Jvm.Cond.selects "SlipWeeks" ({ cls := "SlipWeeks", name := "line", desc := "(I)I" } : Jvm.MethodName) ({ cls := "SlipWeeks", name := "line", desc := "(I)I" } : Jvm.MethodName)) ∈ lw_all := lw_g (lw_at lw_m4 134 rfl) rfl
theorem q916 : (Jvm.Cond.codeWith ({ cls := "SlipWeeks", name := "line", desc := "(I)I" } : Jvm.MethodName) prog_1_method_51_code (5 : Nat) (Option.some Jvm.ClassFile.FieldType.int) [((0 : Nat), (104 : Nat), (105 : Nat), (1 : Nat))]) ∈ lw_all := lw_g (lw_at lw_m4 135 rfl) rfl
theorem q917 : (Jvm.Cond.constant "SlipWeeks" (337 : Nat) (99999999 : Int32)) ∈ lw_all := lw_g (lw_at lw_m4 136 rfl) rfl
theorem q919 : (Jvm.Cond.instanceMethod ({ cls := "SlipWeeks", name := "house", desc := "(I)J" } : Jvm.MethodName)) ∈ lw_all := lw_g (lw_at lw_m4 138 rfl) rfl
theorem q920 : (Jvm.Cond.selects "SlipWeeks" ({ cls := "SlipWeeks", name := "house", desc := "(I)J" } : Jvm.MethodName) ({ cls := "SlipWeeks", name := "house", desc := "(I)J" } : Jvm.MethodName)) ∈ lw_all := lw_g (lw_at lw_m4 139 rfl) rfl
theorem q921 : (Jvm.Cond.codeWith ({ cls := "SlipWeeks", name := "house", desc := "(I)J" } : Jvm.MethodName) prog_1_method_54_code (9 : Nat) (Option.some Jvm.ClassFile.FieldType.long) [((0 : Nat), (242 : Nat), (243 : Nat), (1 : Nat))]) ∈ lw_all := lw_g (lw_at lw_m4 140 rfl) rfl
theorem q922 : (Jvm.Cond.methodLink "SlipWeeks" (338 : Nat) ({ cls := "SlipWeeks", name := "begins", desc := "()V" } : Jvm.MethodName)) ∈ lw_all := lw_g (lw_at lw_m4 141 rfl) rfl
theorem q923 : (Jvm.Cond.privateMethod ({ cls := "SlipWeeks", name := "begins", desc := "()V" } : Jvm.MethodName)) ∈ lw_tbl := lw_at lw_m4 142 rfl
theorem q924 : (Jvm.Cond.instanceMethod ({ cls := "SlipWeeks", name := "begins", desc := "()V" } : Jvm.MethodName)) ∈ lw_all := lw_g (lw_at lw_m4 143 rfl) rfl
theorem q925 : (Jvm.Cond.code ({ cls := "SlipWeeks", name := "begins", desc := "()V" } : Jvm.MethodName) prog_1_method_52_code (2 : Nat) (Option.none : Option Jvm.ClassFile.FieldType)) ∈ lw_all := lw_g (lw_at lw_m4 144 rfl) rfl
theorem q926 : (Jvm.Cond.methodLink "SlipWeeks" (341 : Nat) ({ cls := "SlipWeeks", name := "leastOf", desc := "(Z)I" } : Jvm.MethodName)) ∈ lw_all := lw_g (lw_at lw_m4 145 rfl) rfl
theorem q927 : (Jvm.Cond.privateMethod ({ cls := "SlipWeeks", name := "leastOf", desc := "(Z)I" } : Jvm.MethodName)) ∈ lw_tbl := lw_at lw_m4 146 rfl
theorem q928 : (Jvm.Cond.instanceMethod ({ cls := "SlipWeeks", name := "leastOf", desc := "(Z)I" } : Jvm.MethodName)) ∈ lw_all := lw_g (lw_at lw_m4 147 rfl) rfl
theorem q929 : (Jvm.Cond.code ({ cls := "SlipWeeks", name := "leastOf", desc := "(Z)I" } : Jvm.MethodName) prog_1_method_53_code (4 : Nat) (Option.some Jvm.ClassFile.FieldType.int)) ∈ lw_all := lw_g (lw_at lw_m4 148 rfl) rfl
theorem q931 : (Jvm.Cond.instanceMethod ({ cls := "SlipWeeks", name := "seek", desc := "(II)I" } : Jvm.MethodName)) ∈ lw_all := lw_g (lw_at lw_m4 150 rfl) rfl
theorem q932 : (Jvm.Cond.selects "SlipWeeks" ({ cls := "SlipWeeks", name := "seek", desc := "(II)I" } : Jvm.MethodName) ({ cls := "SlipWeeks", name := "seek", desc := "(II)I" } : Jvm.MethodName)) ∈ lw_all := lw_g (lw_at lw_m4 151 rfl) rfl
theorem q933 : (Jvm.Cond.codeWith ({ cls := "SlipWeeks", name := "seek", desc := "(II)I" } : Jvm.MethodName) prog_1_method_55_code (6 : Nat) (Option.some Jvm.ClassFile.FieldType.int) [((0 : Nat), (114 : Nat), (115 : Nat), (1 : Nat))]) ∈ lw_all := lw_g (lw_at lw_m4 152 rfl) rfl
theorem q934 : (Jvm.Cond.constantLong "SlipWeeks" (345 : Nat) (200 : Int64)) ∈ lw_all := lw_g (lw_at lw_m4 153 rfl) rfl
theorem q936 : (Jvm.Cond.instanceMethod ({ cls := "SlipWeeks", name := "shares", desc := "(I)I" } : Jvm.MethodName)) ∈ lw_all := lw_g (lw_at lw_m4 155 rfl) rfl
theorem q937 : (Jvm.Cond.selects "SlipWeeks" ({ cls := "SlipWeeks", name := "shares", desc := "(I)I" } : Jvm.MethodName) ({ cls := "SlipWeeks", name := "shares", desc := "(I)I" } : Jvm.MethodName)) ∈ lw_all := lw_g (lw_at lw_m4 156 rfl) rfl
theorem q938 : (Jvm.Cond.codeWith ({ cls := "SlipWeeks", name := "shares", desc := "(I)I" } : Jvm.MethodName) prog_1_method_56_code (3 : Nat) (Option.some Jvm.ClassFile.FieldType.int) [((0 : Nat), (18 : Nat), (19 : Nat), (1 : Nat))]) ∈ lw_all := lw_g (lw_at lw_m4 157 rfl) rfl
theorem q940 : (Jvm.Cond.instanceMethod ({ cls := "SlipWeeks", name := "due", desc := "(I)I" } : Jvm.MethodName)) ∈ lw_all := lw_g (lw_at lw_m4 159 rfl) rfl
theorem q941 : (Jvm.Cond.selects "SlipWeeks" ({ cls := "SlipWeeks", name := "due", desc := "(I)I" } : Jvm.MethodName) ({ cls := "SlipWeeks", name := "due", desc := "(I)I" } : Jvm.MethodName)) ∈ lw_all := lw_g (lw_at lw_m4 160 rfl) rfl
theorem q942 : (Jvm.Cond.codeWith ({ cls := "SlipWeeks", name := "due", desc := "(I)I" } : Jvm.MethodName) prog_1_method_59_code (3 : Nat) (Option.some Jvm.ClassFile.FieldType.int) [((0 : Nat), (56 : Nat), (57 : Nat), (1 : Nat))]) ∈ lw_all := lw_g (lw_at lw_m4 161 rfl) rfl
theorem q943 : (Jvm.Cond.methodLink "SlipWeeks" (352 : Nat) ({ cls := "SlipWeeks", name := "isNumber", desc := "(I)Z" } : Jvm.MethodName)) ∈ lw_all := lw_g (lw_at lw_m4 162 rfl) rfl
theorem q944 : (Jvm.Cond.static ({ cls := "SlipWeeks", name := "isNumber", desc := "(I)Z" } : Jvm.MethodName)) ∈ lw_all := lw_g (lw_at lw_m4 163 rfl) rfl
theorem q945 : (Jvm.Cond.code ({ cls := "SlipWeeks", name := "isNumber", desc := "(I)Z" } : Jvm.MethodName) prog_1_method_57_code (1 : Nat) (Option.some Jvm.ClassFile.FieldType.boolean)) ∈ lw_all := lw_g (lw_at lw_m4 164 rfl) rfl
theorem q946 : (Jvm.Cond.constantLong "SlipWeeks" (347 : Nat) (11 : Int64)) ∈ lw_all := lw_g (lw_at lw_m4 165 rfl) rfl
theorem q947 : (Jvm.Cond.methodLink "SlipWeeks" (349 : Nat) ({ cls := "SlipWeeks", name := "has", desc := "(II)Z" } : Jvm.MethodName)) ∈ lw_all := lw_g (lw_at lw_m4 166 rfl) rfl
theorem q949 : (Jvm.Cond.instanceMethod ({ cls := "SlipWeeks", name := "came", desc := "(I)I" } : Jvm.MethodName)) ∈ lw_all := lw_g (lw_at lw_m4 168 rfl) rfl
theorem q950 : (Jvm.Cond.selects "SlipWeeks" ({ cls := "SlipWeeks", name := "came", desc := "(I)I" } : Jvm.MethodName) ({ cls := "SlipWeeks", name := "came", desc := "(I)I" } : Jvm.MethodName)) ∈ lw_all := lw_g (lw_at lw_m4 169 rfl) rfl
theorem q951 : (Jvm.Cond.codeWith ({ cls := "SlipWeeks", name := "came", desc := "(I)I" } : Jvm.MethodName) prog_1_method_60_code (3 : Nat) (Option.some Jvm.ClassFile.FieldType.int) [((0 : Nat), (13 : Nat), (14 : Nat), (1 : Nat))]) ∈ lw_all := lw_g (lw_at lw_m4 170 rfl) rfl
theorem q952 : (Jvm.Cond.methodLink "SlipWeeks" (355 : Nat) ({ cls := "SlipWeeks", name := "cameOf", desc := "(I)I" } : Jvm.MethodName)) ∈ lw_all := lw_g (lw_at lw_m4 171 rfl) rfl
theorem q953 : (Jvm.Cond.privateMethod ({ cls := "SlipWeeks", name := "cameOf", desc := "(I)I" } : Jvm.MethodName)) ∈ lw_tbl := lw_at lw_m4 172 rfl
theorem q954 : (Jvm.Cond.instanceMethod ({ cls := "SlipWeeks", name := "cameOf", desc := "(I)I" } : Jvm.MethodName)) ∈ lw_all := lw_g (lw_at lw_m4 173 rfl) rfl
theorem q955 : (Jvm.Cond.code ({ cls := "SlipWeeks", name := "cameOf", desc := "(I)I" } : Jvm.MethodName) prog_1_method_58_code (4 : Nat) (Option.some Jvm.ClassFile.FieldType.int)) ∈ lw_all := lw_g (lw_at lw_m4 174 rfl) rfl
theorem q957 : (Jvm.Cond.instanceMethod ({ cls := "SlipWeeks", name := "drum", desc := "()J" } : Jvm.MethodName)) ∈ lw_all := lw_g (lw_at lw_m4 176 rfl) rfl
theorem q958 : (Jvm.Cond.selects "SlipWeeks" ({ cls := "SlipWeeks", name := "drum", desc := "()J" } : Jvm.MethodName) ({ cls := "SlipWeeks", name := "drum", desc := "()J" } : Jvm.MethodName)) ∈ lw_all := lw_g (lw_at lw_m4 177 rfl) rfl
theorem q959 : (Jvm.Cond.code ({ cls := "SlipWeeks", name := "drum", desc := "()J" } : Jvm.MethodName) prog_1_method_61_code (6 : Nat) (Option.some Jvm.ClassFile.FieldType.long)) ∈ lw_all := lw_g (lw_at lw_m4 178 rfl) rfl
theorem q961 : (Jvm.Cond.instanceMethod ({ cls := "SlipWeeks", name := "felt", desc := "(I)I" } : Jvm.MethodName)) ∈ lw_all := lw_g (lw_at lw_m4 180 rfl) rfl
theorem q962 : (Jvm.Cond.selects "SlipWeeks" ({ cls := "SlipWeeks", name := "felt", desc := "(I)I" } : Jvm.MethodName) ({ cls := "SlipWeeks", name := "felt", desc := "(I)I" } : Jvm.MethodName)) ∈ lw_all := lw_g (lw_at lw_m4 181 rfl) rfl
theorem q963 : (Jvm.Cond.codeWith ({ cls := "SlipWeeks", name := "felt", desc := "(I)I" } : Jvm.MethodName) prog_1_method_62_code (8 : Nat) (Option.some Jvm.ClassFile.FieldType.int) [((0 : Nat), (135 : Nat), (136 : Nat), (1 : Nat))]) ∈ lw_all := lw_g (lw_at lw_m4 182 rfl) rfl
theorem q965 : (Jvm.Cond.instanceMethod ({ cls := "SlipWeeks", name := "weeks", desc := "(I)I" } : Jvm.MethodName)) ∈ lw_all := lw_g (lw_at lw_m4 184 rfl) rfl
theorem q966 : (Jvm.Cond.selects "SlipWeeks" ({ cls := "SlipWeeks", name := "weeks", desc := "(I)I" } : Jvm.MethodName) ({ cls := "SlipWeeks", name := "weeks", desc := "(I)I" } : Jvm.MethodName)) ∈ lw_all := lw_g (lw_at lw_m4 185 rfl) rfl
theorem q967 : (Jvm.Cond.codeWith ({ cls := "SlipWeeks", name := "weeks", desc := "(I)I" } : Jvm.MethodName) prog_1_method_63_code (7 : Nat) (Option.some Jvm.ClassFile.FieldType.int) [((0 : Nat), (86 : Nat), (87 : Nat), (1 : Nat))]) ∈ lw_all := lw_g (lw_at lw_m4 186 rfl) rfl
theorem q968 : (Jvm.Cond.methodLink "SlipWeeks" (358 : Nat) ({ cls := "SlipWeeks", name := "sheetAt", desc := "(I)V" } : Jvm.MethodName)) ∈ lw_all := lw_g (lw_at lw_m4 187 rfl) rfl
theorem q969 : (Jvm.Cond.static ({ cls := "SlipWeeks", name := "sheetAt", desc := "(I)V" } : Jvm.MethodName)) ∈ lw_all := lw_g (lw_at lw_m4 188 rfl) rfl
theorem q970 : (Jvm.Cond.code ({ cls := "SlipWeeks", name := "sheetAt", desc := "(I)V" } : Jvm.MethodName) prog_1_method_65_code (1 : Nat) (Option.none : Option Jvm.ClassFile.FieldType)) ∈ lw_all := lw_g (lw_at lw_m4 189 rfl) rfl
theorem q971 : (Jvm.Cond.constantLong "SlipWeeks" (373 : Nat) (3 : Int64)) ∈ lw_all := lw_g (lw_at lw_m4 190 rfl) rfl
theorem q972 : (Jvm.Cond.methodLink "SlipWeeks" (361 : Nat) ({ cls := "SlipWeeks", name := "there", desc := "(I)Ljava/lang/Object;" } : Jvm.MethodName)) ∈ lw_all := lw_g (lw_at lw_m4 191 rfl) rfl
theorem q973 : (Jvm.Cond.privateMethod ({ cls := "SlipWeeks", name := "there", desc := "(I)Ljava/lang/Object;" } : Jvm.MethodName)) ∈ lw_tbl := lw_at lw_m4 192 rfl
theorem q974 : (Jvm.Cond.instanceMethod ({ cls := "SlipWeeks", name := "there", desc := "(I)Ljava/lang/Object;" } : Jvm.MethodName)) ∈ lw_all := lw_g (lw_at lw_m4 193 rfl) rfl
theorem q975 : (Jvm.Cond.code ({ cls := "SlipWeeks", name := "there", desc := "(I)Ljava/lang/Object;" } : Jvm.MethodName) prog_1_method_66_code (3 : Nat) (Option.some (Jvm.ClassFile.FieldType.object "java/lang/Object"))) ∈ lw_all := lw_g (lw_at lw_m4 194 rfl) rfl
theorem q976 : (Jvm.Cond.methodLink "SlipWeeks" (365 : Nat) ({ cls := "SlipWeeks", name := "length", desc := "(Ljava/lang/Object;)I" } : Jvm.MethodName)) ∈ lw_all := lw_g (lw_at lw_m4 195 rfl) rfl
theorem q977 : (Jvm.Cond.static ({ cls := "SlipWeeks", name := "length", desc := "(Ljava/lang/Object;)I" } : Jvm.MethodName)) ∈ lw_all := lw_g (lw_at lw_m4 196 rfl) rfl
theorem q978 : (Jvm.Cond.code ({ cls := "SlipWeeks", name := "length", desc := "(Ljava/lang/Object;)I" } : Jvm.MethodName) prog_1_method_68_code (1 : Nat) (Option.some Jvm.ClassFile.FieldType.int)) ∈ lw_all := lw_g (lw_at lw_m4 197 rfl) rfl
theorem q979 : (Jvm.Cond.classLink "SlipWeeks" (375 : Nat) "[B") ∈ lw_all := lw_g (lw_at lw_m4 198 rfl) rfl
theorem q980 : (Jvm.Cond.classLink "SlipWeeks" (376 : Nat) "[S") ∈ lw_all := lw_g (lw_at lw_m4 199 rfl) rfl
theorem q981 : (Jvm.Cond.classLink "SlipWeeks" (378 : Nat) "[J") ∈ lw_all := lw_g (lw_at lw_m4 200 rfl) rfl
theorem q982 : (Jvm.Cond.methodLink "SlipWeeks" (369 : Nat) ({ cls := "SlipWeeks", name := "get", desc := "(Ljava/lang/Object;I)J" } : Jvm.MethodName)) ∈ lw_all := lw_g (lw_at lw_m4 201 rfl) rfl
theorem q983 : (Jvm.Cond.static ({ cls := "SlipWeeks", name := "get", desc := "(Ljava/lang/Object;I)J" } : Jvm.MethodName)) ∈ lw_all := lw_g (lw_at lw_m4 202 rfl) rfl
theorem q984 : (Jvm.Cond.code ({ cls := "SlipWeeks", name := "get", desc := "(Ljava/lang/Object;I)J" } : Jvm.MethodName) prog_1_method_69_code (2 : Nat) (Option.some Jvm.ClassFile.FieldType.long)) ∈ lw_all := lw_g (lw_at lw_m4 203 rfl) rfl
theorem q986 : (Jvm.Cond.instanceMethod ({ cls := "SlipWeeks", name := "read", desc := "(I)I" } : Jvm.MethodName)) ∈ lw_all := lw_g (lw_at lw_m4 205 rfl) rfl
theorem q987 : (Jvm.Cond.selects "SlipWeeks" ({ cls := "SlipWeeks", name := "read", desc := "(I)I" } : Jvm.MethodName) ({ cls := "SlipWeeks", name := "read", desc := "(I)I" } : Jvm.MethodName)) ∈ lw_all := lw_g (lw_at lw_m4 206 rfl) rfl
theorem q988 : (Jvm.Cond.codeWith ({ cls := "SlipWeeks", name := "read", desc := "(I)I" } : Jvm.MethodName) prog_1_method_64_code (4 : Nat) (Option.some Jvm.ClassFile.FieldType.int) [((0 : Nat), (55 : Nat), (64 : Nat), (1 : Nat)), ((56 : Nat), (63 : Nat), (64 : Nat), (1 : Nat))]) ∈ lw_all := lw_g (lw_at lw_m4 207 rfl) rfl
theorem q990 : (Jvm.Cond.instanceMethod ({ cls := "SlipWeeks", name := "sheet", desc := "(III)I" } : Jvm.MethodName)) ∈ lw_all := lw_g (lw_at lw_m4 209 rfl) rfl
theorem q991 : (Jvm.Cond.selects "SlipWeeks" ({ cls := "SlipWeeks", name := "sheet", desc := "(III)I" } : Jvm.MethodName) ({ cls := "SlipWeeks", name := "sheet", desc := "(III)I" } : Jvm.MethodName)) ∈ lw_all := lw_g (lw_at lw_m4 210 rfl) rfl
theorem q992 : (Jvm.Cond.codeWith ({ cls := "SlipWeeks", name := "sheet", desc := "(III)I" } : Jvm.MethodName) prog_1_method_72_code (5 : Nat) (Option.some Jvm.ClassFile.FieldType.int) [((0 : Nat), (87 : Nat), (88 : Nat), (1 : Nat))]) ∈ lw_all := lw_g (lw_at lw_m4 211 rfl) rfl
theorem q993 : (Jvm.Cond.methodLink "SlipWeeks" (380 : Nat) ({ cls := "SlipWeeks", name := "made", desc := "(II)Ljava/lang/Object;" } : Jvm.MethodName)) ∈ lw_all := lw_g (lw_at lw_m4 212 rfl) rfl
theorem q994 : (Jvm.Cond.static ({ cls := "SlipWeeks", name := "made", desc := "(II)Ljava/lang/Object;" } : Jvm.MethodName)) ∈ lw_all := lw_g (lw_at lw_m4 213 rfl) rfl
theorem q995 : (Jvm.Cond.code ({ cls := "SlipWeeks", name := "made", desc := "(II)Ljava/lang/Object;" } : Jvm.MethodName) prog_1_method_71_code (2 : Nat) (Option.some (Jvm.ClassFile.FieldType.object "java/lang/Object"))) ∈ lw_all := lw_g (lw_at lw_m4 214 rfl) rfl
theorem q999 : (Jvm.Cond.instanceMethod ({ cls := "SlipWeeks", name := "write", desc := "(IIJ)J" } : Jvm.MethodName)) ∈ lw_all := lw_g (lw_at lw_m4 218 rfl) rfl
theorem q1000 : (Jvm.Cond.selects "SlipWeeks" ({ cls := "SlipWeeks", name := "write", desc := "(IIJ)J" } : Jvm.MethodName) ({ cls := "SlipWeeks", name := "write", desc := "(IIJ)J" } : Jvm.MethodName)) ∈ lw_all := lw_g (lw_at lw_m4 219 rfl) rfl
theorem q1001 : (Jvm.Cond.codeWith ({ cls := "SlipWeeks", name := "write", desc := "(IIJ)J" } : Jvm.MethodName) prog_1_method_74_code (8 : Nat) (Option.some Jvm.ClassFile.FieldType.long) [((0 : Nat), (25 : Nat), (26 : Nat), (1 : Nat))]) ∈ lw_all := lw_g (lw_at lw_m4 220 rfl) rfl
theorem q1002 : (Jvm.Cond.methodLink "SlipWeeks" (384 : Nat) ({ cls := "SlipWeeks", name := "numberAt", desc := "(II)Ljava/lang/Object;" } : Jvm.MethodName)) ∈ lw_all := lw_g (lw_at lw_m4 221 rfl) rfl
theorem q1003 : (Jvm.Cond.privateMethod ({ cls := "SlipWeeks", name := "numberAt", desc := "(II)Ljava/lang/Object;" } : Jvm.MethodName)) ∈ lw_tbl := lw_at lw_m4 222 rfl
theorem q1004 : (Jvm.Cond.instanceMethod ({ cls := "SlipWeeks", name := "numberAt", desc := "(II)Ljava/lang/Object;" } : Jvm.MethodName)) ∈ lw_all := lw_g (lw_at lw_m4 223 rfl) rfl
theorem q1005 : (Jvm.Cond.code ({ cls := "SlipWeeks", name := "numberAt", desc := "(II)Ljava/lang/Object;" } : Jvm.MethodName) prog_1_method_73_code (4 : Nat) (Option.some (Jvm.ClassFile.FieldType.object "java/lang/Object"))) ∈ lw_all := lw_g (lw_at lw_m4 224 rfl) rfl
theorem q1006 : (Jvm.Cond.methodLink "SlipWeeks" (387 : Nat) ({ cls := "SlipWeeks", name := "put", desc := "(Ljava/lang/Object;IJ)V" } : Jvm.MethodName)) ∈ lw_all := lw_g (lw_at lw_m4 225 rfl) rfl
theorem q1007 : (Jvm.Cond.static ({ cls := "SlipWeeks", name := "put", desc := "(Ljava/lang/Object;IJ)V" } : Jvm.MethodName)) ∈ lw_all := lw_g (lw_at lw_m4 226 rfl) rfl
theorem q1008 : (Jvm.Cond.code ({ cls := "SlipWeeks", name := "put", desc := "(Ljava/lang/Object;IJ)V" } : Jvm.MethodName) prog_1_method_70_code (4 : Nat) (Option.none : Option Jvm.ClassFile.FieldType)) ∈ lw_all := lw_g (lw_at lw_m4 227 rfl) rfl
theorem q1010 : (Jvm.Cond.instanceMethod ({ cls := "SlipWeeks", name := "copy", desc := "(IIIII)I" } : Jvm.MethodName)) ∈ lw_all := lw_g (lw_at lw_m4 229 rfl) rfl
theorem q1011 : (Jvm.Cond.selects "SlipWeeks" ({ cls := "SlipWeeks", name := "copy", desc := "(IIIII)I" } : Jvm.MethodName) ({ cls := "SlipWeeks", name := "copy", desc := "(IIIII)I" } : Jvm.MethodName)) ∈ lw_all := lw_g (lw_at lw_m4 230 rfl) rfl
theorem q1012 : (Jvm.Cond.codeWith ({ cls := "SlipWeeks", name := "copy", desc := "(IIIII)I" } : Jvm.MethodName) prog_1_method_75_code (8 : Nat) (Option.some Jvm.ClassFile.FieldType.int) [((0 : Nat), (123 : Nat), (124 : Nat), (1 : Nat))]) ∈ lw_all := lw_g (lw_at lw_m4 231 rfl) rfl
theorem q1013 : (Jvm.Cond.methodLink "SlipWeeks" (391 : Nat) ({ cls := "SlipWeeks", name := "wide", desc := "(Ljava/lang/Object;)I" } : Jvm.MethodName)) ∈ lw_all := lw_g (lw_at lw_m4 232 rfl) rfl
theorem q1014 : (Jvm.Cond.static ({ cls := "SlipWeeks", name := "wide", desc := "(Ljava/lang/Object;)I" } : Jvm.MethodName)) ∈ lw_all := lw_g (lw_at lw_m4 233 rfl) rfl
theorem q1015 : (Jvm.Cond.code ({ cls := "SlipWeeks", name := "wide", desc := "(Ljava/lang/Object;)I" } : Jvm.MethodName) prog_1_method_67_code (1 : Nat) (Option.some Jvm.ClassFile.FieldType.int)) ∈ lw_all := lw_g (lw_at lw_m4 234 rfl) rfl
theorem q1016 : (Jvm.Cond.methodLink "SlipWeeks" (394 : Nat) ({ cls := "java/lang/System", name := "arraycopy", desc := "(Ljava/lang/Object;ILjava/lang/Object;II)V" } : Jvm.MethodName)) ∈ lw_all := lw_g (lw_at lw_m4 235 rfl) rfl
theorem q1020 : (Jvm.Cond.instanceMethod ({ cls := "SlipWeeks", name := "image", desc := "()I" } : Jvm.MethodName)) ∈ lw_all := lw_g (lw_at lw_m4 239 rfl) rfl
theorem q1021 : (Jvm.Cond.selects "SlipWeeks" ({ cls := "SlipWeeks", name := "image", desc := "()I" } : Jvm.MethodName) ({ cls := "SlipWeeks", name := "image", desc := "()I" } : Jvm.MethodName)) ∈ lw_all := lw_g (lw_at lw_m5 0 rfl) rfl
theorem q1022 : (Jvm.Cond.code ({ cls := "SlipWeeks", name := "image", desc := "()I" } : Jvm.MethodName) prog_1_method_76_code (1 : Nat) (Option.some Jvm.ClassFile.FieldType.int)) ∈ lw_all := lw_g (lw_at lw_m5 1 rfl) rfl
theorem q1023 : (Jvm.Cond.methodLink "SlipWeeks" (400 : Nat) ({ cls := "SlipWeeks$Game", name := "become", desc := "(LSlipWeeks$Game;)V" } : Jvm.MethodName)) ∈ lw_all := lw_g (lw_at lw_m5 2 rfl) rfl
theorem q1075 : (Jvm.Cond.instanceMethod ({ cls := "SlipWeeks", name := "undo", desc := "()I" } : Jvm.MethodName)) ∈ lw_all := lw_g (lw_at lw_m5 54 rfl) rfl
theorem q1076 : (Jvm.Cond.selects "SlipWeeks" ({ cls := "SlipWeeks", name := "undo", desc := "()I" } : Jvm.MethodName) ({ cls := "SlipWeeks", name := "undo", desc := "()I" } : Jvm.MethodName)) ∈ lw_all := lw_g (lw_at lw_m5 55 rfl) rfl
theorem q1077 : (Jvm.Cond.codeWith ({ cls := "SlipWeeks", name := "undo", desc := "()I" } : Jvm.MethodName) prog_1_method_77_code (2 : Nat) (Option.some Jvm.ClassFile.FieldType.int) [((0 : Nat), (31 : Nat), (32 : Nat), (1 : Nat))]) ∈ lw_all := lw_g (lw_at lw_m5 56 rfl) rfl
theorem q1079 : (Jvm.Cond.instanceMethod ({ cls := "SlipWeeks", name := "tear", desc := "()I" } : Jvm.MethodName)) ∈ lw_all := lw_g (lw_at lw_m5 58 rfl) rfl
theorem q1080 : (Jvm.Cond.selects "SlipWeeks" ({ cls := "SlipWeeks", name := "tear", desc := "()I" } : Jvm.MethodName) ({ cls := "SlipWeeks", name := "tear", desc := "()I" } : Jvm.MethodName)) ∈ lw_all := lw_g (lw_at lw_m5 59 rfl) rfl
theorem q1081 : (Jvm.Cond.code ({ cls := "SlipWeeks", name := "tear", desc := "()I" } : Jvm.MethodName) prog_1_method_78_code (2 : Nat) (Option.some Jvm.ClassFile.FieldType.int)) ∈ lw_all := lw_g (lw_at lw_m5 60 rfl) rfl
theorem q1083 : (Jvm.Cond.instanceMethod ({ cls := "SlipWeeks", name := "count", desc := "(I)I" } : Jvm.MethodName)) ∈ lw_all := lw_g (lw_at lw_m5 62 rfl) rfl
theorem q1084 : (Jvm.Cond.selects "SlipWeeks" ({ cls := "SlipWeeks", name := "count", desc := "(I)I" } : Jvm.MethodName) ({ cls := "SlipWeeks", name := "count", desc := "(I)I" } : Jvm.MethodName)) ∈ lw_all := lw_g (lw_at lw_m5 63 rfl) rfl
theorem q1085 : (Jvm.Cond.codeWith ({ cls := "SlipWeeks", name := "count", desc := "(I)I" } : Jvm.MethodName) prog_1_method_80_code (3 : Nat) (Option.some Jvm.ClassFile.FieldType.int) [((0 : Nat), (55 : Nat), (129 : Nat), (1 : Nat)), ((56 : Nat), (63 : Nat), (129 : Nat), (1 : Nat)), ((64 : Nat), (68 : Nat), (129 : Nat), (1 : Nat)), ((69 : Nat), (76 : Nat), (129 : Nat), (1 : Nat)), ((77 : Nat), (95 : Nat), (129 : Nat), (1 : Nat)), ((96 : Nat), (100 : Nat), (129 : Nat), (1 : Nat)), ((101 : Nat), (108 : Nat), (129 : Nat), (1 : Nat)), ((109 : Nat), (119 : Nat), (129 : Nat), (1 : Nat)), ((120 : Nat), (129 : Nat), (129 : Nat), (1 : Nat))]) ∈ lw_all := lw_g (lw_at lw_m5 64 rfl) rfl
theorem q1086 : (Jvm.Cond.methodLink "SlipWeeks" (407 : Nat) ({ cls := "SlipWeeks", name := "all", desc := "()I" } : Jvm.MethodName)) ∈ lw_all := lw_g (lw_at lw_m5 65 rfl) rfl
theorem q1087 : (Jvm.Cond.privateMethod ({ cls := "SlipWeeks", name := "all", desc := "()I" } : Jvm.MethodName)) ∈ lw_tbl := lw_at lw_m5 66 rfl
theorem q1088 : (Jvm.Cond.instanceMethod ({ cls := "SlipWeeks", name := "all", desc := "()I" } : Jvm.MethodName)) ∈ lw_all := lw_g (lw_at lw_m5 67 rfl) rfl
theorem q1089 : (Jvm.Cond.code ({ cls := "SlipWeeks", name := "all", desc := "()I" } : Jvm.MethodName) prog_1_method_79_code (1 : Nat) (Option.some Jvm.ClassFile.FieldType.int)) ∈ lw_all := lw_g (lw_at lw_m5 68 rfl) rfl
theorem q1091 : (Jvm.Cond.instanceMethod ({ cls := "SlipWeeks", name := "status", desc := "(I)I" } : Jvm.MethodName)) ∈ lw_all := lw_g (lw_at lw_m5 70 rfl) rfl
theorem q1092 : (Jvm.Cond.selects "SlipWeeks" ({ cls := "SlipWeeks", name := "status", desc := "(I)I" } : Jvm.MethodName) ({ cls := "SlipWeeks", name := "status", desc := "(I)I" } : Jvm.MethodName)) ∈ lw_all := lw_g (lw_at lw_m5 71 rfl) rfl
theorem q1093 : (Jvm.Cond.codeWith ({ cls := "SlipWeeks", name := "status", desc := "(I)I" } : Jvm.MethodName) prog_1_method_81_code (4 : Nat) (Option.some Jvm.ClassFile.FieldType.int) [((0 : Nat), (25 : Nat), (53 : Nat), (1 : Nat)), ((26 : Nat), (52 : Nat), (53 : Nat), (1 : Nat))]) ∈ lw_all := lw_g (lw_at lw_m5 72 rfl) rfl
theorem q1094 : (Jvm.Cond.constantLong "SlipWeeks" (410 : Nat) (6 : Int64)) ∈ lw_all := lw_g (lw_at lw_m5 73 rfl) rfl
theorem in_X0 : ∀ w ∈ wsX00, w ∈ lw_all := lw_in wsX00 [229, 231, 233, 235, 237, 239, 241, 243, 245, 247, 249, 251, 253, 255, 257, 259, 261, 263, 265] (by decide +kernel) (by decide +kernel)
