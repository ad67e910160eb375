/-! java/lang/Object -/
set_option maxRecDepth 100000
def RJ4 : String := "java/lang/Object"
abbrev cJ4_init : ByteArray := object_method_1_code
def yJ4_init : MethodName := ⟨RJ4, "<init>", "()V"⟩
theorem dJ4_init_0 : decode cJ4_init 0 = .ok (.return_, 1) := by decide +kernel
theorem q94 : (Jvm.Cond.instanceMethod ({ cls := "java/lang/Object", name := "<init>", desc := "()V" } : Jvm.MethodName)) ∈ lw_all := lw_g (lw_at lw_m1 33 rfl) rfl
theorem q95 : (Jvm.Cond.code ({ cls := "java/lang/Object", name := "<init>", desc := "()V" } : Jvm.MethodName) object_method_1_code (1 : Nat) (Option.none : Option Jvm.ClassFile.FieldType)) ∈ lw_all := lw_g (lw_at lw_m1 34 rfl) rfl
/-! java/lang/Integer -/
set_option maxRecDepth 100000
def RJ0 : String := "java/lang/Integer"
abbrev cJ0_bitCount : ByteArray := prog_26_method_49_code
def yJ0_bitCount : MethodName := ⟨RJ0, "bitCount", "(I)I"⟩
def dkwJ0_bitCount_2 : List UInt8 := [26, 16, 63, 126, 172]
abbrev dktJ0_bitCount_2 : List UInt8 := dkwJ0_bitCount_2 ++ []
def dkwJ0_bitCount_1 : List UInt8 := [26, 26, 7, 124, 96, 19, 1, 11, 126, 59, 26, 26, 16, 8, 124, 96, 59, 26, 26, 16, 16, 124, 96, 59]
abbrev dktJ0_bitCount_1 : List UInt8 := dkwJ0_bitCount_1 ++ dktJ0_bitCount_2
def dkwJ0_bitCount_0 : List UInt8 := [26, 26, 4, 124, 19, 1, 9, 126, 100, 59, 26, 19, 1, 10, 126, 26, 5, 124, 19, 1, 10, 126, 96, 59]
abbrev dktJ0_bitCount_0 : List UInt8 := dkwJ0_bitCount_0 ++ dktJ0_bitCount_1
theorem dksJ0_bitCount_0 : cJ0_bitCount.data.toList.drop 0 = dktJ0_bitCount_0 := by decide +kernel
theorem dksJ0_bitCount_1 : cJ0_bitCount.data.toList.drop 24 = dktJ0_bitCount_1 := dk_seg dksJ0_bitCount_0 24 rfl rfl
theorem dksJ0_bitCount_2 : cJ0_bitCount.data.toList.drop 48 = dktJ0_bitCount_2 := dk_seg dksJ0_bitCount_1 24 rfl rfl
theorem dJ0_bitCount_0 : decode cJ0_bitCount 0 = .ok (.iload_n 0, 1) := dk_26 (dk_at dksJ0_bitCount_0 0 rfl rfl)
theorem dJ0_bitCount_1 : decode cJ0_bitCount 1 = .ok (.iload_n 0, 1) := dk_26 (dk_at dksJ0_bitCount_0 1 rfl rfl)
theorem dJ0_bitCount_2 : decode cJ0_bitCount 2 = .ok (.iconst 1, 1) := dk_4 (dk_at dksJ0_bitCount_0 2 rfl rfl)
theorem dJ0_bitCount_3 : decode cJ0_bitCount 3 = .ok (.iushr, 1) := dk_124 (dk_at dksJ0_bitCount_0 3 rfl rfl)
theorem dJ0_bitCount_4 : decode cJ0_bitCount 4 = .ok (.ldc_w 265, 3) := dk_19 1 9 (dk_at dksJ0_bitCount_0 4 rfl rfl)
theorem dJ0_bitCount_7 : decode cJ0_bitCount 7 = .ok (.iand, 1) := dk_126 (dk_at dksJ0_bitCount_0 7 rfl rfl)
theorem dJ0_bitCount_8 : decode cJ0_bitCount 8 = .ok (.isub, 1) := dk_100 (dk_at dksJ0_bitCount_0 8 rfl rfl)
theorem dJ0_bitCount_9 : decode cJ0_bitCount 9 = .ok (.istore_n 0, 1) := dk_59 (dk_at dksJ0_bitCount_0 9 rfl rfl)
theorem dJ0_bitCount_10 : decode cJ0_bitCount 10 = .ok (.iload_n 0, 1) := dk_26 (dk_at dksJ0_bitCount_0 10 rfl rfl)
theorem dJ0_bitCount_11 : decode cJ0_bitCount 11 = .ok (.ldc_w 266, 3) := dk_19 1 10 (dk_at dksJ0_bitCount_0 11 rfl rfl)
theorem dJ0_bitCount_14 : decode cJ0_bitCount 14 = .ok (.iand, 1) := dk_126 (dk_at dksJ0_bitCount_0 14 rfl rfl)
theorem dJ0_bitCount_15 : decode cJ0_bitCount 15 = .ok (.iload_n 0, 1) := dk_26 (dk_at dksJ0_bitCount_0 15 rfl rfl)
theorem dJ0_bitCount_16 : decode cJ0_bitCount 16 = .ok (.iconst 2, 1) := dk_5 (dk_at dksJ0_bitCount_0 16 rfl rfl)
theorem dJ0_bitCount_17 : decode cJ0_bitCount 17 = .ok (.iushr, 1) := dk_124 (dk_at dksJ0_bitCount_0 17 rfl rfl)
theorem dJ0_bitCount_18 : decode cJ0_bitCount 18 = .ok (.ldc_w 266, 3) := dk_19 1 10 (dk_at dksJ0_bitCount_0 18 rfl rfl)
theorem dJ0_bitCount_21 : decode cJ0_bitCount 21 = .ok (.iand, 1) := dk_126 (dk_at dksJ0_bitCount_0 21 rfl rfl)
theorem dJ0_bitCount_22 : decode cJ0_bitCount 22 = .ok (.iadd, 1) := dk_96 (dk_at dksJ0_bitCount_0 22 rfl rfl)
theorem dJ0_bitCount_23 : decode cJ0_bitCount 23 = .ok (.istore_n 0, 1) := dk_59 (dk_at dksJ0_bitCount_0 23 rfl rfl)
theorem dJ0_bitCount_24 : decode cJ0_bitCount 24 = .ok (.iload_n 0, 1) := dk_26 (dk_at dksJ0_bitCount_1 0 rfl rfl)
theorem dJ0_bitCount_25 : decode cJ0_bitCount 25 = .ok (.iload_n 0, 1) := dk_26 (dk_at dksJ0_bitCount_1 1 rfl rfl)
theorem dJ0_bitCount_26 : decode cJ0_bitCount 26 = .ok (.iconst 4, 1) := dk_7 (dk_at dksJ0_bitCount_1 2 rfl rfl)
theorem dJ0_bitCount_27 : decode cJ0_bitCount 27 = .ok (.iushr, 1) := dk_124 (dk_at dksJ0_bitCount_1 3 rfl rfl)
theorem dJ0_bitCount_28 : decode cJ0_bitCount 28 = .ok (.iadd, 1) := dk_96 (dk_at dksJ0_bitCount_1 4 rfl rfl)
theorem dJ0_bitCount_29 : decode cJ0_bitCount 29 = .ok (.ldc_w 267, 3) := dk_19 1 11 (dk_at dksJ0_bitCount_1 5 rfl rfl)
theorem dJ0_bitCount_32 : decode cJ0_bitCount 32 = .ok (.iand, 1) := dk_126 (dk_at dksJ0_bitCount_1 8 rfl rfl)
theorem dJ0_bitCount_33 : decode cJ0_bitCount 33 = .ok (.istore_n 0, 1) := dk_59 (dk_at dksJ0_bitCount_1 9 rfl rfl)
theorem dJ0_bitCount_34 : decode cJ0_bitCount 34 = .ok (.iload_n 0, 1) := dk_26 (dk_at dksJ0_bitCount_1 10 rfl rfl)
theorem dJ0_bitCount_35 : decode cJ0_bitCount 35 = .ok (.iload_n 0, 1) := dk_26 (dk_at dksJ0_bitCount_1 11 rfl rfl)
theorem dJ0_bitCount_36 : decode cJ0_bitCount 36 = .ok (.bipush 8, 2) := dk_16 8 (dk_at dksJ0_bitCount_1 12 rfl rfl)
theorem dJ0_bitCount_38 : decode cJ0_bitCount 38 = .ok (.iushr, 1) := dk_124 (dk_at dksJ0_bitCount_1 14 rfl rfl)
theorem dJ0_bitCount_39 : decode cJ0_bitCount 39 = .ok (.iadd, 1) := dk_96 (dk_at dksJ0_bitCount_1 15 rfl rfl)
theorem dJ0_bitCount_40 : decode cJ0_bitCount 40 = .ok (.istore_n 0, 1) := dk_59 (dk_at dksJ0_bitCount_1 16 rfl rfl)
theorem dJ0_bitCount_41 : decode cJ0_bitCount 41 = .ok (.iload_n 0, 1) := dk_26 (dk_at dksJ0_bitCount_1 17 rfl rfl)
theorem dJ0_bitCount_42 : decode cJ0_bitCount 42 = .ok (.iload_n 0, 1) := dk_26 (dk_at dksJ0_bitCount_1 18 rfl rfl)
theorem dJ0_bitCount_43 : decode cJ0_bitCount 43 = .ok (.bipush 16, 2) := dk_16 16 (dk_at dksJ0_bitCount_1 19 rfl rfl)
theorem dJ0_bitCount_45 : decode cJ0_bitCount 45 = .ok (.iushr, 1) := dk_124 (dk_at dksJ0_bitCount_1 21 rfl rfl)
theorem dJ0_bitCount_46 : decode cJ0_bitCount 46 = .ok (.iadd, 1) := dk_96 (dk_at dksJ0_bitCount_1 22 rfl rfl)
theorem dJ0_bitCount_47 : decode cJ0_bitCount 47 = .ok (.istore_n 0, 1) := dk_59 (dk_at dksJ0_bitCount_1 23 rfl rfl)
theorem dJ0_bitCount_48 : decode cJ0_bitCount 48 = .ok (.iload_n 0, 1) := dk_26 (dk_at dksJ0_bitCount_2 0 rfl rfl)
theorem dJ0_bitCount_49 : decode cJ0_bitCount 49 = .ok (.bipush 63, 2) := dk_16 63 (dk_at dksJ0_bitCount_2 1 rfl rfl)
theorem dJ0_bitCount_51 : decode cJ0_bitCount 51 = .ok (.iand, 1) := dk_126 (dk_at dksJ0_bitCount_2 3 rfl rfl)
theorem dJ0_bitCount_52 : decode cJ0_bitCount 52 = .ok (.ireturn, 1) := dk_172 (dk_at dksJ0_bitCount_2 4 rfl rfl)
abbrev cJ0_numberOfTrailingZeros : ByteArray := prog_26_method_48_code
def yJ0_numberOfTrailingZeros : MethodName := ⟨RJ0, "numberOfTrailingZeros", "(I)I"⟩
def dkwJ0_numberOfTrailingZeros_3 : List UInt8 := [5, 124, 59, 27, 26, 4, 124, 96, 172]
abbrev dktJ0_numberOfTrailingZeros_3 : List UInt8 := dkwJ0_numberOfTrailingZeros_3 ++ []
def dkwJ0_numberOfTrailingZeros_2 : List UInt8 := [124, 59, 26, 16, 16, 164, 0, 10, 132, 1, 4, 26, 7, 124, 59, 26, 7, 164, 0, 10, 132, 1, 2, 26]
abbrev dktJ0_numberOfTrailingZeros_2 : List UInt8 := dkwJ0_numberOfTrailingZeros_2 ++ dktJ0_numberOfTrailingZeros_3
def dkwJ0_numberOfTrailingZeros_1 : List UInt8 := [164, 0, 11, 132, 1, 16, 26, 16, 16, 124, 59, 26, 17, 1, 0, 164, 0, 11, 132, 1, 8, 26, 16, 8]
abbrev dktJ0_numberOfTrailingZeros_1 : List UInt8 := dkwJ0_numberOfTrailingZeros_1 ++ dktJ0_numberOfTrailingZeros_2
def dkwJ0_numberOfTrailingZeros_0 : List UInt8 := [26, 2, 130, 26, 4, 100, 126, 59, 26, 157, 0, 8, 26, 16, 32, 126, 172, 4, 60, 26, 19, 1, 8]
abbrev dktJ0_numberOfTrailingZeros_0 : List UInt8 := dkwJ0_numberOfTrailingZeros_0 ++ dktJ0_numberOfTrailingZeros_1
theorem dksJ0_numberOfTrailingZeros_0 : cJ0_numberOfTrailingZeros.data.toList.drop 0 = dktJ0_numberOfTrailingZeros_0 := by decide +kernel
theorem dksJ0_numberOfTrailingZeros_1 : cJ0_numberOfTrailingZeros.data.toList.drop 23 = dktJ0_numberOfTrailingZeros_1 := dk_seg dksJ0_numberOfTrailingZeros_0 23 rfl rfl
theorem dksJ0_numberOfTrailingZeros_2 : cJ0_numberOfTrailingZeros.data.toList.drop 47 = dktJ0_numberOfTrailingZeros_2 := dk_seg dksJ0_numberOfTrailingZeros_1 24 rfl rfl
theorem dksJ0_numberOfTrailingZeros_3 : cJ0_numberOfTrailingZeros.data.toList.drop 71 = dktJ0_numberOfTrailingZeros_3 := dk_seg dksJ0_numberOfTrailingZeros_2 24 rfl rfl
theorem dJ0_numberOfTrailingZeros_0 : decode cJ0_numberOfTrailingZeros 0 = .ok (.iload_n 0, 1) := dk_26 (dk_at dksJ0_numberOfTrailingZeros_0 0 rfl rfl)
theorem dJ0_numberOfTrailingZeros_1 : decode cJ0_numberOfTrailingZeros 1 = .ok (.iconst (-1), 1) := dk_2 (dk_at dksJ0_numberOfTrailingZeros_0 1 rfl rfl)
theorem dJ0_numberOfTrailingZeros_2 : decode cJ0_numberOfTrailingZeros 2 = .ok (.ixor, 1) := dk_130 (dk_at dksJ0_numberOfTrailingZeros_0 2 rfl rfl)
theorem dJ0_numberOfTrailingZeros_3 : decode cJ0_numberOfTrailingZeros 3 = .ok (.iload_n 0, 1) := dk_26 (dk_at dksJ0_numberOfTrailingZeros_0 3 rfl rfl)
theorem dJ0_numberOfTrailingZeros_4 : decode cJ0_numberOfTrailingZeros 4 = .ok (.iconst 1, 1) := dk_4 (dk_at dksJ0_numberOfTrailingZeros_0 4 rfl rfl)
theorem dJ0_numberOfTrailingZeros_5 : decode cJ0_numberOfTrailingZeros 5 = .ok (.isub, 1) := dk_100 (dk_at dksJ0_numberOfTrailingZeros_0 5 rfl rfl)
theorem dJ0_numberOfTrailingZeros_6 : decode cJ0_numberOfTrailingZeros 6 = .ok (.iand, 1) := dk_126 (dk_at dksJ0_numberOfTrailingZeros_0 6 rfl rfl)
theorem dJ0_numberOfTrailingZeros_7 : decode cJ0_numberOfTrailingZeros 7 = .ok (.istore_n 0, 1) := dk_59 (dk_at dksJ0_numberOfTrailingZeros_0 7 rfl rfl)
theorem dJ0_numberOfTrailingZeros_8 : decode cJ0_numberOfTrailingZeros 8 = .ok (.iload_n 0, 1) := dk_26 (dk_at dksJ0_numberOfTrailingZeros_0 8 rfl rfl)
theorem dJ0_numberOfTrailingZeros_9 : decode cJ0_numberOfTrailingZeros 9 = .ok (.ifCond .gt 8, 3) := dk_157 0 8 (dk_at dksJ0_numberOfTrailingZeros_0 9 rfl rfl)
theorem dJ0_numberOfTrailingZeros_12 : decode cJ0_numberOfTrailingZeros 12 = .ok (.iload_n 0, 1) := dk_26 (dk_at dksJ0_numberOfTrailingZeros_0 12 rfl rfl)
theorem dJ0_numberOfTrailingZeros_13 : decode cJ0_numberOfTrailingZeros 13 = .ok (.bipush 32, 2) := dk_16 32 (dk_at dksJ0_numberOfTrailingZeros_0 13 rfl rfl)
theorem dJ0_numberOfTrailingZeros_15 : decode cJ0_numberOfTrailingZeros 15 = .ok (.iand, 1) := dk_126 (dk_at dksJ0_numberOfTrailingZeros_0 15 rfl rfl)
theorem dJ0_numberOfTrailingZeros_16 : decode cJ0_numberOfTrailingZeros 16 = .ok (.ireturn, 1) := dk_172 (dk_at dksJ0_numberOfTrailingZeros_0 16 rfl rfl)
theorem dJ0_numberOfTrailingZeros_17 : decode cJ0_numberOfTrailingZeros 17 = .ok (.iconst 1, 1) := dk_4 (dk_at dksJ0_numberOfTrailingZeros_0 17 rfl rfl)
theorem dJ0_numberOfTrailingZeros_18 : decode cJ0_numberOfTrailingZeros 18 = .ok (.istore_n 1, 1) := dk_60 (dk_at dksJ0_numberOfTrailingZeros_0 18 rfl rfl)
theorem dJ0_numberOfTrailingZeros_19 : decode cJ0_numberOfTrailingZeros 19 = .ok (.iload_n 0, 1) := dk_26 (dk_at dksJ0_numberOfTrailingZeros_0 19 rfl rfl)
theorem dJ0_numberOfTrailingZeros_20 : decode cJ0_numberOfTrailingZeros 20 = .ok (.ldc_w 264, 3) := dk_19 1 8 (dk_at dksJ0_numberOfTrailingZeros_0 20 rfl rfl)
theorem dJ0_numberOfTrailingZeros_23 : decode cJ0_numberOfTrailingZeros 23 = .ok (.if_icmp .le 11, 3) := dk_164 0 11 (dk_at dksJ0_numberOfTrailingZeros_1 0 rfl rfl)
theorem dJ0_numberOfTrailingZeros_26 : decode cJ0_numberOfTrailingZeros 26 = .ok (.iinc 1 16, 3) := dk_132 1 16 (dk_at dksJ0_numberOfTrailingZeros_1 3 rfl rfl)
theorem dJ0_numberOfTrailingZeros_29 : decode cJ0_numberOfTrailingZeros 29 = .ok (.iload_n 0, 1) := dk_26 (dk_at dksJ0_numberOfTrailingZeros_1 6 rfl rfl)
theorem dJ0_numberOfTrailingZeros_30 : decode cJ0_numberOfTrailingZeros 30 = .ok (.bipush 16, 2) := dk_16 16 (dk_at dksJ0_numberOfTrailingZeros_1 7 rfl rfl)
theorem dJ0_numberOfTrailingZeros_32 : decode cJ0_numberOfTrailingZeros 32 = .ok (.iushr, 1) := dk_124 (dk_at dksJ0_numberOfTrailingZeros_1 9 rfl rfl)
theorem dJ0_numberOfTrailingZeros_33 : decode cJ0_numberOfTrailingZeros 33 = .ok (.istore_n 0, 1) := dk_59 (dk_at dksJ0_numberOfTrailingZeros_1 10 rfl rfl)
theorem dJ0_numberOfTrailingZeros_34 : decode cJ0_numberOfTrailingZeros 34 = .ok (.iload_n 0, 1) := dk_26 (dk_at dksJ0_numberOfTrailingZeros_1 11 rfl rfl)
theorem dJ0_numberOfTrailingZeros_35 : decode cJ0_numberOfTrailingZeros 35 = .ok (.sipush 256, 3) := dk_17 1 0 (dk_at dksJ0_numberOfTrailingZeros_1 12 rfl rfl)
theorem dJ0_numberOfTrailingZeros_38 : decode cJ0_numberOfTrailingZeros 38 = .ok (.if_icmp .le 11, 3) := dk_164 0 11 (dk_at dksJ0_numberOfTrailingZeros_1 15 rfl rfl)
theorem dJ0_numberOfTrailingZeros_41 : decode cJ0_numberOfTrailingZeros 41 = .ok (.iinc 1 8, 3) := dk_132 1 8 (dk_at dksJ0_numberOfTrailingZeros_1 18 rfl rfl)
theorem dJ0_numberOfTrailingZeros_44 : decode cJ0_numberOfTrailingZeros 44 = .ok (.iload_n 0, 1) := dk_26 (dk_at dksJ0_numberOfTrailingZeros_1 21 rfl rfl)
theorem dJ0_numberOfTrailingZeros_45 : decode cJ0_numberOfTrailingZeros 45 = .ok (.bipush 8, 2) := dk_16 8 (dk_at dksJ0_numberOfTrailingZeros_1 22 rfl rfl)
theorem dJ0_numberOfTrailingZeros_47 : decode cJ0_numberOfTrailingZeros 47 = .ok (.iushr, 1) := dk_124 (dk_at dksJ0_numberOfTrailingZeros_2 0 rfl rfl)
theorem dJ0_numberOfTrailingZeros_48 : decode cJ0_numberOfTrailingZeros 48 = .ok (.istore_n 0, 1) := dk_59 (dk_at dksJ0_numberOfTrailingZeros_2 1 rfl rfl)
theorem dJ0_numberOfTrailingZeros_49 : decode cJ0_numberOfTrailingZeros 49 = .ok (.iload_n 0, 1) := dk_26 (dk_at dksJ0_numberOfTrailingZeros_2 2 rfl rfl)
theorem dJ0_numberOfTrailingZeros_50 : decode cJ0_numberOfTrailingZeros 50 = .ok (.bipush 16, 2) := dk_16 16 (dk_at dksJ0_numberOfTrailingZeros_2 3 rfl rfl)
theorem dJ0_numberOfTrailingZeros_52 : decode cJ0_numberOfTrailingZeros 52 = .ok (.if_icmp .le 10, 3) := dk_164 0 10 (dk_at dksJ0_numberOfTrailingZeros_2 5 rfl rfl)
theorem dJ0_numberOfTrailingZeros_55 : decode cJ0_numberOfTrailingZeros 55 = .ok (.iinc 1 4, 3) := dk_132 1 4 (dk_at dksJ0_numberOfTrailingZeros_2 8 rfl rfl)
theorem dJ0_numberOfTrailingZeros_58 : decode cJ0_numberOfTrailingZeros 58 = .ok (.iload_n 0, 1) := dk_26 (dk_at dksJ0_numberOfTrailingZeros_2 11 rfl rfl)
theorem dJ0_numberOfTrailingZeros_59 : decode cJ0_numberOfTrailingZeros 59 = .ok (.iconst 4, 1) := dk_7 (dk_at dksJ0_numberOfTrailingZeros_2 12 rfl rfl)
theorem dJ0_numberOfTrailingZeros_60 : decode cJ0_numberOfTrailingZeros 60 = .ok (.iushr, 1) := dk_124 (dk_at dksJ0_numberOfTrailingZeros_2 13 rfl rfl)
theorem dJ0_numberOfTrailingZeros_61 : decode cJ0_numberOfTrailingZeros 61 = .ok (.istore_n 0, 1) := dk_59 (dk_at dksJ0_numberOfTrailingZeros_2 14 rfl rfl)
theorem dJ0_numberOfTrailingZeros_62 : decode cJ0_numberOfTrailingZeros 62 = .ok (.iload_n 0, 1) := dk_26 (dk_at dksJ0_numberOfTrailingZeros_2 15 rfl rfl)
theorem dJ0_numberOfTrailingZeros_63 : decode cJ0_numberOfTrailingZeros 63 = .ok (.iconst 4, 1) := dk_7 (dk_at dksJ0_numberOfTrailingZeros_2 16 rfl rfl)
theorem dJ0_numberOfTrailingZeros_64 : decode cJ0_numberOfTrailingZeros 64 = .ok (.if_icmp .le 10, 3) := dk_164 0 10 (dk_at dksJ0_numberOfTrailingZeros_2 17 rfl rfl)
theorem dJ0_numberOfTrailingZeros_67 : decode cJ0_numberOfTrailingZeros 67 = .ok (.iinc 1 2, 3) := dk_132 1 2 (dk_at dksJ0_numberOfTrailingZeros_2 20 rfl rfl)
theorem dJ0_numberOfTrailingZeros_70 : decode cJ0_numberOfTrailingZeros 70 = .ok (.iload_n 0, 1) := dk_26 (dk_at dksJ0_numberOfTrailingZeros_2 23 rfl rfl)
theorem dJ0_numberOfTrailingZeros_71 : decode cJ0_numberOfTrailingZeros 71 = .ok (.iconst 2, 1) := dk_5 (dk_at dksJ0_numberOfTrailingZeros_3 0 rfl rfl)
theorem dJ0_numberOfTrailingZeros_72 : decode cJ0_numberOfTrailingZeros 72 = .ok (.iushr, 1) := dk_124 (dk_at dksJ0_numberOfTrailingZeros_3 1 rfl rfl)
theorem dJ0_numberOfTrailingZeros_73 : decode cJ0_numberOfTrailingZeros 73 = .ok (.istore_n 0, 1) := dk_59 (dk_at dksJ0_numberOfTrailingZeros_3 2 rfl rfl)
theorem dJ0_numberOfTrailingZeros_74 : decode cJ0_numberOfTrailingZeros 74 = .ok (.iload_n 1, 1) := dk_27 (dk_at dksJ0_numberOfTrailingZeros_3 3 rfl rfl)
theorem dJ0_numberOfTrailingZeros_75 : decode cJ0_numberOfTrailingZeros 75 = .ok (.iload_n 0, 1) := dk_26 (dk_at dksJ0_numberOfTrailingZeros_3 4 rfl rfl)
theorem dJ0_numberOfTrailingZeros_76 : decode cJ0_numberOfTrailingZeros 76 = .ok (.iconst 1, 1) := dk_4 (dk_at dksJ0_numberOfTrailingZeros_3 5 rfl rfl)
theorem dJ0_numberOfTrailingZeros_77 : decode cJ0_numberOfTrailingZeros 77 = .ok (.iushr, 1) := dk_124 (dk_at dksJ0_numberOfTrailingZeros_3 6 rfl rfl)
theorem dJ0_numberOfTrailingZeros_78 : decode cJ0_numberOfTrailingZeros 78 = .ok (.iadd, 1) := dk_96 (dk_at dksJ0_numberOfTrailingZeros_3 7 rfl rfl)
theorem dJ0_numberOfTrailingZeros_79 : decode cJ0_numberOfTrailingZeros 79 = .ok (.ireturn, 1) := dk_172 (dk_at dksJ0_numberOfTrailingZeros_3 8 rfl rfl)
abbrev cJ0_numberOfLeadingZeros : ByteArray := prog_26_method_47_code
def yJ0_numberOfLeadingZeros : MethodName := ⟨RJ0, "numberOfLeadingZeros", "(I)I"⟩
def dkwJ0_numberOfLeadingZeros_3 : List UInt8 := [5, 124, 59, 27, 26, 4, 124, 100, 172]
abbrev dktJ0_numberOfLeadingZeros_3 : List UInt8 := dkwJ0_numberOfLeadingZeros_3 ++ []
def dkwJ0_numberOfLeadingZeros_2 : List UInt8 := [124, 59, 26, 16, 16, 161, 0, 10, 132, 1, 252, 26, 7, 124, 59, 26, 7, 161, 0, 10, 132, 1, 254, 26]
abbrev dktJ0_numberOfLeadingZeros_2 : List UInt8 := dkwJ0_numberOfLeadingZeros_2 ++ dktJ0_numberOfLeadingZeros_3
def dkwJ0_numberOfLeadingZeros_1 : List UInt8 := [161, 0, 11, 132, 1, 240, 26, 16, 16, 124, 59, 26, 17, 1, 0, 161, 0, 11, 132, 1, 248, 26, 16, 8]
abbrev dktJ0_numberOfLeadingZeros_1 : List UInt8 := dkwJ0_numberOfLeadingZeros_1 ++ dktJ0_numberOfLeadingZeros_2
def dkwJ0_numberOfLeadingZeros_0 : List UInt8 := [26, 157, 0, 14, 26, 154, 0, 8, 16, 32, 167, 0, 4, 3, 172, 16, 31, 60, 26, 19, 1, 8]
abbrev dktJ0_numberOfLeadingZeros_0 : List UInt8 := dkwJ0_numberOfLeadingZeros_0 ++ dktJ0_numberOfLeadingZeros_1
theorem dksJ0_numberOfLeadingZeros_0 : cJ0_numberOfLeadingZeros.data.toList.drop 0 = dktJ0_numberOfLeadingZeros_0 := by decide +kernel
theorem dksJ0_numberOfLeadingZeros_1 : cJ0_numberOfLeadingZeros.data.toList.drop 22 = dktJ0_numberOfLeadingZeros_1 := dk_seg dksJ0_numberOfLeadingZeros_0 22 rfl rfl
theorem dksJ0_numberOfLeadingZeros_2 : cJ0_numberOfLeadingZeros.data.toList.drop 46 = dktJ0_numberOfLeadingZeros_2 := dk_seg dksJ0_numberOfLeadingZeros_1 24 rfl rfl
theorem dksJ0_numberOfLeadingZeros_3 : cJ0_numberOfLeadingZeros.data.toList.drop 70 = dktJ0_numberOfLeadingZeros_3 := dk_seg dksJ0_numberOfLeadingZeros_2 24 rfl rfl
theorem dJ0_numberOfLeadingZeros_0 : decode cJ0_numberOfLeadingZeros 0 = .ok (.iload_n 0, 1) := dk_26 (dk_at dksJ0_numberOfLeadingZeros_0 0 rfl rfl)
theorem dJ0_numberOfLeadingZeros_1 : decode cJ0_numberOfLeadingZeros 1 = .ok (.ifCond .gt 14, 3) := dk_157 0 14 (dk_at dksJ0_numberOfLeadingZeros_0 1 rfl rfl)
theorem dJ0_numberOfLeadingZeros_4 : decode cJ0_numberOfLeadingZeros 4 = .ok (.iload_n 0, 1) := dk_26 (dk_at dksJ0_numberOfLeadingZeros_0 4 rfl rfl)
theorem dJ0_numberOfLeadingZeros_5 : decode cJ0_numberOfLeadingZeros 5 = .ok (.ifCond .ne 8, 3) := dk_154 0 8 (dk_at dksJ0_numberOfLeadingZeros_0 5 rfl rfl)
theorem dJ0_numberOfLeadingZeros_8 : decode cJ0_numberOfLeadingZeros 8 = .ok (.bipush 32, 2) := dk_16 32 (dk_at dksJ0_numberOfLeadingZeros_0 8 rfl rfl)
theorem dJ0_numberOfLeadingZeros_10 : decode cJ0_numberOfLeadingZeros 10 = .ok (.goto 4, 3) := dk_167 0 4 (dk_at dksJ0_numberOfLeadingZeros_0 10 rfl rfl)
theorem dJ0_numberOfLeadingZeros_13 : decode cJ0_numberOfLeadingZeros 13 = .ok (.iconst 0, 1) := dk_3 (dk_at dksJ0_numberOfLeadingZeros_0 13 rfl rfl)
theorem dJ0_numberOfLeadingZeros_14 : decode cJ0_numberOfLeadingZeros 14 = .ok (.ireturn, 1) := dk_172 (dk_at dksJ0_numberOfLeadingZeros_0 14 rfl rfl)
theorem dJ0_numberOfLeadingZeros_15 : decode cJ0_numberOfLeadingZeros 15 = .ok (.bipush 31, 2) := dk_16 31 (dk_at dksJ0_numberOfLeadingZeros_0 15 rfl rfl)
theorem dJ0_numberOfLeadingZeros_17 : decode cJ0_numberOfLeadingZeros 17 = .ok (.istore_n 1, 1) := dk_60 (dk_at dksJ0_numberOfLeadingZeros_0 17 rfl rfl)
theorem dJ0_numberOfLeadingZeros_18 : decode cJ0_numberOfLeadingZeros 18 = .ok (.iload_n 0, 1) := dk_26 (dk_at dksJ0_numberOfLeadingZeros_0 18 rfl rfl)
theorem dJ0_numberOfLeadingZeros_19 : decode cJ0_numberOfLeadingZeros 19 = .ok (.ldc_w 264, 3) := dk_19 1 8 (dk_at dksJ0_numberOfLeadingZeros_0 19 rfl rfl)
theorem dJ0_numberOfLeadingZeros_22 : decode cJ0_numberOfLeadingZeros 22 = .ok (.if_icmp .lt 11, 3) := dk_161 0 11 (dk_at dksJ0_numberOfLeadingZeros_1 0 rfl rfl)
theorem dJ0_numberOfLeadingZeros_25 : decode cJ0_numberOfLeadingZeros 25 = .ok (.iinc 1 (-16), 3) := dk_132 1 240 (dk_at dksJ0_numberOfLeadingZeros_1 3 rfl rfl)
theorem dJ0_numberOfLeadingZeros_28 : decode cJ0_numberOfLeadingZeros 28 = .ok (.iload_n 0, 1) := dk_26 (dk_at dksJ0_numberOfLeadingZeros_1 6 rfl rfl)
theorem dJ0_numberOfLeadingZeros_29 : decode cJ0_numberOfLeadingZeros 29 = .ok (.bipush 16, 2) := dk_16 16 (dk_at dksJ0_numberOfLeadingZeros_1 7 rfl rfl)
theorem dJ0_numberOfLeadingZeros_31 : decode cJ0_numberOfLeadingZeros 31 = .ok (.iushr, 1) := dk_124 (dk_at dksJ0_numberOfLeadingZeros_1 9 rfl rfl)
theorem dJ0_numberOfLeadingZeros_32 : decode cJ0_numberOfLeadingZeros 32 = .ok (.istore_n 0, 1) := dk_59 (dk_at dksJ0_numberOfLeadingZeros_1 10 rfl rfl)
theorem dJ0_numberOfLeadingZeros_33 : decode cJ0_numberOfLeadingZeros 33 = .ok (.iload_n 0, 1) := dk_26 (dk_at dksJ0_numberOfLeadingZeros_1 11 rfl rfl)
theorem dJ0_numberOfLeadingZeros_34 : decode cJ0_numberOfLeadingZeros 34 = .ok (.sipush 256, 3) := dk_17 1 0 (dk_at dksJ0_numberOfLeadingZeros_1 12 rfl rfl)
theorem dJ0_numberOfLeadingZeros_37 : decode cJ0_numberOfLeadingZeros 37 = .ok (.if_icmp .lt 11, 3) := dk_161 0 11 (dk_at dksJ0_numberOfLeadingZeros_1 15 rfl rfl)
theorem dJ0_numberOfLeadingZeros_40 : decode cJ0_numberOfLeadingZeros 40 = .ok (.iinc 1 (-8), 3) := dk_132 1 248 (dk_at dksJ0_numberOfLeadingZeros_1 18 rfl rfl)
theorem dJ0_numberOfLeadingZeros_43 : decode cJ0_numberOfLeadingZeros 43 = .ok (.iload_n 0, 1) := dk_26 (dk_at dksJ0_numberOfLeadingZeros_1 21 rfl rfl)
theorem dJ0_numberOfLeadingZeros_44 : decode cJ0_numberOfLeadingZeros 44 = .ok (.bipush 8, 2) := dk_16 8 (dk_at dksJ0_numberOfLeadingZeros_1 22 rfl rfl)
theorem dJ0_numberOfLeadingZeros_46 : decode cJ0_numberOfLeadingZeros 46 = .ok (.iushr, 1) := dk_124 (dk_at dksJ0_numberOfLeadingZeros_2 0 rfl rfl)
theorem dJ0_numberOfLeadingZeros_47 : decode cJ0_numberOfLeadingZeros 47 = .ok (.istore_n 0, 1) := dk_59 (dk_at dksJ0_numberOfLeadingZeros_2 1 rfl rfl)
theorem dJ0_numberOfLeadingZeros_48 : decode cJ0_numberOfLeadingZeros 48 = .ok (.iload_n 0, 1) := dk_26 (dk_at dksJ0_numberOfLeadingZeros_2 2 rfl rfl)
theorem dJ0_numberOfLeadingZeros_49 : decode cJ0_numberOfLeadingZeros 49 = .ok (.bipush 16, 2) := dk_16 16 (dk_at dksJ0_numberOfLeadingZeros_2 3 rfl rfl)
theorem dJ0_numberOfLeadingZeros_51 : decode cJ0_numberOfLeadingZeros 51 = .ok (.if_icmp .lt 10, 3) := dk_161 0 10 (dk_at dksJ0_numberOfLeadingZeros_2 5 rfl rfl)
theorem dJ0_numberOfLeadingZeros_54 : decode cJ0_numberOfLeadingZeros 54 = .ok (.iinc 1 (-4), 3) := dk_132 1 252 (dk_at dksJ0_numberOfLeadingZeros_2 8 rfl rfl)
theorem dJ0_numberOfLeadingZeros_57 : decode cJ0_numberOfLeadingZeros 57 = .ok (.iload_n 0, 1) := dk_26 (dk_at dksJ0_numberOfLeadingZeros_2 11 rfl rfl)
theorem dJ0_numberOfLeadingZeros_58 : decode cJ0_numberOfLeadingZeros 58 = .ok (.iconst 4, 1) := dk_7 (dk_at dksJ0_numberOfLeadingZeros_2 12 rfl rfl)
theorem dJ0_numberOfLeadingZeros_59 : decode cJ0_numberOfLeadingZeros 59 = .ok (.iushr, 1) := dk_124 (dk_at dksJ0_numberOfLeadingZeros_2 13 rfl rfl)
theorem dJ0_numberOfLeadingZeros_60 : decode cJ0_numberOfLeadingZeros 60 = .ok (.istore_n 0, 1) := dk_59 (dk_at dksJ0_numberOfLeadingZeros_2 14 rfl rfl)
theorem dJ0_numberOfLeadingZeros_61 : decode cJ0_numberOfLeadingZeros 61 = .ok (.iload_n 0, 1) := dk_26 (dk_at dksJ0_numberOfLeadingZeros_2 15 rfl rfl)
theorem dJ0_numberOfLeadingZeros_62 : decode cJ0_numberOfLeadingZeros 62 = .ok (.iconst 4, 1) := dk_7 (dk_at dksJ0_numberOfLeadingZeros_2 16 rfl rfl)
theorem dJ0_numberOfLeadingZeros_63 : decode cJ0_numberOfLeadingZeros 63 = .ok (.if_icmp .lt 10, 3) := dk_161 0 10 (dk_at dksJ0_numberOfLeadingZeros_2 17 rfl rfl)
theorem dJ0_numberOfLeadingZeros_66 : decode cJ0_numberOfLeadingZeros 66 = .ok (.iinc 1 (-2), 3) := dk_132 1 254 (dk_at dksJ0_numberOfLeadingZeros_2 20 rfl rfl)
theorem dJ0_numberOfLeadingZeros_69 : decode cJ0_numberOfLeadingZeros 69 = .ok (.iload_n 0, 1) := dk_26 (dk_at dksJ0_numberOfLeadingZeros_2 23 rfl rfl)
theorem dJ0_numberOfLeadingZeros_70 : decode cJ0_numberOfLeadingZeros 70 = .ok (.iconst 2, 1) := dk_5 (dk_at dksJ0_numberOfLeadingZeros_3 0 rfl rfl)
theorem dJ0_numberOfLeadingZeros_71 : decode cJ0_numberOfLeadingZeros 71 = .ok (.iushr, 1) := dk_124 (dk_at dksJ0_numberOfLeadingZeros_3 1 rfl rfl)
theorem dJ0_numberOfLeadingZeros_72 : decode cJ0_numberOfLeadingZeros 72 = .ok (.istore_n 0, 1) := dk_59 (dk_at dksJ0_numberOfLeadingZeros_3 2 rfl rfl)
theorem dJ0_numberOfLeadingZeros_73 : decode cJ0_numberOfLeadingZeros 73 = .ok (.iload_n 1, 1) := dk_27 (dk_at dksJ0_numberOfLeadingZeros_3 3 rfl rfl)
theorem dJ0_numberOfLeadingZeros_74 : decode cJ0_numberOfLeadingZeros 74 = .ok (.iload_n 0, 1) := dk_26 (dk_at dksJ0_numberOfLeadingZeros_3 4 rfl rfl)
theorem dJ0_numberOfLeadingZeros_75 : decode cJ0_numberOfLeadingZeros 75 = .ok (.iconst 1, 1) := dk_4 (dk_at dksJ0_numberOfLeadingZeros_3 5 rfl rfl)
theorem dJ0_numberOfLeadingZeros_76 : decode cJ0_numberOfLeadingZeros 76 = .ok (.iushr, 1) := dk_124 (dk_at dksJ0_numberOfLeadingZeros_3 6 rfl rfl)
theorem dJ0_numberOfLeadingZeros_77 : decode cJ0_numberOfLeadingZeros 77 = .ok (.isub, 1) := dk_100 (dk_at dksJ0_numberOfLeadingZeros_3 7 rfl rfl)
theorem dJ0_numberOfLeadingZeros_78 : decode cJ0_numberOfLeadingZeros 78 = .ok (.ireturn, 1) := dk_172 (dk_at dksJ0_numberOfLeadingZeros_3 8 rfl rfl)
theorem q67 : (Jvm.Cond.initialized "java/lang/Integer") ∈ lw_all := lw_g (lw_at lw_m1 6 rfl) rfl
theorem q205 : (Jvm.Cond.static ({ cls := "java/lang/Integer", name := "bitCount", desc := "(I)I" } : Jvm.MethodName)) ∈ lw_all := lw_g (lw_at lw_m1 144 rfl) rfl
theorem q206 : (Jvm.Cond.code ({ cls := "java/lang/Integer", name := "bitCount", desc := "(I)I" } : Jvm.MethodName) prog_26_method_49_code (1 : Nat) (Option.some Jvm.ClassFile.FieldType.int)) ∈ lw_all := lw_g (lw_at lw_m1 145 rfl) rfl
theorem q207 : (Jvm.Cond.constant "java/lang/Integer" (265 : Nat) (1431655765 : Int32)) ∈ lw_all := lw_g (lw_at lw_m1 146 rfl) rfl
theorem q208 : (Jvm.Cond.constant "java/lang/Integer" (266 : Nat) (858993459 : Int32)) ∈ lw_all := lw_g (lw_at lw_m1 147 rfl) rfl
theorem q209 : (Jvm.Cond.constant "java/lang/Integer" (267 : Nat) (252645135 : Int32)) ∈ lw_all := lw_g (lw_at lw_m1 148 rfl) rfl
theorem q561 : (Jvm.Cond.static ({ cls := "java/lang/Integer", name := "numberOfTrailingZeros", desc := "(I)I" } : Jvm.MethodName)) ∈ lw_all := lw_g (lw_at lw_m3 20 rfl) rfl
theorem q562 : (Jvm.Cond.code ({ cls := "java/lang/Integer", name := "numberOfTrailingZeros", desc := "(I)I" } : Jvm.MethodName) prog_26_method_48_code (2 : Nat) (Option.some Jvm.ClassFile.FieldType.int)) ∈ lw_all := lw_g (lw_at lw_m3 21 rfl) rfl
theorem q563 : (Jvm.Cond.constant "java/lang/Integer" (264 : Nat) (65536 : Int32)) ∈ lw_all := lw_g (lw_at lw_m3 22 rfl) rfl
theorem q565 : (Jvm.Cond.static ({ cls := "java/lang/Integer", name := "numberOfLeadingZeros", desc := "(I)I" } : Jvm.MethodName)) ∈ lw_all := lw_g (lw_at lw_m3 24 rfl) rfl
theorem q566 : (Jvm.Cond.code ({ cls := "java/lang/Integer", name := "numberOfLeadingZeros", desc := "(I)I" } : Jvm.MethodName) prog_26_method_47_code (2 : Nat) (Option.some Jvm.ClassFile.FieldType.int)) ∈ lw_all := lw_g (lw_at lw_m3 25 rfl) rfl
/-! java/lang/Math -/
set_option maxRecDepth 100000
def RJ3 : String := "java/lang/Math"
abbrev cJ3_max : ByteArray := prog_27_method_65_code
def yJ3_max : MethodName := ⟨RJ3, "max", "(II)I"⟩
def dkwJ3_max_0 : List UInt8 := [26, 27, 161, 0, 7, 26, 167, 0, 4, 27, 172]
abbrev dktJ3_max_0 : List UInt8 := dkwJ3_max_0 ++ []
theorem dksJ3_max_0 : cJ3_max.data.toList.drop 0 = dktJ3_max_0 := by decide +kernel
theorem dJ3_max_0 : decode cJ3_max 0 = .ok (.iload_n 0, 1) := dk_26 (dk_at dksJ3_max_0 0 rfl rfl)
theorem dJ3_max_1 : decode cJ3_max 1 = .ok (.iload_n 1, 1) := dk_27 (dk_at dksJ3_max_0 1 rfl rfl)
theorem dJ3_max_2 : decode cJ3_max 2 = .ok (.if_icmp .lt 7, 3) := dk_161 0 7 (dk_at dksJ3_max_0 2 rfl rfl)
theorem dJ3_max_5 : decode cJ3_max 5 = .ok (.iload_n 0, 1) := dk_26 (dk_at dksJ3_max_0 5 rfl rfl)
theorem dJ3_max_6 : decode cJ3_max 6 = .ok (.goto 4, 3) := dk_167 0 4 (dk_at dksJ3_max_0 6 rfl rfl)
theorem dJ3_max_9 : decode cJ3_max 9 = .ok (.iload_n 1, 1) := dk_27 (dk_at dksJ3_max_0 9 rfl rfl)
theorem dJ3_max_10 : decode cJ3_max 10 = .ok (.ireturn, 1) := dk_172 (dk_at dksJ3_max_0 10 rfl rfl)
abbrev cJ3_min : ByteArray := prog_27_method_69_code
def yJ3_min : MethodName := ⟨RJ3, "min", "(II)I"⟩
def dkwJ3_min_0 : List UInt8 := [26, 27, 163, 0, 7, 26, 167, 0, 4, 27, 172]
abbrev dktJ3_min_0 : List UInt8 := dkwJ3_min_0 ++ []
theorem dksJ3_min_0 : cJ3_min.data.toList.drop 0 = dktJ3_min_0 := by decide +kernel
theorem dJ3_min_0 : decode cJ3_min 0 = .ok (.iload_n 0, 1) := dk_26 (dk_at dksJ3_min_0 0 rfl rfl)
theorem dJ3_min_1 : decode cJ3_min 1 = .ok (.iload_n 1, 1) := dk_27 (dk_at dksJ3_min_0 1 rfl rfl)
theorem dJ3_min_2 : decode cJ3_min 2 = .ok (.if_icmp .gt 7, 3) := dk_163 0 7 (dk_at dksJ3_min_0 2 rfl rfl)
theorem dJ3_min_5 : decode cJ3_min 5 = .ok (.iload_n 0, 1) := dk_26 (dk_at dksJ3_min_0 5 rfl rfl)
theorem dJ3_min_6 : decode cJ3_min 6 = .ok (.goto 4, 3) := dk_167 0 4 (dk_at dksJ3_min_0 6 rfl rfl)
theorem dJ3_min_9 : decode cJ3_min 9 = .ok (.iload_n 1, 1) := dk_27 (dk_at dksJ3_min_0 9 rfl rfl)
theorem dJ3_min_10 : decode cJ3_min 10 = .ok (.ireturn, 1) := dk_172 (dk_at dksJ3_min_0 10 rfl rfl)
abbrev cJ3_min_2 : ByteArray := prog_27_method_70_code
def yJ3_min_2 : MethodName := ⟨RJ3, "min", "(JJ)J"⟩
def dkwJ3_min_2_0 : List UInt8 := [30, 32, 148, 157, 0, 7, 30, 167, 0, 4, 32, 173]
abbrev dktJ3_min_2_0 : List UInt8 := dkwJ3_min_2_0 ++ []
theorem dksJ3_min_2_0 : cJ3_min_2.data.toList.drop 0 = dktJ3_min_2_0 := by decide +kernel
theorem dJ3_min_2_0 : decode cJ3_min_2 0 = .ok (.lload_n 0, 1) := dk_30 (dk_at dksJ3_min_2_0 0 rfl rfl)
theorem dJ3_min_2_1 : decode cJ3_min_2 1 = .ok (.lload_n 2, 1) := dk_32 (dk_at dksJ3_min_2_0 1 rfl rfl)
theorem dJ3_min_2_2 : decode cJ3_min_2 2 = .ok (.lcmp, 1) := dk_148 (dk_at dksJ3_min_2_0 2 rfl rfl)
theorem dJ3_min_2_3 : decode cJ3_min_2 3 = .ok (.ifCond .gt 7, 3) := dk_157 0 7 (dk_at dksJ3_min_2_0 3 rfl rfl)
theorem dJ3_min_2_6 : decode cJ3_min_2 6 = .ok (.lload_n 0, 1) := dk_30 (dk_at dksJ3_min_2_0 6 rfl rfl)
theorem dJ3_min_2_7 : decode cJ3_min_2 7 = .ok (.goto 4, 3) := dk_167 0 4 (dk_at dksJ3_min_2_0 7 rfl rfl)
theorem dJ3_min_2_10 : decode cJ3_min_2 10 = .ok (.lload_n 2, 1) := dk_32 (dk_at dksJ3_min_2_0 10 rfl rfl)
theorem dJ3_min_2_11 : decode cJ3_min_2 11 = .ok (.lreturn, 1) := dk_173 (dk_at dksJ3_min_2_0 11 rfl rfl)
abbrev cJ3_max_2 : ByteArray := prog_27_method_66_code
def yJ3_max_2 : MethodName := ⟨RJ3, "max", "(JJ)J"⟩
def dkwJ3_max_2_0 : List UInt8 := [30, 32, 148, 155, 0, 7, 30, 167, 0, 4, 32, 173]
abbrev dktJ3_max_2_0 : List UInt8 := dkwJ3_max_2_0 ++ []
theorem dksJ3_max_2_0 : cJ3_max_2.data.toList.drop 0 = dktJ3_max_2_0 := by decide +kernel
theorem dJ3_max_2_0 : decode cJ3_max_2 0 = .ok (.lload_n 0, 1) := dk_30 (dk_at dksJ3_max_2_0 0 rfl rfl)
theorem dJ3_max_2_1 : decode cJ3_max_2 1 = .ok (.lload_n 2, 1) := dk_32 (dk_at dksJ3_max_2_0 1 rfl rfl)
theorem dJ3_max_2_2 : decode cJ3_max_2 2 = .ok (.lcmp, 1) := dk_148 (dk_at dksJ3_max_2_0 2 rfl rfl)
theorem dJ3_max_2_3 : decode cJ3_max_2 3 = .ok (.ifCond .lt 7, 3) := dk_155 0 7 (dk_at dksJ3_max_2_0 3 rfl rfl)
theorem dJ3_max_2_6 : decode cJ3_max_2 6 = .ok (.lload_n 0, 1) := dk_30 (dk_at dksJ3_max_2_0 6 rfl rfl)
theorem dJ3_max_2_7 : decode cJ3_max_2 7 = .ok (.goto 4, 3) := dk_167 0 4 (dk_at dksJ3_max_2_0 7 rfl rfl)
theorem dJ3_max_2_10 : decode cJ3_max_2 10 = .ok (.lload_n 2, 1) := dk_32 (dk_at dksJ3_max_2_0 10 rfl rfl)
theorem dJ3_max_2_11 : decode cJ3_max_2 11 = .ok (.lreturn, 1) := dk_173 (dk_at dksJ3_max_2_0 11 rfl rfl)
theorem q80 : (Jvm.Cond.initialized "java/lang/Math") ∈ lw_all := lw_g (lw_at lw_m1 19 rfl) rfl
theorem q558 : (Jvm.Cond.static ({ cls := "java/lang/Math", name := "max", desc := "(II)I" } : Jvm.MethodName)) ∈ lw_all := lw_g (lw_at lw_m3 17 rfl) rfl
theorem q559 : (Jvm.Cond.code ({ cls := "java/lang/Math", name := "max", desc := "(II)I" } : Jvm.MethodName) prog_27_method_65_code (2 : Nat) (Option.some Jvm.ClassFile.FieldType.int)) ∈ lw_all := lw_g (lw_at lw_m3 18 rfl) rfl
theorem q612 : (Jvm.Cond.static ({ cls := "java/lang/Math", name := "min", desc := "(II)I" } : Jvm.MethodName)) ∈ lw_all := lw_g (lw_at lw_m3 71 rfl) rfl
theorem q613 : (Jvm.Cond.code ({ cls := "java/lang/Math", name := "min", desc := "(II)I" } : Jvm.MethodName) prog_27_method_69_code (2 : Nat) (Option.some Jvm.ClassFile.FieldType.int)) ∈ lw_all := lw_g (lw_at lw_m3 72 rfl) rfl
theorem q868 : (Jvm.Cond.static ({ cls := "java/lang/Math", name := "min", desc := "(JJ)J" } : Jvm.MethodName)) ∈ lw_all := lw_g (lw_at lw_m4 87 rfl) rfl
theorem q869 : (Jvm.Cond.code ({ cls := "java/lang/Math", name := "min", desc := "(JJ)J" } : Jvm.MethodName) prog_27_method_70_code (4 : Nat) (Option.some Jvm.ClassFile.FieldType.long)) ∈ lw_all := lw_g (lw_at lw_m4 88 rfl) rfl
theorem q871 : (Jvm.Cond.static ({ cls := "java/lang/Math", name := "max", desc := "(JJ)J" } : Jvm.MethodName)) ∈ lw_all := lw_g (lw_at lw_m4 90 rfl) rfl
theorem q872 : (Jvm.Cond.code ({ cls := "java/lang/Math", name := "max", desc := "(JJ)J" } : Jvm.MethodName) prog_27_method_66_code (4 : Nat) (Option.some Jvm.ClassFile.FieldType.long)) ∈ lw_all := lw_g (lw_at lw_m4 91 rfl) rfl
/-! java/lang/Throwable -/
set_option maxRecDepth 100000
def RJ1 : String := "java/lang/Throwable"
def TJ1 : u_T := fun k => match k with
  | 0 => ("java/lang/Throwable", "cause", "Ljava/lang/Throwable;", false)
  | 1 => ("java/lang/Throwable", "stackTrace", "[Ljava/lang/StackTraceElement;", false)
  | 2 => ("java/lang/Throwable", "suppressedExceptions", "Ljava/util/List;", false)
  | 3 => ("java/lang/Throwable", "detailMessage", "Ljava/lang/String;", false)
  | _ => ("java/lang/Throwable", "backtrace", "Ljava/lang/Object;", false)
def tyJ1 : Nat → FieldType := fun k => match k with
  | 0 => .object "java/lang/Throwable"
  | 1 => .array (.object "java/lang/StackTraceElement")
  | 2 => .object "java/util/List"
  | 3 => .object "java/lang/String"
  | _ => .object "java/lang/Object"
abbrev wsJ10 : List Cond := u_ws RJ1 TJ1 5
theorem nmJ1 : ∀ a, a < 5 → ∀ b, b < 5 → a ≠ b → (TJ1 a).2.1 ≠ (TJ1 b).2.1 := by decide +kernel
theorem tyJ1_ok : ∀ k, k < 5 → parseFieldDescriptor (TJ1 k).2.2.1 = some (tyJ1 k) := by decide +kernel
abbrev cJ1_init : ByteArray := prog_29_method_1_code
def yJ1_init : MethodName := ⟨RJ1, "<init>", "()V"⟩
def dkwJ1_init_1 : List UInt8 := [182, 0, 27, 87, 177]
abbrev dktJ1_init_1 : List UInt8 := dkwJ1_init_1 ++ []
def dkwJ1_init_0 : List UInt8 := [42, 183, 0, 1, 42, 42, 181, 0, 7, 42, 178, 0, 13, 181, 0, 17, 42, 178, 0, 20, 181, 0, 24, 42]
abbrev dktJ1_init_0 : List UInt8 := dkwJ1_init_0 ++ dktJ1_init_1
theorem dksJ1_init_0 : cJ1_init.data.toList.drop 0 = dktJ1_init_0 := by decide +kernel
theorem dksJ1_init_1 : cJ1_init.data.toList.drop 24 = dktJ1_init_1 := dk_seg dksJ1_init_0 24 rfl rfl
theorem dJ1_init_0 : decode cJ1_init 0 = .ok (.aload_n 0, 1) := dk_42 (dk_at dksJ1_init_0 0 rfl rfl)
theorem dJ1_init_1 : decode cJ1_init 1 = .ok (.invokespecial 1, 3) := dk_183 0 1 (dk_at dksJ1_init_0 1 rfl rfl)
theorem dJ1_init_4 : decode cJ1_init 4 = .ok (.aload_n 0, 1) := dk_42 (dk_at dksJ1_init_0 4 rfl rfl)
theorem dJ1_init_5 : decode cJ1_init 5 = .ok (.aload_n 0, 1) := dk_42 (dk_at dksJ1_init_0 5 rfl rfl)
theorem dJ1_init_6 : decode cJ1_init 6 = .ok (.putfield 7, 3) := dk_181 0 7 (dk_at dksJ1_init_0 6 rfl rfl)
theorem dJ1_init_9 : decode cJ1_init 9 = .ok (.aload_n 0, 1) := dk_42 (dk_at dksJ1_init_0 9 rfl rfl)
theorem dJ1_init_10 : decode cJ1_init 10 = .ok (.getstatic 13, 3) := dk_178 0 13 (dk_at dksJ1_init_0 10 rfl rfl)
theorem dJ1_init_13 : decode cJ1_init 13 = .ok (.putfield 17, 3) := dk_181 0 17 (dk_at dksJ1_init_0 13 rfl rfl)
theorem dJ1_init_16 : decode cJ1_init 16 = .ok (.aload_n 0, 1) := dk_42 (dk_at dksJ1_init_0 16 rfl rfl)
theorem dJ1_init_17 : decode cJ1_init 17 = .ok (.getstatic 20, 3) := dk_178 0 20 (dk_at dksJ1_init_0 17 rfl rfl)
theorem dJ1_init_20 : decode cJ1_init 20 = .ok (.putfield 24, 3) := dk_181 0 24 (dk_at dksJ1_init_0 20 rfl rfl)
theorem dJ1_init_23 : decode cJ1_init 23 = .ok (.aload_n 0, 1) := dk_42 (dk_at dksJ1_init_0 23 rfl rfl)
theorem dJ1_init_24 : decode cJ1_init 24 = .ok (.invokevirtual 27, 3) := dk_182 0 27 (dk_at dksJ1_init_1 0 rfl rfl)
theorem dJ1_init_27 : decode cJ1_init 27 = .ok (.pop, 1) := dk_87 (dk_at dksJ1_init_1 3 rfl rfl)
theorem dJ1_init_28 : decode cJ1_init 28 = .ok (.return_, 1) := dk_177 (dk_at dksJ1_init_1 4 rfl rfl)
abbrev cJ1_init_2 : ByteArray := prog_29_method_5_code
def yJ1_init_2 : MethodName := ⟨RJ1, "<init>", "(Ljava/lang/String;Ljava/lang/Throwable;ZZ)V"⟩
def dkwJ1_init_2_2 : List UInt8 := [44, 181, 0, 7, 29, 154, 0, 8, 42, 1, 181, 0, 24, 177]
abbrev dktJ1_init_2_2 : List UInt8 := dkwJ1_init_2_2 ++ []
def dkwJ1_init_2_1 : List UInt8 := [21, 4, 153, 0, 11, 42, 182, 0, 27, 87, 167, 0, 8, 42, 1, 181, 0, 17, 42, 43, 181, 0, 31, 42]
abbrev dktJ1_init_2_1 : List UInt8 := dkwJ1_init_2_1 ++ dktJ1_init_2_2
def dkwJ1_init_2_0 : List UInt8 := [42, 183, 0, 1, 42, 42, 181, 0, 7, 42, 178, 0, 13, 181, 0, 17, 42, 178, 0, 20, 181, 0, 24]
abbrev dktJ1_init_2_0 : List UInt8 := dkwJ1_init_2_0 ++ dktJ1_init_2_1
theorem dksJ1_init_2_0 : cJ1_init_2.data.toList.drop 0 = dktJ1_init_2_0 := by decide +kernel
theorem dksJ1_init_2_1 : cJ1_init_2.data.toList.drop 23 = dktJ1_init_2_1 := dk_seg dksJ1_init_2_0 23 rfl rfl
theorem dksJ1_init_2_2 : cJ1_init_2.data.toList.drop 47 = dktJ1_init_2_2 := dk_seg dksJ1_init_2_1 24 rfl rfl
theorem dJ1_init_2_0 : decode cJ1_init_2 0 = .ok (.aload_n 0, 1) := dk_42 (dk_at dksJ1_init_2_0 0 rfl rfl)
theorem dJ1_init_2_1 : decode cJ1_init_2 1 = .ok (.invokespecial 1, 3) := dk_183 0 1 (dk_at dksJ1_init_2_0 1 rfl rfl)
theorem dJ1_init_2_4 : decode cJ1_init_2 4 = .ok (.aload_n 0, 1) := dk_42 (dk_at dksJ1_init_2_0 4 rfl rfl)
theorem dJ1_init_2_5 : decode cJ1_init_2 5 = .ok (.aload_n 0, 1) := dk_42 (dk_at dksJ1_init_2_0 5 rfl rfl)
theorem dJ1_init_2_6 : decode cJ1_init_2 6 = .ok (.putfield 7, 3) := dk_181 0 7 (dk_at dksJ1_init_2_0 6 rfl rfl)
theorem dJ1_init_2_9 : decode cJ1_init_2 9 = .ok (.aload_n 0, 1) := dk_42 (dk_at dksJ1_init_2_0 9 rfl rfl)
theorem dJ1_init_2_10 : decode cJ1_init_2 10 = .ok (.getstatic 13, 3) := dk_178 0 13 (dk_at dksJ1_init_2_0 10 rfl rfl)
theorem dJ1_init_2_13 : decode cJ1_init_2 13 = .ok (.putfield 17, 3) := dk_181 0 17 (dk_at dksJ1_init_2_0 13 rfl rfl)
theorem dJ1_init_2_16 : decode cJ1_init_2 16 = .ok (.aload_n 0, 1) := dk_42 (dk_at dksJ1_init_2_0 16 rfl rfl)
theorem dJ1_init_2_17 : decode cJ1_init_2 17 = .ok (.getstatic 20, 3) := dk_178 0 20 (dk_at dksJ1_init_2_0 17 rfl rfl)
theorem dJ1_init_2_20 : decode cJ1_init_2 20 = .ok (.putfield 24, 3) := dk_181 0 24 (dk_at dksJ1_init_2_0 20 rfl rfl)
theorem dJ1_init_2_23 : decode cJ1_init_2 23 = .ok (.iload 4, 2) := dk_21 4 (dk_at dksJ1_init_2_1 0 rfl rfl)
theorem dJ1_init_2_25 : decode cJ1_init_2 25 = .ok (.ifCond .eq 11, 3) := dk_153 0 11 (dk_at dksJ1_init_2_1 2 rfl rfl)
theorem dJ1_init_2_28 : decode cJ1_init_2 28 = .ok (.aload_n 0, 1) := dk_42 (dk_at dksJ1_init_2_1 5 rfl rfl)
theorem dJ1_init_2_29 : decode cJ1_init_2 29 = .ok (.invokevirtual 27, 3) := dk_182 0 27 (dk_at dksJ1_init_2_1 6 rfl rfl)
theorem dJ1_init_2_32 : decode cJ1_init_2 32 = .ok (.pop, 1) := dk_87 (dk_at dksJ1_init_2_1 9 rfl rfl)
theorem dJ1_init_2_33 : decode cJ1_init_2 33 = .ok (.goto 8, 3) := dk_167 0 8 (dk_at dksJ1_init_2_1 10 rfl rfl)
theorem dJ1_init_2_36 : decode cJ1_init_2 36 = .ok (.aload_n 0, 1) := dk_42 (dk_at dksJ1_init_2_1 13 rfl rfl)
theorem dJ1_init_2_37 : decode cJ1_init_2 37 = .ok (.aconst_null, 1) := dk_1 (dk_at dksJ1_init_2_1 14 rfl rfl)
theorem dJ1_init_2_38 : decode cJ1_init_2 38 = .ok (.putfield 17, 3) := dk_181 0 17 (dk_at dksJ1_init_2_1 15 rfl rfl)
theorem dJ1_init_2_41 : decode cJ1_init_2 41 = .ok (.aload_n 0, 1) := dk_42 (dk_at dksJ1_init_2_1 18 rfl rfl)
theorem dJ1_init_2_42 : decode cJ1_init_2 42 = .ok (.aload_n 1, 1) := dk_43 (dk_at dksJ1_init_2_1 19 rfl rfl)
theorem dJ1_init_2_43 : decode cJ1_init_2 43 = .ok (.putfield 31, 3) := dk_181 0 31 (dk_at dksJ1_init_2_1 20 rfl rfl)
theorem dJ1_init_2_46 : decode cJ1_init_2 46 = .ok (.aload_n 0, 1) := dk_42 (dk_at dksJ1_init_2_1 23 rfl rfl)
theorem dJ1_init_2_47 : decode cJ1_init_2 47 = .ok (.aload_n 2, 1) := dk_44 (dk_at dksJ1_init_2_2 0 rfl rfl)
theorem dJ1_init_2_48 : decode cJ1_init_2 48 = .ok (.putfield 7, 3) := dk_181 0 7 (dk_at dksJ1_init_2_2 1 rfl rfl)
theorem dJ1_init_2_51 : decode cJ1_init_2 51 = .ok (.iload_n 3, 1) := dk_29 (dk_at dksJ1_init_2_2 4 rfl rfl)
theorem dJ1_init_2_52 : decode cJ1_init_2 52 = .ok (.ifCond .ne 8, 3) := dk_154 0 8 (dk_at dksJ1_init_2_2 5 rfl rfl)
theorem dJ1_init_2_55 : decode cJ1_init_2 55 = .ok (.aload_n 0, 1) := dk_42 (dk_at dksJ1_init_2_2 8 rfl rfl)
theorem dJ1_init_2_56 : decode cJ1_init_2 56 = .ok (.aconst_null, 1) := dk_1 (dk_at dksJ1_init_2_2 9 rfl rfl)
theorem dJ1_init_2_57 : decode cJ1_init_2 57 = .ok (.putfield 24, 3) := dk_181 0 24 (dk_at dksJ1_init_2_2 10 rfl rfl)
theorem dJ1_init_2_60 : decode cJ1_init_2 60 = .ok (.return_, 1) := dk_177 (dk_at dksJ1_init_2_2 13 rfl rfl)
theorem q69 : (Jvm.Cond.initialized "java/lang/Throwable") ∈ lw_all := lw_g (lw_at lw_m1 8 rfl) rfl
theorem q288 : (Jvm.Cond.declares ({ cls := "java/lang/Throwable", name := "<init>", desc := "()V" } : Jvm.MethodName)) ∈ lw_tbl := lw_at lw_m1 227 rfl
theorem q289 : (Jvm.Cond.declares ({ cls := "java/lang/Throwable", name := "<init>", desc := "(Ljava/lang/String;)V" } : Jvm.MethodName)) ∈ lw_tbl := lw_at lw_m1 228 rfl
theorem q293 : (Jvm.Cond.lays "java/lang/Throwable" "java/lang/Throwable" "cause" "Ljava/lang/Throwable;") ∈ lw_all := lw_g (lw_at lw_m1 232 rfl) rfl
theorem q295 : (Jvm.Cond.lays "java/lang/Throwable" "java/lang/Throwable" "stackTrace" "[Ljava/lang/StackTraceElement;") ∈ lw_all := lw_g (lw_at lw_m1 234 rfl) rfl
theorem q297 : (Jvm.Cond.lays "java/lang/Throwable" "java/lang/Throwable" "suppressedExceptions" "Ljava/util/List;") ∈ lw_all := lw_g (lw_at lw_m1 236 rfl) rfl
theorem q299 : (Jvm.Cond.lays "java/lang/Throwable" "java/lang/Throwable" "detailMessage" "Ljava/lang/String;") ∈ lw_all := lw_g (lw_at lw_m1 238 rfl) rfl
theorem q301 : (Jvm.Cond.lays "java/lang/Throwable" "java/lang/Throwable" "backtrace" "Ljava/lang/Object;") ∈ lw_all := lw_g (lw_at lw_m2 0 rfl) rfl
theorem q302 : (Jvm.Cond.fieldLink "java/lang/Throwable" (198 : Nat) "java/lang/Throwable" "backtrace" "Ljava/lang/Object;") ∈ lw_all := lw_g (lw_at lw_m2 1 rfl) rfl
theorem q303 : (Jvm.Cond.superclass "java/lang/Throwable" "java/lang/Object") ∈ lw_all := lw_g (lw_at lw_m2 2 rfl) rfl
theorem q304 : (Jvm.Cond.instanceMethod ({ cls := "java/lang/Throwable", name := "<init>", desc := "()V" } : Jvm.MethodName)) ∈ lw_all := lw_g (lw_at lw_m2 3 rfl) rfl
theorem q305 : (Jvm.Cond.code ({ cls := "java/lang/Throwable", name := "<init>", desc := "()V" } : Jvm.MethodName) prog_29_method_1_code (1 : Nat) (Option.none : Option Jvm.ClassFile.FieldType)) ∈ lw_all := lw_g (lw_at lw_m2 4 rfl) rfl
theorem q306 : (Jvm.Cond.methodLink "java/lang/Throwable" (1 : Nat) ({ cls := "java/lang/Object", name := "<init>", desc := "()V" } : Jvm.MethodName)) ∈ lw_all := lw_g (lw_at lw_m2 5 rfl) rfl
theorem q307 : (Jvm.Cond.fieldLink "java/lang/Throwable" (13 : Nat) "java/lang/Throwable" "UNASSIGNED_STACK" "[Ljava/lang/StackTraceElement;") ∈ lw_all := lw_g (lw_at lw_m2 6 rfl) rfl
theorem q308 : (Jvm.Cond.laysStatic "java/lang/Throwable" "UNASSIGNED_STACK" "[Ljava/lang/StackTraceElement;") ∈ lw_tbl := lw_at lw_m2 7 rfl
theorem q309 : (Jvm.Cond.fieldLink "java/lang/Throwable" (20 : Nat) "java/lang/Throwable" "SUPPRESSED_SENTINEL" "Ljava/util/List;") ∈ lw_all := lw_g (lw_at lw_m2 8 rfl) rfl
theorem q310 : (Jvm.Cond.laysStatic "java/lang/Throwable" "SUPPRESSED_SENTINEL" "Ljava/util/List;") ∈ lw_tbl := lw_at lw_m2 9 rfl
theorem q311 : (Jvm.Cond.methodLink "java/lang/Throwable" (27 : Nat) ({ cls := "java/lang/Throwable", name := "fillInStackTrace", desc := "()Ljava/lang/Throwable;" } : Jvm.MethodName)) ∈ lw_all := lw_g (lw_at lw_m2 10 rfl) rfl
theorem q312 : (Jvm.Cond.instanceMethod ({ cls := "java/lang/Throwable", name := "fillInStackTrace", desc := "()Ljava/lang/Throwable;" } : Jvm.MethodName)) ∈ lw_all := lw_g (lw_at lw_m2 11 rfl) rfl
theorem q313 : (Jvm.Cond.sameMethod "java/lang/Throwable" "java/lang/Throwable" "fillInStackTrace" "()Ljava/lang/Throwable;") ∈ lw_all := lw_g (lw_at lw_m2 12 rfl) rfl
theorem q315 : (Jvm.Cond.codeSync ({ cls := "java/lang/Throwable", name := "fillInStackTrace", desc := "()Ljava/lang/Throwable;" } : Jvm.MethodName) prog_29_method_18_code (1 : Nat) (Option.some (Jvm.ClassFile.FieldType.object "java/lang/Throwable"))) ∈ lw_all := lw_g (lw_at lw_m2 14 rfl) rfl
theorem q316 : (Jvm.Cond.methodLink "java/lang/Throwable" (202 : Nat) ({ cls := "java/lang/Throwable", name := "fillInStackTrace", desc := "(I)Ljava/lang/Throwable;" } : Jvm.MethodName)) ∈ lw_all := lw_g (lw_at lw_m2 15 rfl) rfl
theorem q317 : (Jvm.Cond.privateMethod ({ cls := "java/lang/Throwable", name := "fillInStackTrace", desc := "(I)Ljava/lang/Throwable;" } : Jvm.MethodName)) ∈ lw_tbl := lw_at lw_m2 16 rfl
theorem q318 : (Jvm.Cond.instanceMethod ({ cls := "java/lang/Throwable", name := "fillInStackTrace", desc := "(I)Ljava/lang/Throwable;" } : Jvm.MethodName)) ∈ lw_all := lw_g (lw_at lw_m2 17 rfl) rfl
theorem q319 : (Jvm.Cond.instantiable "java/lang/Throwable" (6 : Nat)) ∈ lw_all := lw_g (lw_at lw_m2 18 rfl) rfl
theorem q320 : (Jvm.Cond.native ({ cls := "java/lang/Throwable", name := "fillInStackTrace", desc := "(I)Ljava/lang/Throwable;" } : Jvm.MethodName)) ∈ lw_all := lw_g (lw_at lw_m2 19 rfl) rfl
theorem q328 : (Jvm.Cond.instanceMethod ({ cls := "java/lang/Throwable", name := "<init>", desc := "(Ljava/lang/String;Ljava/lang/Throwable;ZZ)V" } : Jvm.MethodName)) ∈ lw_all := lw_g (lw_at lw_m2 27 rfl) rfl
theorem q329 : (Jvm.Cond.code ({ cls := "java/lang/Throwable", name := "<init>", desc := "(Ljava/lang/String;Ljava/lang/Throwable;ZZ)V" } : Jvm.MethodName) prog_29_method_5_code (5 : Nat) (Option.none : Option Jvm.ClassFile.FieldType)) ∈ lw_all := lw_g (lw_at lw_m2 28 rfl) rfl
theorem q332 : (Jvm.Cond.fieldLink "java/lang/Throwable" (198 : Nat) "java/lang/Throwable" "backtrace" "Ljava/lang/Object;") ∈ lw_all := lw_g (lw_at lw_m2 31 rfl) rfl
theorem q333 : (Jvm.Cond.fieldLink "java/lang/Throwable" (31 : Nat) "java/lang/Throwable" "detailMessage" "Ljava/lang/String;") ∈ lw_all := lw_g (lw_at lw_m2 32 rfl) rfl
theorem q334 : (Jvm.Cond.fieldLink "java/lang/Throwable" (7 : Nat) "java/lang/Throwable" "cause" "Ljava/lang/Throwable;") ∈ lw_all := lw_g (lw_at lw_m2 33 rfl) rfl
theorem q335 : (Jvm.Cond.fieldLink "java/lang/Throwable" (17 : Nat) "java/lang/Throwable" "stackTrace" "[Ljava/lang/StackTraceElement;") ∈ lw_all := lw_g (lw_at lw_m2 34 rfl) rfl
theorem q336 : (Jvm.Cond.fieldLink "java/lang/Throwable" (24 : Nat) "java/lang/Throwable" "suppressedExceptions" "Ljava/util/List;") ∈ lw_all := lw_g (lw_at lw_m2 35 rfl) rfl
theorem q339 : (Jvm.Cond.soleField "java/lang/Throwable" "backtrace") ∈ lw_all := lw_g (lw_at lw_m2 38 rfl) rfl
theorem q340 : (Jvm.Cond.soleField "java/lang/Throwable" "detailMessage") ∈ lw_all := lw_g (lw_at lw_m2 39 rfl) rfl
theorem q341 : (Jvm.Cond.soleField "java/lang/Throwable" "cause") ∈ lw_all := lw_g (lw_at lw_m2 40 rfl) rfl
theorem q342 : (Jvm.Cond.soleField "java/lang/Throwable" "stackTrace") ∈ lw_all := lw_g (lw_at lw_m2 41 rfl) rfl
theorem q344 : (Jvm.Cond.soleField "java/lang/Throwable" "depth") ∈ lw_all := lw_g (lw_at lw_m2 43 rfl) rfl
theorem q345 : (Jvm.Cond.soleField "java/lang/Throwable" "suppressedExceptions") ∈ lw_all := lw_g (lw_at lw_m2 44 rfl) rfl
theorem q1531 : (Jvm.Cond.sameMethod "java/lang/Throwable" "java/lang/Throwable" "fillInStackTrace" "(I)Ljava/lang/Throwable;") ∈ lw_all := lw_g (lw_at lw_m7 30 rfl) rfl
theorem in_J1 : ∀ w ∈ wsJ10, w ∈ lw_all := lw_in wsJ10 [293, 295, 297, 299, 301] (by decide +kernel) (by decide +kernel)
/-! java/lang/Exception -/
set_option maxRecDepth 100000
def RJ2 : String := "java/lang/Exception"
abbrev cJ2_init : ByteArray := prog_25_method_5_code
def yJ2_init : MethodName := ⟨RJ2, "<init>", "(Ljava/lang/String;Ljava/lang/Throwable;ZZ)V"⟩
def dkwJ2_init_0 : List UInt8 := [42, 43, 44, 29, 21, 4, 183, 0, 16, 177]
abbrev dktJ2_init_0 : List UInt8 := dkwJ2_init_0 ++ []
theorem dksJ2_init_0 : cJ2_init.data.toList.drop 0 = dktJ2_init_0 := by decide +kernel
theorem dJ2_init_0 : decode cJ2_init 0 = .ok (.aload_n 0, 1) := dk_42 (dk_at dksJ2_init_0 0 rfl rfl)
theorem dJ2_init_1 : decode cJ2_init 1 = .ok (.aload_n 1, 1) := dk_43 (dk_at dksJ2_init_0 1 rfl rfl)
theorem dJ2_init_2 : decode cJ2_init 2 = .ok (.aload_n 2, 1) := dk_44 (dk_at dksJ2_init_0 2 rfl rfl)
theorem dJ2_init_3 : decode cJ2_init 3 = .ok (.iload_n 3, 1) := dk_29 (dk_at dksJ2_init_0 3 rfl rfl)
theorem dJ2_init_4 : decode cJ2_init 4 = .ok (.iload 4, 2) := dk_21 4 (dk_at dksJ2_init_0 4 rfl rfl)
theorem dJ2_init_6 : decode cJ2_init 6 = .ok (.invokespecial 16, 3) := dk_183 0 16 (dk_at dksJ2_init_0 6 rfl rfl)
theorem dJ2_init_9 : decode cJ2_init 9 = .ok (.return_, 1) := dk_177 (dk_at dksJ2_init_0 9 rfl rfl)
theorem q70 : (Jvm.Cond.initialized "java/lang/Exception") ∈ lw_all := lw_g (lw_at lw_m1 9 rfl) rfl
theorem q286 : (Jvm.Cond.declares ({ cls := "java/lang/Exception", name := "<init>", desc := "()V" } : Jvm.MethodName)) ∈ lw_tbl := lw_at lw_m1 225 rfl
theorem q287 : (Jvm.Cond.declares ({ cls := "java/lang/Exception", name := "<init>", desc := "(Ljava/lang/String;)V" } : Jvm.MethodName)) ∈ lw_tbl := lw_at lw_m1 226 rfl
theorem q325 : (Jvm.Cond.instanceMethod ({ cls := "java/lang/Exception", name := "<init>", desc := "(Ljava/lang/String;Ljava/lang/Throwable;ZZ)V" } : Jvm.MethodName)) ∈ lw_all := lw_g (lw_at lw_m2 24 rfl) rfl
theorem q326 : (Jvm.Cond.code ({ cls := "java/lang/Exception", name := "<init>", desc := "(Ljava/lang/String;Ljava/lang/Throwable;ZZ)V" } : Jvm.MethodName) prog_25_method_5_code (5 : Nat) (Option.none : Option Jvm.ClassFile.FieldType)) ∈ lw_all := lw_g (lw_at lw_m2 25 rfl) rfl
theorem q327 : (Jvm.Cond.methodLink "java/lang/Exception" (16 : Nat) ({ cls := "java/lang/Throwable", name := "<init>", desc := "(Ljava/lang/String;Ljava/lang/Throwable;ZZ)V" } : Jvm.MethodName)) ∈ lw_all := lw_g (lw_at lw_m2 26 rfl) rfl
/-! SlipWeeks$Game -/
set_option maxRecDepth 100000
def RX1 : String := "SlipWeeks$Game"
def TX1 : u_T := fun k => match k with
  | 0 => ("SlipWeeks$Game", "people", "I", false)
  | 1 => ("SlipWeeks$Game", "weeks", "I", false)
  | 2 => ("SlipWeeks$Game", "bought", "I", false)
  | 3 => ("SlipWeeks$Game", "z", "I", false)
  | 4 => ("SlipWeeks$Game", "rule", "[I", true)
  | 5 => ("SlipWeeks$Game", "group", "[LSlipWeeks$Slot;", true)
  | 6 => ("SlipWeeks$Game", "liking", "LSlipWeeks$Slot;", true)
  | 7 => ("SlipWeeks$Game", "boughtPlace", "[I", true)
  | 8 => ("SlipWeeks$Game", "boughtMany", "[I", true)
  | _ => ("SlipWeeks$Game", "book", "[[I", true)
def tyX1 : Nat → FieldType := fun k => match k with
  | 0 => .int
  | 1 => .int
  | 2 => .int
  | 3 => .int
  | 4 => .array .int
  | 5 => .array (.object "SlipWeeks$Slot")
  | 6 => .object "SlipWeeks$Slot"
  | 7 => .array .int
  | 8 => .array .int
  | _ => .array (.array .int)
abbrev wsX10 : List Cond := u_ws RX1 TX1 10
theorem nmX1 : ∀ a, a < 10 → ∀ b, b < 10 → a ≠ b → (TX1 a).2.1 ≠ (TX1 b).2.1 := by decide +kernel
theorem tyX1_ok : ∀ k, k < 10 → parseFieldDescriptor (TX1 k).2.2.1 = some (tyX1 k) := by decide +kernel
abbrev cX1_init : ByteArray := prog_9_method_1_code
def yX1_init : MethodName := ⟨RX1, "<init>", "()V"⟩
def dkwX1_init_4 : List UInt8 := [197, 0, 40, 2, 181, 0, 42, 177]
abbrev dktX1_init_4 : List UInt8 := dkwX1_init_4 ++ []
def dkwX1_init_3 : List UInt8 := [181, 0, 30, 42, 16, 40, 188, 10, 181, 0, 34, 42, 16, 40, 188, 10, 181, 0, 37, 42, 16, 8, 16, 40]
abbrev dktX1_init_3 : List UInt8 := dkwX1_init_3 ++ dktX1_init_4
def dkwX1_init_2 : List UInt8 := [16, 7, 3, 79, 181, 0, 15, 42, 16, 12, 184, 0, 19, 181, 0, 23, 42, 187, 0, 27, 89, 183, 0, 29]
abbrev dktX1_init_2 : List UInt8 := dkwX1_init_2 ++ dktX1_init_3
def dkwX1_init_1 : List UInt8 := [5, 16, 60, 79, 89, 6, 16, 30, 79, 89, 7, 16, 10, 79, 89, 8, 3, 79, 89, 16, 6, 3, 79, 89]
abbrev dktX1_init_1 : List UInt8 := dkwX1_init_1 ++ dktX1_init_2
def dkwX1_init_0 : List UInt8 := [42, 183, 0, 3, 42, 4, 181, 0, 9, 42, 16, 8, 188, 10, 89, 3, 4, 79, 89, 4, 16, 50, 79, 89]
abbrev dktX1_init_0 : List UInt8 := dkwX1_init_0 ++ dktX1_init_1
theorem dksX1_init_0 : cX1_init.data.toList.drop 0 = dktX1_init_0 := by decide +kernel
theorem dksX1_init_1 : cX1_init.data.toList.drop 24 = dktX1_init_1 := dk_seg dksX1_init_0 24 rfl rfl
theorem dksX1_init_2 : cX1_init.data.toList.drop 48 = dktX1_init_2 := dk_seg dksX1_init_1 24 rfl rfl
theorem dksX1_init_3 : cX1_init.data.toList.drop 72 = dktX1_init_3 := dk_seg dksX1_init_2 24 rfl rfl
theorem dksX1_init_4 : cX1_init.data.toList.drop 96 = dktX1_init_4 := dk_seg dksX1_init_3 24 rfl rfl
theorem dX1_init_0 : decode cX1_init 0 = .ok (.aload_n 0, 1) := dk_42 (dk_at dksX1_init_0 0 rfl rfl)
theorem dX1_init_1 : decode cX1_init 1 = .ok (.invokespecial 3, 3) := dk_183 0 3 (dk_at dksX1_init_0 1 rfl rfl)
theorem dX1_init_4 : decode cX1_init 4 = .ok (.aload_n 0, 1) := dk_42 (dk_at dksX1_init_0 4 rfl rfl)
theorem dX1_init_5 : decode cX1_init 5 = .ok (.iconst 1, 1) := dk_4 (dk_at dksX1_init_0 5 rfl rfl)
theorem dX1_init_6 : decode cX1_init 6 = .ok (.putfield 9, 3) := dk_181 0 9 (dk_at dksX1_init_0 6 rfl rfl)
theorem dX1_init_9 : decode cX1_init 9 = .ok (.aload_n 0, 1) := dk_42 (dk_at dksX1_init_0 9 rfl rfl)
theorem dX1_init_10 : decode cX1_init 10 = .ok (.bipush 8, 2) := dk_16 8 (dk_at dksX1_init_0 10 rfl rfl)
theorem dX1_init_12 : decode cX1_init 12 = .ok (.newarray .int, 2) := dk_188_10 (dk_at dksX1_init_0 12 rfl rfl)
theorem dX1_init_14 : decode cX1_init 14 = .ok (.dup, 1) := dk_89 (dk_at dksX1_init_0 14 rfl rfl)
theorem dX1_init_15 : decode cX1_init 15 = .ok (.iconst 0, 1) := dk_3 (dk_at dksX1_init_0 15 rfl rfl)
theorem dX1_init_16 : decode cX1_init 16 = .ok (.iconst 1, 1) := dk_4 (dk_at dksX1_init_0 16 rfl rfl)
theorem dX1_init_17 : decode cX1_init 17 = .ok (.iastore, 1) := dk_79 (dk_at dksX1_init_0 17 rfl rfl)
theorem dX1_init_18 : decode cX1_init 18 = .ok (.dup, 1) := dk_89 (dk_at dksX1_init_0 18 rfl rfl)
theorem dX1_init_19 : decode cX1_init 19 = .ok (.iconst 1, 1) := dk_4 (dk_at dksX1_init_0 19 rfl rfl)
theorem dX1_init_20 : decode cX1_init 20 = .ok (.bipush 50, 2) := dk_16 50 (dk_at dksX1_init_0 20 rfl rfl)
theorem dX1_init_22 : decode cX1_init 22 = .ok (.iastore, 1) := dk_79 (dk_at dksX1_init_0 22 rfl rfl)
theorem dX1_init_23 : decode cX1_init 23 = .ok (.dup, 1) := dk_89 (dk_at dksX1_init_0 23 rfl rfl)
theorem dX1_init_24 : decode cX1_init 24 = .ok (.iconst 2, 1) := dk_5 (dk_at dksX1_init_1 0 rfl rfl)
theorem dX1_init_25 : decode cX1_init 25 = .ok (.bipush 60, 2) := dk_16 60 (dk_at dksX1_init_1 1 rfl rfl)
theorem dX1_init_27 : decode cX1_init 27 = .ok (.iastore, 1) := dk_79 (dk_at dksX1_init_1 3 rfl rfl)
theorem dX1_init_28 : decode cX1_init 28 = .ok (.dup, 1) := dk_89 (dk_at dksX1_init_1 4 rfl rfl)
theorem dX1_init_29 : decode cX1_init 29 = .ok (.iconst 3, 1) := dk_6 (dk_at dksX1_init_1 5 rfl rfl)
theorem dX1_init_30 : decode cX1_init 30 = .ok (.bipush 30, 2) := dk_16 30 (dk_at dksX1_init_1 6 rfl rfl)
theorem dX1_init_32 : decode cX1_init 32 = .ok (.iastore, 1) := dk_79 (dk_at dksX1_init_1 8 rfl rfl)
theorem dX1_init_33 : decode cX1_init 33 = .ok (.dup, 1) := dk_89 (dk_at dksX1_init_1 9 rfl rfl)
theorem dX1_init_34 : decode cX1_init 34 = .ok (.iconst 4, 1) := dk_7 (dk_at dksX1_init_1 10 rfl rfl)
theorem dX1_init_35 : decode cX1_init 35 = .ok (.bipush 10, 2) := dk_16 10 (dk_at dksX1_init_1 11 rfl rfl)
theorem dX1_init_37 : decode cX1_init 37 = .ok (.iastore, 1) := dk_79 (dk_at dksX1_init_1 13 rfl rfl)
theorem dX1_init_38 : decode cX1_init 38 = .ok (.dup, 1) := dk_89 (dk_at dksX1_init_1 14 rfl rfl)
theorem dX1_init_39 : decode cX1_init 39 = .ok (.iconst 5, 1) := dk_8 (dk_at dksX1_init_1 15 rfl rfl)
theorem dX1_init_40 : decode cX1_init 40 = .ok (.iconst 0, 1) := dk_3 (dk_at dksX1_init_1 16 rfl rfl)
theorem dX1_init_41 : decode cX1_init 41 = .ok (.iastore, 1) := dk_79 (dk_at dksX1_init_1 17 rfl rfl)
theorem dX1_init_42 : decode cX1_init 42 = .ok (.dup, 1) := dk_89 (dk_at dksX1_init_1 18 rfl rfl)
theorem dX1_init_43 : decode cX1_init 43 = .ok (.bipush 6, 2) := dk_16 6 (dk_at dksX1_init_1 19 rfl rfl)
theorem dX1_init_45 : decode cX1_init 45 = .ok (.iconst 0, 1) := dk_3 (dk_at dksX1_init_1 21 rfl rfl)
theorem dX1_init_46 : decode cX1_init 46 = .ok (.iastore, 1) := dk_79 (dk_at dksX1_init_1 22 rfl rfl)
theorem dX1_init_47 : decode cX1_init 47 = .ok (.dup, 1) := dk_89 (dk_at dksX1_init_1 23 rfl rfl)
theorem dX1_init_48 : decode cX1_init 48 = .ok (.bipush 7, 2) := dk_16 7 (dk_at dksX1_init_2 0 rfl rfl)
theorem dX1_init_50 : decode cX1_init 50 = .ok (.iconst 0, 1) := dk_3 (dk_at dksX1_init_2 2 rfl rfl)
theorem dX1_init_51 : decode cX1_init 51 = .ok (.iastore, 1) := dk_79 (dk_at dksX1_init_2 3 rfl rfl)
theorem dX1_init_52 : decode cX1_init 52 = .ok (.putfield 15, 3) := dk_181 0 15 (dk_at dksX1_init_2 4 rfl rfl)
theorem dX1_init_55 : decode cX1_init 55 = .ok (.aload_n 0, 1) := dk_42 (dk_at dksX1_init_2 7 rfl rfl)
theorem dX1_init_56 : decode cX1_init 56 = .ok (.bipush 12, 2) := dk_16 12 (dk_at dksX1_init_2 8 rfl rfl)
theorem dX1_init_58 : decode cX1_init 58 = .ok (.invokestatic 19, 3) := dk_184 0 19 (dk_at dksX1_init_2 10 rfl rfl)
theorem dX1_init_61 : decode cX1_init 61 = .ok (.putfield 23, 3) := dk_181 0 23 (dk_at dksX1_init_2 13 rfl rfl)
theorem dX1_init_64 : decode cX1_init 64 = .ok (.aload_n 0, 1) := dk_42 (dk_at dksX1_init_2 16 rfl rfl)
theorem dX1_init_65 : decode cX1_init 65 = .ok (.new 27, 3) := dk_187 0 27 (dk_at dksX1_init_2 17 rfl rfl)
theorem dX1_init_68 : decode cX1_init 68 = .ok (.dup, 1) := dk_89 (dk_at dksX1_init_2 20 rfl rfl)
theorem dX1_init_69 : decode cX1_init 69 = .ok (.invokespecial 29, 3) := dk_183 0 29 (dk_at dksX1_init_2 21 rfl rfl)
theorem dX1_init_72 : decode cX1_init 72 = .ok (.putfield 30, 3) := dk_181 0 30 (dk_at dksX1_init_3 0 rfl rfl)
theorem dX1_init_75 : decode cX1_init 75 = .ok (.aload_n 0, 1) := dk_42 (dk_at dksX1_init_3 3 rfl rfl)
theorem dX1_init_76 : decode cX1_init 76 = .ok (.bipush 40, 2) := dk_16 40 (dk_at dksX1_init_3 4 rfl rfl)
theorem dX1_init_78 : decode cX1_init 78 = .ok (.newarray .int, 2) := dk_188_10 (dk_at dksX1_init_3 6 rfl rfl)
theorem dX1_init_80 : decode cX1_init 80 = .ok (.putfield 34, 3) := dk_181 0 34 (dk_at dksX1_init_3 8 rfl rfl)
theorem dX1_init_83 : decode cX1_init 83 = .ok (.aload_n 0, 1) := dk_42 (dk_at dksX1_init_3 11 rfl rfl)
theorem dX1_init_84 : decode cX1_init 84 = .ok (.bipush 40, 2) := dk_16 40 (dk_at dksX1_init_3 12 rfl rfl)
theorem dX1_init_86 : decode cX1_init 86 = .ok (.newarray .int, 2) := dk_188_10 (dk_at dksX1_init_3 14 rfl rfl)
theorem dX1_init_88 : decode cX1_init 88 = .ok (.putfield 37, 3) := dk_181 0 37 (dk_at dksX1_init_3 16 rfl rfl)
theorem dX1_init_91 : decode cX1_init 91 = .ok (.aload_n 0, 1) := dk_42 (dk_at dksX1_init_3 19 rfl rfl)
theorem dX1_init_92 : decode cX1_init 92 = .ok (.bipush 8, 2) := dk_16 8 (dk_at dksX1_init_3 20 rfl rfl)
theorem dX1_init_94 : decode cX1_init 94 = .ok (.bipush 40, 2) := dk_16 40 (dk_at dksX1_init_3 22 rfl rfl)
theorem dX1_init_96 : decode cX1_init 96 = .ok (.multianewarray 40 2, 4) := by decide +kernel
theorem dX1_init_100 : decode cX1_init 100 = .ok (.putfield 42, 3) := dk_181 0 42 (dk_at dksX1_init_4 4 rfl rfl)
theorem dX1_init_103 : decode cX1_init 103 = .ok (.return_, 1) := dk_177 (dk_at dksX1_init_4 7 rfl rfl)
abbrev cX1_group : ByteArray := prog_9_method_4_code
def yX1_group : MethodName := ⟨RX1, "group", "(I)LSlipWeeks$Cross;"⟩
def dkwX1_group_0 : List UInt8 := [42, 180, 0, 23, 27, 50, 180, 0, 73, 192, 0, 68, 176]
abbrev dktX1_group_0 : List UInt8 := dkwX1_group_0 ++ []
theorem dksX1_group_0 : cX1_group.data.toList.drop 0 = dktX1_group_0 := by decide +kernel
theorem dX1_group_0 : decode cX1_group 0 = .ok (.aload_n 0, 1) := dk_42 (dk_at dksX1_group_0 0 rfl rfl)
theorem dX1_group_1 : decode cX1_group 1 = .ok (.getfield 23, 3) := dk_180 0 23 (dk_at dksX1_group_0 1 rfl rfl)
theorem dX1_group_4 : decode cX1_group 4 = .ok (.iload_n 1, 1) := dk_27 (dk_at dksX1_group_0 4 rfl rfl)
theorem dX1_group_5 : decode cX1_group 5 = .ok (.aaload, 1) := dk_50 (dk_at dksX1_group_0 5 rfl rfl)
theorem dX1_group_6 : decode cX1_group 6 = .ok (.getfield 73, 3) := dk_180 0 73 (dk_at dksX1_group_0 6 rfl rfl)
theorem dX1_group_9 : decode cX1_group 9 = .ok (.checkcast 68, 3) := dk_192 0 68 (dk_at dksX1_group_0 9 rfl rfl)
theorem dX1_group_12 : decode cX1_group 12 = .ok (.areturn, 1) := dk_176 (dk_at dksX1_group_0 12 rfl rfl)
abbrev cX1_latest : ByteArray := prog_9_method_5_code
def yX1_latest : MethodName := ⟨RX1, "latest", "()I"⟩
def dkwX1_latest_1 : List UInt8 := [172]
abbrev dktX1_latest_1 : List UInt8 := dkwX1_latest_1 ++ []
def dkwX1_latest_0 : List UInt8 := [42, 180, 0, 54, 154, 0, 7, 3, 167, 0, 16, 42, 180, 0, 42, 3, 50, 42, 180, 0, 54, 4, 100, 46]
abbrev dktX1_latest_0 : List UInt8 := dkwX1_latest_0 ++ dktX1_latest_1
theorem dksX1_latest_0 : cX1_latest.data.toList.drop 0 = dktX1_latest_0 := by decide +kernel
theorem dksX1_latest_1 : cX1_latest.data.toList.drop 24 = dktX1_latest_1 := dk_seg dksX1_latest_0 24 rfl rfl
theorem dX1_latest_0 : decode cX1_latest 0 = .ok (.aload_n 0, 1) := dk_42 (dk_at dksX1_latest_0 0 rfl rfl)
theorem dX1_latest_1 : decode cX1_latest 1 = .ok (.getfield 54, 3) := dk_180 0 54 (dk_at dksX1_latest_0 1 rfl rfl)
theorem dX1_latest_4 : decode cX1_latest 4 = .ok (.ifCond .ne 7, 3) := dk_154 0 7 (dk_at dksX1_latest_0 4 rfl rfl)
theorem dX1_latest_7 : decode cX1_latest 7 = .ok (.iconst 0, 1) := dk_3 (dk_at dksX1_latest_0 7 rfl rfl)
theorem dX1_latest_8 : decode cX1_latest 8 = .ok (.goto 16, 3) := dk_167 0 16 (dk_at dksX1_latest_0 8 rfl rfl)
theorem dX1_latest_11 : decode cX1_latest 11 = .ok (.aload_n 0, 1) := dk_42 (dk_at dksX1_latest_0 11 rfl rfl)
theorem dX1_latest_12 : decode cX1_latest 12 = .ok (.getfield 42, 3) := dk_180 0 42 (dk_at dksX1_latest_0 12 rfl rfl)
theorem dX1_latest_15 : decode cX1_latest 15 = .ok (.iconst 0, 1) := dk_3 (dk_at dksX1_latest_0 15 rfl rfl)
theorem dX1_latest_16 : decode cX1_latest 16 = .ok (.aaload, 1) := dk_50 (dk_at dksX1_latest_0 16 rfl rfl)
theorem dX1_latest_17 : decode cX1_latest 17 = .ok (.aload_n 0, 1) := dk_42 (dk_at dksX1_latest_0 17 rfl rfl)
theorem dX1_latest_18 : decode cX1_latest 18 = .ok (.getfield 54, 3) := dk_180 0 54 (dk_at dksX1_latest_0 18 rfl rfl)
theorem dX1_latest_21 : decode cX1_latest 21 = .ok (.iconst 1, 1) := dk_4 (dk_at dksX1_latest_0 21 rfl rfl)
theorem dX1_latest_22 : decode cX1_latest 22 = .ok (.isub, 1) := dk_100 (dk_at dksX1_latest_0 22 rfl rfl)
theorem dX1_latest_23 : decode cX1_latest 23 = .ok (.iaload, 1) := dk_46 (dk_at dksX1_latest_0 23 rfl rfl)
theorem dX1_latest_24 : decode cX1_latest 24 = .ok (.ireturn, 1) := dk_172 (dk_at dksX1_latest_1 0 rfl rfl)
abbrev cX1_become : ByteArray := prog_9_method_3_code
def yX1_become : MethodName := ⟨RX1, "become", "(LSlipWeeks$Game;)V"⟩
def dkwX1_become_6 : List UInt8 := [177]
abbrev dktX1_become_6 : List UInt8 := dkwX1_become_6 ++ []
def dkwX1_become_5 : List UInt8 := [162, 0, 24, 43, 180, 0, 42, 28, 50, 42, 180, 0, 42, 28, 50, 184, 0, 60, 132, 2, 1, 167, 255, 232]
abbrev dktX1_become_5 : List UInt8 := dkwX1_become_5 ++ dktX1_become_6
def dkwX1_become_4 : List UInt8 := [42, 180, 0, 34, 184, 0, 60, 43, 180, 0, 37, 42, 180, 0, 37, 184, 0, 60, 3, 61, 28, 16, 8]
abbrev dktX1_become_4 : List UInt8 := dkwX1_become_4 ++ dktX1_become_5
def dkwX1_become_3 : List UInt8 := [132, 2, 1, 167, 255, 228, 42, 180, 0, 30, 43, 180, 0, 30, 180, 0, 73, 181, 0, 73, 43, 180, 0, 34]
abbrev dktX1_become_3 : List UInt8 := dkwX1_become_3 ++ dktX1_become_4
def dkwX1_become_2 : List UInt8 := [180, 0, 51, 162, 0, 26, 42, 180, 0, 23, 28, 50, 43, 28, 182, 0, 64, 182, 0, 67, 181, 0, 73]
abbrev dktX1_become_2 : List UInt8 := dkwX1_become_2 ++ dktX1_become_3
def dkwX1_become_1 : List UInt8 := [42, 43, 180, 0, 9, 181, 0, 9, 43, 180, 0, 15, 42, 180, 0, 15, 184, 0, 60, 3, 61, 28, 42]
abbrev dktX1_become_1 : List UInt8 := dkwX1_become_1 ++ dktX1_become_2
def dkwX1_become_0 : List UInt8 := [42, 43, 180, 0, 51, 181, 0, 51, 42, 43, 180, 0, 54, 181, 0, 54, 42, 43, 180, 0, 57, 181, 0, 57]
abbrev dktX1_become_0 : List UInt8 := dkwX1_become_0 ++ dktX1_become_1
theorem dksX1_become_0 : cX1_become.data.toList.drop 0 = dktX1_become_0 := by decide +kernel
theorem dksX1_become_1 : cX1_become.data.toList.drop 24 = dktX1_become_1 := dk_seg dksX1_become_0 24 rfl rfl
theorem dksX1_become_2 : cX1_become.data.toList.drop 47 = dktX1_become_2 := dk_seg dksX1_become_1 23 rfl rfl
theorem dksX1_become_3 : cX1_become.data.toList.drop 70 = dktX1_become_3 := dk_seg dksX1_become_2 23 rfl rfl
theorem dksX1_become_4 : cX1_become.data.toList.drop 94 = dktX1_become_4 := dk_seg dksX1_become_3 24 rfl rfl
theorem dksX1_become_5 : cX1_become.data.toList.drop 117 = dktX1_become_5 := dk_seg dksX1_become_4 23 rfl rfl
theorem dksX1_become_6 : cX1_become.data.toList.drop 141 = dktX1_become_6 := dk_seg dksX1_become_5 24 rfl rfl
theorem dX1_become_0 : decode cX1_become 0 = .ok (.aload_n 0, 1) := dk_42 (dk_at dksX1_become_0 0 rfl rfl)
theorem dX1_become_1 : decode cX1_become 1 = .ok (.aload_n 1, 1) := dk_43 (dk_at dksX1_become_0 1 rfl rfl)
theorem dX1_become_2 : decode cX1_become 2 = .ok (.getfield 51, 3) := dk_180 0 51 (dk_at dksX1_become_0 2 rfl rfl)
theorem dX1_become_5 : decode cX1_become 5 = .ok (.putfield 51, 3) := dk_181 0 51 (dk_at dksX1_become_0 5 rfl rfl)
theorem dX1_become_8 : decode cX1_become 8 = .ok (.aload_n 0, 1) := dk_42 (dk_at dksX1_become_0 8 rfl rfl)
theorem dX1_become_9 : decode cX1_become 9 = .ok (.aload_n 1, 1) := dk_43 (dk_at dksX1_become_0 9 rfl rfl)
theorem dX1_become_10 : decode cX1_become 10 = .ok (.getfield 54, 3) := dk_180 0 54 (dk_at dksX1_become_0 10 rfl rfl)
theorem dX1_become_13 : decode cX1_become 13 = .ok (.putfield 54, 3) := dk_181 0 54 (dk_at dksX1_become_0 13 rfl rfl)
theorem dX1_become_16 : decode cX1_become 16 = .ok (.aload_n 0, 1) := dk_42 (dk_at dksX1_become_0 16 rfl rfl)
theorem dX1_become_17 : decode cX1_become 17 = .ok (.aload_n 1, 1) := dk_43 (dk_at dksX1_become_0 17 rfl rfl)
theorem dX1_become_18 : decode cX1_become 18 = .ok (.getfield 57, 3) := dk_180 0 57 (dk_at dksX1_become_0 18 rfl rfl)
theorem dX1_become_21 : decode cX1_become 21 = .ok (.putfield 57, 3) := dk_181 0 57 (dk_at dksX1_become_0 21 rfl rfl)
theorem dX1_become_24 : decode cX1_become 24 = .ok (.aload_n 0, 1) := dk_42 (dk_at dksX1_become_1 0 rfl rfl)
theorem dX1_become_25 : decode cX1_become 25 = .ok (.aload_n 1, 1) := dk_43 (dk_at dksX1_become_1 1 rfl rfl)
theorem dX1_become_26 : decode cX1_become 26 = .ok (.getfield 9, 3) := dk_180 0 9 (dk_at dksX1_become_1 2 rfl rfl)
theorem dX1_become_29 : decode cX1_become 29 = .ok (.putfield 9, 3) := dk_181 0 9 (dk_at dksX1_become_1 5 rfl rfl)
theorem dX1_become_32 : decode cX1_become 32 = .ok (.aload_n 1, 1) := dk_43 (dk_at dksX1_become_1 8 rfl rfl)
theorem dX1_become_33 : decode cX1_become 33 = .ok (.getfield 15, 3) := dk_180 0 15 (dk_at dksX1_become_1 9 rfl rfl)
theorem dX1_become_36 : decode cX1_become 36 = .ok (.aload_n 0, 1) := dk_42 (dk_at dksX1_become_1 12 rfl rfl)
theorem dX1_become_37 : decode cX1_become 37 = .ok (.getfield 15, 3) := dk_180 0 15 (dk_at dksX1_become_1 13 rfl rfl)
theorem dX1_become_40 : decode cX1_become 40 = .ok (.invokestatic 60, 3) := dk_184 0 60 (dk_at dksX1_become_1 16 rfl rfl)
theorem dX1_become_43 : decode cX1_become 43 = .ok (.iconst 0, 1) := dk_3 (dk_at dksX1_become_1 19 rfl rfl)
theorem dX1_become_44 : decode cX1_become 44 = .ok (.istore_n 2, 1) := dk_61 (dk_at dksX1_become_1 20 rfl rfl)
theorem dX1_become_45 : decode cX1_become 45 = .ok (.iload_n 2, 1) := dk_28 (dk_at dksX1_become_1 21 rfl rfl)
theorem dX1_become_46 : decode cX1_become 46 = .ok (.aload_n 0, 1) := dk_42 (dk_at dksX1_become_1 22 rfl rfl)
theorem dX1_become_47 : decode cX1_become 47 = .ok (.getfield 51, 3) := dk_180 0 51 (dk_at dksX1_become_2 0 rfl rfl)
theorem dX1_become_50 : decode cX1_become 50 = .ok (.if_icmp .ge 26, 3) := dk_162 0 26 (dk_at dksX1_become_2 3 rfl rfl)
theorem dX1_become_53 : decode cX1_become 53 = .ok (.aload_n 0, 1) := dk_42 (dk_at dksX1_become_2 6 rfl rfl)
theorem dX1_become_54 : decode cX1_become 54 = .ok (.getfield 23, 3) := dk_180 0 23 (dk_at dksX1_become_2 7 rfl rfl)
theorem dX1_become_57 : decode cX1_become 57 = .ok (.iload_n 2, 1) := dk_28 (dk_at dksX1_become_2 10 rfl rfl)
theorem dX1_become_58 : decode cX1_become 58 = .ok (.aaload, 1) := dk_50 (dk_at dksX1_become_2 11 rfl rfl)
theorem dX1_become_59 : decode cX1_become 59 = .ok (.aload_n 1, 1) := dk_43 (dk_at dksX1_become_2 12 rfl rfl)
theorem dX1_become_60 : decode cX1_become 60 = .ok (.iload_n 2, 1) := dk_28 (dk_at dksX1_become_2 13 rfl rfl)
theorem dX1_become_61 : decode cX1_become 61 = .ok (.invokevirtual 64, 3) := dk_182 0 64 (dk_at dksX1_become_2 14 rfl rfl)
theorem dX1_become_64 : decode cX1_become 64 = .ok (.invokevirtual 67, 3) := dk_182 0 67 (dk_at dksX1_become_2 17 rfl rfl)
theorem dX1_become_67 : decode cX1_become 67 = .ok (.putfield 73, 3) := dk_181 0 73 (dk_at dksX1_become_2 20 rfl rfl)
theorem dX1_become_70 : decode cX1_become 70 = .ok (.iinc 2 1, 3) := dk_132 2 1 (dk_at dksX1_become_3 0 rfl rfl)
theorem dX1_become_73 : decode cX1_become 73 = .ok (.goto (-28), 3) := dk_167 255 228 (dk_at dksX1_become_3 3 rfl rfl)
theorem dX1_become_76 : decode cX1_become 76 = .ok (.aload_n 0, 1) := dk_42 (dk_at dksX1_become_3 6 rfl rfl)
theorem dX1_become_77 : decode cX1_become 77 = .ok (.getfield 30, 3) := dk_180 0 30 (dk_at dksX1_become_3 7 rfl rfl)
theorem dX1_become_80 : decode cX1_become 80 = .ok (.aload_n 1, 1) := dk_43 (dk_at dksX1_become_3 10 rfl rfl)
theorem dX1_become_81 : decode cX1_become 81 = .ok (.getfield 30, 3) := dk_180 0 30 (dk_at dksX1_become_3 11 rfl rfl)
theorem dX1_become_84 : decode cX1_become 84 = .ok (.getfield 73, 3) := dk_180 0 73 (dk_at dksX1_become_3 14 rfl rfl)
theorem dX1_become_87 : decode cX1_become 87 = .ok (.putfield 73, 3) := dk_181 0 73 (dk_at dksX1_become_3 17 rfl rfl)
theorem dX1_become_90 : decode cX1_become 90 = .ok (.aload_n 1, 1) := dk_43 (dk_at dksX1_become_3 20 rfl rfl)
theorem dX1_become_91 : decode cX1_become 91 = .ok (.getfield 34, 3) := dk_180 0 34 (dk_at dksX1_become_3 21 rfl rfl)
theorem dX1_become_94 : decode cX1_become 94 = .ok (.aload_n 0, 1) := dk_42 (dk_at dksX1_become_4 0 rfl rfl)
theorem dX1_become_95 : decode cX1_become 95 = .ok (.getfield 34, 3) := dk_180 0 34 (dk_at dksX1_become_4 1 rfl rfl)
theorem dX1_become_98 : decode cX1_become 98 = .ok (.invokestatic 60, 3) := dk_184 0 60 (dk_at dksX1_become_4 4 rfl rfl)
theorem dX1_become_101 : decode cX1_become 101 = .ok (.aload_n 1, 1) := dk_43 (dk_at dksX1_become_4 7 rfl rfl)
theorem dX1_become_102 : decode cX1_become 102 = .ok (.getfield 37, 3) := dk_180 0 37 (dk_at dksX1_become_4 8 rfl rfl)
theorem dX1_become_105 : decode cX1_become 105 = .ok (.aload_n 0, 1) := dk_42 (dk_at dksX1_become_4 11 rfl rfl)
theorem dX1_become_106 : decode cX1_become 106 = .ok (.getfield 37, 3) := dk_180 0 37 (dk_at dksX1_become_4 12 rfl rfl)
theorem dX1_become_109 : decode cX1_become 109 = .ok (.invokestatic 60, 3) := dk_184 0 60 (dk_at dksX1_become_4 15 rfl rfl)
theorem dX1_become_112 : decode cX1_become 112 = .ok (.iconst 0, 1) := dk_3 (dk_at dksX1_become_4 18 rfl rfl)
theorem dX1_become_113 : decode cX1_become 113 = .ok (.istore_n 2, 1) := dk_61 (dk_at dksX1_become_4 19 rfl rfl)
theorem dX1_become_114 : decode cX1_become 114 = .ok (.iload_n 2, 1) := dk_28 (dk_at dksX1_become_4 20 rfl rfl)
theorem dX1_become_115 : decode cX1_become 115 = .ok (.bipush 8, 2) := dk_16 8 (dk_at dksX1_become_4 21 rfl rfl)
theorem dX1_become_117 : decode cX1_become 117 = .ok (.if_icmp .ge 24, 3) := dk_162 0 24 (dk_at dksX1_become_5 0 rfl rfl)
theorem dX1_become_120 : decode cX1_become 120 = .ok (.aload_n 1, 1) := dk_43 (dk_at dksX1_become_5 3 rfl rfl)
theorem dX1_become_121 : decode cX1_become 121 = .ok (.getfield 42, 3) := dk_180 0 42 (dk_at dksX1_become_5 4 rfl rfl)
theorem dX1_become_124 : decode cX1_become 124 = .ok (.iload_n 2, 1) := dk_28 (dk_at dksX1_become_5 7 rfl rfl)
theorem dX1_become_125 : decode cX1_become 125 = .ok (.aaload, 1) := dk_50 (dk_at dksX1_become_5 8 rfl rfl)
theorem dX1_become_126 : decode cX1_become 126 = .ok (.aload_n 0, 1) := dk_42 (dk_at dksX1_become_5 9 rfl rfl)
theorem dX1_become_127 : decode cX1_become 127 = .ok (.getfield 42, 3) := dk_180 0 42 (dk_at dksX1_become_5 10 rfl rfl)
theorem dX1_become_130 : decode cX1_become 130 = .ok (.iload_n 2, 1) := dk_28 (dk_at dksX1_become_5 13 rfl rfl)
theorem dX1_become_131 : decode cX1_become 131 = .ok (.aaload, 1) := dk_50 (dk_at dksX1_become_5 14 rfl rfl)
theorem dX1_become_132 : decode cX1_become 132 = .ok (.invokestatic 60, 3) := dk_184 0 60 (dk_at dksX1_become_5 15 rfl rfl)
theorem dX1_become_135 : decode cX1_become 135 = .ok (.iinc 2 1, 3) := dk_132 2 1 (dk_at dksX1_become_5 18 rfl rfl)
theorem dX1_become_138 : decode cX1_become 138 = .ok (.goto (-24), 3) := dk_167 255 232 (dk_at dksX1_become_5 21 rfl rfl)
theorem dX1_become_141 : decode cX1_become 141 = .ok (.return_, 1) := dk_177 (dk_at dksX1_become_6 0 rfl rfl)
abbrev cX1_row : ByteArray := prog_9_method_2_code
def yX1_row : MethodName := ⟨RX1, "row", "([I[I)V"⟩
def dkwX1_row_0 : List UInt8 := [42, 3, 43, 3, 43, 190, 184, 0, 45, 177]
abbrev dktX1_row_0 : List UInt8 := dkwX1_row_0 ++ []
theorem dksX1_row_0 : cX1_row.data.toList.drop 0 = dktX1_row_0 := by decide +kernel
theorem dX1_row_0 : decode cX1_row 0 = .ok (.aload_n 0, 1) := dk_42 (dk_at dksX1_row_0 0 rfl rfl)
theorem dX1_row_1 : decode cX1_row 1 = .ok (.iconst 0, 1) := dk_3 (dk_at dksX1_row_0 1 rfl rfl)
theorem dX1_row_2 : decode cX1_row 2 = .ok (.aload_n 1, 1) := dk_43 (dk_at dksX1_row_0 2 rfl rfl)
theorem dX1_row_3 : decode cX1_row 3 = .ok (.iconst 0, 1) := dk_3 (dk_at dksX1_row_0 3 rfl rfl)
theorem dX1_row_4 : decode cX1_row 4 = .ok (.aload_n 1, 1) := dk_43 (dk_at dksX1_row_0 4 rfl rfl)
theorem dX1_row_5 : decode cX1_row 5 = .ok (.arraylength, 1) := dk_190 (dk_at dksX1_row_0 5 rfl rfl)
theorem dX1_row_6 : decode cX1_row 6 = .ok (.invokestatic 45, 3) := dk_184 0 45 (dk_at dksX1_row_0 6 rfl rfl)
theorem dX1_row_9 : decode cX1_row 9 = .ok (.return_, 1) := dk_177 (dk_at dksX1_row_0 9 rfl rfl)
theorem q63 : (Jvm.Cond.initialized "SlipWeeks$Game") ∈ lw_all := lw_g (lw_at lw_m1 2 rfl) rfl
theorem q97 : (Jvm.Cond.instantiable "SlipWeeks$Game" (10 : Nat)) ∈ lw_all := lw_g (lw_at lw_m1 36 rfl) rfl
theorem q99 : (Jvm.Cond.instanceMethod ({ cls := "SlipWeeks$Game", name := "<init>", desc := "()V" } : Jvm.MethodName)) ∈ lw_all := lw_g (lw_at lw_m1 38 rfl) rfl
theorem q100 : (Jvm.Cond.code ({ cls := "SlipWeeks$Game", name := "<init>", desc := "()V" } : Jvm.MethodName) prog_9_method_1_code (1 : Nat) (Option.none : Option Jvm.ClassFile.FieldType)) ∈ lw_all := lw_g (lw_at lw_m1 39 rfl) rfl
theorem q101 : (Jvm.Cond.methodLink "SlipWeeks$Game" (3 : Nat) ({ cls := "java/lang/Object", name := "<init>", desc := "()V" } : Jvm.MethodName)) ∈ lw_all := lw_g (lw_at lw_m1 40 rfl) rfl
theorem q102 : (Jvm.Cond.methodLinkNest "SlipWeeks$Game" (19 : Nat) ({ cls := "SlipWeeks", name := "slots", desc := "(I)[LSlipWeeks$Slot;" } : Jvm.MethodName) "SlipWeeks") ∈ lw_tbl := lw_at lw_m1 41 rfl
theorem q112 : (Jvm.Cond.fieldLink "SlipWeeks$Game" (73 : Nat) "SlipWeeks$Slot" "held" "Ljava/lang/Object;") ∈ lw_all := lw_g (lw_at lw_m1 51 rfl) rfl
theorem q118 : (Jvm.Cond.classLink "SlipWeeks$Game" (27 : Nat) "SlipWeeks$Slot") ∈ lw_all := lw_g (lw_at lw_m1 57 rfl) rfl
theorem q119 : (Jvm.Cond.methodLinkNest "SlipWeeks$Game" (29 : Nat) ({ cls := "SlipWeeks$Slot", name := "<init>", desc := "()V" } : Jvm.MethodName) "SlipWeeks") ∈ lw_tbl := lw_at lw_m1 58 rfl
theorem q120 : (Jvm.Cond.classLink "SlipWeeks$Game" (40 : Nat) "[[I") ∈ lw_all := lw_g (lw_at lw_m1 59 rfl) rfl
theorem q122 : (Jvm.Cond.fieldLink "SlipWeeks$Game" (51 : Nat) "SlipWeeks$Game" "people" "I") ∈ lw_all := lw_g (lw_at lw_m1 61 rfl) rfl
theorem q124 : (Jvm.Cond.fieldLink "SlipWeeks$Game" (54 : Nat) "SlipWeeks$Game" "weeks" "I") ∈ lw_all := lw_g (lw_at lw_m1 63 rfl) rfl
theorem q126 : (Jvm.Cond.fieldLink "SlipWeeks$Game" (57 : Nat) "SlipWeeks$Game" "bought" "I") ∈ lw_all := lw_g (lw_at lw_m1 65 rfl) rfl
theorem q128 : (Jvm.Cond.fieldLink "SlipWeeks$Game" (9 : Nat) "SlipWeeks$Game" "z" "I") ∈ lw_all := lw_g (lw_at lw_m1 67 rfl) rfl
theorem q130 : (Jvm.Cond.fieldLink "SlipWeeks$Game" (15 : Nat) "SlipWeeks$Game" "rule" "[I") ∈ lw_all := lw_g (lw_at lw_m1 69 rfl) rfl
theorem q132 : (Jvm.Cond.fieldLink "SlipWeeks$Game" (23 : Nat) "SlipWeeks$Game" "group" "[LSlipWeeks$Slot;") ∈ lw_all := lw_g (lw_at lw_m1 71 rfl) rfl
theorem q134 : (Jvm.Cond.fieldLink "SlipWeeks$Game" (30 : Nat) "SlipWeeks$Game" "liking" "LSlipWeeks$Slot;") ∈ lw_all := lw_g (lw_at lw_m1 73 rfl) rfl
theorem q136 : (Jvm.Cond.fieldLink "SlipWeeks$Game" (34 : Nat) "SlipWeeks$Game" "boughtPlace" "[I") ∈ lw_all := lw_g (lw_at lw_m1 75 rfl) rfl
theorem q138 : (Jvm.Cond.fieldLink "SlipWeeks$Game" (37 : Nat) "SlipWeeks$Game" "boughtMany" "[I") ∈ lw_all := lw_g (lw_at lw_m1 77 rfl) rfl
theorem q140 : (Jvm.Cond.fieldLink "SlipWeeks$Game" (42 : Nat) "SlipWeeks$Game" "book" "[[I") ∈ lw_all := lw_g (lw_at lw_m1 79 rfl) rfl
theorem q142 : (Jvm.Cond.lays "SlipWeeks$Game" "SlipWeeks$Game" "people" "I") ∈ lw_all := lw_g (lw_at lw_m1 81 rfl) rfl
theorem q143 : (Jvm.Cond.soleField "SlipWeeks$Game" "people") ∈ lw_all := lw_g (lw_at lw_m1 82 rfl) rfl
theorem q144 : (Jvm.Cond.lays "SlipWeeks$Game" "SlipWeeks$Game" "weeks" "I") ∈ lw_all := lw_g (lw_at lw_m1 83 rfl) rfl
theorem q145 : (Jvm.Cond.soleField "SlipWeeks$Game" "weeks") ∈ lw_all := lw_g (lw_at lw_m1 84 rfl) rfl
theorem q146 : (Jvm.Cond.lays "SlipWeeks$Game" "SlipWeeks$Game" "bought" "I") ∈ lw_all := lw_g (lw_at lw_m1 85 rfl) rfl
theorem q147 : (Jvm.Cond.soleField "SlipWeeks$Game" "bought") ∈ lw_all := lw_g (lw_at lw_m1 86 rfl) rfl
theorem q148 : (Jvm.Cond.lays "SlipWeeks$Game" "SlipWeeks$Game" "z" "I") ∈ lw_all := lw_g (lw_at lw_m1 87 rfl) rfl
theorem q149 : (Jvm.Cond.soleField "SlipWeeks$Game" "z") ∈ lw_all := lw_g (lw_at lw_m1 88 rfl) rfl
theorem q150 : (Jvm.Cond.laysFinal "SlipWeeks$Game" "SlipWeeks$Game" "rule" "[I") ∈ lw_all := lw_g (lw_at lw_m1 89 rfl) rfl
theorem q151 : (Jvm.Cond.soleField "SlipWeeks$Game" "rule") ∈ lw_all := lw_g (lw_at lw_m1 90 rfl) rfl
theorem q152 : (Jvm.Cond.laysFinal "SlipWeeks$Game" "SlipWeeks$Game" "group" "[LSlipWeeks$Slot;") ∈ lw_all := lw_g (lw_at lw_m1 91 rfl) rfl
theorem q153 : (Jvm.Cond.soleField "SlipWeeks$Game" "group") ∈ lw_all := lw_g (lw_at lw_m1 92 rfl) rfl
theorem q154 : (Jvm.Cond.laysFinal "SlipWeeks$Game" "SlipWeeks$Game" "liking" "LSlipWeeks$Slot;") ∈ lw_all := lw_g (lw_at lw_m1 93 rfl) rfl
theorem q155 : (Jvm.Cond.soleField "SlipWeeks$Game" "liking") ∈ lw_all := lw_g (lw_at lw_m1 94 rfl) rfl
theorem q156 : (Jvm.Cond.laysFinal "SlipWeeks$Game" "SlipWeeks$Game" "boughtPlace" "[I") ∈ lw_all := lw_g (lw_at lw_m1 95 rfl) rfl
theorem q157 : (Jvm.Cond.soleField "SlipWeeks$Game" "boughtPlace") ∈ lw_all := lw_g (lw_at lw_m1 96 rfl) rfl
theorem q158 : (Jvm.Cond.laysFinal "SlipWeeks$Game" "SlipWeeks$Game" "boughtMany" "[I") ∈ lw_all := lw_g (lw_at lw_m1 97 rfl) rfl
theorem q159 : (Jvm.Cond.soleField "SlipWeeks$Game" "boughtMany") ∈ lw_all := lw_g (lw_at lw_m1 98 rfl) rfl
theorem q160 : (Jvm.Cond.laysFinal "SlipWeeks$Game" "SlipWeeks$Game" "book" "[[I") ∈ lw_all := lw_g (lw_at lw_m1 99 rfl) rfl
theorem q161 : (Jvm.Cond.soleField "SlipWeeks$Game" "book") ∈ lw_all := lw_g (lw_at lw_m1 100 rfl) rfl
theorem q162 : (Jvm.Cond.superclass "SlipWeeks$Game" "java/lang/Object") ∈ lw_all := lw_g (lw_at lw_m1 101 rfl) rfl
theorem q467 : (Jvm.Cond.instanceMethod ({ cls := "SlipWeeks$Game", name := "group", desc := "(I)LSlipWeeks$Cross;" } : Jvm.MethodName)) ∈ lw_all := lw_g (lw_at lw_m2 166 rfl) rfl
theorem q468 : (Jvm.Cond.selects "SlipWeeks$Game" ({ cls := "SlipWeeks$Game", name := "group", desc := "(I)LSlipWeeks$Cross;" } : Jvm.MethodName) ({ cls := "SlipWeeks$Game", name := "group", desc := "(I)LSlipWeeks$Cross;" } : Jvm.MethodName)) ∈ lw_all := lw_g (lw_at lw_m2 167 rfl) rfl
theorem q469 : (Jvm.Cond.code ({ cls := "SlipWeeks$Game", name := "group", desc := "(I)LSlipWeeks$Cross;" } : Jvm.MethodName) prog_9_method_4_code (2 : Nat) (Option.some (Jvm.ClassFile.FieldType.object "SlipWeeks$Cross"))) ∈ lw_all := lw_g (lw_at lw_m2 168 rfl) rfl
theorem q470 : (Jvm.Cond.classLink "SlipWeeks$Game" (68 : Nat) "SlipWeeks$Cross") ∈ lw_all := lw_g (lw_at lw_m2 169 rfl) rfl
theorem q547 : (Jvm.Cond.instanceMethod ({ cls := "SlipWeeks$Game", name := "latest", desc := "()I" } : Jvm.MethodName)) ∈ lw_all := lw_g (lw_at lw_m3 6 rfl) rfl
theorem q548 : (Jvm.Cond.selects "SlipWeeks$Game" ({ cls := "SlipWeeks$Game", name := "latest", desc := "()I" } : Jvm.MethodName) ({ cls := "SlipWeeks$Game", name := "latest", desc := "()I" } : Jvm.MethodName)) ∈ lw_all := lw_g (lw_at lw_m3 7 rfl) rfl
theorem q549 : (Jvm.Cond.code ({ cls := "SlipWeeks$Game", name := "latest", desc := "()I" } : Jvm.MethodName) prog_9_method_5_code (1 : Nat) (Option.some Jvm.ClassFile.FieldType.int)) ∈ lw_all := lw_g (lw_at lw_m3 8 rfl) rfl
theorem q1024 : (Jvm.Cond.instanceMethod ({ cls := "SlipWeeks$Game", name := "become", desc := "(LSlipWeeks$Game;)V" } : Jvm.MethodName)) ∈ lw_all := lw_g (lw_at lw_m5 3 rfl) rfl
theorem q1025 : (Jvm.Cond.selects "SlipWeeks$Game" ({ cls := "SlipWeeks$Game", name := "become", desc := "(LSlipWeeks$Game;)V" } : Jvm.MethodName) ({ cls := "SlipWeeks$Game", name := "become", desc := "(LSlipWeeks$Game;)V" } : Jvm.MethodName)) ∈ lw_all := lw_g (lw_at lw_m5 4 rfl) rfl
theorem q1026 : (Jvm.Cond.code ({ cls := "SlipWeeks$Game", name := "become", desc := "(LSlipWeeks$Game;)V" } : Jvm.MethodName) prog_9_method_3_code (3 : Nat) (Option.none : Option Jvm.ClassFile.FieldType)) ∈ lw_all := lw_g (lw_at lw_m5 5 rfl) rfl
theorem q1027 : (Jvm.Cond.methodLink "SlipWeeks$Game" (60 : Nat) ({ cls := "SlipWeeks$Game", name := "row", desc := "([I[I)V" } : Jvm.MethodName)) ∈ lw_all := lw_g (lw_at lw_m5 6 rfl) rfl
theorem q1028 : (Jvm.Cond.static ({ cls := "SlipWeeks$Game", name := "row", desc := "([I[I)V" } : Jvm.MethodName)) ∈ lw_all := lw_g (lw_at lw_m5 7 rfl) rfl
theorem q1029 : (Jvm.Cond.code ({ cls := "SlipWeeks$Game", name := "row", desc := "([I[I)V" } : Jvm.MethodName) prog_9_method_2_code (2 : Nat) (Option.none : Option Jvm.ClassFile.FieldType)) ∈ lw_all := lw_g (lw_at lw_m5 8 rfl) rfl
theorem q1030 : (Jvm.Cond.methodLink "SlipWeeks$Game" (45 : Nat) ({ cls := "java/lang/System", name := "arraycopy", desc := "(Ljava/lang/Object;ILjava/lang/Object;II)V" } : Jvm.MethodName)) ∈ lw_all := lw_g (lw_at lw_m5 9 rfl) rfl
theorem q1031 : (Jvm.Cond.methodLink "SlipWeeks$Game" (64 : Nat) ({ cls := "SlipWeeks$Game", name := "group", desc := "(I)LSlipWeeks$Cross;" } : Jvm.MethodName)) ∈ lw_all := lw_g (lw_at lw_m5 10 rfl) rfl
theorem q1032 : (Jvm.Cond.methodLink "SlipWeeks$Game" (67 : Nat) ({ cls := "SlipWeeks$Cross", name := "copy", desc := "()LSlipWeeks$Cross;" } : Jvm.MethodName)) ∈ lw_all := lw_g (lw_at lw_m5 11 rfl) rfl
theorem in_X1 : ∀ w ∈ wsX10, w ∈ lw_all := lw_in wsX10 [142, 144, 146, 148, 150, 152, 154, 156, 158, 160] (by decide +kernel) (by decide +kernel)
/-! SlipWeeks$Slot -/
set_option maxRecDepth 100000
def RX2 : String := "SlipWeeks$Slot"
def TX2 : u_T := fun k => match k with
  | _ => ("SlipWeeks$Slot", "held", "Ljava/lang/Object;", false)
def tyX2 : Nat → FieldType := fun k => match k with
  | _ => .object "java/lang/Object"
abbrev wsX20 : List Cond := u_ws RX2 TX2 1
theorem nmX2 : ∀ a, a < 1 → ∀ b, b < 1 → a ≠ b → (TX2 a).2.1 ≠ (TX2 b).2.1 := by decide +kernel
theorem tyX2_ok : ∀ k, k < 1 → parseFieldDescriptor (TX2 k).2.2.1 = some (tyX2 k) := by decide +kernel
abbrev cX2_init : ByteArray := prog_20_method_1_code
def yX2_init : MethodName := ⟨RX2, "<init>", "()V"⟩
theorem dX2_init_0 : decode cX2_init 0 = .ok (.aload_n 0, 1) := by decide +kernel
theorem dX2_init_1 : decode cX2_init 1 = .ok (.invokespecial 1, 3) := by decide +kernel
theorem dX2_init_4 : decode cX2_init 4 = .ok (.return_, 1) := by decide +kernel
theorem q64 : (Jvm.Cond.initialized "SlipWeeks$Slot") ∈ lw_all := lw_g (lw_at lw_m1 3 rfl) rfl
theorem q107 : (Jvm.Cond.instantiable "SlipWeeks$Slot" (1 : Nat)) ∈ lw_all := lw_g (lw_at lw_m1 46 rfl) rfl
theorem q109 : (Jvm.Cond.instanceMethod ({ cls := "SlipWeeks$Slot", name := "<init>", desc := "()V" } : Jvm.MethodName)) ∈ lw_all := lw_g (lw_at lw_m1 48 rfl) rfl
theorem q110 : (Jvm.Cond.code ({ cls := "SlipWeeks$Slot", name := "<init>", desc := "()V" } : Jvm.MethodName) prog_20_method_1_code (1 : Nat) (Option.none : Option Jvm.ClassFile.FieldType)) ∈ lw_all := lw_g (lw_at lw_m1 49 rfl) rfl
theorem q111 : (Jvm.Cond.methodLink "SlipWeeks$Slot" (1 : Nat) ({ cls := "java/lang/Object", name := "<init>", desc := "()V" } : Jvm.MethodName)) ∈ lw_all := lw_g (lw_at lw_m1 50 rfl) rfl
theorem q114 : (Jvm.Cond.lays "SlipWeeks$Slot" "SlipWeeks$Slot" "held" "Ljava/lang/Object;") ∈ lw_all := lw_g (lw_at lw_m1 53 rfl) rfl
theorem q115 : (Jvm.Cond.soleField "SlipWeeks$Slot" "held") ∈ lw_all := lw_g (lw_at lw_m1 54 rfl) rfl
theorem q116 : (Jvm.Cond.superclass "SlipWeeks$Slot" "java/lang/Object") ∈ lw_all := lw_g (lw_at lw_m1 55 rfl) rfl
theorem in_X2 : ∀ w ∈ wsX20, w ∈ lw_all := lw_in wsX20 [114] (by decide +kernel) (by decide +kernel)
/-! SlipWeeks$Look -/
set_option maxRecDepth 100000
def RX3 : String := "SlipWeeks$Look"
def TX3 : u_T := fun k => match k with
  | 0 => ("SlipWeeks$Look", "row", "I", false)
  | 1 => ("SlipWeeks$Look", "place", "I", false)
  | 2 => ("SlipWeeks$Look", "latest", "I", false)
  | _ => ("SlipWeeks$Look", "liked", "I", false)
def tyX3 : Nat → FieldType := fun k => match k with
  | 0 => .int
  | 1 => .int
  | 2 => .int
  | _ => .int
abbrev wsX30 : List Cond := u_ws RX3 TX3 4
theorem nmX3 : ∀ a, a < 4 → ∀ b, b < 4 → a ≠ b → (TX3 a).2.1 ≠ (TX3 b).2.1 := by decide +kernel
theorem tyX3_ok : ∀ k, k < 4 → parseFieldDescriptor (TX3 k).2.2.1 = some (tyX3 k) := by decide +kernel
abbrev cX3_init : ByteArray := prog_12_method_1_code
def yX3_init : MethodName := ⟨RX3, "<init>", "()V"⟩
theorem dX3_init_0 : decode cX3_init 0 = .ok (.aload_n 0, 1) := by decide +kernel
theorem dX3_init_1 : decode cX3_init 1 = .ok (.invokespecial 1, 3) := by decide +kernel
theorem dX3_init_4 : decode cX3_init 4 = .ok (.return_, 1) := by decide +kernel
theorem q65 : (Jvm.Cond.initialized "SlipWeeks$Look") ∈ lw_all := lw_g (lw_at lw_m1 4 rfl) rfl
theorem q165 : (Jvm.Cond.instantiable "SlipWeeks$Look" (4 : Nat)) ∈ lw_all := lw_g (lw_at lw_m1 104 rfl) rfl
theorem q167 : (Jvm.Cond.instanceMethod ({ cls := "SlipWeeks$Look", name := "<init>", desc := "()V" } : Jvm.MethodName)) ∈ lw_all := lw_g (lw_at lw_m1 106 rfl) rfl
theorem q168 : (Jvm.Cond.code ({ cls := "SlipWeeks$Look", name := "<init>", desc := "()V" } : Jvm.MethodName) prog_12_method_1_code (1 : Nat) (Option.none : Option Jvm.ClassFile.FieldType)) ∈ lw_all := lw_g (lw_at lw_m1 107 rfl) rfl
theorem q169 : (Jvm.Cond.methodLink "SlipWeeks$Look" (1 : Nat) ({ cls := "java/lang/Object", name := "<init>", desc := "()V" } : Jvm.MethodName)) ∈ lw_all := lw_g (lw_at lw_m1 108 rfl) rfl
theorem q182 : (Jvm.Cond.lays "SlipWeeks$Look" "SlipWeeks$Look" "row" "I") ∈ lw_all := lw_g (lw_at lw_m1 121 rfl) rfl
theorem q183 : (Jvm.Cond.soleField "SlipWeeks$Look" "row") ∈ lw_all := lw_g (lw_at lw_m1 122 rfl) rfl
theorem q184 : (Jvm.Cond.lays "SlipWeeks$Look" "SlipWeeks$Look" "place" "I") ∈ lw_all := lw_g (lw_at lw_m1 123 rfl) rfl
theorem q185 : (Jvm.Cond.soleField "SlipWeeks$Look" "place") ∈ lw_all := lw_g (lw_at lw_m1 124 rfl) rfl
theorem q186 : (Jvm.Cond.lays "SlipWeeks$Look" "SlipWeeks$Look" "latest" "I") ∈ lw_all := lw_g (lw_at lw_m1 125 rfl) rfl
theorem q187 : (Jvm.Cond.soleField "SlipWeeks$Look" "latest") ∈ lw_all := lw_g (lw_at lw_m1 126 rfl) rfl
theorem q188 : (Jvm.Cond.lays "SlipWeeks$Look" "SlipWeeks$Look" "liked" "I") ∈ lw_all := lw_g (lw_at lw_m1 127 rfl) rfl
theorem q189 : (Jvm.Cond.soleField "SlipWeeks$Look" "liked") ∈ lw_all := lw_g (lw_at lw_m1 128 rfl) rfl
theorem q190 : (Jvm.Cond.superclass "SlipWeeks$Look" "java/lang/Object") ∈ lw_all := lw_g (lw_at lw_m1 129 rfl) rfl
theorem in_X3 : ∀ w ∈ wsX30, w ∈ lw_all := lw_in wsX30 [182, 184, 186, 188] (by decide +kernel) (by decide +kernel)
/-! SlipWeeks$Named -/
set_option maxRecDepth 100000
def RX4 : String := "SlipWeeks$Named"
def TX4 : u_T := fun k => match k with
  | _ => ("SlipWeeks$Named", "v", "[I", true)
def tyX4 : Nat → FieldType := fun k => match k with
  | _ => .array .int
abbrev wsX40 : List Cond := u_ws RX4 TX4 1
theorem nmX4 : ∀ a, a < 1 → ∀ b, b < 1 → a ≠ b → (TX4 a).2.1 ≠ (TX4 b).2.1 := by decide +kernel
theorem tyX4_ok : ∀ k, k < 1 → parseFieldDescriptor (TX4 k).2.2.1 = some (tyX4 k) := by decide +kernel
abbrev cX4_init : ByteArray := prog_16_method_1_code
def yX4_init : MethodName := ⟨RX4, "<init>", "()V"⟩
def dkwX4_init_0 : List UInt8 := [42, 183, 0, 3, 42, 16, 7, 188, 10, 181, 0, 9, 177]
abbrev dktX4_init_0 : List UInt8 := dkwX4_init_0 ++ []
theorem dksX4_init_0 : cX4_init.data.toList.drop 0 = dktX4_init_0 := by decide +kernel
theorem dX4_init_0 : decode cX4_init 0 = .ok (.aload_n 0, 1) := dk_42 (dk_at dksX4_init_0 0 rfl rfl)
theorem dX4_init_1 : decode cX4_init 1 = .ok (.invokespecial 3, 3) := dk_183 0 3 (dk_at dksX4_init_0 1 rfl rfl)
theorem dX4_init_4 : decode cX4_init 4 = .ok (.aload_n 0, 1) := dk_42 (dk_at dksX4_init_0 4 rfl rfl)
theorem dX4_init_5 : decode cX4_init 5 = .ok (.bipush 7, 2) := dk_16 7 (dk_at dksX4_init_0 5 rfl rfl)
theorem dX4_init_7 : decode cX4_init 7 = .ok (.newarray .int, 2) := dk_188_10 (dk_at dksX4_init_0 7 rfl rfl)
theorem dX4_init_9 : decode cX4_init 9 = .ok (.putfield 9, 3) := dk_181 0 9 (dk_at dksX4_init_0 9 rfl rfl)
theorem dX4_init_12 : decode cX4_init 12 = .ok (.return_, 1) := dk_177 (dk_at dksX4_init_0 12 rfl rfl)
abbrev cX4_finds : ByteArray := prog_16_method_2_code
def yX4_finds : MethodName := ⟨RX4, "finds", "(III)V"⟩
def dkwX4_finds_7 : List UInt8 := [180, 0, 9, 16, 6, 29, 79, 177]
abbrev dktX4_finds_7 : List UInt8 := dkwX4_finds_7 ++ []
def dkwX4_finds_6 : List UInt8 := [79, 42, 180, 0, 9, 7, 21, 7, 79, 42, 180, 0, 9, 8, 27, 28, 126, 184, 0, 34, 79, 42]
abbrev dktX4_finds_6 : List UInt8 := dkwX4_finds_6 ++ dktX4_finds_7
def dkwX4_finds_5 : List UInt8 := [184, 0, 25, 79, 42, 180, 0, 9, 5, 16, 31, 27, 184, 0, 31, 100, 79, 42, 180, 0, 9, 6, 21, 5]
abbrev dktX4_finds_5 : List UInt8 := dkwX4_finds_5 ++ dktX4_finds_6
def dkwX4_finds_4 : List UInt8 := [3, 96, 54, 5, 132, 8, 1, 167, 255, 172, 42, 180, 0, 9, 3, 21, 4, 79, 42, 180, 0, 9, 4, 27]
abbrev dktX4_finds_4 : List UInt8 := dkwX4_finds_4 ++ dktX4_finds_5
def dkwX4_finds_3 : List UInt8 := [54, 4, 21, 5, 27, 21, 8, 184, 0, 15, 153, 0, 14, 21, 8, 5, 112, 154, 0, 7, 4, 167, 0, 4]
abbrev dktX4_finds_3 : List UInt8 := dkwX4_finds_3 ++ dktX4_finds_4
def dkwX4_finds_2 : List UInt8 := [184, 0, 19, 54, 7, 21, 4, 27, 21, 8, 184, 0, 15, 153, 0, 8, 21, 8, 167, 0, 4, 3, 96]
abbrev dktX4_finds_2 : List UInt8 := dkwX4_finds_2 ++ dktX4_finds_3
def dkwX4_finds_1 : List UInt8 := [21, 8, 184, 0, 15, 153, 0, 10, 21, 6, 4, 96, 167, 0, 4, 3, 54, 6, 21, 7, 21, 6]
abbrev dktX4_finds_1 : List UInt8 := dkwX4_finds_1 ++ dktX4_finds_2
def dkwX4_finds_0 : List UInt8 := [3, 54, 4, 3, 54, 5, 3, 54, 6, 3, 54, 7, 3, 54, 8, 21, 8, 16, 12, 162, 0, 83, 27]
abbrev dktX4_finds_0 : List UInt8 := dkwX4_finds_0 ++ dktX4_finds_1
theorem dksX4_finds_0 : cX4_finds.data.toList.drop 0 = dktX4_finds_0 := by decide +kernel
theorem dksX4_finds_1 : cX4_finds.data.toList.drop 23 = dktX4_finds_1 := dk_seg dksX4_finds_0 23 rfl rfl
theorem dksX4_finds_2 : cX4_finds.data.toList.drop 45 = dktX4_finds_2 := dk_seg dksX4_finds_1 22 rfl rfl
theorem dksX4_finds_3 : cX4_finds.data.toList.drop 68 = dktX4_finds_3 := dk_seg dksX4_finds_2 23 rfl rfl
theorem dksX4_finds_4 : cX4_finds.data.toList.drop 92 = dktX4_finds_4 := dk_seg dksX4_finds_3 24 rfl rfl
theorem dksX4_finds_5 : cX4_finds.data.toList.drop 116 = dktX4_finds_5 := dk_seg dksX4_finds_4 24 rfl rfl
theorem dksX4_finds_6 : cX4_finds.data.toList.drop 140 = dktX4_finds_6 := dk_seg dksX4_finds_5 24 rfl rfl
theorem dksX4_finds_7 : cX4_finds.data.toList.drop 162 = dktX4_finds_7 := dk_seg dksX4_finds_6 22 rfl rfl
theorem dX4_finds_0 : decode cX4_finds 0 = .ok (.iconst 0, 1) := dk_3 (dk_at dksX4_finds_0 0 rfl rfl)
theorem dX4_finds_1 : decode cX4_finds 1 = .ok (.istore 4, 2) := dk_54 4 (dk_at dksX4_finds_0 1 rfl rfl)
theorem dX4_finds_3 : decode cX4_finds 3 = .ok (.iconst 0, 1) := dk_3 (dk_at dksX4_finds_0 3 rfl rfl)
theorem dX4_finds_4 : decode cX4_finds 4 = .ok (.istore 5, 2) := dk_54 5 (dk_at dksX4_finds_0 4 rfl rfl)
theorem dX4_finds_6 : decode cX4_finds 6 = .ok (.iconst 0, 1) := dk_3 (dk_at dksX4_finds_0 6 rfl rfl)
theorem dX4_finds_7 : decode cX4_finds 7 = .ok (.istore 6, 2) := dk_54 6 (dk_at dksX4_finds_0 7 rfl rfl)
theorem dX4_finds_9 : decode cX4_finds 9 = .ok (.iconst 0, 1) := dk_3 (dk_at dksX4_finds_0 9 rfl rfl)
theorem dX4_finds_10 : decode cX4_finds 10 = .ok (.istore 7, 2) := dk_54 7 (dk_at dksX4_finds_0 10 rfl rfl)
theorem dX4_finds_12 : decode cX4_finds 12 = .ok (.iconst 0, 1) := dk_3 (dk_at dksX4_finds_0 12 rfl rfl)
theorem dX4_finds_13 : decode cX4_finds 13 = .ok (.istore 8, 2) := dk_54 8 (dk_at dksX4_finds_0 13 rfl rfl)
theorem dX4_finds_15 : decode cX4_finds 15 = .ok (.iload 8, 2) := dk_21 8 (dk_at dksX4_finds_0 15 rfl rfl)
theorem dX4_finds_17 : decode cX4_finds 17 = .ok (.bipush 12, 2) := dk_16 12 (dk_at dksX4_finds_0 17 rfl rfl)
theorem dX4_finds_19 : decode cX4_finds 19 = .ok (.if_icmp .ge 83, 3) := dk_162 0 83 (dk_at dksX4_finds_0 19 rfl rfl)
theorem dX4_finds_22 : decode cX4_finds 22 = .ok (.iload_n 1, 1) := dk_27 (dk_at dksX4_finds_0 22 rfl rfl)
theorem dX4_finds_23 : decode cX4_finds 23 = .ok (.iload 8, 2) := dk_21 8 (dk_at dksX4_finds_1 0 rfl rfl)
theorem dX4_finds_25 : decode cX4_finds 25 = .ok (.invokestatic 15, 3) := dk_184 0 15 (dk_at dksX4_finds_1 2 rfl rfl)
theorem dX4_finds_28 : decode cX4_finds 28 = .ok (.ifCond .eq 10, 3) := dk_153 0 10 (dk_at dksX4_finds_1 5 rfl rfl)
theorem dX4_finds_31 : decode cX4_finds 31 = .ok (.iload 6, 2) := dk_21 6 (dk_at dksX4_finds_1 8 rfl rfl)
theorem dX4_finds_33 : decode cX4_finds 33 = .ok (.iconst 1, 1) := dk_4 (dk_at dksX4_finds_1 10 rfl rfl)
theorem dX4_finds_34 : decode cX4_finds 34 = .ok (.iadd, 1) := dk_96 (dk_at dksX4_finds_1 11 rfl rfl)
theorem dX4_finds_35 : decode cX4_finds 35 = .ok (.goto 4, 3) := dk_167 0 4 (dk_at dksX4_finds_1 12 rfl rfl)
theorem dX4_finds_38 : decode cX4_finds 38 = .ok (.iconst 0, 1) := dk_3 (dk_at dksX4_finds_1 15 rfl rfl)
theorem dX4_finds_39 : decode cX4_finds 39 = .ok (.istore 6, 2) := dk_54 6 (dk_at dksX4_finds_1 16 rfl rfl)
theorem dX4_finds_41 : decode cX4_finds 41 = .ok (.iload 7, 2) := dk_21 7 (dk_at dksX4_finds_1 18 rfl rfl)
theorem dX4_finds_43 : decode cX4_finds 43 = .ok (.iload 6, 2) := dk_21 6 (dk_at dksX4_finds_1 20 rfl rfl)
theorem dX4_finds_45 : decode cX4_finds 45 = .ok (.invokestatic 19, 3) := dk_184 0 19 (dk_at dksX4_finds_2 0 rfl rfl)
theorem dX4_finds_48 : decode cX4_finds 48 = .ok (.istore 7, 2) := dk_54 7 (dk_at dksX4_finds_2 3 rfl rfl)
theorem dX4_finds_50 : decode cX4_finds 50 = .ok (.iload 4, 2) := dk_21 4 (dk_at dksX4_finds_2 5 rfl rfl)
theorem dX4_finds_52 : decode cX4_finds 52 = .ok (.iload_n 1, 1) := dk_27 (dk_at dksX4_finds_2 7 rfl rfl)
theorem dX4_finds_53 : decode cX4_finds 53 = .ok (.iload 8, 2) := dk_21 8 (dk_at dksX4_finds_2 8 rfl rfl)
theorem dX4_finds_55 : decode cX4_finds 55 = .ok (.invokestatic 15, 3) := dk_184 0 15 (dk_at dksX4_finds_2 10 rfl rfl)
theorem dX4_finds_58 : decode cX4_finds 58 = .ok (.ifCond .eq 8, 3) := dk_153 0 8 (dk_at dksX4_finds_2 13 rfl rfl)
theorem dX4_finds_61 : decode cX4_finds 61 = .ok (.iload 8, 2) := dk_21 8 (dk_at dksX4_finds_2 16 rfl rfl)
theorem dX4_finds_63 : decode cX4_finds 63 = .ok (.goto 4, 3) := dk_167 0 4 (dk_at dksX4_finds_2 18 rfl rfl)
theorem dX4_finds_66 : decode cX4_finds 66 = .ok (.iconst 0, 1) := dk_3 (dk_at dksX4_finds_2 21 rfl rfl)
theorem dX4_finds_67 : decode cX4_finds 67 = .ok (.iadd, 1) := dk_96 (dk_at dksX4_finds_2 22 rfl rfl)
theorem dX4_finds_68 : decode cX4_finds 68 = .ok (.istore 4, 2) := dk_54 4 (dk_at dksX4_finds_3 0 rfl rfl)
theorem dX4_finds_70 : decode cX4_finds 70 = .ok (.iload 5, 2) := dk_21 5 (dk_at dksX4_finds_3 2 rfl rfl)
theorem dX4_finds_72 : decode cX4_finds 72 = .ok (.iload_n 1, 1) := dk_27 (dk_at dksX4_finds_3 4 rfl rfl)
theorem dX4_finds_73 : decode cX4_finds 73 = .ok (.iload 8, 2) := dk_21 8 (dk_at dksX4_finds_3 5 rfl rfl)
theorem dX4_finds_75 : decode cX4_finds 75 = .ok (.invokestatic 15, 3) := dk_184 0 15 (dk_at dksX4_finds_3 7 rfl rfl)
theorem dX4_finds_78 : decode cX4_finds 78 = .ok (.ifCond .eq 14, 3) := dk_153 0 14 (dk_at dksX4_finds_3 10 rfl rfl)
theorem dX4_finds_81 : decode cX4_finds 81 = .ok (.iload 8, 2) := dk_21 8 (dk_at dksX4_finds_3 13 rfl rfl)
theorem dX4_finds_83 : decode cX4_finds 83 = .ok (.iconst 2, 1) := dk_5 (dk_at dksX4_finds_3 15 rfl rfl)
theorem dX4_finds_84 : decode cX4_finds 84 = .ok (.irem, 1) := dk_112 (dk_at dksX4_finds_3 16 rfl rfl)
theorem dX4_finds_85 : decode cX4_finds 85 = .ok (.ifCond .ne 7, 3) := dk_154 0 7 (dk_at dksX4_finds_3 17 rfl rfl)
theorem dX4_finds_88 : decode cX4_finds 88 = .ok (.iconst 1, 1) := dk_4 (dk_at dksX4_finds_3 20 rfl rfl)
theorem dX4_finds_89 : decode cX4_finds 89 = .ok (.goto 4, 3) := dk_167 0 4 (dk_at dksX4_finds_3 21 rfl rfl)
theorem dX4_finds_92 : decode cX4_finds 92 = .ok (.iconst 0, 1) := dk_3 (dk_at dksX4_finds_4 0 rfl rfl)
theorem dX4_finds_93 : decode cX4_finds 93 = .ok (.iadd, 1) := dk_96 (dk_at dksX4_finds_4 1 rfl rfl)
theorem dX4_finds_94 : decode cX4_finds 94 = .ok (.istore 5, 2) := dk_54 5 (dk_at dksX4_finds_4 2 rfl rfl)
theorem dX4_finds_96 : decode cX4_finds 96 = .ok (.iinc 8 1, 3) := dk_132 8 1 (dk_at dksX4_finds_4 4 rfl rfl)
theorem dX4_finds_99 : decode cX4_finds 99 = .ok (.goto (-84), 3) := dk_167 255 172 (dk_at dksX4_finds_4 7 rfl rfl)
theorem dX4_finds_102 : decode cX4_finds 102 = .ok (.aload_n 0, 1) := dk_42 (dk_at dksX4_finds_4 10 rfl rfl)
theorem dX4_finds_103 : decode cX4_finds 103 = .ok (.getfield 9, 3) := dk_180 0 9 (dk_at dksX4_finds_4 11 rfl rfl)
theorem dX4_finds_106 : decode cX4_finds 106 = .ok (.iconst 0, 1) := dk_3 (dk_at dksX4_finds_4 14 rfl rfl)
theorem dX4_finds_107 : decode cX4_finds 107 = .ok (.iload 4, 2) := dk_21 4 (dk_at dksX4_finds_4 15 rfl rfl)
theorem dX4_finds_109 : decode cX4_finds 109 = .ok (.iastore, 1) := dk_79 (dk_at dksX4_finds_4 17 rfl rfl)
theorem dX4_finds_110 : decode cX4_finds 110 = .ok (.aload_n 0, 1) := dk_42 (dk_at dksX4_finds_4 18 rfl rfl)
theorem dX4_finds_111 : decode cX4_finds 111 = .ok (.getfield 9, 3) := dk_180 0 9 (dk_at dksX4_finds_4 19 rfl rfl)
theorem dX4_finds_114 : decode cX4_finds 114 = .ok (.iconst 1, 1) := dk_4 (dk_at dksX4_finds_4 22 rfl rfl)
theorem dX4_finds_115 : decode cX4_finds 115 = .ok (.iload_n 1, 1) := dk_27 (dk_at dksX4_finds_4 23 rfl rfl)
theorem dX4_finds_116 : decode cX4_finds 116 = .ok (.invokestatic 25, 3) := dk_184 0 25 (dk_at dksX4_finds_5 0 rfl rfl)
theorem dX4_finds_119 : decode cX4_finds 119 = .ok (.iastore, 1) := dk_79 (dk_at dksX4_finds_5 3 rfl rfl)
theorem dX4_finds_120 : decode cX4_finds 120 = .ok (.aload_n 0, 1) := dk_42 (dk_at dksX4_finds_5 4 rfl rfl)
theorem dX4_finds_121 : decode cX4_finds 121 = .ok (.getfield 9, 3) := dk_180 0 9 (dk_at dksX4_finds_5 5 rfl rfl)
theorem dX4_finds_124 : decode cX4_finds 124 = .ok (.iconst 2, 1) := dk_5 (dk_at dksX4_finds_5 8 rfl rfl)
theorem dX4_finds_125 : decode cX4_finds 125 = .ok (.bipush 31, 2) := dk_16 31 (dk_at dksX4_finds_5 9 rfl rfl)
theorem dX4_finds_127 : decode cX4_finds 127 = .ok (.iload_n 1, 1) := dk_27 (dk_at dksX4_finds_5 11 rfl rfl)
theorem dX4_finds_128 : decode cX4_finds 128 = .ok (.invokestatic 31, 3) := dk_184 0 31 (dk_at dksX4_finds_5 12 rfl rfl)
theorem dX4_finds_131 : decode cX4_finds 131 = .ok (.isub, 1) := dk_100 (dk_at dksX4_finds_5 15 rfl rfl)
theorem dX4_finds_132 : decode cX4_finds 132 = .ok (.iastore, 1) := dk_79 (dk_at dksX4_finds_5 16 rfl rfl)
theorem dX4_finds_133 : decode cX4_finds 133 = .ok (.aload_n 0, 1) := dk_42 (dk_at dksX4_finds_5 17 rfl rfl)
theorem dX4_finds_134 : decode cX4_finds 134 = .ok (.getfield 9, 3) := dk_180 0 9 (dk_at dksX4_finds_5 18 rfl rfl)
theorem dX4_finds_137 : decode cX4_finds 137 = .ok (.iconst 3, 1) := dk_6 (dk_at dksX4_finds_5 21 rfl rfl)
theorem dX4_finds_138 : decode cX4_finds 138 = .ok (.iload 5, 2) := dk_21 5 (dk_at dksX4_finds_5 22 rfl rfl)
theorem dX4_finds_140 : decode cX4_finds 140 = .ok (.iastore, 1) := dk_79 (dk_at dksX4_finds_6 0 rfl rfl)
theorem dX4_finds_141 : decode cX4_finds 141 = .ok (.aload_n 0, 1) := dk_42 (dk_at dksX4_finds_6 1 rfl rfl)
theorem dX4_finds_142 : decode cX4_finds 142 = .ok (.getfield 9, 3) := dk_180 0 9 (dk_at dksX4_finds_6 2 rfl rfl)
theorem dX4_finds_145 : decode cX4_finds 145 = .ok (.iconst 4, 1) := dk_7 (dk_at dksX4_finds_6 5 rfl rfl)
theorem dX4_finds_146 : decode cX4_finds 146 = .ok (.iload 7, 2) := dk_21 7 (dk_at dksX4_finds_6 6 rfl rfl)
theorem dX4_finds_148 : decode cX4_finds 148 = .ok (.iastore, 1) := dk_79 (dk_at dksX4_finds_6 8 rfl rfl)
theorem dX4_finds_149 : decode cX4_finds 149 = .ok (.aload_n 0, 1) := dk_42 (dk_at dksX4_finds_6 9 rfl rfl)
theorem dX4_finds_150 : decode cX4_finds 150 = .ok (.getfield 9, 3) := dk_180 0 9 (dk_at dksX4_finds_6 10 rfl rfl)
theorem dX4_finds_153 : decode cX4_finds 153 = .ok (.iconst 5, 1) := dk_8 (dk_at dksX4_finds_6 13 rfl rfl)
theorem dX4_finds_154 : decode cX4_finds 154 = .ok (.iload_n 1, 1) := dk_27 (dk_at dksX4_finds_6 14 rfl rfl)
theorem dX4_finds_155 : decode cX4_finds 155 = .ok (.iload_n 2, 1) := dk_28 (dk_at dksX4_finds_6 15 rfl rfl)
theorem dX4_finds_156 : decode cX4_finds 156 = .ok (.iand, 1) := dk_126 (dk_at dksX4_finds_6 16 rfl rfl)
theorem dX4_finds_157 : decode cX4_finds 157 = .ok (.invokestatic 34, 3) := dk_184 0 34 (dk_at dksX4_finds_6 17 rfl rfl)
theorem dX4_finds_160 : decode cX4_finds 160 = .ok (.iastore, 1) := dk_79 (dk_at dksX4_finds_6 20 rfl rfl)
theorem dX4_finds_161 : decode cX4_finds 161 = .ok (.aload_n 0, 1) := dk_42 (dk_at dksX4_finds_6 21 rfl rfl)
theorem dX4_finds_162 : decode cX4_finds 162 = .ok (.getfield 9, 3) := dk_180 0 9 (dk_at dksX4_finds_7 0 rfl rfl)
theorem dX4_finds_165 : decode cX4_finds 165 = .ok (.bipush 6, 2) := dk_16 6 (dk_at dksX4_finds_7 3 rfl rfl)
theorem dX4_finds_167 : decode cX4_finds 167 = .ok (.iload_n 3, 1) := dk_29 (dk_at dksX4_finds_7 5 rfl rfl)
theorem dX4_finds_168 : decode cX4_finds 168 = .ok (.iastore, 1) := dk_79 (dk_at dksX4_finds_7 6 rfl rfl)
theorem dX4_finds_169 : decode cX4_finds 169 = .ok (.return_, 1) := dk_177 (dk_at dksX4_finds_7 7 rfl rfl)
theorem q66 : (Jvm.Cond.initialized "SlipWeeks$Named") ∈ lw_all := lw_g (lw_at lw_m1 5 rfl) rfl
theorem q193 : (Jvm.Cond.instantiable "SlipWeeks$Named" (1 : Nat)) ∈ lw_all := lw_g (lw_at lw_m1 132 rfl) rfl
theorem q195 : (Jvm.Cond.instanceMethod ({ cls := "SlipWeeks$Named", name := "<init>", desc := "()V" } : Jvm.MethodName)) ∈ lw_all := lw_g (lw_at lw_m1 134 rfl) rfl
theorem q196 : (Jvm.Cond.code ({ cls := "SlipWeeks$Named", name := "<init>", desc := "()V" } : Jvm.MethodName) prog_16_method_1_code (1 : Nat) (Option.none : Option Jvm.ClassFile.FieldType)) ∈ lw_all := lw_g (lw_at lw_m1 135 rfl) rfl
theorem q197 : (Jvm.Cond.methodLink "SlipWeeks$Named" (3 : Nat) ({ cls := "java/lang/Object", name := "<init>", desc := "()V" } : Jvm.MethodName)) ∈ lw_all := lw_g (lw_at lw_m1 136 rfl) rfl
theorem q198 : (Jvm.Cond.fieldLink "SlipWeeks$Named" (9 : Nat) "SlipWeeks$Named" "v" "[I") ∈ lw_all := lw_g (lw_at lw_m1 137 rfl) rfl
theorem q200 : (Jvm.Cond.laysFinal "SlipWeeks$Named" "SlipWeeks$Named" "v" "[I") ∈ lw_all := lw_g (lw_at lw_m1 139 rfl) rfl
theorem q201 : (Jvm.Cond.soleField "SlipWeeks$Named" "v") ∈ lw_all := lw_g (lw_at lw_m1 140 rfl) rfl
theorem q202 : (Jvm.Cond.superclass "SlipWeeks$Named" "java/lang/Object") ∈ lw_all := lw_g (lw_at lw_m1 141 rfl) rfl
theorem q551 : (Jvm.Cond.instanceMethod ({ cls := "SlipWeeks$Named", name := "finds", desc := "(III)V" } : Jvm.MethodName)) ∈ lw_all := lw_g (lw_at lw_m3 10 rfl) rfl
theorem q552 : (Jvm.Cond.selects "SlipWeeks$Named" ({ cls := "SlipWeeks$Named", name := "finds", desc := "(III)V" } : Jvm.MethodName) ({ cls := "SlipWeeks$Named", name := "finds", desc := "(III)V" } : Jvm.MethodName)) ∈ lw_all := lw_g (lw_at lw_m3 11 rfl) rfl
theorem q553 : (Jvm.Cond.code ({ cls := "SlipWeeks$Named", name := "finds", desc := "(III)V" } : Jvm.MethodName) prog_16_method_2_code (9 : Nat) (Option.none : Option Jvm.ClassFile.FieldType)) ∈ lw_all := lw_g (lw_at lw_m3 12 rfl) rfl
theorem q554 : (Jvm.Cond.methodLinkNest "SlipWeeks$Named" (15 : Nat) ({ cls := "SlipWeeks", name := "has", desc := "(II)Z" } : Jvm.MethodName) "SlipWeeks") ∈ lw_tbl := lw_at lw_m3 13 rfl
theorem q557 : (Jvm.Cond.methodLink "SlipWeeks$Named" (19 : Nat) ({ cls := "java/lang/Math", name := "max", desc := "(II)I" } : Jvm.MethodName)) ∈ lw_all := lw_g (lw_at lw_m3 16 rfl) rfl
theorem q560 : (Jvm.Cond.methodLink "SlipWeeks$Named" (25 : Nat) ({ cls := "java/lang/Integer", name := "numberOfTrailingZeros", desc := "(I)I" } : Jvm.MethodName)) ∈ lw_all := lw_g (lw_at lw_m3 19 rfl) rfl
theorem q564 : (Jvm.Cond.methodLink "SlipWeeks$Named" (31 : Nat) ({ cls := "java/lang/Integer", name := "numberOfLeadingZeros", desc := "(I)I" } : Jvm.MethodName)) ∈ lw_all := lw_g (lw_at lw_m3 23 rfl) rfl
theorem q567 : (Jvm.Cond.methodLink "SlipWeeks$Named" (34 : Nat) ({ cls := "java/lang/Integer", name := "bitCount", desc := "(I)I" } : Jvm.MethodName)) ∈ lw_all := lw_g (lw_at lw_m3 26 rfl) rfl
theorem in_X4 : ∀ w ∈ wsX40, w ∈ lw_all := lw_in wsX40 [200] (by decide +kernel) (by decide +kernel)
/-! SlipWeeks$Finding -/
set_option maxRecDepth 100000
def RX6 : String := "SlipWeeks$Finding"
def TX6 : u_T := fun k => match k with
  | 0 => ("java/lang/Throwable", "cause", "Ljava/lang/Throwable;", false)
  | 1 => ("java/lang/Throwable", "stackTrace", "[Ljava/lang/StackTraceElement;", false)
  | 2 => ("java/lang/Throwable", "suppressedExceptions", "Ljava/util/List;", false)
  | 3 => ("java/lang/Throwable", "detailMessage", "Ljava/lang/String;", false)
  | 4 => ("java/lang/Throwable", "backtrace", "Ljava/lang/Object;", false)
  | 5 => ("java/lang/Throwable", "depth", "I", false)
  | _ => ("SlipWeeks$Finding", "which", "I", true)
def tyX6 : Nat → FieldType := fun k => match k with
  | 0 => .object "java/lang/Throwable"
  | 1 => .array (.object "java/lang/StackTraceElement")
  | 2 => .object "java/util/List"
  | 3 => .object "java/lang/String"
  | 4 => .object "java/lang/Object"
  | 5 => .int
  | _ => .int
abbrev wsX60 : List Cond := u_ws RX6 TX6 7
theorem nmX6 : ∀ a, a < 7 → ∀ b, b < 7 → a ≠ b → (TX6 a).2.1 ≠ (TX6 b).2.1 := by decide +kernel
theorem tyX6_ok : ∀ k, k < 7 → parseFieldDescriptor (TX6 k).2.2.1 = some (tyX6 k) := by decide +kernel
abbrev cX6_init : ByteArray := prog_8_method_1_code
def yX6_init : MethodName := ⟨RX6, "<init>", "(I)V"⟩
def dkwX6_init_0 : List UInt8 := [42, 1, 1, 3, 3, 183, 0, 1, 42, 27, 181, 0, 7, 177]
abbrev dktX6_init_0 : List UInt8 := dkwX6_init_0 ++ []
theorem dksX6_init_0 : cX6_init.data.toList.drop 0 = dktX6_init_0 := by decide +kernel
theorem dX6_init_0 : decode cX6_init 0 = .ok (.aload_n 0, 1) := dk_42 (dk_at dksX6_init_0 0 rfl rfl)
theorem dX6_init_1 : decode cX6_init 1 = .ok (.aconst_null, 1) := dk_1 (dk_at dksX6_init_0 1 rfl rfl)
theorem dX6_init_2 : decode cX6_init 2 = .ok (.aconst_null, 1) := dk_1 (dk_at dksX6_init_0 2 rfl rfl)
theorem dX6_init_3 : decode cX6_init 3 = .ok (.iconst 0, 1) := dk_3 (dk_at dksX6_init_0 3 rfl rfl)
theorem dX6_init_4 : decode cX6_init 4 = .ok (.iconst 0, 1) := dk_3 (dk_at dksX6_init_0 4 rfl rfl)
theorem dX6_init_5 : decode cX6_init 5 = .ok (.invokespecial 1, 3) := dk_183 0 1 (dk_at dksX6_init_0 5 rfl rfl)
theorem dX6_init_8 : decode cX6_init 8 = .ok (.aload_n 0, 1) := dk_42 (dk_at dksX6_init_0 8 rfl rfl)
theorem dX6_init_9 : decode cX6_init 9 = .ok (.iload_n 1, 1) := dk_27 (dk_at dksX6_init_0 9 rfl rfl)
theorem dX6_init_10 : decode cX6_init 10 = .ok (.putfield 7, 3) := dk_181 0 7 (dk_at dksX6_init_0 10 rfl rfl)
theorem dX6_init_13 : decode cX6_init 13 = .ok (.return_, 1) := dk_177 (dk_at dksX6_init_0 13 rfl rfl)
abbrev cX6_answer : ByteArray := prog_8_method_2_code
def yX6_answer : MethodName := ⟨RX6, "answer", "()I"⟩
def dkwX6_answer_0 : List UInt8 := [18, 13, 42, 180, 0, 7, 100, 172]
abbrev dktX6_answer_0 : List UInt8 := dkwX6_answer_0 ++ []
theorem dksX6_answer_0 : cX6_answer.data.toList.drop 0 = dktX6_answer_0 := by decide +kernel
theorem dX6_answer_0 : decode cX6_answer 0 = .ok (.ldc 13, 2) := dk_18 13 (dk_at dksX6_answer_0 0 rfl rfl)
theorem dX6_answer_2 : decode cX6_answer 2 = .ok (.aload_n 0, 1) := dk_42 (dk_at dksX6_answer_0 2 rfl rfl)
theorem dX6_answer_3 : decode cX6_answer 3 = .ok (.getfield 7, 3) := dk_180 0 7 (dk_at dksX6_answer_0 3 rfl rfl)
theorem dX6_answer_6 : decode cX6_answer 6 = .ok (.isub, 1) := dk_100 (dk_at dksX6_answer_0 6 rfl rfl)
theorem dX6_answer_7 : decode cX6_answer 7 = .ok (.ireturn, 1) := dk_172 (dk_at dksX6_answer_0 7 rfl rfl)
theorem q71 : (Jvm.Cond.initialized "SlipWeeks$Finding") ∈ lw_all := lw_g (lw_at lw_m1 10 rfl) rfl
theorem q284 : (Jvm.Cond.instantiable "SlipWeeks$Finding" (7 : Nat)) ∈ lw_all := lw_g (lw_at lw_m1 223 rfl) rfl
theorem q285 : (Jvm.Cond.castable "SlipWeeks$Finding" "SlipWeeks$Finding") ∈ lw_tbl := lw_at lw_m1 224 rfl
theorem q290 : (Jvm.Cond.selects "SlipWeeks$Finding" ({ cls := "java/lang/Throwable", name := "fillInStackTrace", desc := "(I)Ljava/lang/Throwable;" } : Jvm.MethodName) ({ cls := "java/lang/Throwable", name := "fillInStackTrace", desc := "(I)Ljava/lang/Throwable;" } : Jvm.MethodName)) ∈ lw_all := lw_g (lw_at lw_m1 229 rfl) rfl
theorem q291 : (Jvm.Cond.selects "SlipWeeks$Finding" ({ cls := "java/lang/Throwable", name := "fillInStackTrace", desc := "()Ljava/lang/Throwable;" } : Jvm.MethodName) ({ cls := "java/lang/Throwable", name := "fillInStackTrace", desc := "()Ljava/lang/Throwable;" } : Jvm.MethodName)) ∈ lw_all := lw_g (lw_at lw_m1 230 rfl) rfl
theorem q292 : (Jvm.Cond.lays "SlipWeeks$Finding" "java/lang/Throwable" "cause" "Ljava/lang/Throwable;") ∈ lw_all := lw_g (lw_at lw_m1 231 rfl) rfl
theorem q294 : (Jvm.Cond.lays "SlipWeeks$Finding" "java/lang/Throwable" "stackTrace" "[Ljava/lang/StackTraceElement;") ∈ lw_all := lw_g (lw_at lw_m1 233 rfl) rfl
theorem q296 : (Jvm.Cond.lays "SlipWeeks$Finding" "java/lang/Throwable" "suppressedExceptions" "Ljava/util/List;") ∈ lw_all := lw_g (lw_at lw_m1 235 rfl) rfl
theorem q298 : (Jvm.Cond.lays "SlipWeeks$Finding" "java/lang/Throwable" "detailMessage" "Ljava/lang/String;") ∈ lw_all := lw_g (lw_at lw_m1 237 rfl) rfl
theorem q300 : (Jvm.Cond.lays "SlipWeeks$Finding" "java/lang/Throwable" "backtrace" "Ljava/lang/Object;") ∈ lw_all := lw_g (lw_at lw_m1 239 rfl) rfl
theorem q322 : (Jvm.Cond.instanceMethod ({ cls := "SlipWeeks$Finding", name := "<init>", desc := "(I)V" } : Jvm.MethodName)) ∈ lw_all := lw_g (lw_at lw_m2 21 rfl) rfl
theorem q323 : (Jvm.Cond.code ({ cls := "SlipWeeks$Finding", name := "<init>", desc := "(I)V" } : Jvm.MethodName) prog_8_method_1_code (2 : Nat) (Option.none : Option Jvm.ClassFile.FieldType)) ∈ lw_all := lw_g (lw_at lw_m2 22 rfl) rfl
theorem q324 : (Jvm.Cond.methodLink "SlipWeeks$Finding" (1 : Nat) ({ cls := "java/lang/Exception", name := "<init>", desc := "(Ljava/lang/String;Ljava/lang/Throwable;ZZ)V" } : Jvm.MethodName)) ∈ lw_all := lw_g (lw_at lw_m2 23 rfl) rfl
theorem q330 : (Jvm.Cond.fieldLink "SlipWeeks$Finding" (7 : Nat) "SlipWeeks$Finding" "which" "I") ∈ lw_all := lw_g (lw_at lw_m2 29 rfl) rfl
theorem q337 : (Jvm.Cond.laysFinal "SlipWeeks$Finding" "SlipWeeks$Finding" "which" "I") ∈ lw_all := lw_g (lw_at lw_m2 36 rfl) rfl
theorem q338 : (Jvm.Cond.soleField "SlipWeeks$Finding" "which") ∈ lw_all := lw_g (lw_at lw_m2 37 rfl) rfl
theorem q343 : (Jvm.Cond.lays "SlipWeeks$Finding" "java/lang/Throwable" "depth" "I") ∈ lw_all := lw_g (lw_at lw_m2 42 rfl) rfl
theorem q346 : (Jvm.Cond.superclass "SlipWeeks$Finding" "java/lang/Exception") ∈ lw_all := lw_g (lw_at lw_m2 45 rfl) rfl
theorem q356 : (Jvm.Cond.instanceMethod ({ cls := "SlipWeeks$Finding", name := "answer", desc := "()I" } : Jvm.MethodName)) ∈ lw_all := lw_g (lw_at lw_m2 55 rfl) rfl
theorem q357 : (Jvm.Cond.selects "SlipWeeks$Finding" ({ cls := "SlipWeeks$Finding", name := "answer", desc := "()I" } : Jvm.MethodName) ({ cls := "SlipWeeks$Finding", name := "answer", desc := "()I" } : Jvm.MethodName)) ∈ lw_all := lw_g (lw_at lw_m2 56 rfl) rfl
theorem q358 : (Jvm.Cond.code ({ cls := "SlipWeeks$Finding", name := "answer", desc := "()I" } : Jvm.MethodName) prog_8_method_2_code (1 : Nat) (Option.some Jvm.ClassFile.FieldType.int)) ∈ lw_all := lw_g (lw_at lw_m2 57 rfl) rfl
theorem q359 : (Jvm.Cond.constant "SlipWeeks$Finding" (13 : Nat) (-1000000001 : Int32)) ∈ lw_all := lw_g (lw_at lw_m2 58 rfl) rfl
theorem in_X6 : ∀ w ∈ wsX60, w ∈ lw_all := lw_in wsX60 [292, 294, 296, 298, 300, 343, 337] (by decide +kernel) (by decide +kernel)
/-! SlipWeeks$Cross -/
set_option maxRecDepth 100000
def RX7 : String := "SlipWeeks$Cross"
def TX7 : u_T := fun k => match k with
  | _ => ("SlipWeeks$Cross", "many", "I", false)
def tyX7 : Nat → FieldType := fun k => match k with
  | _ => .int
abbrev wsX70 : List Cond := u_ws RX7 TX7 1
theorem nmX7 : ∀ a, a < 1 → ∀ b, b < 1 → a ≠ b → (TX7 a).2.1 ≠ (TX7 b).2.1 := by decide +kernel
theorem tyX7_ok : ∀ k, k < 1 → parseFieldDescriptor (TX7 k).2.2.1 = some (tyX7 k) := by decide +kernel
abbrev cX7_init : ByteArray := prog_5_method_1_code
def yX7_init : MethodName := ⟨RX7, "<init>", "(I)V"⟩
def dkwX7_init_0 : List UInt8 := [42, 183, 0, 1, 42, 27, 181, 0, 7, 177]
abbrev dktX7_init_0 : List UInt8 := dkwX7_init_0 ++ []
theorem dksX7_init_0 : cX7_init.data.toList.drop 0 = dktX7_init_0 := by decide +kernel
theorem dX7_init_0 : decode cX7_init 0 = .ok (.aload_n 0, 1) := dk_42 (dk_at dksX7_init_0 0 rfl rfl)
theorem dX7_init_1 : decode cX7_init 1 = .ok (.invokespecial 1, 3) := dk_183 0 1 (dk_at dksX7_init_0 1 rfl rfl)
theorem dX7_init_4 : decode cX7_init 4 = .ok (.aload_n 0, 1) := dk_42 (dk_at dksX7_init_0 4 rfl rfl)
theorem dX7_init_5 : decode cX7_init 5 = .ok (.iload_n 1, 1) := dk_27 (dk_at dksX7_init_0 5 rfl rfl)
theorem dX7_init_6 : decode cX7_init 6 = .ok (.putfield 7, 3) := dk_181 0 7 (dk_at dksX7_init_0 6 rfl rfl)
theorem dX7_init_9 : decode cX7_init 9 = .ok (.return_, 1) := dk_177 (dk_at dksX7_init_0 9 rfl rfl)
abbrev cX7_kind : ByteArray := prog_5_method_2_code
def yX7_kind : MethodName := ⟨RX7, "kind", "()I"⟩
theorem dX7_kind_0 : decode cX7_kind 0 = .ok (.iconst 0, 1) := by decide +kernel
theorem dX7_kind_1 : decode cX7_kind 1 = .ok (.ireturn, 1) := by decide +kernel
abbrev cX7_is : ByteArray := prog_5_method_3_code
def yX7_is : MethodName := ⟨RX7, "is", "(I)Z"⟩
def dkwX7_is_0 : List UInt8 := [27, 153, 0, 11, 27, 42, 182, 0, 13, 160, 0, 7, 4, 167, 0, 4, 3, 172]
abbrev dktX7_is_0 : List UInt8 := dkwX7_is_0 ++ []
theorem dksX7_is_0 : cX7_is.data.toList.drop 0 = dktX7_is_0 := by decide +kernel
theorem dX7_is_0 : decode cX7_is 0 = .ok (.iload_n 1, 1) := dk_27 (dk_at dksX7_is_0 0 rfl rfl)
theorem dX7_is_1 : decode cX7_is 1 = .ok (.ifCond .eq 11, 3) := dk_153 0 11 (dk_at dksX7_is_0 1 rfl rfl)
theorem dX7_is_4 : decode cX7_is 4 = .ok (.iload_n 1, 1) := dk_27 (dk_at dksX7_is_0 4 rfl rfl)
theorem dX7_is_5 : decode cX7_is 5 = .ok (.aload_n 0, 1) := dk_42 (dk_at dksX7_is_0 5 rfl rfl)
theorem dX7_is_6 : decode cX7_is 6 = .ok (.invokevirtual 13, 3) := dk_182 0 13 (dk_at dksX7_is_0 6 rfl rfl)
theorem dX7_is_9 : decode cX7_is 9 = .ok (.if_icmp .ne 7, 3) := dk_160 0 7 (dk_at dksX7_is_0 9 rfl rfl)
theorem dX7_is_12 : decode cX7_is 12 = .ok (.iconst 1, 1) := dk_4 (dk_at dksX7_is_0 12 rfl rfl)
theorem dX7_is_13 : decode cX7_is 13 = .ok (.goto 4, 3) := dk_167 0 4 (dk_at dksX7_is_0 13 rfl rfl)
theorem dX7_is_16 : decode cX7_is 16 = .ok (.iconst 0, 1) := dk_3 (dk_at dksX7_is_0 16 rfl rfl)
theorem dX7_is_17 : decode cX7_is 17 = .ok (.ireturn, 1) := dk_172 (dk_at dksX7_is_0 17 rfl rfl)
abbrev cX7_likes : ByteArray := prog_5_method_5_code
def yX7_likes : MethodName := ⟨RX7, "likes", "(LSlipWeeks$Look;)I"⟩
theorem dX7_likes_0 : decode cX7_likes 0 = .ok (.aload_n 1, 1) := by decide +kernel
theorem dX7_likes_1 : decode cX7_likes 1 = .ok (.getfield 20, 3) := by decide +kernel
theorem dX7_likes_4 : decode cX7_likes 4 = .ok (.ireturn, 1) := by decide +kernel
abbrev cX7_copy : ByteArray := prog_5_method_4_code
def yX7_copy : MethodName := ⟨RX7, "copy", "()LSlipWeeks$Cross;"⟩
def dkwX7_copy_0 : List UInt8 := [187, 0, 8, 89, 42, 180, 0, 7, 183, 0, 17, 176]
abbrev dktX7_copy_0 : List UInt8 := dkwX7_copy_0 ++ []
theorem dksX7_copy_0 : cX7_copy.data.toList.drop 0 = dktX7_copy_0 := by decide +kernel
theorem dX7_copy_0 : decode cX7_copy 0 = .ok (.new 8, 3) := dk_187 0 8 (dk_at dksX7_copy_0 0 rfl rfl)
theorem dX7_copy_3 : decode cX7_copy 3 = .ok (.dup, 1) := dk_89 (dk_at dksX7_copy_0 3 rfl rfl)
theorem dX7_copy_4 : decode cX7_copy 4 = .ok (.aload_n 0, 1) := dk_42 (dk_at dksX7_copy_0 4 rfl rfl)
theorem dX7_copy_5 : decode cX7_copy 5 = .ok (.getfield 7, 3) := dk_180 0 7 (dk_at dksX7_copy_0 5 rfl rfl)
theorem dX7_copy_8 : decode cX7_copy 8 = .ok (.invokespecial 17, 3) := dk_183 0 17 (dk_at dksX7_copy_0 8 rfl rfl)
theorem dX7_copy_11 : decode cX7_copy 11 = .ok (.areturn, 1) := dk_176 (dk_at dksX7_copy_0 11 rfl rfl)
theorem q72 : (Jvm.Cond.initialized "SlipWeeks$Cross") ∈ lw_all := lw_g (lw_at lw_m1 11 rfl) rfl
theorem q180 : (Jvm.Cond.fieldLink "SlipWeeks$Cross" (20 : Nat) "SlipWeeks$Look" "liked" "I") ∈ lw_all := lw_g (lw_at lw_m1 119 rfl) rfl
theorem q378 : (Jvm.Cond.instantiable "SlipWeeks$Cross" (1 : Nat)) ∈ lw_all := lw_g (lw_at lw_m2 77 rfl) rfl
theorem q380 : (Jvm.Cond.instanceMethod ({ cls := "SlipWeeks$Cross", name := "<init>", desc := "(I)V" } : Jvm.MethodName)) ∈ lw_all := lw_g (lw_at lw_m2 79 rfl) rfl
theorem q381 : (Jvm.Cond.code ({ cls := "SlipWeeks$Cross", name := "<init>", desc := "(I)V" } : Jvm.MethodName) prog_5_method_1_code (2 : Nat) (Option.none : Option Jvm.ClassFile.FieldType)) ∈ lw_all := lw_g (lw_at lw_m2 80 rfl) rfl
theorem q382 : (Jvm.Cond.methodLink "SlipWeeks$Cross" (1 : Nat) ({ cls := "java/lang/Object", name := "<init>", desc := "()V" } : Jvm.MethodName)) ∈ lw_all := lw_g (lw_at lw_m2 81 rfl) rfl
theorem q383 : (Jvm.Cond.fieldLink "SlipWeeks$Cross" (7 : Nat) "SlipWeeks$Cross" "many" "I") ∈ lw_all := lw_g (lw_at lw_m2 82 rfl) rfl
theorem q399 : (Jvm.Cond.lays "SlipWeeks$Cross" "SlipWeeks$Cross" "many" "I") ∈ lw_all := lw_g (lw_at lw_m2 98 rfl) rfl
theorem q400 : (Jvm.Cond.soleField "SlipWeeks$Cross" "many") ∈ lw_all := lw_g (lw_at lw_m2 99 rfl) rfl
theorem q401 : (Jvm.Cond.superclass "SlipWeeks$Cross" "java/lang/Object") ∈ lw_all := lw_g (lw_at lw_m2 100 rfl) rfl
theorem q472 : (Jvm.Cond.instanceMethod ({ cls := "SlipWeeks$Cross", name := "kind", desc := "()I" } : Jvm.MethodName)) ∈ lw_all := lw_g (lw_at lw_m2 171 rfl) rfl
theorem q473 : (Jvm.Cond.selects "SlipWeeks$Cross" ({ cls := "SlipWeeks$Cross", name := "kind", desc := "()I" } : Jvm.MethodName) ({ cls := "SlipWeeks$Cross", name := "kind", desc := "()I" } : Jvm.MethodName)) ∈ lw_all := lw_g (lw_at lw_m2 172 rfl) rfl
theorem q474 : (Jvm.Cond.sameMethod "SlipWeeks$Cross" "SlipWeeks$Cross" "kind" "()I") ∈ lw_all := lw_g (lw_at lw_m2 173 rfl) rfl
theorem q503 : (Jvm.Cond.code ({ cls := "SlipWeeks$Cross", name := "kind", desc := "()I" } : Jvm.MethodName) prog_5_method_2_code (1 : Nat) (Option.some Jvm.ClassFile.FieldType.int)) ∈ lw_all := lw_g (lw_at lw_m2 202 rfl) rfl
theorem q513 : (Jvm.Cond.instanceMethod ({ cls := "SlipWeeks$Cross", name := "is", desc := "(I)Z" } : Jvm.MethodName)) ∈ lw_all := lw_g (lw_at lw_m2 212 rfl) rfl
theorem q514 : (Jvm.Cond.selects "SlipWeeks$Cross" ({ cls := "SlipWeeks$Cross", name := "is", desc := "(I)Z" } : Jvm.MethodName) ({ cls := "SlipWeeks$Cross", name := "is", desc := "(I)Z" } : Jvm.MethodName)) ∈ lw_all := lw_g (lw_at lw_m2 213 rfl) rfl
theorem q515 : (Jvm.Cond.sameMethod "SlipWeeks$Cross" "SlipWeeks$Cross" "is" "(I)Z") ∈ lw_all := lw_g (lw_at lw_m2 214 rfl) rfl
theorem q532 : (Jvm.Cond.code ({ cls := "SlipWeeks$Cross", name := "is", desc := "(I)Z" } : Jvm.MethodName) prog_5_method_3_code (2 : Nat) (Option.some Jvm.ClassFile.FieldType.boolean)) ∈ lw_all := lw_g (lw_at lw_m2 231 rfl) rfl
theorem q533 : (Jvm.Cond.methodLink "SlipWeeks$Cross" (13 : Nat) ({ cls := "SlipWeeks$Cross", name := "kind", desc := "()I" } : Jvm.MethodName)) ∈ lw_all := lw_g (lw_at lw_m2 232 rfl) rfl
theorem q627 : (Jvm.Cond.instanceMethod ({ cls := "SlipWeeks$Cross", name := "likes", desc := "(LSlipWeeks$Look;)I" } : Jvm.MethodName)) ∈ lw_all := lw_g (lw_at lw_m3 86 rfl) rfl
theorem q628 : (Jvm.Cond.selects "SlipWeeks$Cross" ({ cls := "SlipWeeks$Cross", name := "likes", desc := "(LSlipWeeks$Look;)I" } : Jvm.MethodName) ({ cls := "SlipWeeks$Cross", name := "likes", desc := "(LSlipWeeks$Look;)I" } : Jvm.MethodName)) ∈ lw_all := lw_g (lw_at lw_m3 87 rfl) rfl
theorem q629 : (Jvm.Cond.sameMethod "SlipWeeks$Cross" "SlipWeeks$Cross" "likes" "(LSlipWeeks$Look;)I") ∈ lw_all := lw_g (lw_at lw_m3 88 rfl) rfl
theorem q661 : (Jvm.Cond.code ({ cls := "SlipWeeks$Cross", name := "likes", desc := "(LSlipWeeks$Look;)I" } : Jvm.MethodName) prog_5_method_5_code (2 : Nat) (Option.some Jvm.ClassFile.FieldType.int)) ∈ lw_all := lw_g (lw_at lw_m3 120 rfl) rfl
theorem q1033 : (Jvm.Cond.instanceMethod ({ cls := "SlipWeeks$Cross", name := "copy", desc := "()LSlipWeeks$Cross;" } : Jvm.MethodName)) ∈ lw_all := lw_g (lw_at lw_m5 12 rfl) rfl
theorem q1034 : (Jvm.Cond.selects "SlipWeeks$Cross" ({ cls := "SlipWeeks$Cross", name := "copy", desc := "()LSlipWeeks$Cross;" } : Jvm.MethodName) ({ cls := "SlipWeeks$Cross", name := "copy", desc := "()LSlipWeeks$Cross;" } : Jvm.MethodName)) ∈ lw_all := lw_g (lw_at lw_m5 13 rfl) rfl
theorem q1035 : (Jvm.Cond.sameMethod "SlipWeeks$Cross" "SlipWeeks$Cross" "copy" "()LSlipWeeks$Cross;") ∈ lw_all := lw_g (lw_at lw_m5 14 rfl) rfl
theorem q1071 : (Jvm.Cond.code ({ cls := "SlipWeeks$Cross", name := "copy", desc := "()LSlipWeeks$Cross;" } : Jvm.MethodName) prog_5_method_4_code (1 : Nat) (Option.some (Jvm.ClassFile.FieldType.object "SlipWeeks$Cross"))) ∈ lw_all := lw_g (lw_at lw_m5 50 rfl) rfl
theorem q1072 : (Jvm.Cond.classLink "SlipWeeks$Cross" (8 : Nat) "SlipWeeks$Cross") ∈ lw_all := lw_g (lw_at lw_m5 51 rfl) rfl
theorem q1073 : (Jvm.Cond.methodLink "SlipWeeks$Cross" (17 : Nat) ({ cls := "SlipWeeks$Cross", name := "<init>", desc := "(I)V" } : Jvm.MethodName)) ∈ lw_all := lw_g (lw_at lw_m5 52 rfl) rfl
theorem in_X7 : ∀ w ∈ wsX70, w ∈ lw_all := lw_in wsX70 [399] (by decide +kernel) (by decide +kernel)
/-! SlipWeeks$Born -/
set_option maxRecDepth 100000
def RX8 : String := "SlipWeeks$Born"
def TX8 : u_T := fun k => match k with
  | _ => ("SlipWeeks$Cross", "many", "I", false)
def tyX8 : Nat → FieldType := fun k => match k with
  | _ => .int
abbrev wsX80 : List Cond := u_ws RX8 TX8 1
theorem nmX8 : ∀ a, a < 1 → ∀ b, b < 1 → a ≠ b → (TX8 a).2.1 ≠ (TX8 b).2.1 := by decide +kernel
theorem tyX8_ok : ∀ k, k < 1 → parseFieldDescriptor (TX8 k).2.2.1 = some (tyX8 k) := by decide +kernel
abbrev cX8_init : ByteArray := prog_2_method_1_code
def yX8_init : MethodName := ⟨RX8, "<init>", "(I)V"⟩
def dkwX8_init_0 : List UInt8 := [42, 27, 183, 0, 1, 177]
abbrev dktX8_init_0 : List UInt8 := dkwX8_init_0 ++ []
theorem dksX8_init_0 : cX8_init.data.toList.drop 0 = dktX8_init_0 := by decide +kernel
theorem dX8_init_0 : decode cX8_init 0 = .ok (.aload_n 0, 1) := dk_42 (dk_at dksX8_init_0 0 rfl rfl)
theorem dX8_init_1 : decode cX8_init 1 = .ok (.iload_n 1, 1) := dk_27 (dk_at dksX8_init_0 1 rfl rfl)
theorem dX8_init_2 : decode cX8_init 2 = .ok (.invokespecial 1, 3) := dk_183 0 1 (dk_at dksX8_init_0 2 rfl rfl)
theorem dX8_init_5 : decode cX8_init 5 = .ok (.return_, 1) := dk_177 (dk_at dksX8_init_0 5 rfl rfl)
abbrev cX8_kind : ByteArray := prog_2_method_2_code
def yX8_kind : MethodName := ⟨RX8, "kind", "()I"⟩
def dkwX8_kind_0 : List UInt8 := [42, 183, 0, 7, 4, 96, 172]
abbrev dktX8_kind_0 : List UInt8 := dkwX8_kind_0 ++ []
theorem dksX8_kind_0 : cX8_kind.data.toList.drop 0 = dktX8_kind_0 := by decide +kernel
theorem dX8_kind_0 : decode cX8_kind 0 = .ok (.aload_n 0, 1) := dk_42 (dk_at dksX8_kind_0 0 rfl rfl)
theorem dX8_kind_1 : decode cX8_kind 1 = .ok (.invokespecial 7, 3) := dk_183 0 7 (dk_at dksX8_kind_0 1 rfl rfl)
theorem dX8_kind_4 : decode cX8_kind 4 = .ok (.iconst 1, 1) := dk_4 (dk_at dksX8_kind_0 4 rfl rfl)
theorem dX8_kind_5 : decode cX8_kind 5 = .ok (.iadd, 1) := dk_96 (dk_at dksX8_kind_0 5 rfl rfl)
theorem dX8_kind_6 : decode cX8_kind 6 = .ok (.ireturn, 1) := dk_172 (dk_at dksX8_kind_0 6 rfl rfl)
abbrev cX8_is : ByteArray := prog_2_method_3_code
def yX8_is : MethodName := ⟨RX8, "is", "(I)Z"⟩
def dkwX8_is_0 : List UInt8 := [27, 4, 159, 0, 11, 42, 27, 183, 0, 11, 153, 0, 7, 4, 167, 0, 4, 3, 172]
abbrev dktX8_is_0 : List UInt8 := dkwX8_is_0 ++ []
theorem dksX8_is_0 : cX8_is.data.toList.drop 0 = dktX8_is_0 := by decide +kernel
theorem dX8_is_0 : decode cX8_is 0 = .ok (.iload_n 1, 1) := dk_27 (dk_at dksX8_is_0 0 rfl rfl)
theorem dX8_is_1 : decode cX8_is 1 = .ok (.iconst 1, 1) := dk_4 (dk_at dksX8_is_0 1 rfl rfl)
theorem dX8_is_2 : decode cX8_is 2 = .ok (.if_icmp .eq 11, 3) := dk_159 0 11 (dk_at dksX8_is_0 2 rfl rfl)
theorem dX8_is_5 : decode cX8_is 5 = .ok (.aload_n 0, 1) := dk_42 (dk_at dksX8_is_0 5 rfl rfl)
theorem dX8_is_6 : decode cX8_is 6 = .ok (.iload_n 1, 1) := dk_27 (dk_at dksX8_is_0 6 rfl rfl)
theorem dX8_is_7 : decode cX8_is 7 = .ok (.invokespecial 11, 3) := dk_183 0 11 (dk_at dksX8_is_0 7 rfl rfl)
theorem dX8_is_10 : decode cX8_is 10 = .ok (.ifCond .eq 7, 3) := dk_153 0 7 (dk_at dksX8_is_0 10 rfl rfl)
theorem dX8_is_13 : decode cX8_is 13 = .ok (.iconst 1, 1) := dk_4 (dk_at dksX8_is_0 13 rfl rfl)
theorem dX8_is_14 : decode cX8_is 14 = .ok (.goto 4, 3) := dk_167 0 4 (dk_at dksX8_is_0 14 rfl rfl)
theorem dX8_is_17 : decode cX8_is 17 = .ok (.iconst 0, 1) := dk_3 (dk_at dksX8_is_0 17 rfl rfl)
theorem dX8_is_18 : decode cX8_is 18 = .ok (.ireturn, 1) := dk_172 (dk_at dksX8_is_0 18 rfl rfl)
abbrev cX8_likes : ByteArray := prog_2_method_5_code
def yX8_likes : MethodName := ⟨RX8, "likes", "(LSlipWeeks$Look;)I"⟩
def dkwX8_likes_0 : List UInt8 := [42, 43, 183, 0, 22, 5, 43, 180, 0, 26, 16, 63, 126, 184, 0, 31, 104, 96, 172]
abbrev dktX8_likes_0 : List UInt8 := dkwX8_likes_0 ++ []
theorem dksX8_likes_0 : cX8_likes.data.toList.drop 0 = dktX8_likes_0 := by decide +kernel
theorem dX8_likes_0 : decode cX8_likes 0 = .ok (.aload_n 0, 1) := dk_42 (dk_at dksX8_likes_0 0 rfl rfl)
theorem dX8_likes_1 : decode cX8_likes 1 = .ok (.aload_n 1, 1) := dk_43 (dk_at dksX8_likes_0 1 rfl rfl)
theorem dX8_likes_2 : decode cX8_likes 2 = .ok (.invokespecial 22, 3) := dk_183 0 22 (dk_at dksX8_likes_0 2 rfl rfl)
theorem dX8_likes_5 : decode cX8_likes 5 = .ok (.iconst 2, 1) := dk_5 (dk_at dksX8_likes_0 5 rfl rfl)
theorem dX8_likes_6 : decode cX8_likes 6 = .ok (.aload_n 1, 1) := dk_43 (dk_at dksX8_likes_0 6 rfl rfl)
theorem dX8_likes_7 : decode cX8_likes 7 = .ok (.getfield 26, 3) := dk_180 0 26 (dk_at dksX8_likes_0 7 rfl rfl)
theorem dX8_likes_10 : decode cX8_likes 10 = .ok (.bipush 63, 2) := dk_16 63 (dk_at dksX8_likes_0 10 rfl rfl)
theorem dX8_likes_12 : decode cX8_likes 12 = .ok (.iand, 1) := dk_126 (dk_at dksX8_likes_0 12 rfl rfl)
theorem dX8_likes_13 : decode cX8_likes 13 = .ok (.invokestatic 31, 3) := dk_184 0 31 (dk_at dksX8_likes_0 13 rfl rfl)
theorem dX8_likes_16 : decode cX8_likes 16 = .ok (.imul, 1) := dk_104 (dk_at dksX8_likes_0 16 rfl rfl)
theorem dX8_likes_17 : decode cX8_likes 17 = .ok (.iadd, 1) := dk_96 (dk_at dksX8_likes_0 17 rfl rfl)
theorem dX8_likes_18 : decode cX8_likes 18 = .ok (.ireturn, 1) := dk_172 (dk_at dksX8_likes_0 18 rfl rfl)
abbrev cX8_copy : ByteArray := prog_2_method_4_code
def yX8_copy : MethodName := ⟨RX8, "copy", "()LSlipWeeks$Cross;"⟩
def dkwX8_copy_0 : List UInt8 := [187, 0, 15, 89, 42, 180, 0, 17, 183, 0, 21, 176]
abbrev dktX8_copy_0 : List UInt8 := dkwX8_copy_0 ++ []
theorem dksX8_copy_0 : cX8_copy.data.toList.drop 0 = dktX8_copy_0 := by decide +kernel
theorem dX8_copy_0 : decode cX8_copy 0 = .ok (.new 15, 3) := dk_187 0 15 (dk_at dksX8_copy_0 0 rfl rfl)
theorem dX8_copy_3 : decode cX8_copy 3 = .ok (.dup, 1) := dk_89 (dk_at dksX8_copy_0 3 rfl rfl)
theorem dX8_copy_4 : decode cX8_copy 4 = .ok (.aload_n 0, 1) := dk_42 (dk_at dksX8_copy_0 4 rfl rfl)
theorem dX8_copy_5 : decode cX8_copy 5 = .ok (.getfield 17, 3) := dk_180 0 17 (dk_at dksX8_copy_0 5 rfl rfl)
theorem dX8_copy_8 : decode cX8_copy 8 = .ok (.invokespecial 21, 3) := dk_183 0 21 (dk_at dksX8_copy_0 8 rfl rfl)
theorem dX8_copy_11 : decode cX8_copy 11 = .ok (.areturn, 1) := dk_176 (dk_at dksX8_copy_0 11 rfl rfl)
theorem q73 : (Jvm.Cond.initialized "SlipWeeks$Born") ∈ lw_all := lw_g (lw_at lw_m1 12 rfl) rfl
theorem q174 : (Jvm.Cond.fieldLink "SlipWeeks$Born" (26 : Nat) "SlipWeeks$Look" "row" "I") ∈ lw_all := lw_g (lw_at lw_m1 113 rfl) rfl
theorem q392 : (Jvm.Cond.fieldLink "SlipWeeks$Born" (17 : Nat) "SlipWeeks$Born" "many" "I") ∈ lw_all := lw_g (lw_at lw_m2 91 rfl) rfl
theorem q393 : (Jvm.Cond.sameField "SlipWeeks$Born" "SlipWeeks$Cross" "many" "I") ∈ lw_all := lw_g (lw_at lw_m2 92 rfl) rfl
theorem q403 : (Jvm.Cond.instantiable "SlipWeeks$Born" (1 : Nat)) ∈ lw_all := lw_g (lw_at lw_m2 102 rfl) rfl
theorem q405 : (Jvm.Cond.instanceMethod ({ cls := "SlipWeeks$Born", name := "<init>", desc := "(I)V" } : Jvm.MethodName)) ∈ lw_all := lw_g (lw_at lw_m2 104 rfl) rfl
theorem q406 : (Jvm.Cond.code ({ cls := "SlipWeeks$Born", name := "<init>", desc := "(I)V" } : Jvm.MethodName) prog_2_method_1_code (2 : Nat) (Option.none : Option Jvm.ClassFile.FieldType)) ∈ lw_all := lw_g (lw_at lw_m2 105 rfl) rfl
theorem q407 : (Jvm.Cond.methodLink "SlipWeeks$Born" (1 : Nat) ({ cls := "SlipWeeks$Cross", name := "<init>", desc := "(I)V" } : Jvm.MethodName)) ∈ lw_all := lw_g (lw_at lw_m2 106 rfl) rfl
theorem q408 : (Jvm.Cond.lays "SlipWeeks$Born" "SlipWeeks$Cross" "many" "I") ∈ lw_all := lw_g (lw_at lw_m2 107 rfl) rfl
theorem q409 : (Jvm.Cond.superclass "SlipWeeks$Born" "SlipWeeks$Cross") ∈ lw_all := lw_g (lw_at lw_m2 108 rfl) rfl
theorem q475 : (Jvm.Cond.selects "SlipWeeks$Born" ({ cls := "SlipWeeks$Cross", name := "kind", desc := "()I" } : Jvm.MethodName) ({ cls := "SlipWeeks$Born", name := "kind", desc := "()I" } : Jvm.MethodName)) ∈ lw_all := lw_g (lw_at lw_m2 174 rfl) rfl
theorem q476 : (Jvm.Cond.instanceMethod ({ cls := "SlipWeeks$Born", name := "kind", desc := "()I" } : Jvm.MethodName)) ∈ lw_all := lw_g (lw_at lw_m2 175 rfl) rfl
theorem q477 : (Jvm.Cond.code ({ cls := "SlipWeeks$Born", name := "kind", desc := "()I" } : Jvm.MethodName) prog_2_method_2_code (1 : Nat) (Option.some Jvm.ClassFile.FieldType.int)) ∈ lw_all := lw_g (lw_at lw_m2 176 rfl) rfl
theorem q478 : (Jvm.Cond.methodLink "SlipWeeks$Born" (7 : Nat) ({ cls := "SlipWeeks$Cross", name := "kind", desc := "()I" } : Jvm.MethodName)) ∈ lw_all := lw_g (lw_at lw_m2 177 rfl) rfl
theorem q516 : (Jvm.Cond.selects "SlipWeeks$Born" ({ cls := "SlipWeeks$Cross", name := "is", desc := "(I)Z" } : Jvm.MethodName) ({ cls := "SlipWeeks$Born", name := "is", desc := "(I)Z" } : Jvm.MethodName)) ∈ lw_all := lw_g (lw_at lw_m2 215 rfl) rfl
theorem q517 : (Jvm.Cond.instanceMethod ({ cls := "SlipWeeks$Born", name := "is", desc := "(I)Z" } : Jvm.MethodName)) ∈ lw_all := lw_g (lw_at lw_m2 216 rfl) rfl
theorem q518 : (Jvm.Cond.code ({ cls := "SlipWeeks$Born", name := "is", desc := "(I)Z" } : Jvm.MethodName) prog_2_method_3_code (2 : Nat) (Option.some Jvm.ClassFile.FieldType.boolean)) ∈ lw_all := lw_g (lw_at lw_m2 217 rfl) rfl
theorem q519 : (Jvm.Cond.methodLink "SlipWeeks$Born" (11 : Nat) ({ cls := "SlipWeeks$Cross", name := "is", desc := "(I)Z" } : Jvm.MethodName)) ∈ lw_all := lw_g (lw_at lw_m2 218 rfl) rfl
theorem q630 : (Jvm.Cond.selects "SlipWeeks$Born" ({ cls := "SlipWeeks$Cross", name := "likes", desc := "(LSlipWeeks$Look;)I" } : Jvm.MethodName) ({ cls := "SlipWeeks$Born", name := "likes", desc := "(LSlipWeeks$Look;)I" } : Jvm.MethodName)) ∈ lw_all := lw_g (lw_at lw_m3 89 rfl) rfl
theorem q631 : (Jvm.Cond.instanceMethod ({ cls := "SlipWeeks$Born", name := "likes", desc := "(LSlipWeeks$Look;)I" } : Jvm.MethodName)) ∈ lw_all := lw_g (lw_at lw_m3 90 rfl) rfl
theorem q632 : (Jvm.Cond.code ({ cls := "SlipWeeks$Born", name := "likes", desc := "(LSlipWeeks$Look;)I" } : Jvm.MethodName) prog_2_method_5_code (2 : Nat) (Option.some Jvm.ClassFile.FieldType.int)) ∈ lw_all := lw_g (lw_at lw_m3 91 rfl) rfl
theorem q633 : (Jvm.Cond.methodLink "SlipWeeks$Born" (22 : Nat) ({ cls := "SlipWeeks$Cross", name := "likes", desc := "(LSlipWeeks$Look;)I" } : Jvm.MethodName)) ∈ lw_all := lw_g (lw_at lw_m3 92 rfl) rfl
theorem q634 : (Jvm.Cond.methodLink "SlipWeeks$Born" (31 : Nat) ({ cls := "java/lang/Integer", name := "bitCount", desc := "(I)I" } : Jvm.MethodName)) ∈ lw_all := lw_g (lw_at lw_m3 93 rfl) rfl
theorem q1036 : (Jvm.Cond.selects "SlipWeeks$Born" ({ cls := "SlipWeeks$Cross", name := "copy", desc := "()LSlipWeeks$Cross;" } : Jvm.MethodName) ({ cls := "SlipWeeks$Born", name := "copy", desc := "()LSlipWeeks$Cross;" } : Jvm.MethodName)) ∈ lw_all := lw_g (lw_at lw_m5 15 rfl) rfl
theorem q1037 : (Jvm.Cond.instanceMethod ({ cls := "SlipWeeks$Born", name := "copy", desc := "()LSlipWeeks$Cross;" } : Jvm.MethodName)) ∈ lw_all := lw_g (lw_at lw_m5 16 rfl) rfl
theorem q1038 : (Jvm.Cond.code ({ cls := "SlipWeeks$Born", name := "copy", desc := "()LSlipWeeks$Cross;" } : Jvm.MethodName) prog_2_method_4_code (1 : Nat) (Option.some (Jvm.ClassFile.FieldType.object "SlipWeeks$Cross"))) ∈ lw_all := lw_g (lw_at lw_m5 17 rfl) rfl
theorem q1039 : (Jvm.Cond.classLink "SlipWeeks$Born" (15 : Nat) "SlipWeeks$Born") ∈ lw_all := lw_g (lw_at lw_m5 18 rfl) rfl
theorem q1040 : (Jvm.Cond.methodLink "SlipWeeks$Born" (21 : Nat) ({ cls := "SlipWeeks$Born", name := "<init>", desc := "(I)V" } : Jvm.MethodName)) ∈ lw_all := lw_g (lw_at lw_m5 19 rfl) rfl
theorem q1534 : (Jvm.Cond.sameMethod "SlipWeeks$Born" "SlipWeeks$Born" "kind" "()I") ∈ lw_all := lw_g (lw_at lw_m7 33 rfl) rfl
theorem q1539 : (Jvm.Cond.sameMethod "SlipWeeks$Born" "SlipWeeks$Born" "likes" "(LSlipWeeks$Look;)I") ∈ lw_all := lw_g (lw_at lw_m7 38 rfl) rfl
theorem q1540 : (Jvm.Cond.castable "SlipWeeks$Born" "SlipWeeks$Cross") ∈ lw_tbl := lw_at lw_m7 39 rfl
theorem in_X8 : ∀ w ∈ wsX80, w ∈ lw_all := lw_in wsX80 [408] (by decide +kernel) (by decide +kernel)
/-! SlipWeeks$Drawn -/
set_option maxRecDepth 100000
def RX9 : String := "SlipWeeks$Drawn"
def TX9 : u_T := fun k => match k with
  | _ => ("SlipWeeks$Cross", "many", "I", false)
def tyX9 : Nat → FieldType := fun k => match k with
  | _ => .int
abbrev wsX90 : List Cond := u_ws RX9 TX9 1
theorem nmX9 : ∀ a, a < 1 → ∀ b, b < 1 → a ≠ b → (TX9 a).2.1 ≠ (TX9 b).2.1 := by decide +kernel
theorem tyX9_ok : ∀ k, k < 1 → parseFieldDescriptor (TX9 k).2.2.1 = some (tyX9 k) := by decide +kernel
abbrev cX9_init : ByteArray := prog_6_method_1_code
def yX9_init : MethodName := ⟨RX9, "<init>", "(I)V"⟩
def dkwX9_init_0 : List UInt8 := [42, 27, 183, 0, 1, 177]
abbrev dktX9_init_0 : List UInt8 := dkwX9_init_0 ++ []
theorem dksX9_init_0 : cX9_init.data.toList.drop 0 = dktX9_init_0 := by decide +kernel
theorem dX9_init_0 : decode cX9_init 0 = .ok (.aload_n 0, 1) := dk_42 (dk_at dksX9_init_0 0 rfl rfl)
theorem dX9_init_1 : decode cX9_init 1 = .ok (.iload_n 1, 1) := dk_27 (dk_at dksX9_init_0 1 rfl rfl)
theorem dX9_init_2 : decode cX9_init 2 = .ok (.invokespecial 1, 3) := dk_183 0 1 (dk_at dksX9_init_0 2 rfl rfl)
theorem dX9_init_5 : decode cX9_init 5 = .ok (.return_, 1) := dk_177 (dk_at dksX9_init_0 5 rfl rfl)
abbrev cX9_kind : ByteArray := prog_6_method_2_code
def yX9_kind : MethodName := ⟨RX9, "kind", "()I"⟩
def dkwX9_kind_0 : List UInt8 := [42, 183, 0, 7, 5, 96, 172]
abbrev dktX9_kind_0 : List UInt8 := dkwX9_kind_0 ++ []
theorem dksX9_kind_0 : cX9_kind.data.toList.drop 0 = dktX9_kind_0 := by decide +kernel
theorem dX9_kind_0 : decode cX9_kind 0 = .ok (.aload_n 0, 1) := dk_42 (dk_at dksX9_kind_0 0 rfl rfl)
theorem dX9_kind_1 : decode cX9_kind 1 = .ok (.invokespecial 7, 3) := dk_183 0 7 (dk_at dksX9_kind_0 1 rfl rfl)
theorem dX9_kind_4 : decode cX9_kind 4 = .ok (.iconst 2, 1) := dk_5 (dk_at dksX9_kind_0 4 rfl rfl)
theorem dX9_kind_5 : decode cX9_kind 5 = .ok (.iadd, 1) := dk_96 (dk_at dksX9_kind_0 5 rfl rfl)
theorem dX9_kind_6 : decode cX9_kind 6 = .ok (.ireturn, 1) := dk_172 (dk_at dksX9_kind_0 6 rfl rfl)
abbrev cX9_likes : ByteArray := prog_6_method_4_code
def yX9_likes : MethodName := ⟨RX9, "likes", "(LSlipWeeks$Look;)I"⟩
def dkwX9_likes_4 : List UInt8 := [167, 0, 13, 29, 153, 0, 8, 16, 10, 167, 0, 4, 3, 96, 172]
abbrev dktX9_likes_4 : List UInt8 := dkwX9_likes_4 ++ []
def dkwX9_likes_3 : List UInt8 := [4, 167, 0, 4, 3, 128, 62, 132, 4, 1, 167, 255, 222, 42, 43, 183, 0, 23, 28, 153, 0, 8, 16, 20]
abbrev dktX9_likes_3 : List UInt8 := dkwX9_likes_3 ++ dktX9_likes_4
def dkwX9_likes_2 : List UInt8 := [21, 4, 7, 162, 0, 34, 29, 43, 180, 0, 18, 21, 4, 122, 17, 1, 17, 126, 17, 1, 17, 160, 0, 7]
abbrev dktX9_likes_2 : List UInt8 := dkwX9_likes_2 ++ dktX9_likes_3
def dkwX9_likes_1 : List UInt8 := [16, 15, 126, 16, 15, 160, 0, 7, 4, 167, 0, 4, 3, 128, 61, 132, 4, 1, 167, 255, 222, 3, 54, 4]
abbrev dktX9_likes_1 : List UInt8 := dkwX9_likes_1 ++ dktX9_likes_2
def dkwX9_likes_0 : List UInt8 := [3, 61, 3, 62, 3, 54, 4, 21, 4, 6, 162, 0, 34, 28, 43, 180, 0, 18, 7, 21, 4, 104, 122]
abbrev dktX9_likes_0 : List UInt8 := dkwX9_likes_0 ++ dktX9_likes_1
theorem dksX9_likes_0 : cX9_likes.data.toList.drop 0 = dktX9_likes_0 := by decide +kernel
theorem dksX9_likes_1 : cX9_likes.data.toList.drop 23 = dktX9_likes_1 := dk_seg dksX9_likes_0 23 rfl rfl
theorem dksX9_likes_2 : cX9_likes.data.toList.drop 47 = dktX9_likes_2 := dk_seg dksX9_likes_1 24 rfl rfl
theorem dksX9_likes_3 : cX9_likes.data.toList.drop 71 = dktX9_likes_3 := dk_seg dksX9_likes_2 24 rfl rfl
theorem dksX9_likes_4 : cX9_likes.data.toList.drop 95 = dktX9_likes_4 := dk_seg dksX9_likes_3 24 rfl rfl
theorem dX9_likes_0 : decode cX9_likes 0 = .ok (.iconst 0, 1) := dk_3 (dk_at dksX9_likes_0 0 rfl rfl)
theorem dX9_likes_1 : decode cX9_likes 1 = .ok (.istore_n 2, 1) := dk_61 (dk_at dksX9_likes_0 1 rfl rfl)
theorem dX9_likes_2 : decode cX9_likes 2 = .ok (.iconst 0, 1) := dk_3 (dk_at dksX9_likes_0 2 rfl rfl)
theorem dX9_likes_3 : decode cX9_likes 3 = .ok (.istore_n 3, 1) := dk_62 (dk_at dksX9_likes_0 3 rfl rfl)
theorem dX9_likes_4 : decode cX9_likes 4 = .ok (.iconst 0, 1) := dk_3 (dk_at dksX9_likes_0 4 rfl rfl)
theorem dX9_likes_5 : decode cX9_likes 5 = .ok (.istore 4, 2) := dk_54 4 (dk_at dksX9_likes_0 5 rfl rfl)
theorem dX9_likes_7 : decode cX9_likes 7 = .ok (.iload 4, 2) := dk_21 4 (dk_at dksX9_likes_0 7 rfl rfl)
theorem dX9_likes_9 : decode cX9_likes 9 = .ok (.iconst 3, 1) := dk_6 (dk_at dksX9_likes_0 9 rfl rfl)
theorem dX9_likes_10 : decode cX9_likes 10 = .ok (.if_icmp .ge 34, 3) := dk_162 0 34 (dk_at dksX9_likes_0 10 rfl rfl)
theorem dX9_likes_13 : decode cX9_likes 13 = .ok (.iload_n 2, 1) := dk_28 (dk_at dksX9_likes_0 13 rfl rfl)
theorem dX9_likes_14 : decode cX9_likes 14 = .ok (.aload_n 1, 1) := dk_43 (dk_at dksX9_likes_0 14 rfl rfl)
theorem dX9_likes_15 : decode cX9_likes 15 = .ok (.getfield 18, 3) := dk_180 0 18 (dk_at dksX9_likes_0 15 rfl rfl)
theorem dX9_likes_18 : decode cX9_likes 18 = .ok (.iconst 4, 1) := dk_7 (dk_at dksX9_likes_0 18 rfl rfl)
theorem dX9_likes_19 : decode cX9_likes 19 = .ok (.iload 4, 2) := dk_21 4 (dk_at dksX9_likes_0 19 rfl rfl)
theorem dX9_likes_21 : decode cX9_likes 21 = .ok (.imul, 1) := dk_104 (dk_at dksX9_likes_0 21 rfl rfl)
theorem dX9_likes_22 : decode cX9_likes 22 = .ok (.ishr, 1) := dk_122 (dk_at dksX9_likes_0 22 rfl rfl)
theorem dX9_likes_23 : decode cX9_likes 23 = .ok (.bipush 15, 2) := dk_16 15 (dk_at dksX9_likes_1 0 rfl rfl)
theorem dX9_likes_25 : decode cX9_likes 25 = .ok (.iand, 1) := dk_126 (dk_at dksX9_likes_1 2 rfl rfl)
theorem dX9_likes_26 : decode cX9_likes 26 = .ok (.bipush 15, 2) := dk_16 15 (dk_at dksX9_likes_1 3 rfl rfl)
theorem dX9_likes_28 : decode cX9_likes 28 = .ok (.if_icmp .ne 7, 3) := dk_160 0 7 (dk_at dksX9_likes_1 5 rfl rfl)
theorem dX9_likes_31 : decode cX9_likes 31 = .ok (.iconst 1, 1) := dk_4 (dk_at dksX9_likes_1 8 rfl rfl)
theorem dX9_likes_32 : decode cX9_likes 32 = .ok (.goto 4, 3) := dk_167 0 4 (dk_at dksX9_likes_1 9 rfl rfl)
theorem dX9_likes_35 : decode cX9_likes 35 = .ok (.iconst 0, 1) := dk_3 (dk_at dksX9_likes_1 12 rfl rfl)
theorem dX9_likes_36 : decode cX9_likes 36 = .ok (.ior, 1) := dk_128 (dk_at dksX9_likes_1 13 rfl rfl)
theorem dX9_likes_37 : decode cX9_likes 37 = .ok (.istore_n 2, 1) := dk_61 (dk_at dksX9_likes_1 14 rfl rfl)
theorem dX9_likes_38 : decode cX9_likes 38 = .ok (.iinc 4 1, 3) := dk_132 4 1 (dk_at dksX9_likes_1 15 rfl rfl)
theorem dX9_likes_41 : decode cX9_likes 41 = .ok (.goto (-34), 3) := dk_167 255 222 (dk_at dksX9_likes_1 18 rfl rfl)
theorem dX9_likes_44 : decode cX9_likes 44 = .ok (.iconst 0, 1) := dk_3 (dk_at dksX9_likes_1 21 rfl rfl)
theorem dX9_likes_45 : decode cX9_likes 45 = .ok (.istore 4, 2) := dk_54 4 (dk_at dksX9_likes_1 22 rfl rfl)
theorem dX9_likes_47 : decode cX9_likes 47 = .ok (.iload 4, 2) := dk_21 4 (dk_at dksX9_likes_2 0 rfl rfl)
theorem dX9_likes_49 : decode cX9_likes 49 = .ok (.iconst 4, 1) := dk_7 (dk_at dksX9_likes_2 2 rfl rfl)
theorem dX9_likes_50 : decode cX9_likes 50 = .ok (.if_icmp .ge 34, 3) := dk_162 0 34 (dk_at dksX9_likes_2 3 rfl rfl)
theorem dX9_likes_53 : decode cX9_likes 53 = .ok (.iload_n 3, 1) := dk_29 (dk_at dksX9_likes_2 6 rfl rfl)
theorem dX9_likes_54 : decode cX9_likes 54 = .ok (.aload_n 1, 1) := dk_43 (dk_at dksX9_likes_2 7 rfl rfl)
theorem dX9_likes_55 : decode cX9_likes 55 = .ok (.getfield 18, 3) := dk_180 0 18 (dk_at dksX9_likes_2 8 rfl rfl)
theorem dX9_likes_58 : decode cX9_likes 58 = .ok (.iload 4, 2) := dk_21 4 (dk_at dksX9_likes_2 11 rfl rfl)
theorem dX9_likes_60 : decode cX9_likes 60 = .ok (.ishr, 1) := dk_122 (dk_at dksX9_likes_2 13 rfl rfl)
theorem dX9_likes_61 : decode cX9_likes 61 = .ok (.sipush 273, 3) := dk_17 1 17 (dk_at dksX9_likes_2 14 rfl rfl)
theorem dX9_likes_64 : decode cX9_likes 64 = .ok (.iand, 1) := dk_126 (dk_at dksX9_likes_2 17 rfl rfl)
theorem dX9_likes_65 : decode cX9_likes 65 = .ok (.sipush 273, 3) := dk_17 1 17 (dk_at dksX9_likes_2 18 rfl rfl)
theorem dX9_likes_68 : decode cX9_likes 68 = .ok (.if_icmp .ne 7, 3) := dk_160 0 7 (dk_at dksX9_likes_2 21 rfl rfl)
theorem dX9_likes_71 : decode cX9_likes 71 = .ok (.iconst 1, 1) := dk_4 (dk_at dksX9_likes_3 0 rfl rfl)
theorem dX9_likes_72 : decode cX9_likes 72 = .ok (.goto 4, 3) := dk_167 0 4 (dk_at dksX9_likes_3 1 rfl rfl)
theorem dX9_likes_75 : decode cX9_likes 75 = .ok (.iconst 0, 1) := dk_3 (dk_at dksX9_likes_3 4 rfl rfl)
theorem dX9_likes_76 : decode cX9_likes 76 = .ok (.ior, 1) := dk_128 (dk_at dksX9_likes_3 5 rfl rfl)
theorem dX9_likes_77 : decode cX9_likes 77 = .ok (.istore_n 3, 1) := dk_62 (dk_at dksX9_likes_3 6 rfl rfl)
theorem dX9_likes_78 : decode cX9_likes 78 = .ok (.iinc 4 1, 3) := dk_132 4 1 (dk_at dksX9_likes_3 7 rfl rfl)
theorem dX9_likes_81 : decode cX9_likes 81 = .ok (.goto (-34), 3) := dk_167 255 222 (dk_at dksX9_likes_3 10 rfl rfl)
theorem dX9_likes_84 : decode cX9_likes 84 = .ok (.aload_n 0, 1) := dk_42 (dk_at dksX9_likes_3 13 rfl rfl)
theorem dX9_likes_85 : decode cX9_likes 85 = .ok (.aload_n 1, 1) := dk_43 (dk_at dksX9_likes_3 14 rfl rfl)
theorem dX9_likes_86 : decode cX9_likes 86 = .ok (.invokespecial 23, 3) := dk_183 0 23 (dk_at dksX9_likes_3 15 rfl rfl)
theorem dX9_likes_89 : decode cX9_likes 89 = .ok (.iload_n 2, 1) := dk_28 (dk_at dksX9_likes_3 18 rfl rfl)
theorem dX9_likes_90 : decode cX9_likes 90 = .ok (.ifCond .eq 8, 3) := dk_153 0 8 (dk_at dksX9_likes_3 19 rfl rfl)
theorem dX9_likes_93 : decode cX9_likes 93 = .ok (.bipush 20, 2) := dk_16 20 (dk_at dksX9_likes_3 22 rfl rfl)
theorem dX9_likes_95 : decode cX9_likes 95 = .ok (.goto 13, 3) := dk_167 0 13 (dk_at dksX9_likes_4 0 rfl rfl)
theorem dX9_likes_98 : decode cX9_likes 98 = .ok (.iload_n 3, 1) := dk_29 (dk_at dksX9_likes_4 3 rfl rfl)
theorem dX9_likes_99 : decode cX9_likes 99 = .ok (.ifCond .eq 8, 3) := dk_153 0 8 (dk_at dksX9_likes_4 4 rfl rfl)
theorem dX9_likes_102 : decode cX9_likes 102 = .ok (.bipush 10, 2) := dk_16 10 (dk_at dksX9_likes_4 7 rfl rfl)
theorem dX9_likes_104 : decode cX9_likes 104 = .ok (.goto 4, 3) := dk_167 0 4 (dk_at dksX9_likes_4 9 rfl rfl)
theorem dX9_likes_107 : decode cX9_likes 107 = .ok (.iconst 0, 1) := dk_3 (dk_at dksX9_likes_4 12 rfl rfl)
theorem dX9_likes_108 : decode cX9_likes 108 = .ok (.iadd, 1) := dk_96 (dk_at dksX9_likes_4 13 rfl rfl)
theorem dX9_likes_109 : decode cX9_likes 109 = .ok (.ireturn, 1) := dk_172 (dk_at dksX9_likes_4 14 rfl rfl)
abbrev cX9_copy : ByteArray := prog_6_method_3_code
def yX9_copy : MethodName := ⟨RX9, "copy", "()LSlipWeeks$Cross;"⟩
def dkwX9_copy_0 : List UInt8 := [187, 0, 11, 89, 42, 180, 0, 13, 183, 0, 17, 176]
abbrev dktX9_copy_0 : List UInt8 := dkwX9_copy_0 ++ []
theorem dksX9_copy_0 : cX9_copy.data.toList.drop 0 = dktX9_copy_0 := by decide +kernel
theorem dX9_copy_0 : decode cX9_copy 0 = .ok (.new 11, 3) := dk_187 0 11 (dk_at dksX9_copy_0 0 rfl rfl)
theorem dX9_copy_3 : decode cX9_copy 3 = .ok (.dup, 1) := dk_89 (dk_at dksX9_copy_0 3 rfl rfl)
theorem dX9_copy_4 : decode cX9_copy 4 = .ok (.aload_n 0, 1) := dk_42 (dk_at dksX9_copy_0 4 rfl rfl)
theorem dX9_copy_5 : decode cX9_copy 5 = .ok (.getfield 13, 3) := dk_180 0 13 (dk_at dksX9_copy_0 5 rfl rfl)
theorem dX9_copy_8 : decode cX9_copy 8 = .ok (.invokespecial 17, 3) := dk_183 0 17 (dk_at dksX9_copy_0 8 rfl rfl)
theorem dX9_copy_11 : decode cX9_copy 11 = .ok (.areturn, 1) := dk_176 (dk_at dksX9_copy_0 11 rfl rfl)
theorem q74 : (Jvm.Cond.initialized "SlipWeeks$Drawn") ∈ lw_all := lw_g (lw_at lw_m1 13 rfl) rfl
theorem q172 : (Jvm.Cond.fieldLink "SlipWeeks$Drawn" (18 : Nat) "SlipWeeks$Look" "row" "I") ∈ lw_all := lw_g (lw_at lw_m1 111 rfl) rfl
theorem q386 : (Jvm.Cond.fieldLink "SlipWeeks$Drawn" (13 : Nat) "SlipWeeks$Drawn" "many" "I") ∈ lw_all := lw_g (lw_at lw_m2 85 rfl) rfl
theorem q387 : (Jvm.Cond.sameField "SlipWeeks$Drawn" "SlipWeeks$Cross" "many" "I") ∈ lw_all := lw_g (lw_at lw_m2 86 rfl) rfl
theorem q411 : (Jvm.Cond.instantiable "SlipWeeks$Drawn" (1 : Nat)) ∈ lw_all := lw_g (lw_at lw_m2 110 rfl) rfl
theorem q413 : (Jvm.Cond.instanceMethod ({ cls := "SlipWeeks$Drawn", name := "<init>", desc := "(I)V" } : Jvm.MethodName)) ∈ lw_all := lw_g (lw_at lw_m2 112 rfl) rfl
theorem q414 : (Jvm.Cond.code ({ cls := "SlipWeeks$Drawn", name := "<init>", desc := "(I)V" } : Jvm.MethodName) prog_6_method_1_code (2 : Nat) (Option.none : Option Jvm.ClassFile.FieldType)) ∈ lw_all := lw_g (lw_at lw_m2 113 rfl) rfl
theorem q415 : (Jvm.Cond.methodLink "SlipWeeks$Drawn" (1 : Nat) ({ cls := "SlipWeeks$Cross", name := "<init>", desc := "(I)V" } : Jvm.MethodName)) ∈ lw_all := lw_g (lw_at lw_m2 114 rfl) rfl
theorem q416 : (Jvm.Cond.lays "SlipWeeks$Drawn" "SlipWeeks$Cross" "many" "I") ∈ lw_all := lw_g (lw_at lw_m2 115 rfl) rfl
theorem q417 : (Jvm.Cond.superclass "SlipWeeks$Drawn" "SlipWeeks$Cross") ∈ lw_all := lw_g (lw_at lw_m2 116 rfl) rfl
theorem q489 : (Jvm.Cond.selects "SlipWeeks$Drawn" ({ cls := "SlipWeeks$Cross", name := "kind", desc := "()I" } : Jvm.MethodName) ({ cls := "SlipWeeks$Drawn", name := "kind", desc := "()I" } : Jvm.MethodName)) ∈ lw_all := lw_g (lw_at lw_m2 188 rfl) rfl
theorem q490 : (Jvm.Cond.instanceMethod ({ cls := "SlipWeeks$Drawn", name := "kind", desc := "()I" } : Jvm.MethodName)) ∈ lw_all := lw_g (lw_at lw_m2 189 rfl) rfl
theorem q491 : (Jvm.Cond.code ({ cls := "SlipWeeks$Drawn", name := "kind", desc := "()I" } : Jvm.MethodName) prog_6_method_2_code (1 : Nat) (Option.some Jvm.ClassFile.FieldType.int)) ∈ lw_all := lw_g (lw_at lw_m2 190 rfl) rfl
theorem q492 : (Jvm.Cond.methodLink "SlipWeeks$Drawn" (7 : Nat) ({ cls := "SlipWeeks$Cross", name := "kind", desc := "()I" } : Jvm.MethodName)) ∈ lw_all := lw_g (lw_at lw_m2 191 rfl) rfl
theorem q527 : (Jvm.Cond.selects "SlipWeeks$Drawn" ({ cls := "SlipWeeks$Cross", name := "is", desc := "(I)Z" } : Jvm.MethodName) ({ cls := "SlipWeeks$Cross", name := "is", desc := "(I)Z" } : Jvm.MethodName)) ∈ lw_all := lw_g (lw_at lw_m2 226 rfl) rfl
theorem q645 : (Jvm.Cond.selects "SlipWeeks$Drawn" ({ cls := "SlipWeeks$Cross", name := "likes", desc := "(LSlipWeeks$Look;)I" } : Jvm.MethodName) ({ cls := "SlipWeeks$Drawn", name := "likes", desc := "(LSlipWeeks$Look;)I" } : Jvm.MethodName)) ∈ lw_all := lw_g (lw_at lw_m3 104 rfl) rfl
theorem q646 : (Jvm.Cond.instanceMethod ({ cls := "SlipWeeks$Drawn", name := "likes", desc := "(LSlipWeeks$Look;)I" } : Jvm.MethodName)) ∈ lw_all := lw_g (lw_at lw_m3 105 rfl) rfl
theorem q647 : (Jvm.Cond.code ({ cls := "SlipWeeks$Drawn", name := "likes", desc := "(LSlipWeeks$Look;)I" } : Jvm.MethodName) prog_6_method_4_code (5 : Nat) (Option.some Jvm.ClassFile.FieldType.int)) ∈ lw_all := lw_g (lw_at lw_m3 106 rfl) rfl
theorem q648 : (Jvm.Cond.methodLink "SlipWeeks$Drawn" (23 : Nat) ({ cls := "SlipWeeks$Cross", name := "likes", desc := "(LSlipWeeks$Look;)I" } : Jvm.MethodName)) ∈ lw_all := lw_g (lw_at lw_m3 107 rfl) rfl
theorem q1046 : (Jvm.Cond.selects "SlipWeeks$Drawn" ({ cls := "SlipWeeks$Cross", name := "copy", desc := "()LSlipWeeks$Cross;" } : Jvm.MethodName) ({ cls := "SlipWeeks$Drawn", name := "copy", desc := "()LSlipWeeks$Cross;" } : Jvm.MethodName)) ∈ lw_all := lw_g (lw_at lw_m5 25 rfl) rfl
theorem q1047 : (Jvm.Cond.instanceMethod ({ cls := "SlipWeeks$Drawn", name := "copy", desc := "()LSlipWeeks$Cross;" } : Jvm.MethodName)) ∈ lw_all := lw_g (lw_at lw_m5 26 rfl) rfl
theorem q1048 : (Jvm.Cond.code ({ cls := "SlipWeeks$Drawn", name := "copy", desc := "()LSlipWeeks$Cross;" } : Jvm.MethodName) prog_6_method_3_code (1 : Nat) (Option.some (Jvm.ClassFile.FieldType.object "SlipWeeks$Cross"))) ∈ lw_all := lw_g (lw_at lw_m5 27 rfl) rfl
theorem q1049 : (Jvm.Cond.classLink "SlipWeeks$Drawn" (11 : Nat) "SlipWeeks$Drawn") ∈ lw_all := lw_g (lw_at lw_m5 28 rfl) rfl
theorem q1050 : (Jvm.Cond.methodLink "SlipWeeks$Drawn" (17 : Nat) ({ cls := "SlipWeeks$Drawn", name := "<init>", desc := "(I)V" } : Jvm.MethodName)) ∈ lw_all := lw_g (lw_at lw_m5 29 rfl) rfl
theorem q1542 : (Jvm.Cond.castable "SlipWeeks$Drawn" "SlipWeeks$Cross") ∈ lw_tbl := lw_at lw_m7 41 rfl
theorem in_X9 : ∀ w ∈ wsX90, w ∈ lw_all := lw_in wsX90 [416] (by decide +kernel) (by decide +kernel)
/-! SlipWeeks$Machine -/
set_option maxRecDepth 100000
def RX10 : String := "SlipWeeks$Machine"
def TX10 : u_T := fun k => match k with
  | _ => ("SlipWeeks$Cross", "many", "I", false)
def tyX10 : Nat → FieldType := fun k => match k with
  | _ => .int
abbrev wsX100 : List Cond := u_ws RX10 TX10 1
theorem nmX10 : ∀ a, a < 1 → ∀ b, b < 1 → a ≠ b → (TX10 a).2.1 ≠ (TX10 b).2.1 := by decide +kernel
theorem tyX10_ok : ∀ k, k < 1 → parseFieldDescriptor (TX10 k).2.2.1 = some (tyX10 k) := by decide +kernel
abbrev cX10_init : ByteArray := prog_14_method_1_code
def yX10_init : MethodName := ⟨RX10, "<init>", "(I)V"⟩
def dkwX10_init_0 : List UInt8 := [42, 27, 183, 0, 1, 177]
abbrev dktX10_init_0 : List UInt8 := dkwX10_init_0 ++ []
theorem dksX10_init_0 : cX10_init.data.toList.drop 0 = dktX10_init_0 := by decide +kernel
theorem dX10_init_0 : decode cX10_init 0 = .ok (.aload_n 0, 1) := dk_42 (dk_at dksX10_init_0 0 rfl rfl)
theorem dX10_init_1 : decode cX10_init 1 = .ok (.iload_n 1, 1) := dk_27 (dk_at dksX10_init_0 1 rfl rfl)
theorem dX10_init_2 : decode cX10_init 2 = .ok (.invokespecial 1, 3) := dk_183 0 1 (dk_at dksX10_init_0 2 rfl rfl)
theorem dX10_init_5 : decode cX10_init 5 = .ok (.return_, 1) := dk_177 (dk_at dksX10_init_0 5 rfl rfl)
abbrev cX10_kind : ByteArray := prog_14_method_2_code
def yX10_kind : MethodName := ⟨RX10, "kind", "()I"⟩
def dkwX10_kind_0 : List UInt8 := [42, 183, 0, 7, 6, 96, 172]
abbrev dktX10_kind_0 : List UInt8 := dkwX10_kind_0 ++ []
theorem dksX10_kind_0 : cX10_kind.data.toList.drop 0 = dktX10_kind_0 := by decide +kernel
theorem dX10_kind_0 : decode cX10_kind 0 = .ok (.aload_n 0, 1) := dk_42 (dk_at dksX10_kind_0 0 rfl rfl)
theorem dX10_kind_1 : decode cX10_kind 1 = .ok (.invokespecial 7, 3) := dk_183 0 7 (dk_at dksX10_kind_0 1 rfl rfl)
theorem dX10_kind_4 : decode cX10_kind 4 = .ok (.iconst 3, 1) := dk_6 (dk_at dksX10_kind_0 4 rfl rfl)
theorem dX10_kind_5 : decode cX10_kind 5 = .ok (.iadd, 1) := dk_96 (dk_at dksX10_kind_0 5 rfl rfl)
theorem dX10_kind_6 : decode cX10_kind 6 = .ok (.ireturn, 1) := dk_172 (dk_at dksX10_kind_0 6 rfl rfl)
abbrev cX10_is : ByteArray := prog_14_method_3_code
def yX10_is : MethodName := ⟨RX10, "is", "(I)Z"⟩
def dkwX10_is_0 : List UInt8 := [27, 6, 159, 0, 11, 42, 27, 183, 0, 11, 153, 0, 7, 4, 167, 0, 4, 3, 172]
abbrev dktX10_is_0 : List UInt8 := dkwX10_is_0 ++ []
theorem dksX10_is_0 : cX10_is.data.toList.drop 0 = dktX10_is_0 := by decide +kernel
theorem dX10_is_0 : decode cX10_is 0 = .ok (.iload_n 1, 1) := dk_27 (dk_at dksX10_is_0 0 rfl rfl)
theorem dX10_is_1 : decode cX10_is 1 = .ok (.iconst 3, 1) := dk_6 (dk_at dksX10_is_0 1 rfl rfl)
theorem dX10_is_2 : decode cX10_is 2 = .ok (.if_icmp .eq 11, 3) := dk_159 0 11 (dk_at dksX10_is_0 2 rfl rfl)
theorem dX10_is_5 : decode cX10_is 5 = .ok (.aload_n 0, 1) := dk_42 (dk_at dksX10_is_0 5 rfl rfl)
theorem dX10_is_6 : decode cX10_is 6 = .ok (.iload_n 1, 1) := dk_27 (dk_at dksX10_is_0 6 rfl rfl)
theorem dX10_is_7 : decode cX10_is 7 = .ok (.invokespecial 11, 3) := dk_183 0 11 (dk_at dksX10_is_0 7 rfl rfl)
theorem dX10_is_10 : decode cX10_is 10 = .ok (.ifCond .eq 7, 3) := dk_153 0 7 (dk_at dksX10_is_0 10 rfl rfl)
theorem dX10_is_13 : decode cX10_is 13 = .ok (.iconst 1, 1) := dk_4 (dk_at dksX10_is_0 13 rfl rfl)
theorem dX10_is_14 : decode cX10_is 14 = .ok (.goto 4, 3) := dk_167 0 4 (dk_at dksX10_is_0 14 rfl rfl)
theorem dX10_is_17 : decode cX10_is 17 = .ok (.iconst 0, 1) := dk_3 (dk_at dksX10_is_0 17 rfl rfl)
theorem dX10_is_18 : decode cX10_is 18 = .ok (.ireturn, 1) := dk_172 (dk_at dksX10_is_0 18 rfl rfl)
abbrev cX10_likes : ByteArray := prog_14_method_5_code
def yX10_likes : MethodName := ⟨RX10, "likes", "(LSlipWeeks$Look;)I"⟩
theorem dX10_likes_0 : decode cX10_likes 0 = .ok (.iconst 1, 1) := by decide +kernel
theorem dX10_likes_1 : decode cX10_likes 1 = .ok (.ireturn, 1) := by decide +kernel
abbrev cX10_copy : ByteArray := prog_14_method_4_code
def yX10_copy : MethodName := ⟨RX10, "copy", "()LSlipWeeks$Cross;"⟩
def dkwX10_copy_0 : List UInt8 := [187, 0, 15, 89, 42, 180, 0, 17, 183, 0, 21, 176]
abbrev dktX10_copy_0 : List UInt8 := dkwX10_copy_0 ++ []
theorem dksX10_copy_0 : cX10_copy.data.toList.drop 0 = dktX10_copy_0 := by decide +kernel
theorem dX10_copy_0 : decode cX10_copy 0 = .ok (.new 15, 3) := dk_187 0 15 (dk_at dksX10_copy_0 0 rfl rfl)
theorem dX10_copy_3 : decode cX10_copy 3 = .ok (.dup, 1) := dk_89 (dk_at dksX10_copy_0 3 rfl rfl)
theorem dX10_copy_4 : decode cX10_copy 4 = .ok (.aload_n 0, 1) := dk_42 (dk_at dksX10_copy_0 4 rfl rfl)
theorem dX10_copy_5 : decode cX10_copy 5 = .ok (.getfield 17, 3) := dk_180 0 17 (dk_at dksX10_copy_0 5 rfl rfl)
theorem dX10_copy_8 : decode cX10_copy 8 = .ok (.invokespecial 21, 3) := dk_183 0 21 (dk_at dksX10_copy_0 8 rfl rfl)
theorem dX10_copy_11 : decode cX10_copy 11 = .ok (.areturn, 1) := dk_176 (dk_at dksX10_copy_0 11 rfl rfl)
theorem q75 : (Jvm.Cond.initialized "SlipWeeks$Machine") ∈ lw_all := lw_g (lw_at lw_m1 14 rfl) rfl
theorem q394 : (Jvm.Cond.fieldLink "SlipWeeks$Machine" (17 : Nat) "SlipWeeks$Machine" "many" "I") ∈ lw_all := lw_g (lw_at lw_m2 93 rfl) rfl
theorem q395 : (Jvm.Cond.sameField "SlipWeeks$Machine" "SlipWeeks$Cross" "many" "I") ∈ lw_all := lw_g (lw_at lw_m2 94 rfl) rfl
theorem q419 : (Jvm.Cond.instantiable "SlipWeeks$Machine" (1 : Nat)) ∈ lw_all := lw_g (lw_at lw_m2 118 rfl) rfl
theorem q421 : (Jvm.Cond.instanceMethod ({ cls := "SlipWeeks$Machine", name := "<init>", desc := "(I)V" } : Jvm.MethodName)) ∈ lw_all := lw_g (lw_at lw_m2 120 rfl) rfl
theorem q422 : (Jvm.Cond.code ({ cls := "SlipWeeks$Machine", name := "<init>", desc := "(I)V" } : Jvm.MethodName) prog_14_method_1_code (2 : Nat) (Option.none : Option Jvm.ClassFile.FieldType)) ∈ lw_all := lw_g (lw_at lw_m2 121 rfl) rfl
theorem q423 : (Jvm.Cond.methodLink "SlipWeeks$Machine" (1 : Nat) ({ cls := "SlipWeeks$Cross", name := "<init>", desc := "(I)V" } : Jvm.MethodName)) ∈ lw_all := lw_g (lw_at lw_m2 122 rfl) rfl
theorem q424 : (Jvm.Cond.lays "SlipWeeks$Machine" "SlipWeeks$Cross" "many" "I") ∈ lw_all := lw_g (lw_at lw_m2 123 rfl) rfl
theorem q425 : (Jvm.Cond.superclass "SlipWeeks$Machine" "SlipWeeks$Cross") ∈ lw_all := lw_g (lw_at lw_m2 124 rfl) rfl
theorem q486 : (Jvm.Cond.instanceMethod ({ cls := "SlipWeeks$Machine", name := "kind", desc := "()I" } : Jvm.MethodName)) ∈ lw_all := lw_g (lw_at lw_m2 185 rfl) rfl
theorem q487 : (Jvm.Cond.code ({ cls := "SlipWeeks$Machine", name := "kind", desc := "()I" } : Jvm.MethodName) prog_14_method_2_code (1 : Nat) (Option.some Jvm.ClassFile.FieldType.int)) ∈ lw_all := lw_g (lw_at lw_m2 186 rfl) rfl
theorem q488 : (Jvm.Cond.methodLink "SlipWeeks$Machine" (7 : Nat) ({ cls := "SlipWeeks$Cross", name := "kind", desc := "()I" } : Jvm.MethodName)) ∈ lw_all := lw_g (lw_at lw_m2 187 rfl) rfl
theorem q501 : (Jvm.Cond.selects "SlipWeeks$Machine" ({ cls := "SlipWeeks$Cross", name := "kind", desc := "()I" } : Jvm.MethodName) ({ cls := "SlipWeeks$Machine", name := "kind", desc := "()I" } : Jvm.MethodName)) ∈ lw_all := lw_g (lw_at lw_m2 200 rfl) rfl
theorem q524 : (Jvm.Cond.instanceMethod ({ cls := "SlipWeeks$Machine", name := "is", desc := "(I)Z" } : Jvm.MethodName)) ∈ lw_all := lw_g (lw_at lw_m2 223 rfl) rfl
theorem q525 : (Jvm.Cond.code ({ cls := "SlipWeeks$Machine", name := "is", desc := "(I)Z" } : Jvm.MethodName) prog_14_method_3_code (2 : Nat) (Option.some Jvm.ClassFile.FieldType.boolean)) ∈ lw_all := lw_g (lw_at lw_m2 224 rfl) rfl
theorem q526 : (Jvm.Cond.methodLink "SlipWeeks$Machine" (11 : Nat) ({ cls := "SlipWeeks$Cross", name := "is", desc := "(I)Z" } : Jvm.MethodName)) ∈ lw_all := lw_g (lw_at lw_m2 225 rfl) rfl
theorem q530 : (Jvm.Cond.selects "SlipWeeks$Machine" ({ cls := "SlipWeeks$Cross", name := "is", desc := "(I)Z" } : Jvm.MethodName) ({ cls := "SlipWeeks$Machine", name := "is", desc := "(I)Z" } : Jvm.MethodName)) ∈ lw_all := lw_g (lw_at lw_m2 229 rfl) rfl
theorem q642 : (Jvm.Cond.instanceMethod ({ cls := "SlipWeeks$Machine", name := "likes", desc := "(LSlipWeeks$Look;)I" } : Jvm.MethodName)) ∈ lw_all := lw_g (lw_at lw_m3 101 rfl) rfl
theorem q643 : (Jvm.Cond.code ({ cls := "SlipWeeks$Machine", name := "likes", desc := "(LSlipWeeks$Look;)I" } : Jvm.MethodName) prog_14_method_5_code (2 : Nat) (Option.some Jvm.ClassFile.FieldType.int)) ∈ lw_all := lw_g (lw_at lw_m3 102 rfl) rfl
theorem q659 : (Jvm.Cond.selects "SlipWeeks$Machine" ({ cls := "SlipWeeks$Cross", name := "likes", desc := "(LSlipWeeks$Look;)I" } : Jvm.MethodName) ({ cls := "SlipWeeks$Machine", name := "likes", desc := "(LSlipWeeks$Look;)I" } : Jvm.MethodName)) ∈ lw_all := lw_g (lw_at lw_m3 118 rfl) rfl
theorem q1061 : (Jvm.Cond.selects "SlipWeeks$Machine" ({ cls := "SlipWeeks$Cross", name := "copy", desc := "()LSlipWeeks$Cross;" } : Jvm.MethodName) ({ cls := "SlipWeeks$Machine", name := "copy", desc := "()LSlipWeeks$Cross;" } : Jvm.MethodName)) ∈ lw_all := lw_g (lw_at lw_m5 40 rfl) rfl
theorem q1062 : (Jvm.Cond.instanceMethod ({ cls := "SlipWeeks$Machine", name := "copy", desc := "()LSlipWeeks$Cross;" } : Jvm.MethodName)) ∈ lw_all := lw_g (lw_at lw_m5 41 rfl) rfl
theorem q1063 : (Jvm.Cond.code ({ cls := "SlipWeeks$Machine", name := "copy", desc := "()LSlipWeeks$Cross;" } : Jvm.MethodName) prog_14_method_4_code (1 : Nat) (Option.some (Jvm.ClassFile.FieldType.object "SlipWeeks$Cross"))) ∈ lw_all := lw_g (lw_at lw_m5 42 rfl) rfl
theorem q1064 : (Jvm.Cond.classLink "SlipWeeks$Machine" (15 : Nat) "SlipWeeks$Machine") ∈ lw_all := lw_g (lw_at lw_m5 43 rfl) rfl
theorem q1065 : (Jvm.Cond.methodLink "SlipWeeks$Machine" (21 : Nat) ({ cls := "SlipWeeks$Machine", name := "<init>", desc := "(I)V" } : Jvm.MethodName)) ∈ lw_all := lw_g (lw_at lw_m5 44 rfl) rfl
theorem q1533 : (Jvm.Cond.sameMethod "SlipWeeks$Machine" "SlipWeeks$Machine" "kind" "()I") ∈ lw_all := lw_g (lw_at lw_m7 32 rfl) rfl
theorem q1535 : (Jvm.Cond.sameMethod "SlipWeeks$Machine" "SlipWeeks$Machine" "is" "(I)Z") ∈ lw_all := lw_g (lw_at lw_m7 34 rfl) rfl
theorem q1538 : (Jvm.Cond.sameMethod "SlipWeeks$Machine" "SlipWeeks$Machine" "likes" "(LSlipWeeks$Look;)I") ∈ lw_all := lw_g (lw_at lw_m7 37 rfl) rfl
theorem q1545 : (Jvm.Cond.castable "SlipWeeks$Machine" "SlipWeeks$Cross") ∈ lw_tbl := lw_at lw_m7 44 rfl
theorem in_X10 : ∀ w ∈ wsX100, w ∈ lw_all := lw_in wsX100 [424] (by decide +kernel) (by decide +kernel)
/-! SlipWeeks$Last -/
set_option maxRecDepth 100000
def RX11 : String := "SlipWeeks$Last"
def TX11 : u_T := fun k => match k with
  | _ => ("SlipWeeks$Cross", "many", "I", false)
def tyX11 : Nat → FieldType := fun k => match k with
  | _ => .int
abbrev wsX110 : List Cond := u_ws RX11 TX11 1
theorem nmX11 : ∀ a, a < 1 → ∀ b, b < 1 → a ≠ b → (TX11 a).2.1 ≠ (TX11 b).2.1 := by decide +kernel
theorem tyX11_ok : ∀ k, k < 1 → parseFieldDescriptor (TX11 k).2.2.1 = some (tyX11 k) := by decide +kernel
abbrev cX11_init : ByteArray := prog_10_method_1_code
def yX11_init : MethodName := ⟨RX11, "<init>", "(I)V"⟩
def dkwX11_init_0 : List UInt8 := [42, 27, 183, 0, 1, 177]
abbrev dktX11_init_0 : List UInt8 := dkwX11_init_0 ++ []
theorem dksX11_init_0 : cX11_init.data.toList.drop 0 = dktX11_init_0 := by decide +kernel
theorem dX11_init_0 : decode cX11_init 0 = .ok (.aload_n 0, 1) := dk_42 (dk_at dksX11_init_0 0 rfl rfl)
theorem dX11_init_1 : decode cX11_init 1 = .ok (.iload_n 1, 1) := dk_27 (dk_at dksX11_init_0 1 rfl rfl)
theorem dX11_init_2 : decode cX11_init 2 = .ok (.invokespecial 1, 3) := dk_183 0 1 (dk_at dksX11_init_0 2 rfl rfl)
theorem dX11_init_5 : decode cX11_init 5 = .ok (.return_, 1) := dk_177 (dk_at dksX11_init_0 5 rfl rfl)
abbrev cX11_kind : ByteArray := prog_10_method_2_code
def yX11_kind : MethodName := ⟨RX11, "kind", "()I"⟩
def dkwX11_kind_0 : List UInt8 := [42, 183, 0, 7, 7, 96, 172]
abbrev dktX11_kind_0 : List UInt8 := dkwX11_kind_0 ++ []
theorem dksX11_kind_0 : cX11_kind.data.toList.drop 0 = dktX11_kind_0 := by decide +kernel
theorem dX11_kind_0 : decode cX11_kind 0 = .ok (.aload_n 0, 1) := dk_42 (dk_at dksX11_kind_0 0 rfl rfl)
theorem dX11_kind_1 : decode cX11_kind 1 = .ok (.invokespecial 7, 3) := dk_183 0 7 (dk_at dksX11_kind_0 1 rfl rfl)
theorem dX11_kind_4 : decode cX11_kind 4 = .ok (.iconst 4, 1) := dk_7 (dk_at dksX11_kind_0 4 rfl rfl)
theorem dX11_kind_5 : decode cX11_kind 5 = .ok (.iadd, 1) := dk_96 (dk_at dksX11_kind_0 5 rfl rfl)
theorem dX11_kind_6 : decode cX11_kind 6 = .ok (.ireturn, 1) := dk_172 (dk_at dksX11_kind_0 6 rfl rfl)
abbrev cX11_likes : ByteArray := prog_10_method_4_code
def yX11_likes : MethodName := ⟨RX11, "likes", "(LSlipWeeks$Look;)I"⟩
def dkwX11_likes_0 : List UInt8 := [42, 43, 183, 0, 18, 6, 43, 180, 0, 22, 43, 180, 0, 27, 126, 184, 0, 30, 104, 96, 172]
abbrev dktX11_likes_0 : List UInt8 := dkwX11_likes_0 ++ []
theorem dksX11_likes_0 : cX11_likes.data.toList.drop 0 = dktX11_likes_0 := by decide +kernel
theorem dX11_likes_0 : decode cX11_likes 0 = .ok (.aload_n 0, 1) := dk_42 (dk_at dksX11_likes_0 0 rfl rfl)
theorem dX11_likes_1 : decode cX11_likes 1 = .ok (.aload_n 1, 1) := dk_43 (dk_at dksX11_likes_0 1 rfl rfl)
theorem dX11_likes_2 : decode cX11_likes 2 = .ok (.invokespecial 18, 3) := dk_183 0 18 (dk_at dksX11_likes_0 2 rfl rfl)
theorem dX11_likes_5 : decode cX11_likes 5 = .ok (.iconst 3, 1) := dk_6 (dk_at dksX11_likes_0 5 rfl rfl)
theorem dX11_likes_6 : decode cX11_likes 6 = .ok (.aload_n 1, 1) := dk_43 (dk_at dksX11_likes_0 6 rfl rfl)
theorem dX11_likes_7 : decode cX11_likes 7 = .ok (.getfield 22, 3) := dk_180 0 22 (dk_at dksX11_likes_0 7 rfl rfl)
theorem dX11_likes_10 : decode cX11_likes 10 = .ok (.aload_n 1, 1) := dk_43 (dk_at dksX11_likes_0 10 rfl rfl)
theorem dX11_likes_11 : decode cX11_likes 11 = .ok (.getfield 27, 3) := dk_180 0 27 (dk_at dksX11_likes_0 11 rfl rfl)
theorem dX11_likes_14 : decode cX11_likes 14 = .ok (.iand, 1) := dk_126 (dk_at dksX11_likes_0 14 rfl rfl)
theorem dX11_likes_15 : decode cX11_likes 15 = .ok (.invokestatic 30, 3) := dk_184 0 30 (dk_at dksX11_likes_0 15 rfl rfl)
theorem dX11_likes_18 : decode cX11_likes 18 = .ok (.imul, 1) := dk_104 (dk_at dksX11_likes_0 18 rfl rfl)
theorem dX11_likes_19 : decode cX11_likes 19 = .ok (.iadd, 1) := dk_96 (dk_at dksX11_likes_0 19 rfl rfl)
theorem dX11_likes_20 : decode cX11_likes 20 = .ok (.ireturn, 1) := dk_172 (dk_at dksX11_likes_0 20 rfl rfl)
abbrev cX11_copy : ByteArray := prog_10_method_3_code
def yX11_copy : MethodName := ⟨RX11, "copy", "()LSlipWeeks$Cross;"⟩
def dkwX11_copy_0 : List UInt8 := [187, 0, 11, 89, 42, 180, 0, 13, 183, 0, 17, 176]
abbrev dktX11_copy_0 : List UInt8 := dkwX11_copy_0 ++ []
theorem dksX11_copy_0 : cX11_copy.data.toList.drop 0 = dktX11_copy_0 := by decide +kernel
theorem dX11_copy_0 : decode cX11_copy 0 = .ok (.new 11, 3) := dk_187 0 11 (dk_at dksX11_copy_0 0 rfl rfl)
theorem dX11_copy_3 : decode cX11_copy 3 = .ok (.dup, 1) := dk_89 (dk_at dksX11_copy_0 3 rfl rfl)
theorem dX11_copy_4 : decode cX11_copy 4 = .ok (.aload_n 0, 1) := dk_42 (dk_at dksX11_copy_0 4 rfl rfl)
theorem dX11_copy_5 : decode cX11_copy 5 = .ok (.getfield 13, 3) := dk_180 0 13 (dk_at dksX11_copy_0 5 rfl rfl)
theorem dX11_copy_8 : decode cX11_copy 8 = .ok (.invokespecial 17, 3) := dk_183 0 17 (dk_at dksX11_copy_0 8 rfl rfl)
theorem dX11_copy_11 : decode cX11_copy 11 = .ok (.areturn, 1) := dk_176 (dk_at dksX11_copy_0 11 rfl rfl)
theorem q76 : (Jvm.Cond.initialized "SlipWeeks$Last") ∈ lw_all := lw_g (lw_at lw_m1 15 rfl) rfl
theorem q171 : (Jvm.Cond.fieldLink "SlipWeeks$Last" (22 : Nat) "SlipWeeks$Look" "row" "I") ∈ lw_all := lw_g (lw_at lw_m1 110 rfl) rfl
theorem q178 : (Jvm.Cond.fieldLink "SlipWeeks$Last" (27 : Nat) "SlipWeeks$Look" "latest" "I") ∈ lw_all := lw_g (lw_at lw_m1 117 rfl) rfl
theorem q388 : (Jvm.Cond.fieldLink "SlipWeeks$Last" (13 : Nat) "SlipWeeks$Last" "many" "I") ∈ lw_all := lw_g (lw_at lw_m2 87 rfl) rfl
theorem q389 : (Jvm.Cond.sameField "SlipWeeks$Last" "SlipWeeks$Cross" "many" "I") ∈ lw_all := lw_g (lw_at lw_m2 88 rfl) rfl
theorem q427 : (Jvm.Cond.instantiable "SlipWeeks$Last" (1 : Nat)) ∈ lw_all := lw_g (lw_at lw_m2 126 rfl) rfl
theorem q429 : (Jvm.Cond.instanceMethod ({ cls := "SlipWeeks$Last", name := "<init>", desc := "(I)V" } : Jvm.MethodName)) ∈ lw_all := lw_g (lw_at lw_m2 128 rfl) rfl
theorem q430 : (Jvm.Cond.code ({ cls := "SlipWeeks$Last", name := "<init>", desc := "(I)V" } : Jvm.MethodName) prog_10_method_1_code (2 : Nat) (Option.none : Option Jvm.ClassFile.FieldType)) ∈ lw_all := lw_g (lw_at lw_m2 129 rfl) rfl
theorem q431 : (Jvm.Cond.methodLink "SlipWeeks$Last" (1 : Nat) ({ cls := "SlipWeeks$Cross", name := "<init>", desc := "(I)V" } : Jvm.MethodName)) ∈ lw_all := lw_g (lw_at lw_m2 130 rfl) rfl
theorem q432 : (Jvm.Cond.lays "SlipWeeks$Last" "SlipWeeks$Cross" "many" "I") ∈ lw_all := lw_g (lw_at lw_m2 131 rfl) rfl
theorem q433 : (Jvm.Cond.superclass "SlipWeeks$Last" "SlipWeeks$Cross") ∈ lw_all := lw_g (lw_at lw_m2 132 rfl) rfl
theorem q493 : (Jvm.Cond.selects "SlipWeeks$Last" ({ cls := "SlipWeeks$Cross", name := "kind", desc := "()I" } : Jvm.MethodName) ({ cls := "SlipWeeks$Last", name := "kind", desc := "()I" } : Jvm.MethodName)) ∈ lw_all := lw_g (lw_at lw_m2 192 rfl) rfl
theorem q494 : (Jvm.Cond.instanceMethod ({ cls := "SlipWeeks$Last", name := "kind", desc := "()I" } : Jvm.MethodName)) ∈ lw_all := lw_g (lw_at lw_m2 193 rfl) rfl
theorem q495 : (Jvm.Cond.code ({ cls := "SlipWeeks$Last", name := "kind", desc := "()I" } : Jvm.MethodName) prog_10_method_2_code (1 : Nat) (Option.some Jvm.ClassFile.FieldType.int)) ∈ lw_all := lw_g (lw_at lw_m2 194 rfl) rfl
theorem q496 : (Jvm.Cond.methodLink "SlipWeeks$Last" (7 : Nat) ({ cls := "SlipWeeks$Cross", name := "kind", desc := "()I" } : Jvm.MethodName)) ∈ lw_all := lw_g (lw_at lw_m2 195 rfl) rfl
theorem q528 : (Jvm.Cond.selects "SlipWeeks$Last" ({ cls := "SlipWeeks$Cross", name := "is", desc := "(I)Z" } : Jvm.MethodName) ({ cls := "SlipWeeks$Cross", name := "is", desc := "(I)Z" } : Jvm.MethodName)) ∈ lw_all := lw_g (lw_at lw_m2 227 rfl) rfl
theorem q649 : (Jvm.Cond.selects "SlipWeeks$Last" ({ cls := "SlipWeeks$Cross", name := "likes", desc := "(LSlipWeeks$Look;)I" } : Jvm.MethodName) ({ cls := "SlipWeeks$Last", name := "likes", desc := "(LSlipWeeks$Look;)I" } : Jvm.MethodName)) ∈ lw_all := lw_g (lw_at lw_m3 108 rfl) rfl
theorem q650 : (Jvm.Cond.instanceMethod ({ cls := "SlipWeeks$Last", name := "likes", desc := "(LSlipWeeks$Look;)I" } : Jvm.MethodName)) ∈ lw_all := lw_g (lw_at lw_m3 109 rfl) rfl
theorem q651 : (Jvm.Cond.code ({ cls := "SlipWeeks$Last", name := "likes", desc := "(LSlipWeeks$Look;)I" } : Jvm.MethodName) prog_10_method_4_code (2 : Nat) (Option.some Jvm.ClassFile.FieldType.int)) ∈ lw_all := lw_g (lw_at lw_m3 110 rfl) rfl
theorem q652 : (Jvm.Cond.methodLink "SlipWeeks$Last" (18 : Nat) ({ cls := "SlipWeeks$Cross", name := "likes", desc := "(LSlipWeeks$Look;)I" } : Jvm.MethodName)) ∈ lw_all := lw_g (lw_at lw_m3 111 rfl) rfl
theorem q653 : (Jvm.Cond.methodLink "SlipWeeks$Last" (30 : Nat) ({ cls := "java/lang/Integer", name := "bitCount", desc := "(I)I" } : Jvm.MethodName)) ∈ lw_all := lw_g (lw_at lw_m3 112 rfl) rfl
theorem q1051 : (Jvm.Cond.selects "SlipWeeks$Last" ({ cls := "SlipWeeks$Cross", name := "copy", desc := "()LSlipWeeks$Cross;" } : Jvm.MethodName) ({ cls := "SlipWeeks$Last", name := "copy", desc := "()LSlipWeeks$Cross;" } : Jvm.MethodName)) ∈ lw_all := lw_g (lw_at lw_m5 30 rfl) rfl
theorem q1052 : (Jvm.Cond.instanceMethod ({ cls := "SlipWeeks$Last", name := "copy", desc := "()LSlipWeeks$Cross;" } : Jvm.MethodName)) ∈ lw_all := lw_g (lw_at lw_m5 31 rfl) rfl
theorem q1053 : (Jvm.Cond.code ({ cls := "SlipWeeks$Last", name := "copy", desc := "()LSlipWeeks$Cross;" } : Jvm.MethodName) prog_10_method_3_code (1 : Nat) (Option.some (Jvm.ClassFile.FieldType.object "SlipWeeks$Cross"))) ∈ lw_all := lw_g (lw_at lw_m5 32 rfl) rfl
theorem q1054 : (Jvm.Cond.classLink "SlipWeeks$Last" (11 : Nat) "SlipWeeks$Last") ∈ lw_all := lw_g (lw_at lw_m5 33 rfl) rfl
theorem q1055 : (Jvm.Cond.methodLink "SlipWeeks$Last" (17 : Nat) ({ cls := "SlipWeeks$Last", name := "<init>", desc := "(I)V" } : Jvm.MethodName)) ∈ lw_all := lw_g (lw_at lw_m5 34 rfl) rfl
theorem q1543 : (Jvm.Cond.castable "SlipWeeks$Last" "SlipWeeks$Cross") ∈ lw_tbl := lw_at lw_m7 42 rfl
theorem in_X11 : ∀ w ∈ wsX110, w ∈ lw_all := lw_in wsX110 [432] (by decide +kernel) (by decide +kernel)
/-! SlipWeeks$Lucky -/
set_option maxRecDepth 100000
def RX12 : String := "SlipWeeks$Lucky"
def TX12 : u_T := fun k => match k with
  | _ => ("SlipWeeks$Cross", "many", "I", false)
def tyX12 : Nat → FieldType := fun k => match k with
  | _ => .int
abbrev wsX120 : List Cond := u_ws RX12 TX12 1
theorem nmX12 : ∀ a, a < 1 → ∀ b, b < 1 → a ≠ b → (TX12 a).2.1 ≠ (TX12 b).2.1 := by decide +kernel
theorem tyX12_ok : ∀ k, k < 1 → parseFieldDescriptor (TX12 k).2.2.1 = some (tyX12 k) := by decide +kernel
abbrev cX12_init : ByteArray := prog_13_method_1_code
def yX12_init : MethodName := ⟨RX12, "<init>", "(I)V"⟩
def dkwX12_init_0 : List UInt8 := [42, 27, 183, 0, 1, 177]
abbrev dktX12_init_0 : List UInt8 := dkwX12_init_0 ++ []
theorem dksX12_init_0 : cX12_init.data.toList.drop 0 = dktX12_init_0 := by decide +kernel
theorem dX12_init_0 : decode cX12_init 0 = .ok (.aload_n 0, 1) := dk_42 (dk_at dksX12_init_0 0 rfl rfl)
theorem dX12_init_1 : decode cX12_init 1 = .ok (.iload_n 1, 1) := dk_27 (dk_at dksX12_init_0 1 rfl rfl)
theorem dX12_init_2 : decode cX12_init 2 = .ok (.invokespecial 1, 3) := dk_183 0 1 (dk_at dksX12_init_0 2 rfl rfl)
theorem dX12_init_5 : decode cX12_init 5 = .ok (.return_, 1) := dk_177 (dk_at dksX12_init_0 5 rfl rfl)
abbrev cX12_kind : ByteArray := prog_13_method_2_code
def yX12_kind : MethodName := ⟨RX12, "kind", "()I"⟩
def dkwX12_kind_0 : List UInt8 := [42, 183, 0, 7, 7, 96, 172]
abbrev dktX12_kind_0 : List UInt8 := dkwX12_kind_0 ++ []
theorem dksX12_kind_0 : cX12_kind.data.toList.drop 0 = dktX12_kind_0 := by decide +kernel
theorem dX12_kind_0 : decode cX12_kind 0 = .ok (.aload_n 0, 1) := dk_42 (dk_at dksX12_kind_0 0 rfl rfl)
theorem dX12_kind_1 : decode cX12_kind 1 = .ok (.invokespecial 7, 3) := dk_183 0 7 (dk_at dksX12_kind_0 1 rfl rfl)
theorem dX12_kind_4 : decode cX12_kind 4 = .ok (.iconst 4, 1) := dk_7 (dk_at dksX12_kind_0 4 rfl rfl)
theorem dX12_kind_5 : decode cX12_kind 5 = .ok (.iadd, 1) := dk_96 (dk_at dksX12_kind_0 5 rfl rfl)
theorem dX12_kind_6 : decode cX12_kind 6 = .ok (.ireturn, 1) := dk_172 (dk_at dksX12_kind_0 6 rfl rfl)
abbrev cX12_likes : ByteArray := prog_13_method_4_code
def yX12_likes : MethodName := ⟨RX12, "likes", "(LSlipWeeks$Look;)I"⟩
def dkwX12_likes_1 : List UInt8 := [183, 0, 29, 172]
abbrev dktX12_likes_1 : List UInt8 := dkwX12_likes_1 ++ []
def dkwX12_likes_0 : List UInt8 := [43, 180, 0, 18, 16, 7, 184, 0, 23, 153, 0, 13, 5, 42, 43, 183, 0, 29, 104, 167, 0, 8, 42, 43]
abbrev dktX12_likes_0 : List UInt8 := dkwX12_likes_0 ++ dktX12_likes_1
theorem dksX12_likes_0 : cX12_likes.data.toList.drop 0 = dktX12_likes_0 := by decide +kernel
theorem dksX12_likes_1 : cX12_likes.data.toList.drop 24 = dktX12_likes_1 := dk_seg dksX12_likes_0 24 rfl rfl
theorem dX12_likes_0 : decode cX12_likes 0 = .ok (.aload_n 1, 1) := dk_43 (dk_at dksX12_likes_0 0 rfl rfl)
theorem dX12_likes_1 : decode cX12_likes 1 = .ok (.getfield 18, 3) := dk_180 0 18 (dk_at dksX12_likes_0 1 rfl rfl)
theorem dX12_likes_4 : decode cX12_likes 4 = .ok (.bipush 7, 2) := dk_16 7 (dk_at dksX12_likes_0 4 rfl rfl)
theorem dX12_likes_6 : decode cX12_likes 6 = .ok (.invokestatic 23, 3) := dk_184 0 23 (dk_at dksX12_likes_0 6 rfl rfl)
theorem dX12_likes_9 : decode cX12_likes 9 = .ok (.ifCond .eq 13, 3) := dk_153 0 13 (dk_at dksX12_likes_0 9 rfl rfl)
theorem dX12_likes_12 : decode cX12_likes 12 = .ok (.iconst 2, 1) := dk_5 (dk_at dksX12_likes_0 12 rfl rfl)
theorem dX12_likes_13 : decode cX12_likes 13 = .ok (.aload_n 0, 1) := dk_42 (dk_at dksX12_likes_0 13 rfl rfl)
theorem dX12_likes_14 : decode cX12_likes 14 = .ok (.aload_n 1, 1) := dk_43 (dk_at dksX12_likes_0 14 rfl rfl)
theorem dX12_likes_15 : decode cX12_likes 15 = .ok (.invokespecial 29, 3) := dk_183 0 29 (dk_at dksX12_likes_0 15 rfl rfl)
theorem dX12_likes_18 : decode cX12_likes 18 = .ok (.imul, 1) := dk_104 (dk_at dksX12_likes_0 18 rfl rfl)
theorem dX12_likes_19 : decode cX12_likes 19 = .ok (.goto 8, 3) := dk_167 0 8 (dk_at dksX12_likes_0 19 rfl rfl)
theorem dX12_likes_22 : decode cX12_likes 22 = .ok (.aload_n 0, 1) := dk_42 (dk_at dksX12_likes_0 22 rfl rfl)
theorem dX12_likes_23 : decode cX12_likes 23 = .ok (.aload_n 1, 1) := dk_43 (dk_at dksX12_likes_0 23 rfl rfl)
theorem dX12_likes_24 : decode cX12_likes 24 = .ok (.invokespecial 29, 3) := dk_183 0 29 (dk_at dksX12_likes_1 0 rfl rfl)
theorem dX12_likes_27 : decode cX12_likes 27 = .ok (.ireturn, 1) := dk_172 (dk_at dksX12_likes_1 3 rfl rfl)
abbrev cX12_copy : ByteArray := prog_13_method_3_code
def yX12_copy : MethodName := ⟨RX12, "copy", "()LSlipWeeks$Cross;"⟩
def dkwX12_copy_0 : List UInt8 := [187, 0, 11, 89, 42, 180, 0, 13, 183, 0, 17, 176]
abbrev dktX12_copy_0 : List UInt8 := dkwX12_copy_0 ++ []
theorem dksX12_copy_0 : cX12_copy.data.toList.drop 0 = dktX12_copy_0 := by decide +kernel
theorem dX12_copy_0 : decode cX12_copy 0 = .ok (.new 11, 3) := dk_187 0 11 (dk_at dksX12_copy_0 0 rfl rfl)
theorem dX12_copy_3 : decode cX12_copy 3 = .ok (.dup, 1) := dk_89 (dk_at dksX12_copy_0 3 rfl rfl)
theorem dX12_copy_4 : decode cX12_copy 4 = .ok (.aload_n 0, 1) := dk_42 (dk_at dksX12_copy_0 4 rfl rfl)
theorem dX12_copy_5 : decode cX12_copy 5 = .ok (.getfield 13, 3) := dk_180 0 13 (dk_at dksX12_copy_0 5 rfl rfl)
theorem dX12_copy_8 : decode cX12_copy 8 = .ok (.invokespecial 17, 3) := dk_183 0 17 (dk_at dksX12_copy_0 8 rfl rfl)
theorem dX12_copy_11 : decode cX12_copy 11 = .ok (.areturn, 1) := dk_176 (dk_at dksX12_copy_0 11 rfl rfl)
theorem q77 : (Jvm.Cond.initialized "SlipWeeks$Lucky") ∈ lw_all := lw_g (lw_at lw_m1 16 rfl) rfl
theorem q170 : (Jvm.Cond.fieldLink "SlipWeeks$Lucky" (18 : Nat) "SlipWeeks$Look" "row" "I") ∈ lw_all := lw_g (lw_at lw_m1 109 rfl) rfl
theorem q390 : (Jvm.Cond.fieldLink "SlipWeeks$Lucky" (13 : Nat) "SlipWeeks$Lucky" "many" "I") ∈ lw_all := lw_g (lw_at lw_m2 89 rfl) rfl
theorem q391 : (Jvm.Cond.sameField "SlipWeeks$Lucky" "SlipWeeks$Cross" "many" "I") ∈ lw_all := lw_g (lw_at lw_m2 90 rfl) rfl
theorem q435 : (Jvm.Cond.instantiable "SlipWeeks$Lucky" (1 : Nat)) ∈ lw_all := lw_g (lw_at lw_m2 134 rfl) rfl
theorem q437 : (Jvm.Cond.instanceMethod ({ cls := "SlipWeeks$Lucky", name := "<init>", desc := "(I)V" } : Jvm.MethodName)) ∈ lw_all := lw_g (lw_at lw_m2 136 rfl) rfl
theorem q438 : (Jvm.Cond.code ({ cls := "SlipWeeks$Lucky", name := "<init>", desc := "(I)V" } : Jvm.MethodName) prog_13_method_1_code (2 : Nat) (Option.none : Option Jvm.ClassFile.FieldType)) ∈ lw_all := lw_g (lw_at lw_m2 137 rfl) rfl
theorem q439 : (Jvm.Cond.methodLink "SlipWeeks$Lucky" (1 : Nat) ({ cls := "SlipWeeks$Born", name := "<init>", desc := "(I)V" } : Jvm.MethodName)) ∈ lw_all := lw_g (lw_at lw_m2 138 rfl) rfl
theorem q440 : (Jvm.Cond.lays "SlipWeeks$Lucky" "SlipWeeks$Cross" "many" "I") ∈ lw_all := lw_g (lw_at lw_m2 139 rfl) rfl
theorem q441 : (Jvm.Cond.superclass "SlipWeeks$Lucky" "SlipWeeks$Born") ∈ lw_all := lw_g (lw_at lw_m2 140 rfl) rfl
theorem q497 : (Jvm.Cond.selects "SlipWeeks$Lucky" ({ cls := "SlipWeeks$Cross", name := "kind", desc := "()I" } : Jvm.MethodName) ({ cls := "SlipWeeks$Lucky", name := "kind", desc := "()I" } : Jvm.MethodName)) ∈ lw_all := lw_g (lw_at lw_m2 196 rfl) rfl
theorem q498 : (Jvm.Cond.instanceMethod ({ cls := "SlipWeeks$Lucky", name := "kind", desc := "()I" } : Jvm.MethodName)) ∈ lw_all := lw_g (lw_at lw_m2 197 rfl) rfl
theorem q499 : (Jvm.Cond.code ({ cls := "SlipWeeks$Lucky", name := "kind", desc := "()I" } : Jvm.MethodName) prog_13_method_2_code (1 : Nat) (Option.some Jvm.ClassFile.FieldType.int)) ∈ lw_all := lw_g (lw_at lw_m2 198 rfl) rfl
theorem q500 : (Jvm.Cond.methodLink "SlipWeeks$Lucky" (7 : Nat) ({ cls := "SlipWeeks$Born", name := "kind", desc := "()I" } : Jvm.MethodName)) ∈ lw_all := lw_g (lw_at lw_m2 199 rfl) rfl
theorem q529 : (Jvm.Cond.selects "SlipWeeks$Lucky" ({ cls := "SlipWeeks$Cross", name := "is", desc := "(I)Z" } : Jvm.MethodName) ({ cls := "SlipWeeks$Born", name := "is", desc := "(I)Z" } : Jvm.MethodName)) ∈ lw_all := lw_g (lw_at lw_m2 228 rfl) rfl
theorem q654 : (Jvm.Cond.selects "SlipWeeks$Lucky" ({ cls := "SlipWeeks$Cross", name := "likes", desc := "(LSlipWeeks$Look;)I" } : Jvm.MethodName) ({ cls := "SlipWeeks$Lucky", name := "likes", desc := "(LSlipWeeks$Look;)I" } : Jvm.MethodName)) ∈ lw_all := lw_g (lw_at lw_m3 113 rfl) rfl
theorem q655 : (Jvm.Cond.instanceMethod ({ cls := "SlipWeeks$Lucky", name := "likes", desc := "(LSlipWeeks$Look;)I" } : Jvm.MethodName)) ∈ lw_all := lw_g (lw_at lw_m3 114 rfl) rfl
theorem q656 : (Jvm.Cond.code ({ cls := "SlipWeeks$Lucky", name := "likes", desc := "(LSlipWeeks$Look;)I" } : Jvm.MethodName) prog_13_method_4_code (2 : Nat) (Option.some Jvm.ClassFile.FieldType.int)) ∈ lw_all := lw_g (lw_at lw_m3 115 rfl) rfl
theorem q657 : (Jvm.Cond.methodLinkNest "SlipWeeks$Lucky" (23 : Nat) ({ cls := "SlipWeeks", name := "has", desc := "(II)Z" } : Jvm.MethodName) "SlipWeeks") ∈ lw_tbl := lw_at lw_m3 116 rfl
theorem q658 : (Jvm.Cond.methodLink "SlipWeeks$Lucky" (29 : Nat) ({ cls := "SlipWeeks$Born", name := "likes", desc := "(LSlipWeeks$Look;)I" } : Jvm.MethodName)) ∈ lw_all := lw_g (lw_at lw_m3 117 rfl) rfl
theorem q1056 : (Jvm.Cond.selects "SlipWeeks$Lucky" ({ cls := "SlipWeeks$Cross", name := "copy", desc := "()LSlipWeeks$Cross;" } : Jvm.MethodName) ({ cls := "SlipWeeks$Lucky", name := "copy", desc := "()LSlipWeeks$Cross;" } : Jvm.MethodName)) ∈ lw_all := lw_g (lw_at lw_m5 35 rfl) rfl
theorem q1057 : (Jvm.Cond.instanceMethod ({ cls := "SlipWeeks$Lucky", name := "copy", desc := "()LSlipWeeks$Cross;" } : Jvm.MethodName)) ∈ lw_all := lw_g (lw_at lw_m5 36 rfl) rfl
theorem q1058 : (Jvm.Cond.code ({ cls := "SlipWeeks$Lucky", name := "copy", desc := "()LSlipWeeks$Cross;" } : Jvm.MethodName) prog_13_method_3_code (1 : Nat) (Option.some (Jvm.ClassFile.FieldType.object "SlipWeeks$Cross"))) ∈ lw_all := lw_g (lw_at lw_m5 37 rfl) rfl
theorem q1059 : (Jvm.Cond.classLink "SlipWeeks$Lucky" (11 : Nat) "SlipWeeks$Lucky") ∈ lw_all := lw_g (lw_at lw_m5 38 rfl) rfl
theorem q1060 : (Jvm.Cond.methodLink "SlipWeeks$Lucky" (17 : Nat) ({ cls := "SlipWeeks$Lucky", name := "<init>", desc := "(I)V" } : Jvm.MethodName)) ∈ lw_all := lw_g (lw_at lw_m5 39 rfl) rfl
theorem q1544 : (Jvm.Cond.castable "SlipWeeks$Lucky" "SlipWeeks$Cross") ∈ lw_tbl := lw_at lw_m7 43 rfl
theorem in_X12 : ∀ w ∈ wsX120, w ∈ lw_all := lw_in wsX120 [440] (by decide +kernel) (by decide +kernel)
/-! SlipWeeks$Sought -/
set_option maxRecDepth 100000
def RX13 : String := "SlipWeeks$Sought"
def TX13 : u_T := fun k => match k with
  | _ => ("SlipWeeks$Cross", "many", "I", false)
def tyX13 : Nat → FieldType := fun k => match k with
  | _ => .int
abbrev wsX130 : List Cond := u_ws RX13 TX13 1
theorem nmX13 : ∀ a, a < 1 → ∀ b, b < 1 → a ≠ b → (TX13 a).2.1 ≠ (TX13 b).2.1 := by decide +kernel
theorem tyX13_ok : ∀ k, k < 1 → parseFieldDescriptor (TX13 k).2.2.1 = some (tyX13 k) := by decide +kernel
abbrev cX13_init : ByteArray := prog_21_method_1_code
def yX13_init : MethodName := ⟨RX13, "<init>", "(I)V"⟩
def dkwX13_init_0 : List UInt8 := [42, 27, 183, 0, 1, 177]
abbrev dktX13_init_0 : List UInt8 := dkwX13_init_0 ++ []
theorem dksX13_init_0 : cX13_init.data.toList.drop 0 = dktX13_init_0 := by decide +kernel
theorem dX13_init_0 : decode cX13_init 0 = .ok (.aload_n 0, 1) := dk_42 (dk_at dksX13_init_0 0 rfl rfl)
theorem dX13_init_1 : decode cX13_init 1 = .ok (.iload_n 1, 1) := dk_27 (dk_at dksX13_init_0 1 rfl rfl)
theorem dX13_init_2 : decode cX13_init 2 = .ok (.invokespecial 1, 3) := dk_183 0 1 (dk_at dksX13_init_0 2 rfl rfl)
theorem dX13_init_5 : decode cX13_init 5 = .ok (.return_, 1) := dk_177 (dk_at dksX13_init_0 5 rfl rfl)
abbrev cX13_kind : ByteArray := prog_21_method_2_code
def yX13_kind : MethodName := ⟨RX13, "kind", "()I"⟩
def dkwX13_kind_0 : List UInt8 := [42, 183, 0, 7, 6, 96, 172]
abbrev dktX13_kind_0 : List UInt8 := dkwX13_kind_0 ++ []
theorem dksX13_kind_0 : cX13_kind.data.toList.drop 0 = dktX13_kind_0 := by decide +kernel
theorem dX13_kind_0 : decode cX13_kind 0 = .ok (.aload_n 0, 1) := dk_42 (dk_at dksX13_kind_0 0 rfl rfl)
theorem dX13_kind_1 : decode cX13_kind 1 = .ok (.invokespecial 7, 3) := dk_183 0 7 (dk_at dksX13_kind_0 1 rfl rfl)
theorem dX13_kind_4 : decode cX13_kind 4 = .ok (.iconst 3, 1) := dk_6 (dk_at dksX13_kind_0 4 rfl rfl)
theorem dX13_kind_5 : decode cX13_kind 5 = .ok (.iadd, 1) := dk_96 (dk_at dksX13_kind_0 5 rfl rfl)
theorem dX13_kind_6 : decode cX13_kind 6 = .ok (.ireturn, 1) := dk_172 (dk_at dksX13_kind_0 6 rfl rfl)
abbrev cX13_is : ByteArray := prog_21_method_3_code
def yX13_is : MethodName := ⟨RX13, "is", "(I)Z"⟩
def dkwX13_is_0 : List UInt8 := [27, 16, 6, 159, 0, 11, 42, 27, 183, 0, 11, 153, 0, 7, 4, 167, 0, 4, 3, 172]
abbrev dktX13_is_0 : List UInt8 := dkwX13_is_0 ++ []
theorem dksX13_is_0 : cX13_is.data.toList.drop 0 = dktX13_is_0 := by decide +kernel
theorem dX13_is_0 : decode cX13_is 0 = .ok (.iload_n 1, 1) := dk_27 (dk_at dksX13_is_0 0 rfl rfl)
theorem dX13_is_1 : decode cX13_is 1 = .ok (.bipush 6, 2) := dk_16 6 (dk_at dksX13_is_0 1 rfl rfl)
theorem dX13_is_3 : decode cX13_is 3 = .ok (.if_icmp .eq 11, 3) := dk_159 0 11 (dk_at dksX13_is_0 3 rfl rfl)
theorem dX13_is_6 : decode cX13_is 6 = .ok (.aload_n 0, 1) := dk_42 (dk_at dksX13_is_0 6 rfl rfl)
theorem dX13_is_7 : decode cX13_is 7 = .ok (.iload_n 1, 1) := dk_27 (dk_at dksX13_is_0 7 rfl rfl)
theorem dX13_is_8 : decode cX13_is 8 = .ok (.invokespecial 11, 3) := dk_183 0 11 (dk_at dksX13_is_0 8 rfl rfl)
theorem dX13_is_11 : decode cX13_is 11 = .ok (.ifCond .eq 7, 3) := dk_153 0 7 (dk_at dksX13_is_0 11 rfl rfl)
theorem dX13_is_14 : decode cX13_is 14 = .ok (.iconst 1, 1) := dk_4 (dk_at dksX13_is_0 14 rfl rfl)
theorem dX13_is_15 : decode cX13_is 15 = .ok (.goto 4, 3) := dk_167 0 4 (dk_at dksX13_is_0 15 rfl rfl)
theorem dX13_is_18 : decode cX13_is 18 = .ok (.iconst 0, 1) := dk_3 (dk_at dksX13_is_0 18 rfl rfl)
theorem dX13_is_19 : decode cX13_is 19 = .ok (.ireturn, 1) := dk_172 (dk_at dksX13_is_0 19 rfl rfl)
abbrev cX13_likes : ByteArray := prog_21_method_5_code
def yX13_likes : MethodName := ⟨RX13, "likes", "(LSlipWeeks$Look;)I"⟩
def dkwX13_likes_0 : List UInt8 := [42, 43, 183, 0, 22, 43, 180, 0, 26, 16, 8, 122, 184, 0, 31, 96, 172]
abbrev dktX13_likes_0 : List UInt8 := dkwX13_likes_0 ++ []
theorem dksX13_likes_0 : cX13_likes.data.toList.drop 0 = dktX13_likes_0 := by decide +kernel
theorem dX13_likes_0 : decode cX13_likes 0 = .ok (.aload_n 0, 1) := dk_42 (dk_at dksX13_likes_0 0 rfl rfl)
theorem dX13_likes_1 : decode cX13_likes 1 = .ok (.aload_n 1, 1) := dk_43 (dk_at dksX13_likes_0 1 rfl rfl)
theorem dX13_likes_2 : decode cX13_likes 2 = .ok (.invokespecial 22, 3) := dk_183 0 22 (dk_at dksX13_likes_0 2 rfl rfl)
theorem dX13_likes_5 : decode cX13_likes 5 = .ok (.aload_n 1, 1) := dk_43 (dk_at dksX13_likes_0 5 rfl rfl)
theorem dX13_likes_6 : decode cX13_likes 6 = .ok (.getfield 26, 3) := dk_180 0 26 (dk_at dksX13_likes_0 6 rfl rfl)
theorem dX13_likes_9 : decode cX13_likes 9 = .ok (.bipush 8, 2) := dk_16 8 (dk_at dksX13_likes_0 9 rfl rfl)
theorem dX13_likes_11 : decode cX13_likes 11 = .ok (.ishr, 1) := dk_122 (dk_at dksX13_likes_0 11 rfl rfl)
theorem dX13_likes_12 : decode cX13_likes 12 = .ok (.invokestatic 31, 3) := dk_184 0 31 (dk_at dksX13_likes_0 12 rfl rfl)
theorem dX13_likes_15 : decode cX13_likes 15 = .ok (.iadd, 1) := dk_96 (dk_at dksX13_likes_0 15 rfl rfl)
theorem dX13_likes_16 : decode cX13_likes 16 = .ok (.ireturn, 1) := dk_172 (dk_at dksX13_likes_0 16 rfl rfl)
abbrev cX13_copy : ByteArray := prog_21_method_4_code
def yX13_copy : MethodName := ⟨RX13, "copy", "()LSlipWeeks$Cross;"⟩
def dkwX13_copy_0 : List UInt8 := [187, 0, 15, 89, 42, 180, 0, 17, 183, 0, 21, 176]
abbrev dktX13_copy_0 : List UInt8 := dkwX13_copy_0 ++ []
theorem dksX13_copy_0 : cX13_copy.data.toList.drop 0 = dktX13_copy_0 := by decide +kernel
theorem dX13_copy_0 : decode cX13_copy 0 = .ok (.new 15, 3) := dk_187 0 15 (dk_at dksX13_copy_0 0 rfl rfl)
theorem dX13_copy_3 : decode cX13_copy 3 = .ok (.dup, 1) := dk_89 (dk_at dksX13_copy_0 3 rfl rfl)
theorem dX13_copy_4 : decode cX13_copy 4 = .ok (.aload_n 0, 1) := dk_42 (dk_at dksX13_copy_0 4 rfl rfl)
theorem dX13_copy_5 : decode cX13_copy 5 = .ok (.getfield 17, 3) := dk_180 0 17 (dk_at dksX13_copy_0 5 rfl rfl)
theorem dX13_copy_8 : decode cX13_copy 8 = .ok (.invokespecial 21, 3) := dk_183 0 21 (dk_at dksX13_copy_0 8 rfl rfl)
theorem dX13_copy_11 : decode cX13_copy 11 = .ok (.areturn, 1) := dk_176 (dk_at dksX13_copy_0 11 rfl rfl)
theorem q78 : (Jvm.Cond.initialized "SlipWeeks$Sought") ∈ lw_all := lw_g (lw_at lw_m1 17 rfl) rfl
theorem q173 : (Jvm.Cond.fieldLink "SlipWeeks$Sought" (26 : Nat) "SlipWeeks$Look" "row" "I") ∈ lw_all := lw_g (lw_at lw_m1 112 rfl) rfl
theorem q396 : (Jvm.Cond.fieldLink "SlipWeeks$Sought" (17 : Nat) "SlipWeeks$Sought" "many" "I") ∈ lw_all := lw_g (lw_at lw_m2 95 rfl) rfl
theorem q397 : (Jvm.Cond.sameField "SlipWeeks$Sought" "SlipWeeks$Cross" "many" "I") ∈ lw_all := lw_g (lw_at lw_m2 96 rfl) rfl
theorem q443 : (Jvm.Cond.instantiable "SlipWeeks$Sought" (1 : Nat)) ∈ lw_all := lw_g (lw_at lw_m2 142 rfl) rfl
theorem q445 : (Jvm.Cond.instanceMethod ({ cls := "SlipWeeks$Sought", name := "<init>", desc := "(I)V" } : Jvm.MethodName)) ∈ lw_all := lw_g (lw_at lw_m2 144 rfl) rfl
theorem q446 : (Jvm.Cond.code ({ cls := "SlipWeeks$Sought", name := "<init>", desc := "(I)V" } : Jvm.MethodName) prog_21_method_1_code (2 : Nat) (Option.none : Option Jvm.ClassFile.FieldType)) ∈ lw_all := lw_g (lw_at lw_m2 145 rfl) rfl
theorem q447 : (Jvm.Cond.methodLink "SlipWeeks$Sought" (1 : Nat) ({ cls := "SlipWeeks$Machine", name := "<init>", desc := "(I)V" } : Jvm.MethodName)) ∈ lw_all := lw_g (lw_at lw_m2 146 rfl) rfl
theorem q448 : (Jvm.Cond.lays "SlipWeeks$Sought" "SlipWeeks$Cross" "many" "I") ∈ lw_all := lw_g (lw_at lw_m2 147 rfl) rfl
theorem q449 : (Jvm.Cond.superclass "SlipWeeks$Sought" "SlipWeeks$Machine") ∈ lw_all := lw_g (lw_at lw_m2 148 rfl) rfl
theorem q483 : (Jvm.Cond.instanceMethod ({ cls := "SlipWeeks$Sought", name := "kind", desc := "()I" } : Jvm.MethodName)) ∈ lw_all := lw_g (lw_at lw_m2 182 rfl) rfl
theorem q484 : (Jvm.Cond.code ({ cls := "SlipWeeks$Sought", name := "kind", desc := "()I" } : Jvm.MethodName) prog_21_method_2_code (1 : Nat) (Option.some Jvm.ClassFile.FieldType.int)) ∈ lw_all := lw_g (lw_at lw_m2 183 rfl) rfl
theorem q485 : (Jvm.Cond.methodLink "SlipWeeks$Sought" (7 : Nat) ({ cls := "SlipWeeks$Machine", name := "kind", desc := "()I" } : Jvm.MethodName)) ∈ lw_all := lw_g (lw_at lw_m2 184 rfl) rfl
theorem q502 : (Jvm.Cond.selects "SlipWeeks$Sought" ({ cls := "SlipWeeks$Cross", name := "kind", desc := "()I" } : Jvm.MethodName) ({ cls := "SlipWeeks$Sought", name := "kind", desc := "()I" } : Jvm.MethodName)) ∈ lw_all := lw_g (lw_at lw_m2 201 rfl) rfl
theorem q521 : (Jvm.Cond.instanceMethod ({ cls := "SlipWeeks$Sought", name := "is", desc := "(I)Z" } : Jvm.MethodName)) ∈ lw_all := lw_g (lw_at lw_m2 220 rfl) rfl
theorem q522 : (Jvm.Cond.code ({ cls := "SlipWeeks$Sought", name := "is", desc := "(I)Z" } : Jvm.MethodName) prog_21_method_3_code (2 : Nat) (Option.some Jvm.ClassFile.FieldType.boolean)) ∈ lw_all := lw_g (lw_at lw_m2 221 rfl) rfl
theorem q523 : (Jvm.Cond.methodLink "SlipWeeks$Sought" (11 : Nat) ({ cls := "SlipWeeks$Machine", name := "is", desc := "(I)Z" } : Jvm.MethodName)) ∈ lw_all := lw_g (lw_at lw_m2 222 rfl) rfl
theorem q531 : (Jvm.Cond.selects "SlipWeeks$Sought" ({ cls := "SlipWeeks$Cross", name := "is", desc := "(I)Z" } : Jvm.MethodName) ({ cls := "SlipWeeks$Sought", name := "is", desc := "(I)Z" } : Jvm.MethodName)) ∈ lw_all := lw_g (lw_at lw_m2 230 rfl) rfl
theorem q639 : (Jvm.Cond.instanceMethod ({ cls := "SlipWeeks$Sought", name := "likes", desc := "(LSlipWeeks$Look;)I" } : Jvm.MethodName)) ∈ lw_all := lw_g (lw_at lw_m3 98 rfl) rfl
theorem q640 : (Jvm.Cond.code ({ cls := "SlipWeeks$Sought", name := "likes", desc := "(LSlipWeeks$Look;)I" } : Jvm.MethodName) prog_21_method_5_code (2 : Nat) (Option.some Jvm.ClassFile.FieldType.int)) ∈ lw_all := lw_g (lw_at lw_m3 99 rfl) rfl
theorem q641 : (Jvm.Cond.methodLink "SlipWeeks$Sought" (22 : Nat) ({ cls := "SlipWeeks$Machine", name := "likes", desc := "(LSlipWeeks$Look;)I" } : Jvm.MethodName)) ∈ lw_all := lw_g (lw_at lw_m3 100 rfl) rfl
theorem q644 : (Jvm.Cond.methodLink "SlipWeeks$Sought" (31 : Nat) ({ cls := "java/lang/Integer", name := "bitCount", desc := "(I)I" } : Jvm.MethodName)) ∈ lw_all := lw_g (lw_at lw_m3 103 rfl) rfl
theorem q660 : (Jvm.Cond.selects "SlipWeeks$Sought" ({ cls := "SlipWeeks$Cross", name := "likes", desc := "(LSlipWeeks$Look;)I" } : Jvm.MethodName) ({ cls := "SlipWeeks$Sought", name := "likes", desc := "(LSlipWeeks$Look;)I" } : Jvm.MethodName)) ∈ lw_all := lw_g (lw_at lw_m3 119 rfl) rfl
theorem q1066 : (Jvm.Cond.selects "SlipWeeks$Sought" ({ cls := "SlipWeeks$Cross", name := "copy", desc := "()LSlipWeeks$Cross;" } : Jvm.MethodName) ({ cls := "SlipWeeks$Sought", name := "copy", desc := "()LSlipWeeks$Cross;" } : Jvm.MethodName)) ∈ lw_all := lw_g (lw_at lw_m5 45 rfl) rfl
theorem q1067 : (Jvm.Cond.instanceMethod ({ cls := "SlipWeeks$Sought", name := "copy", desc := "()LSlipWeeks$Cross;" } : Jvm.MethodName)) ∈ lw_all := lw_g (lw_at lw_m5 46 rfl) rfl
theorem q1068 : (Jvm.Cond.code ({ cls := "SlipWeeks$Sought", name := "copy", desc := "()LSlipWeeks$Cross;" } : Jvm.MethodName) prog_21_method_4_code (1 : Nat) (Option.some (Jvm.ClassFile.FieldType.object "SlipWeeks$Cross"))) ∈ lw_all := lw_g (lw_at lw_m5 47 rfl) rfl
theorem q1069 : (Jvm.Cond.classLink "SlipWeeks$Sought" (15 : Nat) "SlipWeeks$Sought") ∈ lw_all := lw_g (lw_at lw_m5 48 rfl) rfl
theorem q1070 : (Jvm.Cond.methodLink "SlipWeeks$Sought" (21 : Nat) ({ cls := "SlipWeeks$Sought", name := "<init>", desc := "(I)V" } : Jvm.MethodName)) ∈ lw_all := lw_g (lw_at lw_m5 49 rfl) rfl
theorem q1532 : (Jvm.Cond.sameMethod "SlipWeeks$Sought" "SlipWeeks$Sought" "kind" "()I") ∈ lw_all := lw_g (lw_at lw_m7 31 rfl) rfl
theorem q1537 : (Jvm.Cond.sameMethod "SlipWeeks$Sought" "SlipWeeks$Sought" "likes" "(LSlipWeeks$Look;)I") ∈ lw_all := lw_g (lw_at lw_m7 36 rfl) rfl
theorem q1546 : (Jvm.Cond.castable "SlipWeeks$Sought" "SlipWeeks$Cross") ∈ lw_tbl := lw_at lw_m7 45 rfl
theorem in_X13 : ∀ w ∈ wsX130, w ∈ lw_all := lw_in wsX130 [448] (by decide +kernel) (by decide +kernel)
/-! SlipWeeks$Bought -/
set_option maxRecDepth 100000
def RX14 : String := "SlipWeeks$Bought"
def TX14 : u_T := fun k => match k with
  | _ => ("SlipWeeks$Cross", "many", "I", false)
def tyX14 : Nat → FieldType := fun k => match k with
  | _ => .int
abbrev wsX140 : List Cond := u_ws RX14 TX14 1
theorem nmX14 : ∀ a, a < 1 → ∀ b, b < 1 → a ≠ b → (TX14 a).2.1 ≠ (TX14 b).2.1 := by decide +kernel
theorem tyX14_ok : ∀ k, k < 1 → parseFieldDescriptor (TX14 k).2.2.1 = some (tyX14 k) := by decide +kernel
abbrev cX14_init : ByteArray := prog_3_method_1_code
def yX14_init : MethodName := ⟨RX14, "<init>", "(I)V"⟩
def dkwX14_init_0 : List UInt8 := [42, 27, 183, 0, 1, 177]
abbrev dktX14_init_0 : List UInt8 := dkwX14_init_0 ++ []
theorem dksX14_init_0 : cX14_init.data.toList.drop 0 = dktX14_init_0 := by decide +kernel
theorem dX14_init_0 : decode cX14_init 0 = .ok (.aload_n 0, 1) := dk_42 (dk_at dksX14_init_0 0 rfl rfl)
theorem dX14_init_1 : decode cX14_init 1 = .ok (.iload_n 1, 1) := dk_27 (dk_at dksX14_init_0 1 rfl rfl)
theorem dX14_init_2 : decode cX14_init 2 = .ok (.invokespecial 1, 3) := dk_183 0 1 (dk_at dksX14_init_0 2 rfl rfl)
theorem dX14_init_5 : decode cX14_init 5 = .ok (.return_, 1) := dk_177 (dk_at dksX14_init_0 5 rfl rfl)
abbrev cX14_kind : ByteArray := prog_3_method_2_code
def yX14_kind : MethodName := ⟨RX14, "kind", "()I"⟩
def dkwX14_kind_0 : List UInt8 := [42, 183, 0, 7, 4, 96, 172]
abbrev dktX14_kind_0 : List UInt8 := dkwX14_kind_0 ++ []
theorem dksX14_kind_0 : cX14_kind.data.toList.drop 0 = dktX14_kind_0 := by decide +kernel
theorem dX14_kind_0 : decode cX14_kind 0 = .ok (.aload_n 0, 1) := dk_42 (dk_at dksX14_kind_0 0 rfl rfl)
theorem dX14_kind_1 : decode cX14_kind 1 = .ok (.invokespecial 7, 3) := dk_183 0 7 (dk_at dksX14_kind_0 1 rfl rfl)
theorem dX14_kind_4 : decode cX14_kind 4 = .ok (.iconst 1, 1) := dk_4 (dk_at dksX14_kind_0 4 rfl rfl)
theorem dX14_kind_5 : decode cX14_kind 5 = .ok (.iadd, 1) := dk_96 (dk_at dksX14_kind_0 5 rfl rfl)
theorem dX14_kind_6 : decode cX14_kind 6 = .ok (.ireturn, 1) := dk_172 (dk_at dksX14_kind_0 6 rfl rfl)
abbrev cX14_likes : ByteArray := prog_3_method_4_code
def yX14_likes : MethodName := ⟨RX14, "likes", "(LSlipWeeks$Look;)I"⟩
def dkwX14_likes_0 : List UInt8 := [43, 180, 0, 18, 42, 180, 0, 13, 162, 0, 11, 42, 43, 183, 0, 23, 167, 0, 4, 3, 172]
abbrev dktX14_likes_0 : List UInt8 := dkwX14_likes_0 ++ []
theorem dksX14_likes_0 : cX14_likes.data.toList.drop 0 = dktX14_likes_0 := by decide +kernel
theorem dX14_likes_0 : decode cX14_likes 0 = .ok (.aload_n 1, 1) := dk_43 (dk_at dksX14_likes_0 0 rfl rfl)
theorem dX14_likes_1 : decode cX14_likes 1 = .ok (.getfield 18, 3) := dk_180 0 18 (dk_at dksX14_likes_0 1 rfl rfl)
theorem dX14_likes_4 : decode cX14_likes 4 = .ok (.aload_n 0, 1) := dk_42 (dk_at dksX14_likes_0 4 rfl rfl)
theorem dX14_likes_5 : decode cX14_likes 5 = .ok (.getfield 13, 3) := dk_180 0 13 (dk_at dksX14_likes_0 5 rfl rfl)
theorem dX14_likes_8 : decode cX14_likes 8 = .ok (.if_icmp .ge 11, 3) := dk_162 0 11 (dk_at dksX14_likes_0 8 rfl rfl)
theorem dX14_likes_11 : decode cX14_likes 11 = .ok (.aload_n 0, 1) := dk_42 (dk_at dksX14_likes_0 11 rfl rfl)
theorem dX14_likes_12 : decode cX14_likes 12 = .ok (.aload_n 1, 1) := dk_43 (dk_at dksX14_likes_0 12 rfl rfl)
theorem dX14_likes_13 : decode cX14_likes 13 = .ok (.invokespecial 23, 3) := dk_183 0 23 (dk_at dksX14_likes_0 13 rfl rfl)
theorem dX14_likes_16 : decode cX14_likes 16 = .ok (.goto 4, 3) := dk_167 0 4 (dk_at dksX14_likes_0 16 rfl rfl)
theorem dX14_likes_19 : decode cX14_likes 19 = .ok (.iconst 0, 1) := dk_3 (dk_at dksX14_likes_0 19 rfl rfl)
theorem dX14_likes_20 : decode cX14_likes 20 = .ok (.ireturn, 1) := dk_172 (dk_at dksX14_likes_0 20 rfl rfl)
abbrev cX14_copy : ByteArray := prog_3_method_3_code
def yX14_copy : MethodName := ⟨RX14, "copy", "()LSlipWeeks$Cross;"⟩
def dkwX14_copy_0 : List UInt8 := [187, 0, 11, 89, 42, 180, 0, 13, 183, 0, 17, 176]
abbrev dktX14_copy_0 : List UInt8 := dkwX14_copy_0 ++ []
theorem dksX14_copy_0 : cX14_copy.data.toList.drop 0 = dktX14_copy_0 := by decide +kernel
theorem dX14_copy_0 : decode cX14_copy 0 = .ok (.new 11, 3) := dk_187 0 11 (dk_at dksX14_copy_0 0 rfl rfl)
theorem dX14_copy_3 : decode cX14_copy 3 = .ok (.dup, 1) := dk_89 (dk_at dksX14_copy_0 3 rfl rfl)
theorem dX14_copy_4 : decode cX14_copy 4 = .ok (.aload_n 0, 1) := dk_42 (dk_at dksX14_copy_0 4 rfl rfl)
theorem dX14_copy_5 : decode cX14_copy 5 = .ok (.getfield 13, 3) := dk_180 0 13 (dk_at dksX14_copy_0 5 rfl rfl)
theorem dX14_copy_8 : decode cX14_copy 8 = .ok (.invokespecial 17, 3) := dk_183 0 17 (dk_at dksX14_copy_0 8 rfl rfl)
theorem dX14_copy_11 : decode cX14_copy 11 = .ok (.areturn, 1) := dk_176 (dk_at dksX14_copy_0 11 rfl rfl)
theorem q79 : (Jvm.Cond.initialized "SlipWeeks$Bought") ∈ lw_all := lw_g (lw_at lw_m1 18 rfl) rfl
theorem q176 : (Jvm.Cond.fieldLink "SlipWeeks$Bought" (18 : Nat) "SlipWeeks$Look" "place" "I") ∈ lw_all := lw_g (lw_at lw_m1 115 rfl) rfl
theorem q384 : (Jvm.Cond.fieldLink "SlipWeeks$Bought" (13 : Nat) "SlipWeeks$Bought" "many" "I") ∈ lw_all := lw_g (lw_at lw_m2 83 rfl) rfl
theorem q385 : (Jvm.Cond.sameField "SlipWeeks$Bought" "SlipWeeks$Cross" "many" "I") ∈ lw_all := lw_g (lw_at lw_m2 84 rfl) rfl
theorem q451 : (Jvm.Cond.instantiable "SlipWeeks$Bought" (1 : Nat)) ∈ lw_all := lw_g (lw_at lw_m2 150 rfl) rfl
theorem q453 : (Jvm.Cond.instanceMethod ({ cls := "SlipWeeks$Bought", name := "<init>", desc := "(I)V" } : Jvm.MethodName)) ∈ lw_all := lw_g (lw_at lw_m2 152 rfl) rfl
theorem q454 : (Jvm.Cond.code ({ cls := "SlipWeeks$Bought", name := "<init>", desc := "(I)V" } : Jvm.MethodName) prog_3_method_1_code (2 : Nat) (Option.none : Option Jvm.ClassFile.FieldType)) ∈ lw_all := lw_g (lw_at lw_m2 153 rfl) rfl
theorem q455 : (Jvm.Cond.methodLink "SlipWeeks$Bought" (1 : Nat) ({ cls := "SlipWeeks$Sought", name := "<init>", desc := "(I)V" } : Jvm.MethodName)) ∈ lw_all := lw_g (lw_at lw_m2 154 rfl) rfl
theorem q456 : (Jvm.Cond.lays "SlipWeeks$Bought" "SlipWeeks$Cross" "many" "I") ∈ lw_all := lw_g (lw_at lw_m2 155 rfl) rfl
theorem q457 : (Jvm.Cond.superclass "SlipWeeks$Bought" "SlipWeeks$Sought") ∈ lw_all := lw_g (lw_at lw_m2 156 rfl) rfl
theorem q479 : (Jvm.Cond.selects "SlipWeeks$Bought" ({ cls := "SlipWeeks$Cross", name := "kind", desc := "()I" } : Jvm.MethodName) ({ cls := "SlipWeeks$Bought", name := "kind", desc := "()I" } : Jvm.MethodName)) ∈ lw_all := lw_g (lw_at lw_m2 178 rfl) rfl
theorem q480 : (Jvm.Cond.instanceMethod ({ cls := "SlipWeeks$Bought", name := "kind", desc := "()I" } : Jvm.MethodName)) ∈ lw_all := lw_g (lw_at lw_m2 179 rfl) rfl
theorem q481 : (Jvm.Cond.code ({ cls := "SlipWeeks$Bought", name := "kind", desc := "()I" } : Jvm.MethodName) prog_3_method_2_code (1 : Nat) (Option.some Jvm.ClassFile.FieldType.int)) ∈ lw_all := lw_g (lw_at lw_m2 180 rfl) rfl
theorem q482 : (Jvm.Cond.methodLink "SlipWeeks$Bought" (7 : Nat) ({ cls := "SlipWeeks$Sought", name := "kind", desc := "()I" } : Jvm.MethodName)) ∈ lw_all := lw_g (lw_at lw_m2 181 rfl) rfl
theorem q520 : (Jvm.Cond.selects "SlipWeeks$Bought" ({ cls := "SlipWeeks$Cross", name := "is", desc := "(I)Z" } : Jvm.MethodName) ({ cls := "SlipWeeks$Sought", name := "is", desc := "(I)Z" } : Jvm.MethodName)) ∈ lw_all := lw_g (lw_at lw_m2 219 rfl) rfl
theorem q635 : (Jvm.Cond.selects "SlipWeeks$Bought" ({ cls := "SlipWeeks$Cross", name := "likes", desc := "(LSlipWeeks$Look;)I" } : Jvm.MethodName) ({ cls := "SlipWeeks$Bought", name := "likes", desc := "(LSlipWeeks$Look;)I" } : Jvm.MethodName)) ∈ lw_all := lw_g (lw_at lw_m3 94 rfl) rfl
theorem q636 : (Jvm.Cond.instanceMethod ({ cls := "SlipWeeks$Bought", name := "likes", desc := "(LSlipWeeks$Look;)I" } : Jvm.MethodName)) ∈ lw_all := lw_g (lw_at lw_m3 95 rfl) rfl
theorem q637 : (Jvm.Cond.code ({ cls := "SlipWeeks$Bought", name := "likes", desc := "(LSlipWeeks$Look;)I" } : Jvm.MethodName) prog_3_method_4_code (2 : Nat) (Option.some Jvm.ClassFile.FieldType.int)) ∈ lw_all := lw_g (lw_at lw_m3 96 rfl) rfl
theorem q638 : (Jvm.Cond.methodLink "SlipWeeks$Bought" (23 : Nat) ({ cls := "SlipWeeks$Sought", name := "likes", desc := "(LSlipWeeks$Look;)I" } : Jvm.MethodName)) ∈ lw_all := lw_g (lw_at lw_m3 97 rfl) rfl
theorem q1041 : (Jvm.Cond.selects "SlipWeeks$Bought" ({ cls := "SlipWeeks$Cross", name := "copy", desc := "()LSlipWeeks$Cross;" } : Jvm.MethodName) ({ cls := "SlipWeeks$Bought", name := "copy", desc := "()LSlipWeeks$Cross;" } : Jvm.MethodName)) ∈ lw_all := lw_g (lw_at lw_m5 20 rfl) rfl
theorem q1042 : (Jvm.Cond.instanceMethod ({ cls := "SlipWeeks$Bought", name := "copy", desc := "()LSlipWeeks$Cross;" } : Jvm.MethodName)) ∈ lw_all := lw_g (lw_at lw_m5 21 rfl) rfl
theorem q1043 : (Jvm.Cond.code ({ cls := "SlipWeeks$Bought", name := "copy", desc := "()LSlipWeeks$Cross;" } : Jvm.MethodName) prog_3_method_3_code (1 : Nat) (Option.some (Jvm.ClassFile.FieldType.object "SlipWeeks$Cross"))) ∈ lw_all := lw_g (lw_at lw_m5 22 rfl) rfl
theorem q1044 : (Jvm.Cond.classLink "SlipWeeks$Bought" (11 : Nat) "SlipWeeks$Bought") ∈ lw_all := lw_g (lw_at lw_m5 23 rfl) rfl
theorem q1045 : (Jvm.Cond.methodLink "SlipWeeks$Bought" (17 : Nat) ({ cls := "SlipWeeks$Bought", name := "<init>", desc := "(I)V" } : Jvm.MethodName)) ∈ lw_all := lw_g (lw_at lw_m5 24 rfl) rfl
theorem q1541 : (Jvm.Cond.castable "SlipWeeks$Bought" "SlipWeeks$Cross") ∈ lw_tbl := lw_at lw_m7 40 rfl
theorem in_X14 : ∀ w ∈ wsX140, w ∈ lw_all := lw_in wsX140 [456] (by decide +kernel) (by decide +kernel)
/-! SlipWeeks$Reader -/
set_option maxRecDepth 100000
def RX15 : String := "SlipWeeks$Reader"
def TX15 : u_T := fun k => match k with
  | 0 => ("SlipWeeks$Reader", "tape", "[B", true)
  | 1 => ("SlipWeeks$Reader", "size", "I", true)
  | 2 => ("SlipWeeks$Reader", "at", "I", false)
  | _ => ("SlipWeeks$Reader", "open", "I", false)
def tyX15 : Nat → FieldType := fun k => match k with
  | 0 => .array .byte
  | 1 => .int
  | 2 => .int
  | _ => .int
abbrev wsX150 : List Cond := u_ws RX15 TX15 4
theorem nmX15 : ∀ a, a < 4 → ∀ b, b < 4 → a ≠ b → (TX15 a).2.1 ≠ (TX15 b).2.1 := by decide +kernel
theorem tyX15_ok : ∀ k, k < 4 → parseFieldDescriptor (TX15 k).2.2.1 = some (tyX15 k) := by decide +kernel
abbrev cX15_init : ByteArray := prog_19_method_1_code
def yX15_init : MethodName := ⟨RX15, "<init>", "([BI)V"⟩
def dkwX15_init_0 : List UInt8 := [42, 183, 0, 1, 42, 43, 181, 0, 7, 42, 28, 181, 0, 13, 177]
abbrev dktX15_init_0 : List UInt8 := dkwX15_init_0 ++ []
theorem dksX15_init_0 : cX15_init.data.toList.drop 0 = dktX15_init_0 := by decide +kernel
theorem dX15_init_0 : decode cX15_init 0 = .ok (.aload_n 0, 1) := dk_42 (dk_at dksX15_init_0 0 rfl rfl)
theorem dX15_init_1 : decode cX15_init 1 = .ok (.invokespecial 1, 3) := dk_183 0 1 (dk_at dksX15_init_0 1 rfl rfl)
theorem dX15_init_4 : decode cX15_init 4 = .ok (.aload_n 0, 1) := dk_42 (dk_at dksX15_init_0 4 rfl rfl)
theorem dX15_init_5 : decode cX15_init 5 = .ok (.aload_n 1, 1) := dk_43 (dk_at dksX15_init_0 5 rfl rfl)
theorem dX15_init_6 : decode cX15_init 6 = .ok (.putfield 7, 3) := dk_181 0 7 (dk_at dksX15_init_0 6 rfl rfl)
theorem dX15_init_9 : decode cX15_init 9 = .ok (.aload_n 0, 1) := dk_42 (dk_at dksX15_init_0 9 rfl rfl)
theorem dX15_init_10 : decode cX15_init 10 = .ok (.iload_n 2, 1) := dk_28 (dk_at dksX15_init_0 10 rfl rfl)
theorem dX15_init_11 : decode cX15_init 11 = .ok (.putfield 13, 3) := dk_181 0 13 (dk_at dksX15_init_0 11 rfl rfl)
theorem dX15_init_14 : decode cX15_init 14 = .ok (.return_, 1) := dk_177 (dk_at dksX15_init_0 14 rfl rfl)
abbrev cX15_read : ByteArray := prog_19_method_5_code
def yX15_read : MethodName := ⟨RX15, "read", "()LSlipWeeks$Part;"⟩
def dkwX15_read_1 : List UInt8 := [182, 0, 33, 43, 176]
abbrev dktX15_read_1 : List UInt8 := dkwX15_read_1 ++ []
def dkwX15_read_0 : List UInt8 := [42, 182, 0, 29, 76, 42, 42, 180, 0, 17, 42, 180, 0, 13, 160, 0, 7, 4, 167, 0, 4, 3]
abbrev dktX15_read_0 : List UInt8 := dkwX15_read_0 ++ dktX15_read_1
theorem dksX15_read_0 : cX15_read.data.toList.drop 0 = dktX15_read_0 := by decide +kernel
theorem dksX15_read_1 : cX15_read.data.toList.drop 22 = dktX15_read_1 := dk_seg dksX15_read_0 22 rfl rfl
theorem dX15_read_0 : decode cX15_read 0 = .ok (.aload_n 0, 1) := dk_42 (dk_at dksX15_read_0 0 rfl rfl)
theorem dX15_read_1 : decode cX15_read 1 = .ok (.invokevirtual 29, 3) := dk_182 0 29 (dk_at dksX15_read_0 1 rfl rfl)
theorem dX15_read_4 : decode cX15_read 4 = .ok (.astore_n 1, 1) := dk_76 (dk_at dksX15_read_0 4 rfl rfl)
theorem dX15_read_5 : decode cX15_read 5 = .ok (.aload_n 0, 1) := dk_42 (dk_at dksX15_read_0 5 rfl rfl)
theorem dX15_read_6 : decode cX15_read 6 = .ok (.aload_n 0, 1) := dk_42 (dk_at dksX15_read_0 6 rfl rfl)
theorem dX15_read_7 : decode cX15_read 7 = .ok (.getfield 17, 3) := dk_180 0 17 (dk_at dksX15_read_0 7 rfl rfl)
theorem dX15_read_10 : decode cX15_read 10 = .ok (.aload_n 0, 1) := dk_42 (dk_at dksX15_read_0 10 rfl rfl)
theorem dX15_read_11 : decode cX15_read 11 = .ok (.getfield 13, 3) := dk_180 0 13 (dk_at dksX15_read_0 11 rfl rfl)
theorem dX15_read_14 : decode cX15_read 14 = .ok (.if_icmp .ne 7, 3) := dk_160 0 7 (dk_at dksX15_read_0 14 rfl rfl)
theorem dX15_read_17 : decode cX15_read 17 = .ok (.iconst 1, 1) := dk_4 (dk_at dksX15_read_0 17 rfl rfl)
theorem dX15_read_18 : decode cX15_read 18 = .ok (.goto 4, 3) := dk_167 0 4 (dk_at dksX15_read_0 18 rfl rfl)
theorem dX15_read_21 : decode cX15_read 21 = .ok (.iconst 0, 1) := dk_3 (dk_at dksX15_read_0 21 rfl rfl)
theorem dX15_read_22 : decode cX15_read 22 = .ok (.invokevirtual 33, 3) := dk_182 0 33 (dk_at dksX15_read_1 0 rfl rfl)
theorem dX15_read_25 : decode cX15_read 25 = .ok (.aload_n 1, 1) := dk_43 (dk_at dksX15_read_1 3 rfl rfl)
theorem dX15_read_26 : decode cX15_read 26 = .ok (.areturn, 1) := dk_176 (dk_at dksX15_read_1 4 rfl rfl)
abbrev cX15_sum : ByteArray := prog_19_method_6_code
def yX15_sum : MethodName := ⟨RX15, "sum", "()LSlipWeeks$Part;"⟩
def dkwX15_sum_2 : List UInt8 := [183, 0, 42, 76, 167, 255, 209, 43, 176]
abbrev dktX15_sum_2 : List UInt8 := dkwX15_sum_2 ++ []
def dkwX15_sum_1 : List UInt8 := [182, 0, 20, 61, 42, 89, 180, 0, 17, 4, 96, 181, 0, 17, 187, 0, 40, 89, 28, 43, 42, 182, 0, 37]
abbrev dktX15_sum_1 : List UInt8 := dkwX15_sum_1 ++ dktX15_sum_2
def dkwX15_sum_0 : List UInt8 := [42, 182, 0, 37, 76, 42, 182, 0, 20, 16, 43, 159, 0, 12, 42, 182, 0, 20, 16, 45, 160, 0, 35, 42]
abbrev dktX15_sum_0 : List UInt8 := dkwX15_sum_0 ++ dktX15_sum_1
theorem dksX15_sum_0 : cX15_sum.data.toList.drop 0 = dktX15_sum_0 := by decide +kernel
theorem dksX15_sum_1 : cX15_sum.data.toList.drop 24 = dktX15_sum_1 := dk_seg dksX15_sum_0 24 rfl rfl
theorem dksX15_sum_2 : cX15_sum.data.toList.drop 48 = dktX15_sum_2 := dk_seg dksX15_sum_1 24 rfl rfl
theorem dX15_sum_0 : decode cX15_sum 0 = .ok (.aload_n 0, 1) := dk_42 (dk_at dksX15_sum_0 0 rfl rfl)
theorem dX15_sum_1 : decode cX15_sum 1 = .ok (.invokevirtual 37, 3) := dk_182 0 37 (dk_at dksX15_sum_0 1 rfl rfl)
theorem dX15_sum_4 : decode cX15_sum 4 = .ok (.astore_n 1, 1) := dk_76 (dk_at dksX15_sum_0 4 rfl rfl)
theorem dX15_sum_5 : decode cX15_sum 5 = .ok (.aload_n 0, 1) := dk_42 (dk_at dksX15_sum_0 5 rfl rfl)
theorem dX15_sum_6 : decode cX15_sum 6 = .ok (.invokevirtual 20, 3) := dk_182 0 20 (dk_at dksX15_sum_0 6 rfl rfl)
theorem dX15_sum_9 : decode cX15_sum 9 = .ok (.bipush 43, 2) := dk_16 43 (dk_at dksX15_sum_0 9 rfl rfl)
theorem dX15_sum_11 : decode cX15_sum 11 = .ok (.if_icmp .eq 12, 3) := dk_159 0 12 (dk_at dksX15_sum_0 11 rfl rfl)
theorem dX15_sum_14 : decode cX15_sum 14 = .ok (.aload_n 0, 1) := dk_42 (dk_at dksX15_sum_0 14 rfl rfl)
theorem dX15_sum_15 : decode cX15_sum 15 = .ok (.invokevirtual 20, 3) := dk_182 0 20 (dk_at dksX15_sum_0 15 rfl rfl)
theorem dX15_sum_18 : decode cX15_sum 18 = .ok (.bipush 45, 2) := dk_16 45 (dk_at dksX15_sum_0 18 rfl rfl)
theorem dX15_sum_20 : decode cX15_sum 20 = .ok (.if_icmp .ne 35, 3) := dk_160 0 35 (dk_at dksX15_sum_0 20 rfl rfl)
theorem dX15_sum_23 : decode cX15_sum 23 = .ok (.aload_n 0, 1) := dk_42 (dk_at dksX15_sum_0 23 rfl rfl)
theorem dX15_sum_24 : decode cX15_sum 24 = .ok (.invokevirtual 20, 3) := dk_182 0 20 (dk_at dksX15_sum_1 0 rfl rfl)
theorem dX15_sum_27 : decode cX15_sum 27 = .ok (.istore_n 2, 1) := dk_61 (dk_at dksX15_sum_1 3 rfl rfl)
theorem dX15_sum_28 : decode cX15_sum 28 = .ok (.aload_n 0, 1) := dk_42 (dk_at dksX15_sum_1 4 rfl rfl)
theorem dX15_sum_29 : decode cX15_sum 29 = .ok (.dup, 1) := dk_89 (dk_at dksX15_sum_1 5 rfl rfl)
theorem dX15_sum_30 : decode cX15_sum 30 = .ok (.getfield 17, 3) := dk_180 0 17 (dk_at dksX15_sum_1 6 rfl rfl)
theorem dX15_sum_33 : decode cX15_sum 33 = .ok (.iconst 1, 1) := dk_4 (dk_at dksX15_sum_1 9 rfl rfl)
theorem dX15_sum_34 : decode cX15_sum 34 = .ok (.iadd, 1) := dk_96 (dk_at dksX15_sum_1 10 rfl rfl)
theorem dX15_sum_35 : decode cX15_sum 35 = .ok (.putfield 17, 3) := dk_181 0 17 (dk_at dksX15_sum_1 11 rfl rfl)
theorem dX15_sum_38 : decode cX15_sum 38 = .ok (.new 40, 3) := dk_187 0 40 (dk_at dksX15_sum_1 14 rfl rfl)
theorem dX15_sum_41 : decode cX15_sum 41 = .ok (.dup, 1) := dk_89 (dk_at dksX15_sum_1 17 rfl rfl)
theorem dX15_sum_42 : decode cX15_sum 42 = .ok (.iload_n 2, 1) := dk_28 (dk_at dksX15_sum_1 18 rfl rfl)
theorem dX15_sum_43 : decode cX15_sum 43 = .ok (.aload_n 1, 1) := dk_43 (dk_at dksX15_sum_1 19 rfl rfl)
theorem dX15_sum_44 : decode cX15_sum 44 = .ok (.aload_n 0, 1) := dk_42 (dk_at dksX15_sum_1 20 rfl rfl)
theorem dX15_sum_45 : decode cX15_sum 45 = .ok (.invokevirtual 37, 3) := dk_182 0 37 (dk_at dksX15_sum_1 21 rfl rfl)
theorem dX15_sum_48 : decode cX15_sum 48 = .ok (.invokespecial 42, 3) := dk_183 0 42 (dk_at dksX15_sum_2 0 rfl rfl)
theorem dX15_sum_51 : decode cX15_sum 51 = .ok (.astore_n 1, 1) := dk_76 (dk_at dksX15_sum_2 3 rfl rfl)
theorem dX15_sum_52 : decode cX15_sum 52 = .ok (.goto (-47), 3) := dk_167 255 209 (dk_at dksX15_sum_2 4 rfl rfl)
theorem dX15_sum_55 : decode cX15_sum 55 = .ok (.aload_n 1, 1) := dk_43 (dk_at dksX15_sum_2 7 rfl rfl)
theorem dX15_sum_56 : decode cX15_sum 56 = .ok (.areturn, 1) := dk_176 (dk_at dksX15_sum_2 8 rfl rfl)
abbrev cX15_product : ByteArray := prog_19_method_7_code
def yX15_product : MethodName := ⟨RX15, "product", "()LSlipWeeks$Part;"⟩
def dkwX15_product_1 : List UInt8 := [182, 0, 45, 183, 0, 42, 76, 167, 255, 232, 43, 176]
abbrev dktX15_product_1 : List UInt8 := dkwX15_product_1 ++ []
def dkwX15_product_0 : List UInt8 := [42, 182, 0, 45, 76, 42, 16, 42, 182, 0, 48, 153, 0, 21, 187, 0, 40, 89, 16, 42, 43, 42]
abbrev dktX15_product_0 : List UInt8 := dkwX15_product_0 ++ dktX15_product_1
theorem dksX15_product_0 : cX15_product.data.toList.drop 0 = dktX15_product_0 := by decide +kernel
theorem dksX15_product_1 : cX15_product.data.toList.drop 22 = dktX15_product_1 := dk_seg dksX15_product_0 22 rfl rfl
theorem dX15_product_0 : decode cX15_product 0 = .ok (.aload_n 0, 1) := dk_42 (dk_at dksX15_product_0 0 rfl rfl)
theorem dX15_product_1 : decode cX15_product 1 = .ok (.invokevirtual 45, 3) := dk_182 0 45 (dk_at dksX15_product_0 1 rfl rfl)
theorem dX15_product_4 : decode cX15_product 4 = .ok (.astore_n 1, 1) := dk_76 (dk_at dksX15_product_0 4 rfl rfl)
theorem dX15_product_5 : decode cX15_product 5 = .ok (.aload_n 0, 1) := dk_42 (dk_at dksX15_product_0 5 rfl rfl)
theorem dX15_product_6 : decode cX15_product 6 = .ok (.bipush 42, 2) := dk_16 42 (dk_at dksX15_product_0 6 rfl rfl)
theorem dX15_product_8 : decode cX15_product 8 = .ok (.invokevirtual 48, 3) := dk_182 0 48 (dk_at dksX15_product_0 8 rfl rfl)
theorem dX15_product_11 : decode cX15_product 11 = .ok (.ifCond .eq 21, 3) := dk_153 0 21 (dk_at dksX15_product_0 11 rfl rfl)
theorem dX15_product_14 : decode cX15_product 14 = .ok (.new 40, 3) := dk_187 0 40 (dk_at dksX15_product_0 14 rfl rfl)
theorem dX15_product_17 : decode cX15_product 17 = .ok (.dup, 1) := dk_89 (dk_at dksX15_product_0 17 rfl rfl)
theorem dX15_product_18 : decode cX15_product 18 = .ok (.bipush 42, 2) := dk_16 42 (dk_at dksX15_product_0 18 rfl rfl)
theorem dX15_product_20 : decode cX15_product 20 = .ok (.aload_n 1, 1) := dk_43 (dk_at dksX15_product_0 20 rfl rfl)
theorem dX15_product_21 : decode cX15_product 21 = .ok (.aload_n 0, 1) := dk_42 (dk_at dksX15_product_0 21 rfl rfl)
theorem dX15_product_22 : decode cX15_product 22 = .ok (.invokevirtual 45, 3) := dk_182 0 45 (dk_at dksX15_product_1 0 rfl rfl)
theorem dX15_product_25 : decode cX15_product 25 = .ok (.invokespecial 42, 3) := dk_183 0 42 (dk_at dksX15_product_1 3 rfl rfl)
theorem dX15_product_28 : decode cX15_product 28 = .ok (.astore_n 1, 1) := dk_76 (dk_at dksX15_product_1 6 rfl rfl)
theorem dX15_product_29 : decode cX15_product 29 = .ok (.goto (-24), 3) := dk_167 255 232 (dk_at dksX15_product_1 7 rfl rfl)
theorem dX15_product_32 : decode cX15_product 32 = .ok (.aload_n 1, 1) := dk_43 (dk_at dksX15_product_1 10 rfl rfl)
theorem dX15_product_33 : decode cX15_product 33 = .ok (.areturn, 1) := dk_176 (dk_at dksX15_product_1 11 rfl rfl)
abbrev cX15_one : ByteArray := prog_19_method_9_code
def yX15_one : MethodName := ⟨RX15, "one", "()LSlipWeeks$Part;"⟩
def dkwX15_one_6 : List UInt8 := [16, 41, 182, 0, 48, 182, 0, 33, 42, 89, 180, 0, 72, 4, 100, 181, 0, 72, 45, 176]
abbrev dktX15_one_6 : List UInt8 := dkwX15_one_6 ++ []
def dkwX15_one_5 : List UInt8 := [182, 0, 48, 182, 0, 33, 187, 0, 75, 89, 45, 25, 4, 42, 182, 0, 29, 183, 0, 77, 78, 42, 42]
abbrev dktX15_one_5 : List UInt8 := dkwX15_one_5 ++ dktX15_one_6
def dkwX15_one_4 : List UInt8 := [182, 0, 29, 78, 42, 16, 63, 182, 0, 48, 153, 0, 34, 42, 182, 0, 29, 58, 4, 42, 42, 16, 58]
abbrev dktX15_one_4 : List UInt8 := dkwX15_one_4 ++ dktX15_one_5
def dkwX15_one_3 : List UInt8 := [182, 0, 33, 42, 89, 180, 0, 17, 4, 96, 181, 0, 17, 42, 89, 180, 0, 72, 4, 96, 181, 0, 72, 42]
abbrev dktX15_one_3 : List UInt8 := dkwX15_one_3 ++ dktX15_one_4
def dkwX15_one_2 : List UInt8 := [183, 0, 71, 176, 42, 27, 16, 40, 160, 0, 15, 42, 180, 0, 72, 7, 162, 0, 7, 4, 167, 0, 4, 3]
abbrev dktX15_one_2 : List UInt8 := dkwX15_one_2 ++ dktX15_one_3
def dkwX15_one_1 : List UInt8 := [27, 184, 0, 65, 61, 28, 155, 0, 22, 42, 89, 180, 0, 17, 4, 96, 181, 0, 17, 187, 0, 69, 89, 28]
abbrev dktX15_one_1 : List UInt8 := dkwX15_one_1 ++ dktX15_one_2
def dkwX15_one_0 : List UInt8 := [42, 182, 0, 20, 60, 27, 133, 20, 0, 52, 20, 0, 54, 184, 0, 56, 153, 0, 8, 42, 182, 0, 62, 176]
abbrev dktX15_one_0 : List UInt8 := dkwX15_one_0 ++ dktX15_one_1
theorem dksX15_one_0 : cX15_one.data.toList.drop 0 = dktX15_one_0 := by decide +kernel
theorem dksX15_one_1 : cX15_one.data.toList.drop 24 = dktX15_one_1 := dk_seg dksX15_one_0 24 rfl rfl
theorem dksX15_one_2 : cX15_one.data.toList.drop 48 = dktX15_one_2 := dk_seg dksX15_one_1 24 rfl rfl
theorem dksX15_one_3 : cX15_one.data.toList.drop 72 = dktX15_one_3 := dk_seg dksX15_one_2 24 rfl rfl
theorem dksX15_one_4 : cX15_one.data.toList.drop 96 = dktX15_one_4 := dk_seg dksX15_one_3 24 rfl rfl
theorem dksX15_one_5 : cX15_one.data.toList.drop 119 = dktX15_one_5 := dk_seg dksX15_one_4 23 rfl rfl
theorem dksX15_one_6 : cX15_one.data.toList.drop 142 = dktX15_one_6 := dk_seg dksX15_one_5 23 rfl rfl
theorem dX15_one_0 : decode cX15_one 0 = .ok (.aload_n 0, 1) := dk_42 (dk_at dksX15_one_0 0 rfl rfl)
theorem dX15_one_1 : decode cX15_one 1 = .ok (.invokevirtual 20, 3) := dk_182 0 20 (dk_at dksX15_one_0 1 rfl rfl)
theorem dX15_one_4 : decode cX15_one 4 = .ok (.istore_n 1, 1) := dk_60 (dk_at dksX15_one_0 4 rfl rfl)
theorem dX15_one_5 : decode cX15_one 5 = .ok (.iload_n 1, 1) := dk_27 (dk_at dksX15_one_0 5 rfl rfl)
theorem dX15_one_6 : decode cX15_one 6 = .ok (.i2l, 1) := dk_133 (dk_at dksX15_one_0 6 rfl rfl)
theorem dX15_one_7 : decode cX15_one 7 = .ok (.ldc2_w 52, 3) := dk_20 0 52 (dk_at dksX15_one_0 7 rfl rfl)
theorem dX15_one_10 : decode cX15_one 10 = .ok (.ldc2_w 54, 3) := dk_20 0 54 (dk_at dksX15_one_0 10 rfl rfl)
theorem dX15_one_13 : decode cX15_one 13 = .ok (.invokestatic 56, 3) := dk_184 0 56 (dk_at dksX15_one_0 13 rfl rfl)
theorem dX15_one_16 : decode cX15_one 16 = .ok (.ifCond .eq 8, 3) := dk_153 0 8 (dk_at dksX15_one_0 16 rfl rfl)
theorem dX15_one_19 : decode cX15_one 19 = .ok (.aload_n 0, 1) := dk_42 (dk_at dksX15_one_0 19 rfl rfl)
theorem dX15_one_20 : decode cX15_one 20 = .ok (.invokevirtual 62, 3) := dk_182 0 62 (dk_at dksX15_one_0 20 rfl rfl)
theorem dX15_one_23 : decode cX15_one 23 = .ok (.areturn, 1) := dk_176 (dk_at dksX15_one_0 23 rfl rfl)
theorem dX15_one_24 : decode cX15_one 24 = .ok (.iload_n 1, 1) := dk_27 (dk_at dksX15_one_1 0 rfl rfl)
theorem dX15_one_25 : decode cX15_one 25 = .ok (.invokestatic 65, 3) := dk_184 0 65 (dk_at dksX15_one_1 1 rfl rfl)
theorem dX15_one_28 : decode cX15_one 28 = .ok (.istore_n 2, 1) := dk_61 (dk_at dksX15_one_1 4 rfl rfl)
theorem dX15_one_29 : decode cX15_one 29 = .ok (.iload_n 2, 1) := dk_28 (dk_at dksX15_one_1 5 rfl rfl)
theorem dX15_one_30 : decode cX15_one 30 = .ok (.ifCond .lt 22, 3) := dk_155 0 22 (dk_at dksX15_one_1 6 rfl rfl)
theorem dX15_one_33 : decode cX15_one 33 = .ok (.aload_n 0, 1) := dk_42 (dk_at dksX15_one_1 9 rfl rfl)
theorem dX15_one_34 : decode cX15_one 34 = .ok (.dup, 1) := dk_89 (dk_at dksX15_one_1 10 rfl rfl)
theorem dX15_one_35 : decode cX15_one 35 = .ok (.getfield 17, 3) := dk_180 0 17 (dk_at dksX15_one_1 11 rfl rfl)
theorem dX15_one_38 : decode cX15_one 38 = .ok (.iconst 1, 1) := dk_4 (dk_at dksX15_one_1 14 rfl rfl)
theorem dX15_one_39 : decode cX15_one 39 = .ok (.iadd, 1) := dk_96 (dk_at dksX15_one_1 15 rfl rfl)
theorem dX15_one_40 : decode cX15_one 40 = .ok (.putfield 17, 3) := dk_181 0 17 (dk_at dksX15_one_1 16 rfl rfl)
theorem dX15_one_43 : decode cX15_one 43 = .ok (.new 69, 3) := dk_187 0 69 (dk_at dksX15_one_1 19 rfl rfl)
theorem dX15_one_46 : decode cX15_one 46 = .ok (.dup, 1) := dk_89 (dk_at dksX15_one_1 22 rfl rfl)
theorem dX15_one_47 : decode cX15_one 47 = .ok (.iload_n 2, 1) := dk_28 (dk_at dksX15_one_1 23 rfl rfl)
theorem dX15_one_48 : decode cX15_one 48 = .ok (.invokespecial 71, 3) := dk_183 0 71 (dk_at dksX15_one_2 0 rfl rfl)
theorem dX15_one_51 : decode cX15_one 51 = .ok (.areturn, 1) := dk_176 (dk_at dksX15_one_2 3 rfl rfl)
theorem dX15_one_52 : decode cX15_one 52 = .ok (.aload_n 0, 1) := dk_42 (dk_at dksX15_one_2 4 rfl rfl)
theorem dX15_one_53 : decode cX15_one 53 = .ok (.iload_n 1, 1) := dk_27 (dk_at dksX15_one_2 5 rfl rfl)
theorem dX15_one_54 : decode cX15_one 54 = .ok (.bipush 40, 2) := dk_16 40 (dk_at dksX15_one_2 6 rfl rfl)
theorem dX15_one_56 : decode cX15_one 56 = .ok (.if_icmp .ne 15, 3) := dk_160 0 15 (dk_at dksX15_one_2 8 rfl rfl)
theorem dX15_one_59 : decode cX15_one 59 = .ok (.aload_n 0, 1) := dk_42 (dk_at dksX15_one_2 11 rfl rfl)
theorem dX15_one_60 : decode cX15_one 60 = .ok (.getfield 72, 3) := dk_180 0 72 (dk_at dksX15_one_2 12 rfl rfl)
theorem dX15_one_63 : decode cX15_one 63 = .ok (.iconst 4, 1) := dk_7 (dk_at dksX15_one_2 15 rfl rfl)
theorem dX15_one_64 : decode cX15_one 64 = .ok (.if_icmp .ge 7, 3) := dk_162 0 7 (dk_at dksX15_one_2 16 rfl rfl)
theorem dX15_one_67 : decode cX15_one 67 = .ok (.iconst 1, 1) := dk_4 (dk_at dksX15_one_2 19 rfl rfl)
theorem dX15_one_68 : decode cX15_one 68 = .ok (.goto 4, 3) := dk_167 0 4 (dk_at dksX15_one_2 20 rfl rfl)
theorem dX15_one_71 : decode cX15_one 71 = .ok (.iconst 0, 1) := dk_3 (dk_at dksX15_one_2 23 rfl rfl)
theorem dX15_one_72 : decode cX15_one 72 = .ok (.invokevirtual 33, 3) := dk_182 0 33 (dk_at dksX15_one_3 0 rfl rfl)
theorem dX15_one_75 : decode cX15_one 75 = .ok (.aload_n 0, 1) := dk_42 (dk_at dksX15_one_3 3 rfl rfl)
theorem dX15_one_76 : decode cX15_one 76 = .ok (.dup, 1) := dk_89 (dk_at dksX15_one_3 4 rfl rfl)
theorem dX15_one_77 : decode cX15_one 77 = .ok (.getfield 17, 3) := dk_180 0 17 (dk_at dksX15_one_3 5 rfl rfl)
theorem dX15_one_80 : decode cX15_one 80 = .ok (.iconst 1, 1) := dk_4 (dk_at dksX15_one_3 8 rfl rfl)
theorem dX15_one_81 : decode cX15_one 81 = .ok (.iadd, 1) := dk_96 (dk_at dksX15_one_3 9 rfl rfl)
theorem dX15_one_82 : decode cX15_one 82 = .ok (.putfield 17, 3) := dk_181 0 17 (dk_at dksX15_one_3 10 rfl rfl)
theorem dX15_one_85 : decode cX15_one 85 = .ok (.aload_n 0, 1) := dk_42 (dk_at dksX15_one_3 13 rfl rfl)
theorem dX15_one_86 : decode cX15_one 86 = .ok (.dup, 1) := dk_89 (dk_at dksX15_one_3 14 rfl rfl)
theorem dX15_one_87 : decode cX15_one 87 = .ok (.getfield 72, 3) := dk_180 0 72 (dk_at dksX15_one_3 15 rfl rfl)
theorem dX15_one_90 : decode cX15_one 90 = .ok (.iconst 1, 1) := dk_4 (dk_at dksX15_one_3 18 rfl rfl)
theorem dX15_one_91 : decode cX15_one 91 = .ok (.iadd, 1) := dk_96 (dk_at dksX15_one_3 19 rfl rfl)
theorem dX15_one_92 : decode cX15_one 92 = .ok (.putfield 72, 3) := dk_181 0 72 (dk_at dksX15_one_3 20 rfl rfl)
theorem dX15_one_95 : decode cX15_one 95 = .ok (.aload_n 0, 1) := dk_42 (dk_at dksX15_one_3 23 rfl rfl)
theorem dX15_one_96 : decode cX15_one 96 = .ok (.invokevirtual 29, 3) := dk_182 0 29 (dk_at dksX15_one_4 0 rfl rfl)
theorem dX15_one_99 : decode cX15_one 99 = .ok (.astore_n 3, 1) := dk_78 (dk_at dksX15_one_4 3 rfl rfl)
theorem dX15_one_100 : decode cX15_one 100 = .ok (.aload_n 0, 1) := dk_42 (dk_at dksX15_one_4 4 rfl rfl)
theorem dX15_one_101 : decode cX15_one 101 = .ok (.bipush 63, 2) := dk_16 63 (dk_at dksX15_one_4 5 rfl rfl)
theorem dX15_one_103 : decode cX15_one 103 = .ok (.invokevirtual 48, 3) := dk_182 0 48 (dk_at dksX15_one_4 7 rfl rfl)
theorem dX15_one_106 : decode cX15_one 106 = .ok (.ifCond .eq 34, 3) := dk_153 0 34 (dk_at dksX15_one_4 10 rfl rfl)
theorem dX15_one_109 : decode cX15_one 109 = .ok (.aload_n 0, 1) := dk_42 (dk_at dksX15_one_4 13 rfl rfl)
theorem dX15_one_110 : decode cX15_one 110 = .ok (.invokevirtual 29, 3) := dk_182 0 29 (dk_at dksX15_one_4 14 rfl rfl)
theorem dX15_one_113 : decode cX15_one 113 = .ok (.astore 4, 2) := dk_58 4 (dk_at dksX15_one_4 17 rfl rfl)
theorem dX15_one_115 : decode cX15_one 115 = .ok (.aload_n 0, 1) := dk_42 (dk_at dksX15_one_4 19 rfl rfl)
theorem dX15_one_116 : decode cX15_one 116 = .ok (.aload_n 0, 1) := dk_42 (dk_at dksX15_one_4 20 rfl rfl)
theorem dX15_one_117 : decode cX15_one 117 = .ok (.bipush 58, 2) := dk_16 58 (dk_at dksX15_one_4 21 rfl rfl)
theorem dX15_one_119 : decode cX15_one 119 = .ok (.invokevirtual 48, 3) := dk_182 0 48 (dk_at dksX15_one_5 0 rfl rfl)
theorem dX15_one_122 : decode cX15_one 122 = .ok (.invokevirtual 33, 3) := dk_182 0 33 (dk_at dksX15_one_5 3 rfl rfl)
theorem dX15_one_125 : decode cX15_one 125 = .ok (.new 75, 3) := dk_187 0 75 (dk_at dksX15_one_5 6 rfl rfl)
theorem dX15_one_128 : decode cX15_one 128 = .ok (.dup, 1) := dk_89 (dk_at dksX15_one_5 9 rfl rfl)
theorem dX15_one_129 : decode cX15_one 129 = .ok (.aload_n 3, 1) := dk_45 (dk_at dksX15_one_5 10 rfl rfl)
theorem dX15_one_130 : decode cX15_one 130 = .ok (.aload 4, 2) := dk_25 4 (dk_at dksX15_one_5 11 rfl rfl)
theorem dX15_one_132 : decode cX15_one 132 = .ok (.aload_n 0, 1) := dk_42 (dk_at dksX15_one_5 13 rfl rfl)
theorem dX15_one_133 : decode cX15_one 133 = .ok (.invokevirtual 29, 3) := dk_182 0 29 (dk_at dksX15_one_5 14 rfl rfl)
theorem dX15_one_136 : decode cX15_one 136 = .ok (.invokespecial 77, 3) := dk_183 0 77 (dk_at dksX15_one_5 17 rfl rfl)
theorem dX15_one_139 : decode cX15_one 139 = .ok (.astore_n 3, 1) := dk_78 (dk_at dksX15_one_5 20 rfl rfl)
theorem dX15_one_140 : decode cX15_one 140 = .ok (.aload_n 0, 1) := dk_42 (dk_at dksX15_one_5 21 rfl rfl)
theorem dX15_one_141 : decode cX15_one 141 = .ok (.aload_n 0, 1) := dk_42 (dk_at dksX15_one_5 22 rfl rfl)
theorem dX15_one_142 : decode cX15_one 142 = .ok (.bipush 41, 2) := dk_16 41 (dk_at dksX15_one_6 0 rfl rfl)
theorem dX15_one_144 : decode cX15_one 144 = .ok (.invokevirtual 48, 3) := dk_182 0 48 (dk_at dksX15_one_6 2 rfl rfl)
theorem dX15_one_147 : decode cX15_one 147 = .ok (.invokevirtual 33, 3) := dk_182 0 33 (dk_at dksX15_one_6 5 rfl rfl)
theorem dX15_one_150 : decode cX15_one 150 = .ok (.aload_n 0, 1) := dk_42 (dk_at dksX15_one_6 8 rfl rfl)
theorem dX15_one_151 : decode cX15_one 151 = .ok (.dup, 1) := dk_89 (dk_at dksX15_one_6 9 rfl rfl)
theorem dX15_one_152 : decode cX15_one 152 = .ok (.getfield 72, 3) := dk_180 0 72 (dk_at dksX15_one_6 10 rfl rfl)
theorem dX15_one_155 : decode cX15_one 155 = .ok (.iconst 1, 1) := dk_4 (dk_at dksX15_one_6 13 rfl rfl)
theorem dX15_one_156 : decode cX15_one 156 = .ok (.isub, 1) := dk_100 (dk_at dksX15_one_6 14 rfl rfl)
theorem dX15_one_157 : decode cX15_one 157 = .ok (.putfield 72, 3) := dk_181 0 72 (dk_at dksX15_one_6 15 rfl rfl)
theorem dX15_one_160 : decode cX15_one 160 = .ok (.aload_n 3, 1) := dk_45 (dk_at dksX15_one_6 18 rfl rfl)
theorem dX15_one_161 : decode cX15_one 161 = .ok (.areturn, 1) := dk_176 (dk_at dksX15_one_6 19 rfl rfl)
abbrev cX15_here : ByteArray := prog_19_method_2_code
def yX15_here : MethodName := ⟨RX15, "here", "()I"⟩
def dkwX15_here_1 : List UInt8 := [180, 0, 7, 42, 180, 0, 17, 51, 167, 0, 4, 2, 172]
abbrev dktX15_here_1 : List UInt8 := dkwX15_here_1 ++ []
def dkwX15_here_0 : List UInt8 := [42, 180, 0, 17, 42, 180, 0, 13, 162, 0, 27, 42, 180, 0, 7, 42, 180, 0, 17, 51, 158, 0, 15, 42]
abbrev dktX15_here_0 : List UInt8 := dkwX15_here_0 ++ dktX15_here_1
theorem dksX15_here_0 : cX15_here.data.toList.drop 0 = dktX15_here_0 := by decide +kernel
theorem dksX15_here_1 : cX15_here.data.toList.drop 24 = dktX15_here_1 := dk_seg dksX15_here_0 24 rfl rfl
theorem dX15_here_0 : decode cX15_here 0 = .ok (.aload_n 0, 1) := dk_42 (dk_at dksX15_here_0 0 rfl rfl)
theorem dX15_here_1 : decode cX15_here 1 = .ok (.getfield 17, 3) := dk_180 0 17 (dk_at dksX15_here_0 1 rfl rfl)
theorem dX15_here_4 : decode cX15_here 4 = .ok (.aload_n 0, 1) := dk_42 (dk_at dksX15_here_0 4 rfl rfl)
theorem dX15_here_5 : decode cX15_here 5 = .ok (.getfield 13, 3) := dk_180 0 13 (dk_at dksX15_here_0 5 rfl rfl)
theorem dX15_here_8 : decode cX15_here 8 = .ok (.if_icmp .ge 27, 3) := dk_162 0 27 (dk_at dksX15_here_0 8 rfl rfl)
theorem dX15_here_11 : decode cX15_here 11 = .ok (.aload_n 0, 1) := dk_42 (dk_at dksX15_here_0 11 rfl rfl)
theorem dX15_here_12 : decode cX15_here 12 = .ok (.getfield 7, 3) := dk_180 0 7 (dk_at dksX15_here_0 12 rfl rfl)
theorem dX15_here_15 : decode cX15_here 15 = .ok (.aload_n 0, 1) := dk_42 (dk_at dksX15_here_0 15 rfl rfl)
theorem dX15_here_16 : decode cX15_here 16 = .ok (.getfield 17, 3) := dk_180 0 17 (dk_at dksX15_here_0 16 rfl rfl)
theorem dX15_here_19 : decode cX15_here 19 = .ok (.baload, 1) := dk_51 (dk_at dksX15_here_0 19 rfl rfl)
theorem dX15_here_20 : decode cX15_here 20 = .ok (.ifCond .le 15, 3) := dk_158 0 15 (dk_at dksX15_here_0 20 rfl rfl)
theorem dX15_here_23 : decode cX15_here 23 = .ok (.aload_n 0, 1) := dk_42 (dk_at dksX15_here_0 23 rfl rfl)
theorem dX15_here_24 : decode cX15_here 24 = .ok (.getfield 7, 3) := dk_180 0 7 (dk_at dksX15_here_1 0 rfl rfl)
theorem dX15_here_27 : decode cX15_here 27 = .ok (.aload_n 0, 1) := dk_42 (dk_at dksX15_here_1 3 rfl rfl)
theorem dX15_here_28 : decode cX15_here 28 = .ok (.getfield 17, 3) := dk_180 0 17 (dk_at dksX15_here_1 4 rfl rfl)
theorem dX15_here_31 : decode cX15_here 31 = .ok (.baload, 1) := dk_51 (dk_at dksX15_here_1 7 rfl rfl)
theorem dX15_here_32 : decode cX15_here 32 = .ok (.goto 4, 3) := dk_167 0 4 (dk_at dksX15_here_1 8 rfl rfl)
theorem dX15_here_35 : decode cX15_here 35 = .ok (.iconst (-1), 1) := dk_2 (dk_at dksX15_here_1 11 rfl rfl)
theorem dX15_here_36 : decode cX15_here 36 = .ok (.ireturn, 1) := dk_172 (dk_at dksX15_here_1 12 rfl rfl)
abbrev cX15_number : ByteArray := prog_19_method_10_code
def yX15_number : MethodName := ⟨RX15, "number", "()LSlipWeeks$Part;"⟩
def dkwX15_number_2 : List UInt8 := [181, 0, 17, 132, 2, 1, 167, 255, 208, 187, 0, 80, 89, 27, 183, 0, 82, 176]
abbrev dktX15_number_2 : List UInt8 := dkwX15_number_2 ++ []
def dkwX15_number_1 : List UInt8 := [153, 0, 32, 16, 10, 27, 104, 42, 182, 0, 20, 96, 16, 48, 100, 60, 42, 89, 180, 0, 17, 4, 96]
abbrev dktX15_number_1 : List UInt8 := dkwX15_number_1 ++ dktX15_number_2
def dkwX15_number_0 : List UInt8 := [3, 60, 3, 61, 28, 6, 162, 0, 49, 42, 182, 0, 20, 133, 20, 0, 52, 20, 0, 54, 184, 0, 56]
abbrev dktX15_number_0 : List UInt8 := dkwX15_number_0 ++ dktX15_number_1
theorem dksX15_number_0 : cX15_number.data.toList.drop 0 = dktX15_number_0 := by decide +kernel
theorem dksX15_number_1 : cX15_number.data.toList.drop 23 = dktX15_number_1 := dk_seg dksX15_number_0 23 rfl rfl
theorem dksX15_number_2 : cX15_number.data.toList.drop 46 = dktX15_number_2 := dk_seg dksX15_number_1 23 rfl rfl
theorem dX15_number_0 : decode cX15_number 0 = .ok (.iconst 0, 1) := dk_3 (dk_at dksX15_number_0 0 rfl rfl)
theorem dX15_number_1 : decode cX15_number 1 = .ok (.istore_n 1, 1) := dk_60 (dk_at dksX15_number_0 1 rfl rfl)
theorem dX15_number_2 : decode cX15_number 2 = .ok (.iconst 0, 1) := dk_3 (dk_at dksX15_number_0 2 rfl rfl)
theorem dX15_number_3 : decode cX15_number 3 = .ok (.istore_n 2, 1) := dk_61 (dk_at dksX15_number_0 3 rfl rfl)
theorem dX15_number_4 : decode cX15_number 4 = .ok (.iload_n 2, 1) := dk_28 (dk_at dksX15_number_0 4 rfl rfl)
theorem dX15_number_5 : decode cX15_number 5 = .ok (.iconst 3, 1) := dk_6 (dk_at dksX15_number_0 5 rfl rfl)
theorem dX15_number_6 : decode cX15_number 6 = .ok (.if_icmp .ge 49, 3) := dk_162 0 49 (dk_at dksX15_number_0 6 rfl rfl)
theorem dX15_number_9 : decode cX15_number 9 = .ok (.aload_n 0, 1) := dk_42 (dk_at dksX15_number_0 9 rfl rfl)
theorem dX15_number_10 : decode cX15_number 10 = .ok (.invokevirtual 20, 3) := dk_182 0 20 (dk_at dksX15_number_0 10 rfl rfl)
theorem dX15_number_13 : decode cX15_number 13 = .ok (.i2l, 1) := dk_133 (dk_at dksX15_number_0 13 rfl rfl)
theorem dX15_number_14 : decode cX15_number 14 = .ok (.ldc2_w 52, 3) := dk_20 0 52 (dk_at dksX15_number_0 14 rfl rfl)
theorem dX15_number_17 : decode cX15_number 17 = .ok (.ldc2_w 54, 3) := dk_20 0 54 (dk_at dksX15_number_0 17 rfl rfl)
theorem dX15_number_20 : decode cX15_number 20 = .ok (.invokestatic 56, 3) := dk_184 0 56 (dk_at dksX15_number_0 20 rfl rfl)
theorem dX15_number_23 : decode cX15_number 23 = .ok (.ifCond .eq 32, 3) := dk_153 0 32 (dk_at dksX15_number_1 0 rfl rfl)
theorem dX15_number_26 : decode cX15_number 26 = .ok (.bipush 10, 2) := dk_16 10 (dk_at dksX15_number_1 3 rfl rfl)
theorem dX15_number_28 : decode cX15_number 28 = .ok (.iload_n 1, 1) := dk_27 (dk_at dksX15_number_1 5 rfl rfl)
theorem dX15_number_29 : decode cX15_number 29 = .ok (.imul, 1) := dk_104 (dk_at dksX15_number_1 6 rfl rfl)
theorem dX15_number_30 : decode cX15_number 30 = .ok (.aload_n 0, 1) := dk_42 (dk_at dksX15_number_1 7 rfl rfl)
theorem dX15_number_31 : decode cX15_number 31 = .ok (.invokevirtual 20, 3) := dk_182 0 20 (dk_at dksX15_number_1 8 rfl rfl)
theorem dX15_number_34 : decode cX15_number 34 = .ok (.iadd, 1) := dk_96 (dk_at dksX15_number_1 11 rfl rfl)
theorem dX15_number_35 : decode cX15_number 35 = .ok (.bipush 48, 2) := dk_16 48 (dk_at dksX15_number_1 12 rfl rfl)
theorem dX15_number_37 : decode cX15_number 37 = .ok (.isub, 1) := dk_100 (dk_at dksX15_number_1 14 rfl rfl)
theorem dX15_number_38 : decode cX15_number 38 = .ok (.istore_n 1, 1) := dk_60 (dk_at dksX15_number_1 15 rfl rfl)
theorem dX15_number_39 : decode cX15_number 39 = .ok (.aload_n 0, 1) := dk_42 (dk_at dksX15_number_1 16 rfl rfl)
theorem dX15_number_40 : decode cX15_number 40 = .ok (.dup, 1) := dk_89 (dk_at dksX15_number_1 17 rfl rfl)
theorem dX15_number_41 : decode cX15_number 41 = .ok (.getfield 17, 3) := dk_180 0 17 (dk_at dksX15_number_1 18 rfl rfl)
theorem dX15_number_44 : decode cX15_number 44 = .ok (.iconst 1, 1) := dk_4 (dk_at dksX15_number_1 21 rfl rfl)
theorem dX15_number_45 : decode cX15_number 45 = .ok (.iadd, 1) := dk_96 (dk_at dksX15_number_1 22 rfl rfl)
theorem dX15_number_46 : decode cX15_number 46 = .ok (.putfield 17, 3) := dk_181 0 17 (dk_at dksX15_number_2 0 rfl rfl)
theorem dX15_number_49 : decode cX15_number 49 = .ok (.iinc 2 1, 3) := dk_132 2 1 (dk_at dksX15_number_2 3 rfl rfl)
theorem dX15_number_52 : decode cX15_number 52 = .ok (.goto (-48), 3) := dk_167 255 208 (dk_at dksX15_number_2 6 rfl rfl)
theorem dX15_number_55 : decode cX15_number 55 = .ok (.new 80, 3) := dk_187 0 80 (dk_at dksX15_number_2 9 rfl rfl)
theorem dX15_number_58 : decode cX15_number 58 = .ok (.dup, 1) := dk_89 (dk_at dksX15_number_2 12 rfl rfl)
theorem dX15_number_59 : decode cX15_number 59 = .ok (.iload_n 1, 1) := dk_27 (dk_at dksX15_number_2 13 rfl rfl)
theorem dX15_number_60 : decode cX15_number 60 = .ok (.invokespecial 82, 3) := dk_183 0 82 (dk_at dksX15_number_2 14 rfl rfl)
theorem dX15_number_63 : decode cX15_number 63 = .ok (.areturn, 1) := dk_176 (dk_at dksX15_number_2 17 rfl rfl)
abbrev cX15_nameOf : ByteArray := prog_19_method_8_code
def yX15_nameOf : MethodName := ⟨RX15, "nameOf", "(I)I"⟩
def dkwX15_nameOf_2 : List UInt8 := [3, 172, 4, 172, 5, 172, 6, 172, 7, 172, 8, 172, 16, 6, 172, 2, 172]
abbrev dktX15_nameOf_2 : List UInt8 := dkwX15_nameOf_2 ++ []
def dkwX15_nameOf_1 : List UInt8 := [170, 0, 0, 0, 0, 0, 114, 0, 0, 0, 99, 0, 0, 0, 119, 0, 0, 0, 107, 0, 0, 0, 109, 0, 0, 0, 105, 0, 0, 0, 114, 0, 0, 0, 103, 0, 0, 0, 114, 0, 0, 0, 114, 0, 0, 0, 114, 0, 0, 0, 114, 0, 0, 0, 101, 0, 0, 0, 114, 0, 0, 0, 114, 0, 0, 0, 114, 0, 0, 0, 114, 0, 0, 0, 114, 0, 0, 0, 114, 0, 0, 0, 99, 0, 0, 0, 114, 0, 0, 0, 114, 0, 0, 0, 114, 0, 0, 0, 111]
abbrev dktX15_nameOf_1 : List UInt8 := dkwX15_nameOf_1 ++ dktX15_nameOf_2
def dkwX15_nameOf_0 : List UInt8 := [26]
abbrev dktX15_nameOf_0 : List UInt8 := dkwX15_nameOf_0 ++ dktX15_nameOf_1
theorem dksX15_nameOf_0 : cX15_nameOf.data.toList.drop 0 = dktX15_nameOf_0 := by decide +kernel
theorem dksX15_nameOf_1 : cX15_nameOf.data.toList.drop 1 = dktX15_nameOf_1 := dk_seg dksX15_nameOf_0 1 rfl rfl
theorem dksX15_nameOf_2 : cX15_nameOf.data.toList.drop 100 = dktX15_nameOf_2 := dk_seg dksX15_nameOf_1 99 rfl rfl
theorem dX15_nameOf_0 : decode cX15_nameOf 0 = .ok (.iload_n 0, 1) := dk_26 (dk_at dksX15_nameOf_0 0 rfl rfl)
theorem dX15_nameOf_1 : decode cX15_nameOf 1 = .ok (.tableswitch 114 99 119 #[107, 109, 105, 114, 103, 114, 114, 114, 114, 101, 114, 114, 114, 114, 114, 114, 99, 114, 114, 114, 111], 99) := by decide +kernel
theorem dX15_nameOf_100 : decode cX15_nameOf 100 = .ok (.iconst 0, 1) := dk_3 (dk_at dksX15_nameOf_2 0 rfl rfl)
theorem dX15_nameOf_101 : decode cX15_nameOf 101 = .ok (.ireturn, 1) := dk_172 (dk_at dksX15_nameOf_2 1 rfl rfl)
theorem dX15_nameOf_102 : decode cX15_nameOf 102 = .ok (.iconst 1, 1) := dk_4 (dk_at dksX15_nameOf_2 2 rfl rfl)
theorem dX15_nameOf_103 : decode cX15_nameOf 103 = .ok (.ireturn, 1) := dk_172 (dk_at dksX15_nameOf_2 3 rfl rfl)
theorem dX15_nameOf_104 : decode cX15_nameOf 104 = .ok (.iconst 2, 1) := dk_5 (dk_at dksX15_nameOf_2 4 rfl rfl)
theorem dX15_nameOf_105 : decode cX15_nameOf 105 = .ok (.ireturn, 1) := dk_172 (dk_at dksX15_nameOf_2 5 rfl rfl)
theorem dX15_nameOf_106 : decode cX15_nameOf 106 = .ok (.iconst 3, 1) := dk_6 (dk_at dksX15_nameOf_2 6 rfl rfl)
theorem dX15_nameOf_107 : decode cX15_nameOf 107 = .ok (.ireturn, 1) := dk_172 (dk_at dksX15_nameOf_2 7 rfl rfl)
theorem dX15_nameOf_108 : decode cX15_nameOf 108 = .ok (.iconst 4, 1) := dk_7 (dk_at dksX15_nameOf_2 8 rfl rfl)
theorem dX15_nameOf_109 : decode cX15_nameOf 109 = .ok (.ireturn, 1) := dk_172 (dk_at dksX15_nameOf_2 9 rfl rfl)
theorem dX15_nameOf_110 : decode cX15_nameOf 110 = .ok (.iconst 5, 1) := dk_8 (dk_at dksX15_nameOf_2 10 rfl rfl)
theorem dX15_nameOf_111 : decode cX15_nameOf 111 = .ok (.ireturn, 1) := dk_172 (dk_at dksX15_nameOf_2 11 rfl rfl)
theorem dX15_nameOf_112 : decode cX15_nameOf 112 = .ok (.bipush 6, 2) := dk_16 6 (dk_at dksX15_nameOf_2 12 rfl rfl)
theorem dX15_nameOf_114 : decode cX15_nameOf 114 = .ok (.ireturn, 1) := dk_172 (dk_at dksX15_nameOf_2 14 rfl rfl)
theorem dX15_nameOf_115 : decode cX15_nameOf 115 = .ok (.iconst (-1), 1) := dk_2 (dk_at dksX15_nameOf_2 15 rfl rfl)
theorem dX15_nameOf_116 : decode cX15_nameOf 116 = .ok (.ireturn, 1) := dk_172 (dk_at dksX15_nameOf_2 16 rfl rfl)
abbrev cX15_must : ByteArray := prog_19_method_4_code
def yX15_must : MethodName := ⟨RX15, "must", "(Z)V"⟩
def dkwX15_must_0 : List UInt8 := [27, 154, 0, 15, 187, 0, 24, 89, 42, 180, 0, 17, 183, 0, 26, 191, 177]
abbrev dktX15_must_0 : List UInt8 := dkwX15_must_0 ++ []
theorem dksX15_must_0 : cX15_must.data.toList.drop 0 = dktX15_must_0 := by decide +kernel
theorem dX15_must_0 : decode cX15_must 0 = .ok (.iload_n 1, 1) := dk_27 (dk_at dksX15_must_0 0 rfl rfl)
theorem dX15_must_1 : decode cX15_must 1 = .ok (.ifCond .ne 15, 3) := dk_154 0 15 (dk_at dksX15_must_0 1 rfl rfl)
theorem dX15_must_4 : decode cX15_must 4 = .ok (.new 24, 3) := dk_187 0 24 (dk_at dksX15_must_0 4 rfl rfl)
theorem dX15_must_7 : decode cX15_must 7 = .ok (.dup, 1) := dk_89 (dk_at dksX15_must_0 7 rfl rfl)
theorem dX15_must_8 : decode cX15_must 8 = .ok (.aload_n 0, 1) := dk_42 (dk_at dksX15_must_0 8 rfl rfl)
theorem dX15_must_9 : decode cX15_must 9 = .ok (.getfield 17, 3) := dk_180 0 17 (dk_at dksX15_must_0 9 rfl rfl)
theorem dX15_must_12 : decode cX15_must 12 = .ok (.invokespecial 26, 3) := dk_183 0 26 (dk_at dksX15_must_0 12 rfl rfl)
theorem dX15_must_15 : decode cX15_must 15 = .ok (.athrow, 1) := dk_191 (dk_at dksX15_must_0 15 rfl rfl)
theorem dX15_must_16 : decode cX15_must 16 = .ok (.return_, 1) := dk_177 (dk_at dksX15_must_0 16 rfl rfl)
abbrev cX15_takes : ByteArray := prog_19_method_3_code
def yX15_takes : MethodName := ⟨RX15, "takes", "(C)Z"⟩
def dkwX15_takes_1 : List UInt8 := [96, 181, 0, 17, 28, 172]
abbrev dktX15_takes_1 : List UInt8 := dkwX15_takes_1 ++ []
def dkwX15_takes_0 : List UInt8 := [42, 182, 0, 20, 27, 160, 0, 7, 4, 167, 0, 4, 3, 61, 28, 153, 0, 13, 42, 89, 180, 0, 17, 4]
abbrev dktX15_takes_0 : List UInt8 := dkwX15_takes_0 ++ dktX15_takes_1
theorem dksX15_takes_0 : cX15_takes.data.toList.drop 0 = dktX15_takes_0 := by decide +kernel
theorem dksX15_takes_1 : cX15_takes.data.toList.drop 24 = dktX15_takes_1 := dk_seg dksX15_takes_0 24 rfl rfl
theorem dX15_takes_0 : decode cX15_takes 0 = .ok (.aload_n 0, 1) := dk_42 (dk_at dksX15_takes_0 0 rfl rfl)
theorem dX15_takes_1 : decode cX15_takes 1 = .ok (.invokevirtual 20, 3) := dk_182 0 20 (dk_at dksX15_takes_0 1 rfl rfl)
theorem dX15_takes_4 : decode cX15_takes 4 = .ok (.iload_n 1, 1) := dk_27 (dk_at dksX15_takes_0 4 rfl rfl)
theorem dX15_takes_5 : decode cX15_takes 5 = .ok (.if_icmp .ne 7, 3) := dk_160 0 7 (dk_at dksX15_takes_0 5 rfl rfl)
theorem dX15_takes_8 : decode cX15_takes 8 = .ok (.iconst 1, 1) := dk_4 (dk_at dksX15_takes_0 8 rfl rfl)
theorem dX15_takes_9 : decode cX15_takes 9 = .ok (.goto 4, 3) := dk_167 0 4 (dk_at dksX15_takes_0 9 rfl rfl)
theorem dX15_takes_12 : decode cX15_takes 12 = .ok (.iconst 0, 1) := dk_3 (dk_at dksX15_takes_0 12 rfl rfl)
theorem dX15_takes_13 : decode cX15_takes 13 = .ok (.istore_n 2, 1) := dk_61 (dk_at dksX15_takes_0 13 rfl rfl)
theorem dX15_takes_14 : decode cX15_takes 14 = .ok (.iload_n 2, 1) := dk_28 (dk_at dksX15_takes_0 14 rfl rfl)
theorem dX15_takes_15 : decode cX15_takes 15 = .ok (.ifCond .eq 13, 3) := dk_153 0 13 (dk_at dksX15_takes_0 15 rfl rfl)
theorem dX15_takes_18 : decode cX15_takes 18 = .ok (.aload_n 0, 1) := dk_42 (dk_at dksX15_takes_0 18 rfl rfl)
theorem dX15_takes_19 : decode cX15_takes 19 = .ok (.dup, 1) := dk_89 (dk_at dksX15_takes_0 19 rfl rfl)
theorem dX15_takes_20 : decode cX15_takes 20 = .ok (.getfield 17, 3) := dk_180 0 17 (dk_at dksX15_takes_0 20 rfl rfl)
theorem dX15_takes_23 : decode cX15_takes 23 = .ok (.iconst 1, 1) := dk_4 (dk_at dksX15_takes_0 23 rfl rfl)
theorem dX15_takes_24 : decode cX15_takes 24 = .ok (.iadd, 1) := dk_96 (dk_at dksX15_takes_1 0 rfl rfl)
theorem dX15_takes_25 : decode cX15_takes 25 = .ok (.putfield 17, 3) := dk_181 0 17 (dk_at dksX15_takes_1 1 rfl rfl)
theorem dX15_takes_28 : decode cX15_takes 28 = .ok (.iload_n 2, 1) := dk_28 (dk_at dksX15_takes_1 4 rfl rfl)
theorem dX15_takes_29 : decode cX15_takes 29 = .ok (.ireturn, 1) := dk_172 (dk_at dksX15_takes_1 5 rfl rfl)
theorem q81 : (Jvm.Cond.initialized "SlipWeeks$Reader") ∈ lw_all := lw_g (lw_at lw_m1 20 rfl) rfl
theorem q695 : (Jvm.Cond.instantiable "SlipWeeks$Reader" (4 : Nat)) ∈ lw_all := lw_g (lw_at lw_m3 154 rfl) rfl
theorem q697 : (Jvm.Cond.instanceMethod ({ cls := "SlipWeeks$Reader", name := "<init>", desc := "([BI)V" } : Jvm.MethodName)) ∈ lw_all := lw_g (lw_at lw_m3 156 rfl) rfl
theorem q698 : (Jvm.Cond.code ({ cls := "SlipWeeks$Reader", name := "<init>", desc := "([BI)V" } : Jvm.MethodName) prog_19_method_1_code (3 : Nat) (Option.none : Option Jvm.ClassFile.FieldType)) ∈ lw_all := lw_g (lw_at lw_m3 157 rfl) rfl
theorem q699 : (Jvm.Cond.methodLink "SlipWeeks$Reader" (1 : Nat) ({ cls := "java/lang/Object", name := "<init>", desc := "()V" } : Jvm.MethodName)) ∈ lw_all := lw_g (lw_at lw_m3 158 rfl) rfl
theorem q700 : (Jvm.Cond.fieldLink "SlipWeeks$Reader" (7 : Nat) "SlipWeeks$Reader" "tape" "[B") ∈ lw_all := lw_g (lw_at lw_m3 159 rfl) rfl
theorem q701 : (Jvm.Cond.fieldLink "SlipWeeks$Reader" (13 : Nat) "SlipWeeks$Reader" "size" "I") ∈ lw_all := lw_g (lw_at lw_m3 160 rfl) rfl
theorem q702 : (Jvm.Cond.fieldLink "SlipWeeks$Reader" (17 : Nat) "SlipWeeks$Reader" "at" "I") ∈ lw_all := lw_g (lw_at lw_m3 161 rfl) rfl
theorem q703 : (Jvm.Cond.fieldLink "SlipWeeks$Reader" (72 : Nat) "SlipWeeks$Reader" "open" "I") ∈ lw_all := lw_g (lw_at lw_m3 162 rfl) rfl
theorem q704 : (Jvm.Cond.laysFinal "SlipWeeks$Reader" "SlipWeeks$Reader" "tape" "[B") ∈ lw_all := lw_g (lw_at lw_m3 163 rfl) rfl
theorem q705 : (Jvm.Cond.soleField "SlipWeeks$Reader" "tape") ∈ lw_all := lw_g (lw_at lw_m3 164 rfl) rfl
theorem q706 : (Jvm.Cond.laysFinal "SlipWeeks$Reader" "SlipWeeks$Reader" "size" "I") ∈ lw_all := lw_g (lw_at lw_m3 165 rfl) rfl
theorem q707 : (Jvm.Cond.soleField "SlipWeeks$Reader" "size") ∈ lw_all := lw_g (lw_at lw_m3 166 rfl) rfl
theorem q708 : (Jvm.Cond.lays "SlipWeeks$Reader" "SlipWeeks$Reader" "at" "I") ∈ lw_all := lw_g (lw_at lw_m3 167 rfl) rfl
theorem q709 : (Jvm.Cond.soleField "SlipWeeks$Reader" "at") ∈ lw_all := lw_g (lw_at lw_m3 168 rfl) rfl
theorem q710 : (Jvm.Cond.lays "SlipWeeks$Reader" "SlipWeeks$Reader" "open" "I") ∈ lw_all := lw_g (lw_at lw_m3 169 rfl) rfl
theorem q711 : (Jvm.Cond.soleField "SlipWeeks$Reader" "open") ∈ lw_all := lw_g (lw_at lw_m3 170 rfl) rfl
theorem q712 : (Jvm.Cond.superclass "SlipWeeks$Reader" "java/lang/Object") ∈ lw_all := lw_g (lw_at lw_m3 171 rfl) rfl
theorem q714 : (Jvm.Cond.instanceMethod ({ cls := "SlipWeeks$Reader", name := "read", desc := "()LSlipWeeks$Part;" } : Jvm.MethodName)) ∈ lw_all := lw_g (lw_at lw_m3 173 rfl) rfl
theorem q715 : (Jvm.Cond.selects "SlipWeeks$Reader" ({ cls := "SlipWeeks$Reader", name := "read", desc := "()LSlipWeeks$Part;" } : Jvm.MethodName) ({ cls := "SlipWeeks$Reader", name := "read", desc := "()LSlipWeeks$Part;" } : Jvm.MethodName)) ∈ lw_all := lw_g (lw_at lw_m3 174 rfl) rfl
theorem q716 : (Jvm.Cond.code ({ cls := "SlipWeeks$Reader", name := "read", desc := "()LSlipWeeks$Part;" } : Jvm.MethodName) prog_19_method_5_code (2 : Nat) (Option.some (Jvm.ClassFile.FieldType.object "SlipWeeks$Part"))) ∈ lw_all := lw_g (lw_at lw_m3 175 rfl) rfl
theorem q717 : (Jvm.Cond.methodLink "SlipWeeks$Reader" (29 : Nat) ({ cls := "SlipWeeks$Reader", name := "sum", desc := "()LSlipWeeks$Part;" } : Jvm.MethodName)) ∈ lw_all := lw_g (lw_at lw_m3 176 rfl) rfl
theorem q718 : (Jvm.Cond.privateMethod ({ cls := "SlipWeeks$Reader", name := "sum", desc := "()LSlipWeeks$Part;" } : Jvm.MethodName)) ∈ lw_tbl := lw_at lw_m3 177 rfl
theorem q719 : (Jvm.Cond.instanceMethod ({ cls := "SlipWeeks$Reader", name := "sum", desc := "()LSlipWeeks$Part;" } : Jvm.MethodName)) ∈ lw_all := lw_g (lw_at lw_m3 178 rfl) rfl
theorem q720 : (Jvm.Cond.code ({ cls := "SlipWeeks$Reader", name := "sum", desc := "()LSlipWeeks$Part;" } : Jvm.MethodName) prog_19_method_6_code (3 : Nat) (Option.some (Jvm.ClassFile.FieldType.object "SlipWeeks$Part"))) ∈ lw_all := lw_g (lw_at lw_m3 179 rfl) rfl
theorem q721 : (Jvm.Cond.methodLink "SlipWeeks$Reader" (37 : Nat) ({ cls := "SlipWeeks$Reader", name := "product", desc := "()LSlipWeeks$Part;" } : Jvm.MethodName)) ∈ lw_all := lw_g (lw_at lw_m3 180 rfl) rfl
theorem q722 : (Jvm.Cond.privateMethod ({ cls := "SlipWeeks$Reader", name := "product", desc := "()LSlipWeeks$Part;" } : Jvm.MethodName)) ∈ lw_tbl := lw_at lw_m3 181 rfl
theorem q723 : (Jvm.Cond.instanceMethod ({ cls := "SlipWeeks$Reader", name := "product", desc := "()LSlipWeeks$Part;" } : Jvm.MethodName)) ∈ lw_all := lw_g (lw_at lw_m3 182 rfl) rfl
theorem q724 : (Jvm.Cond.code ({ cls := "SlipWeeks$Reader", name := "product", desc := "()LSlipWeeks$Part;" } : Jvm.MethodName) prog_19_method_7_code (2 : Nat) (Option.some (Jvm.ClassFile.FieldType.object "SlipWeeks$Part"))) ∈ lw_all := lw_g (lw_at lw_m3 183 rfl) rfl
theorem q725 : (Jvm.Cond.methodLink "SlipWeeks$Reader" (45 : Nat) ({ cls := "SlipWeeks$Reader", name := "one", desc := "()LSlipWeeks$Part;" } : Jvm.MethodName)) ∈ lw_all := lw_g (lw_at lw_m3 184 rfl) rfl
theorem q726 : (Jvm.Cond.privateMethod ({ cls := "SlipWeeks$Reader", name := "one", desc := "()LSlipWeeks$Part;" } : Jvm.MethodName)) ∈ lw_tbl := lw_at lw_m3 185 rfl
theorem q727 : (Jvm.Cond.instanceMethod ({ cls := "SlipWeeks$Reader", name := "one", desc := "()LSlipWeeks$Part;" } : Jvm.MethodName)) ∈ lw_all := lw_g (lw_at lw_m3 186 rfl) rfl
theorem q728 : (Jvm.Cond.code ({ cls := "SlipWeeks$Reader", name := "one", desc := "()LSlipWeeks$Part;" } : Jvm.MethodName) prog_19_method_9_code (5 : Nat) (Option.some (Jvm.ClassFile.FieldType.object "SlipWeeks$Part"))) ∈ lw_all := lw_g (lw_at lw_m3 187 rfl) rfl
theorem q729 : (Jvm.Cond.methodLink "SlipWeeks$Reader" (20 : Nat) ({ cls := "SlipWeeks$Reader", name := "here", desc := "()I" } : Jvm.MethodName)) ∈ lw_all := lw_g (lw_at lw_m3 188 rfl) rfl
theorem q730 : (Jvm.Cond.privateMethod ({ cls := "SlipWeeks$Reader", name := "here", desc := "()I" } : Jvm.MethodName)) ∈ lw_tbl := lw_at lw_m3 189 rfl
theorem q731 : (Jvm.Cond.instanceMethod ({ cls := "SlipWeeks$Reader", name := "here", desc := "()I" } : Jvm.MethodName)) ∈ lw_all := lw_g (lw_at lw_m3 190 rfl) rfl
theorem q732 : (Jvm.Cond.code ({ cls := "SlipWeeks$Reader", name := "here", desc := "()I" } : Jvm.MethodName) prog_19_method_2_code (1 : Nat) (Option.some Jvm.ClassFile.FieldType.int)) ∈ lw_all := lw_g (lw_at lw_m3 191 rfl) rfl
theorem q733 : (Jvm.Cond.constantLong "SlipWeeks$Reader" (52 : Nat) (48 : Int64)) ∈ lw_all := lw_g (lw_at lw_m3 192 rfl) rfl
theorem q734 : (Jvm.Cond.constantLong "SlipWeeks$Reader" (54 : Nat) (57 : Int64)) ∈ lw_all := lw_g (lw_at lw_m3 193 rfl) rfl
theorem q735 : (Jvm.Cond.methodLinkNest "SlipWeeks$Reader" (56 : Nat) ({ cls := "SlipWeeks", name := "in", desc := "(JJJ)Z" } : Jvm.MethodName) "SlipWeeks") ∈ lw_tbl := lw_at lw_m3 194 rfl
theorem q736 : (Jvm.Cond.methodLink "SlipWeeks$Reader" (62 : Nat) ({ cls := "SlipWeeks$Reader", name := "number", desc := "()LSlipWeeks$Part;" } : Jvm.MethodName)) ∈ lw_all := lw_g (lw_at lw_m3 195 rfl) rfl
theorem q737 : (Jvm.Cond.privateMethod ({ cls := "SlipWeeks$Reader", name := "number", desc := "()LSlipWeeks$Part;" } : Jvm.MethodName)) ∈ lw_tbl := lw_at lw_m3 196 rfl
theorem q738 : (Jvm.Cond.instanceMethod ({ cls := "SlipWeeks$Reader", name := "number", desc := "()LSlipWeeks$Part;" } : Jvm.MethodName)) ∈ lw_all := lw_g (lw_at lw_m3 197 rfl) rfl
theorem q739 : (Jvm.Cond.code ({ cls := "SlipWeeks$Reader", name := "number", desc := "()LSlipWeeks$Part;" } : Jvm.MethodName) prog_19_method_10_code (3 : Nat) (Option.some (Jvm.ClassFile.FieldType.object "SlipWeeks$Part"))) ∈ lw_all := lw_g (lw_at lw_m3 198 rfl) rfl
theorem q740 : (Jvm.Cond.classLink "SlipWeeks$Reader" (80 : Nat) "SlipWeeks$Plain") ∈ lw_all := lw_g (lw_at lw_m3 199 rfl) rfl
theorem q742 : (Jvm.Cond.methodLink "SlipWeeks$Reader" (82 : Nat) ({ cls := "SlipWeeks$Plain", name := "<init>", desc := "(I)V" } : Jvm.MethodName)) ∈ lw_all := lw_g (lw_at lw_m3 201 rfl) rfl
theorem q750 : (Jvm.Cond.methodLink "SlipWeeks$Reader" (65 : Nat) ({ cls := "SlipWeeks$Reader", name := "nameOf", desc := "(I)I" } : Jvm.MethodName)) ∈ lw_all := lw_g (lw_at lw_m3 209 rfl) rfl
theorem q751 : (Jvm.Cond.static ({ cls := "SlipWeeks$Reader", name := "nameOf", desc := "(I)I" } : Jvm.MethodName)) ∈ lw_all := lw_g (lw_at lw_m3 210 rfl) rfl
theorem q752 : (Jvm.Cond.code ({ cls := "SlipWeeks$Reader", name := "nameOf", desc := "(I)I" } : Jvm.MethodName) prog_19_method_8_code (1 : Nat) (Option.some Jvm.ClassFile.FieldType.int)) ∈ lw_all := lw_g (lw_at lw_m3 211 rfl) rfl
theorem q753 : (Jvm.Cond.classLink "SlipWeeks$Reader" (69 : Nat) "SlipWeeks$Name") ∈ lw_all := lw_g (lw_at lw_m3 212 rfl) rfl
theorem q755 : (Jvm.Cond.methodLink "SlipWeeks$Reader" (71 : Nat) ({ cls := "SlipWeeks$Name", name := "<init>", desc := "(I)V" } : Jvm.MethodName)) ∈ lw_all := lw_g (lw_at lw_m3 214 rfl) rfl
theorem q760 : (Jvm.Cond.methodLink "SlipWeeks$Reader" (33 : Nat) ({ cls := "SlipWeeks$Reader", name := "must", desc := "(Z)V" } : Jvm.MethodName)) ∈ lw_all := lw_g (lw_at lw_m3 219 rfl) rfl
theorem q761 : (Jvm.Cond.privateMethod ({ cls := "SlipWeeks$Reader", name := "must", desc := "(Z)V" } : Jvm.MethodName)) ∈ lw_tbl := lw_at lw_m3 220 rfl
theorem q762 : (Jvm.Cond.instanceMethod ({ cls := "SlipWeeks$Reader", name := "must", desc := "(Z)V" } : Jvm.MethodName)) ∈ lw_all := lw_g (lw_at lw_m3 221 rfl) rfl
theorem q763 : (Jvm.Cond.code ({ cls := "SlipWeeks$Reader", name := "must", desc := "(Z)V" } : Jvm.MethodName) prog_19_method_4_code (2 : Nat) (Option.none : Option Jvm.ClassFile.FieldType)) ∈ lw_all := lw_g (lw_at lw_m3 222 rfl) rfl
theorem q764 : (Jvm.Cond.classLink "SlipWeeks$Reader" (24 : Nat) "SlipWeeks$Fault") ∈ lw_all := lw_g (lw_at lw_m3 223 rfl) rfl
theorem q773 : (Jvm.Cond.methodLink "SlipWeeks$Reader" (26 : Nat) ({ cls := "SlipWeeks$Fault", name := "<init>", desc := "(I)V" } : Jvm.MethodName)) ∈ lw_all := lw_g (lw_at lw_m3 232 rfl) rfl
theorem q783 : (Jvm.Cond.methodLink "SlipWeeks$Reader" (48 : Nat) ({ cls := "SlipWeeks$Reader", name := "takes", desc := "(C)Z" } : Jvm.MethodName)) ∈ lw_all := lw_g (lw_at lw_m4 2 rfl) rfl
theorem q784 : (Jvm.Cond.privateMethod ({ cls := "SlipWeeks$Reader", name := "takes", desc := "(C)Z" } : Jvm.MethodName)) ∈ lw_tbl := lw_at lw_m4 3 rfl
theorem q785 : (Jvm.Cond.instanceMethod ({ cls := "SlipWeeks$Reader", name := "takes", desc := "(C)Z" } : Jvm.MethodName)) ∈ lw_all := lw_g (lw_at lw_m4 4 rfl) rfl
theorem q786 : (Jvm.Cond.code ({ cls := "SlipWeeks$Reader", name := "takes", desc := "(C)Z" } : Jvm.MethodName) prog_19_method_3_code (3 : Nat) (Option.some Jvm.ClassFile.FieldType.boolean)) ∈ lw_all := lw_g (lw_at lw_m4 5 rfl) rfl
theorem q787 : (Jvm.Cond.classLink "SlipWeeks$Reader" (75 : Nat) "SlipWeeks$Choice") ∈ lw_all := lw_g (lw_at lw_m4 6 rfl) rfl
theorem q789 : (Jvm.Cond.methodLink "SlipWeeks$Reader" (77 : Nat) ({ cls := "SlipWeeks$Choice", name := "<init>", desc := "(LSlipWeeks$Part;LSlipWeeks$Part;LSlipWeeks$Part;)V" } : Jvm.MethodName)) ∈ lw_all := lw_g (lw_at lw_m4 8 rfl) rfl
theorem q813 : (Jvm.Cond.classLink "SlipWeeks$Reader" (40 : Nat) "SlipWeeks$Two") ∈ lw_all := lw_g (lw_at lw_m4 32 rfl) rfl
theorem q815 : (Jvm.Cond.methodLink "SlipWeeks$Reader" (42 : Nat) ({ cls := "SlipWeeks$Two", name := "<init>", desc := "(ILSlipWeeks$Part;LSlipWeeks$Part;)V" } : Jvm.MethodName)) ∈ lw_all := lw_g (lw_at lw_m4 34 rfl) rfl
theorem in_X15 : ∀ w ∈ wsX150, w ∈ lw_all := lw_in wsX150 [704, 706, 708, 710] (by decide +kernel) (by decide +kernel)
/-! SlipWeeks$Plain -/
set_option maxRecDepth 100000
def RX16 : String := "SlipWeeks$Plain"
def TX16 : u_T := fun k => match k with
  | _ => ("SlipWeeks$Plain", "v", "I", true)
def tyX16 : Nat → FieldType := fun k => match k with
  | _ => .int
abbrev wsX160 : List Cond := u_ws RX16 TX16 1
theorem nmX16 : ∀ a, a < 1 → ∀ b, b < 1 → a ≠ b → (TX16 a).2.1 ≠ (TX16 b).2.1 := by decide +kernel
theorem tyX16_ok : ∀ k, k < 1 → parseFieldDescriptor (TX16 k).2.2.1 = some (tyX16 k) := by decide +kernel
abbrev cX16_worth : ByteArray := prog_18_method_2_code
def yX16_worth : MethodName := ⟨RX16, "worth", "(LSlipWeeks$Named;)I"⟩
theorem dX16_worth_0 : decode cX16_worth 0 = .ok (.aload_n 0, 1) := by decide +kernel
theorem dX16_worth_1 : decode cX16_worth 1 = .ok (.getfield 7, 3) := by decide +kernel
theorem dX16_worth_4 : decode cX16_worth 4 = .ok (.ireturn, 1) := by decide +kernel
abbrev cX16_init : ByteArray := prog_18_method_1_code
def yX16_init : MethodName := ⟨RX16, "<init>", "(I)V"⟩
def dkwX16_init_0 : List UInt8 := [42, 183, 0, 1, 42, 27, 181, 0, 7, 177]
abbrev dktX16_init_0 : List UInt8 := dkwX16_init_0 ++ []
theorem dksX16_init_0 : cX16_init.data.toList.drop 0 = dktX16_init_0 := by decide +kernel
theorem dX16_init_0 : decode cX16_init 0 = .ok (.aload_n 0, 1) := dk_42 (dk_at dksX16_init_0 0 rfl rfl)
theorem dX16_init_1 : decode cX16_init 1 = .ok (.invokespecial 1, 3) := dk_183 0 1 (dk_at dksX16_init_0 1 rfl rfl)
theorem dX16_init_4 : decode cX16_init 4 = .ok (.aload_n 0, 1) := dk_42 (dk_at dksX16_init_0 4 rfl rfl)
theorem dX16_init_5 : decode cX16_init 5 = .ok (.iload_n 1, 1) := dk_27 (dk_at dksX16_init_0 5 rfl rfl)
theorem dX16_init_6 : decode cX16_init 6 = .ok (.putfield 7, 3) := dk_181 0 7 (dk_at dksX16_init_0 6 rfl rfl)
theorem dX16_init_9 : decode cX16_init 9 = .ok (.return_, 1) := dk_177 (dk_at dksX16_init_0 9 rfl rfl)
theorem q82 : (Jvm.Cond.initialized "SlipWeeks$Plain") ∈ lw_all := lw_g (lw_at lw_m1 21 rfl) rfl
theorem q597 : (Jvm.Cond.instanceMethod ({ cls := "SlipWeeks$Plain", name := "worth", desc := "(LSlipWeeks$Named;)I" } : Jvm.MethodName)) ∈ lw_all := lw_g (lw_at lw_m3 56 rfl) rfl
theorem q598 : (Jvm.Cond.code ({ cls := "SlipWeeks$Plain", name := "worth", desc := "(LSlipWeeks$Named;)I" } : Jvm.MethodName) prog_18_method_2_code (2 : Nat) (Option.some Jvm.ClassFile.FieldType.int)) ∈ lw_all := lw_g (lw_at lw_m3 57 rfl) rfl
theorem q599 : (Jvm.Cond.castable "SlipWeeks$Plain" "SlipWeeks$Part") ∈ lw_tbl := lw_at lw_m3 58 rfl
theorem q600 : (Jvm.Cond.selects "SlipWeeks$Plain" ({ cls := "SlipWeeks$Part", name := "worth", desc := "(LSlipWeeks$Named;)I" } : Jvm.MethodName) ({ cls := "SlipWeeks$Plain", name := "worth", desc := "(LSlipWeeks$Named;)I" } : Jvm.MethodName)) ∈ lw_all := lw_g (lw_at lw_m3 59 rfl) rfl
theorem q601 : (Jvm.Cond.unhidden "SlipWeeks$Plain" "worth" "(LSlipWeeks$Named;)I") ∈ lw_tbl := lw_at lw_m3 60 rfl
theorem q602 : (Jvm.Cond.publicMethod ({ cls := "SlipWeeks$Plain", name := "worth", desc := "(LSlipWeeks$Named;)I" } : Jvm.MethodName)) ∈ lw_tbl := lw_at lw_m3 61 rfl
theorem q616 : (Jvm.Cond.unhidden "SlipWeeks$Plain" "held" "(LSlipWeeks$Named;)I") ∈ lw_tbl := lw_at lw_m3 75 rfl
theorem q741 : (Jvm.Cond.instantiable "SlipWeeks$Plain" (1 : Nat)) ∈ lw_all := lw_g (lw_at lw_m3 200 rfl) rfl
theorem q743 : (Jvm.Cond.instanceMethod ({ cls := "SlipWeeks$Plain", name := "<init>", desc := "(I)V" } : Jvm.MethodName)) ∈ lw_all := lw_g (lw_at lw_m3 202 rfl) rfl
theorem q744 : (Jvm.Cond.code ({ cls := "SlipWeeks$Plain", name := "<init>", desc := "(I)V" } : Jvm.MethodName) prog_18_method_1_code (2 : Nat) (Option.none : Option Jvm.ClassFile.FieldType)) ∈ lw_all := lw_g (lw_at lw_m3 203 rfl) rfl
theorem q745 : (Jvm.Cond.methodLink "SlipWeeks$Plain" (1 : Nat) ({ cls := "java/lang/Object", name := "<init>", desc := "()V" } : Jvm.MethodName)) ∈ lw_all := lw_g (lw_at lw_m3 204 rfl) rfl
theorem q746 : (Jvm.Cond.fieldLink "SlipWeeks$Plain" (7 : Nat) "SlipWeeks$Plain" "v" "I") ∈ lw_all := lw_g (lw_at lw_m3 205 rfl) rfl
theorem q747 : (Jvm.Cond.laysFinal "SlipWeeks$Plain" "SlipWeeks$Plain" "v" "I") ∈ lw_all := lw_g (lw_at lw_m3 206 rfl) rfl
theorem q748 : (Jvm.Cond.soleField "SlipWeeks$Plain" "v") ∈ lw_all := lw_g (lw_at lw_m3 207 rfl) rfl
theorem q749 : (Jvm.Cond.superclass "SlipWeeks$Plain" "java/lang/Object") ∈ lw_all := lw_g (lw_at lw_m3 208 rfl) rfl
theorem q1536 : (Jvm.Cond.sameMethod "SlipWeeks$Plain" "SlipWeeks$Plain" "worth" "(LSlipWeeks$Named;)I") ∈ lw_all := lw_g (lw_at lw_m7 35 rfl) rfl
theorem in_X16 : ∀ w ∈ wsX160, w ∈ lw_all := lw_in wsX160 [747] (by decide +kernel) (by decide +kernel)
/-! SlipWeeks$Name -/
set_option maxRecDepth 100000
def RX17 : String := "SlipWeeks$Name"
def TX17 : u_T := fun k => match k with
  | _ => ("SlipWeeks$Plain", "v", "I", true)
def tyX17 : Nat → FieldType := fun k => match k with
  | _ => .int
abbrev wsX170 : List Cond := u_ws RX17 TX17 1
theorem nmX17 : ∀ a, a < 1 → ∀ b, b < 1 → a ≠ b → (TX17 a).2.1 ≠ (TX17 b).2.1 := by decide +kernel
theorem tyX17_ok : ∀ k, k < 1 → parseFieldDescriptor (TX17 k).2.2.1 = some (tyX17 k) := by decide +kernel
abbrev cX17_worth : ByteArray := prog_15_method_2_code
def yX17_worth : MethodName := ⟨RX17, "worth", "(LSlipWeeks$Named;)I"⟩
def dkwX17_worth_0 : List UInt8 := [43, 180, 0, 7, 42, 43, 183, 0, 13, 46, 172]
abbrev dktX17_worth_0 : List UInt8 := dkwX17_worth_0 ++ []
theorem dksX17_worth_0 : cX17_worth.data.toList.drop 0 = dktX17_worth_0 := by decide +kernel
theorem dX17_worth_0 : decode cX17_worth 0 = .ok (.aload_n 1, 1) := dk_43 (dk_at dksX17_worth_0 0 rfl rfl)
theorem dX17_worth_1 : decode cX17_worth 1 = .ok (.getfield 7, 3) := dk_180 0 7 (dk_at dksX17_worth_0 1 rfl rfl)
theorem dX17_worth_4 : decode cX17_worth 4 = .ok (.aload_n 0, 1) := dk_42 (dk_at dksX17_worth_0 4 rfl rfl)
theorem dX17_worth_5 : decode cX17_worth 5 = .ok (.aload_n 1, 1) := dk_43 (dk_at dksX17_worth_0 5 rfl rfl)
theorem dX17_worth_6 : decode cX17_worth 6 = .ok (.invokespecial 13, 3) := dk_183 0 13 (dk_at dksX17_worth_0 6 rfl rfl)
theorem dX17_worth_9 : decode cX17_worth 9 = .ok (.iaload, 1) := dk_46 (dk_at dksX17_worth_0 9 rfl rfl)
theorem dX17_worth_10 : decode cX17_worth 10 = .ok (.ireturn, 1) := dk_172 (dk_at dksX17_worth_0 10 rfl rfl)
abbrev cX17_init : ByteArray := prog_15_method_1_code
def yX17_init : MethodName := ⟨RX17, "<init>", "(I)V"⟩
def dkwX17_init_0 : List UInt8 := [42, 27, 183, 0, 1, 177]
abbrev dktX17_init_0 : List UInt8 := dkwX17_init_0 ++ []
theorem dksX17_init_0 : cX17_init.data.toList.drop 0 = dktX17_init_0 := by decide +kernel
theorem dX17_init_0 : decode cX17_init 0 = .ok (.aload_n 0, 1) := dk_42 (dk_at dksX17_init_0 0 rfl rfl)
theorem dX17_init_1 : decode cX17_init 1 = .ok (.iload_n 1, 1) := dk_27 (dk_at dksX17_init_0 1 rfl rfl)
theorem dX17_init_2 : decode cX17_init 2 = .ok (.invokespecial 1, 3) := dk_183 0 1 (dk_at dksX17_init_0 2 rfl rfl)
theorem dX17_init_5 : decode cX17_init 5 = .ok (.return_, 1) := dk_177 (dk_at dksX17_init_0 5 rfl rfl)
theorem q83 : (Jvm.Cond.initialized "SlipWeeks$Name") ∈ lw_all := lw_g (lw_at lw_m1 22 rfl) rfl
theorem q199 : (Jvm.Cond.fieldLink "SlipWeeks$Name" (7 : Nat) "SlipWeeks$Named" "v" "[I") ∈ lw_all := lw_g (lw_at lw_m1 138 rfl) rfl
theorem q589 : (Jvm.Cond.castable "SlipWeeks$Name" "SlipWeeks$Part") ∈ lw_tbl := lw_at lw_m3 48 rfl
theorem q590 : (Jvm.Cond.selects "SlipWeeks$Name" ({ cls := "SlipWeeks$Part", name := "worth", desc := "(LSlipWeeks$Named;)I" } : Jvm.MethodName) ({ cls := "SlipWeeks$Name", name := "worth", desc := "(LSlipWeeks$Named;)I" } : Jvm.MethodName)) ∈ lw_all := lw_g (lw_at lw_m3 49 rfl) rfl
theorem q591 : (Jvm.Cond.unhidden "SlipWeeks$Name" "worth" "(LSlipWeeks$Named;)I") ∈ lw_tbl := lw_at lw_m3 50 rfl
theorem q592 : (Jvm.Cond.instanceMethod ({ cls := "SlipWeeks$Name", name := "worth", desc := "(LSlipWeeks$Named;)I" } : Jvm.MethodName)) ∈ lw_all := lw_g (lw_at lw_m3 51 rfl) rfl
theorem q593 : (Jvm.Cond.publicMethod ({ cls := "SlipWeeks$Name", name := "worth", desc := "(LSlipWeeks$Named;)I" } : Jvm.MethodName)) ∈ lw_tbl := lw_at lw_m3 52 rfl
theorem q594 : (Jvm.Cond.code ({ cls := "SlipWeeks$Name", name := "worth", desc := "(LSlipWeeks$Named;)I" } : Jvm.MethodName) prog_15_method_2_code (2 : Nat) (Option.some Jvm.ClassFile.FieldType.int)) ∈ lw_all := lw_g (lw_at lw_m3 53 rfl) rfl
theorem q595 : (Jvm.Cond.methodLink "SlipWeeks$Name" (13 : Nat) ({ cls := "SlipWeeks$Plain", name := "worth", desc := "(LSlipWeeks$Named;)I" } : Jvm.MethodName)) ∈ lw_all := lw_g (lw_at lw_m3 54 rfl) rfl
theorem q596 : (Jvm.Cond.superclass "SlipWeeks$Name" "SlipWeeks$Plain") ∈ lw_all := lw_g (lw_at lw_m3 55 rfl) rfl
theorem q615 : (Jvm.Cond.unhidden "SlipWeeks$Name" "held" "(LSlipWeeks$Named;)I") ∈ lw_tbl := lw_at lw_m3 74 rfl
theorem q754 : (Jvm.Cond.instantiable "SlipWeeks$Name" (1 : Nat)) ∈ lw_all := lw_g (lw_at lw_m3 213 rfl) rfl
theorem q756 : (Jvm.Cond.instanceMethod ({ cls := "SlipWeeks$Name", name := "<init>", desc := "(I)V" } : Jvm.MethodName)) ∈ lw_all := lw_g (lw_at lw_m3 215 rfl) rfl
theorem q757 : (Jvm.Cond.code ({ cls := "SlipWeeks$Name", name := "<init>", desc := "(I)V" } : Jvm.MethodName) prog_15_method_1_code (2 : Nat) (Option.none : Option Jvm.ClassFile.FieldType)) ∈ lw_all := lw_g (lw_at lw_m3 216 rfl) rfl
theorem q758 : (Jvm.Cond.methodLink "SlipWeeks$Name" (1 : Nat) ({ cls := "SlipWeeks$Plain", name := "<init>", desc := "(I)V" } : Jvm.MethodName)) ∈ lw_all := lw_g (lw_at lw_m3 217 rfl) rfl
theorem q759 : (Jvm.Cond.laysFinal "SlipWeeks$Name" "SlipWeeks$Plain" "v" "I") ∈ lw_all := lw_g (lw_at lw_m3 218 rfl) rfl
theorem in_X17 : ∀ w ∈ wsX170, w ∈ lw_all := lw_in wsX170 [759] (by decide +kernel) (by decide +kernel)
/-! SlipWeeks$Fault -/
set_option maxRecDepth 100000
def RX18 : String := "SlipWeeks$Fault"
def TX18 : u_T := fun k => match k with
  | 0 => ("java/lang/Throwable", "cause", "Ljava/lang/Throwable;", false)
  | 1 => ("java/lang/Throwable", "stackTrace", "[Ljava/lang/StackTraceElement;", false)
  | 2 => ("java/lang/Throwable", "suppressedExceptions", "Ljava/util/List;", false)
  | 3 => ("java/lang/Throwable", "detailMessage", "Ljava/lang/String;", false)
  | 4 => ("java/lang/Throwable", "backtrace", "Ljava/lang/Object;", false)
  | 5 => ("java/lang/Throwable", "depth", "I", false)
  | _ => ("SlipWeeks$Fault", "place", "I", true)
def tyX18 : Nat → FieldType := fun k => match k with
  | 0 => .object "java/lang/Throwable"
  | 1 => .array (.object "java/lang/StackTraceElement")
  | 2 => .object "java/util/List"
  | 3 => .object "java/lang/String"
  | 4 => .object "java/lang/Object"
  | 5 => .int
  | _ => .int
abbrev wsX180 : List Cond := u_ws RX18 TX18 7
theorem nmX18 : ∀ a, a < 7 → ∀ b, b < 7 → a ≠ b → (TX18 a).2.1 ≠ (TX18 b).2.1 := by decide +kernel
theorem tyX18_ok : ∀ k, k < 7 → parseFieldDescriptor (TX18 k).2.2.1 = some (tyX18 k) := by decide +kernel
abbrev cX18_init : ByteArray := prog_7_method_1_code
def yX18_init : MethodName := ⟨RX18, "<init>", "(I)V"⟩
def dkwX18_init_0 : List UInt8 := [42, 1, 1, 3, 3, 183, 0, 1, 42, 27, 181, 0, 7, 177]
abbrev dktX18_init_0 : List UInt8 := dkwX18_init_0 ++ []
theorem dksX18_init_0 : cX18_init.data.toList.drop 0 = dktX18_init_0 := by decide +kernel
theorem dX18_init_0 : decode cX18_init 0 = .ok (.aload_n 0, 1) := dk_42 (dk_at dksX18_init_0 0 rfl rfl)
theorem dX18_init_1 : decode cX18_init 1 = .ok (.aconst_null, 1) := dk_1 (dk_at dksX18_init_0 1 rfl rfl)
theorem dX18_init_2 : decode cX18_init 2 = .ok (.aconst_null, 1) := dk_1 (dk_at dksX18_init_0 2 rfl rfl)
theorem dX18_init_3 : decode cX18_init 3 = .ok (.iconst 0, 1) := dk_3 (dk_at dksX18_init_0 3 rfl rfl)
theorem dX18_init_4 : decode cX18_init 4 = .ok (.iconst 0, 1) := dk_3 (dk_at dksX18_init_0 4 rfl rfl)
theorem dX18_init_5 : decode cX18_init 5 = .ok (.invokespecial 1, 3) := dk_183 0 1 (dk_at dksX18_init_0 5 rfl rfl)
theorem dX18_init_8 : decode cX18_init 8 = .ok (.aload_n 0, 1) := dk_42 (dk_at dksX18_init_0 8 rfl rfl)
theorem dX18_init_9 : decode cX18_init 9 = .ok (.iload_n 1, 1) := dk_27 (dk_at dksX18_init_0 9 rfl rfl)
theorem dX18_init_10 : decode cX18_init 10 = .ok (.putfield 7, 3) := dk_181 0 7 (dk_at dksX18_init_0 10 rfl rfl)
theorem dX18_init_13 : decode cX18_init 13 = .ok (.return_, 1) := dk_177 (dk_at dksX18_init_0 13 rfl rfl)
theorem q84 : (Jvm.Cond.initialized "SlipWeeks$Fault") ∈ lw_all := lw_g (lw_at lw_m1 23 rfl) rfl
theorem q314 : (Jvm.Cond.selects "SlipWeeks$Fault" ({ cls := "java/lang/Throwable", name := "fillInStackTrace", desc := "()Ljava/lang/Throwable;" } : Jvm.MethodName) ({ cls := "java/lang/Throwable", name := "fillInStackTrace", desc := "()Ljava/lang/Throwable;" } : Jvm.MethodName)) ∈ lw_all := lw_g (lw_at lw_m2 13 rfl) rfl
theorem q765 : (Jvm.Cond.instantiable "SlipWeeks$Fault" (7 : Nat)) ∈ lw_all := lw_g (lw_at lw_m3 224 rfl) rfl
theorem q766 : (Jvm.Cond.castable "SlipWeeks$Fault" "SlipWeeks$Fault") ∈ lw_tbl := lw_at lw_m3 225 rfl
theorem q767 : (Jvm.Cond.selects "SlipWeeks$Fault" ({ cls := "java/lang/Throwable", name := "fillInStackTrace", desc := "(I)Ljava/lang/Throwable;" } : Jvm.MethodName) ({ cls := "java/lang/Throwable", name := "fillInStackTrace", desc := "(I)Ljava/lang/Throwable;" } : Jvm.MethodName)) ∈ lw_all := lw_g (lw_at lw_m3 226 rfl) rfl
theorem q768 : (Jvm.Cond.lays "SlipWeeks$Fault" "java/lang/Throwable" "cause" "Ljava/lang/Throwable;") ∈ lw_all := lw_g (lw_at lw_m3 227 rfl) rfl
theorem q769 : (Jvm.Cond.lays "SlipWeeks$Fault" "java/lang/Throwable" "stackTrace" "[Ljava/lang/StackTraceElement;") ∈ lw_all := lw_g (lw_at lw_m3 228 rfl) rfl
theorem q770 : (Jvm.Cond.lays "SlipWeeks$Fault" "java/lang/Throwable" "suppressedExceptions" "Ljava/util/List;") ∈ lw_all := lw_g (lw_at lw_m3 229 rfl) rfl
theorem q771 : (Jvm.Cond.lays "SlipWeeks$Fault" "java/lang/Throwable" "detailMessage" "Ljava/lang/String;") ∈ lw_all := lw_g (lw_at lw_m3 230 rfl) rfl
theorem q772 : (Jvm.Cond.lays "SlipWeeks$Fault" "java/lang/Throwable" "backtrace" "Ljava/lang/Object;") ∈ lw_all := lw_g (lw_at lw_m3 231 rfl) rfl
theorem q774 : (Jvm.Cond.instanceMethod ({ cls := "SlipWeeks$Fault", name := "<init>", desc := "(I)V" } : Jvm.MethodName)) ∈ lw_all := lw_g (lw_at lw_m3 233 rfl) rfl
theorem q775 : (Jvm.Cond.code ({ cls := "SlipWeeks$Fault", name := "<init>", desc := "(I)V" } : Jvm.MethodName) prog_7_method_1_code (2 : Nat) (Option.none : Option Jvm.ClassFile.FieldType)) ∈ lw_all := lw_g (lw_at lw_m3 234 rfl) rfl
theorem q776 : (Jvm.Cond.methodLink "SlipWeeks$Fault" (1 : Nat) ({ cls := "java/lang/Exception", name := "<init>", desc := "(Ljava/lang/String;Ljava/lang/Throwable;ZZ)V" } : Jvm.MethodName)) ∈ lw_all := lw_g (lw_at lw_m3 235 rfl) rfl
theorem q777 : (Jvm.Cond.fieldLink "SlipWeeks$Fault" (7 : Nat) "SlipWeeks$Fault" "place" "I") ∈ lw_all := lw_g (lw_at lw_m3 236 rfl) rfl
theorem q779 : (Jvm.Cond.laysFinal "SlipWeeks$Fault" "SlipWeeks$Fault" "place" "I") ∈ lw_all := lw_g (lw_at lw_m3 238 rfl) rfl
theorem q780 : (Jvm.Cond.soleField "SlipWeeks$Fault" "place") ∈ lw_all := lw_g (lw_at lw_m3 239 rfl) rfl
theorem q781 : (Jvm.Cond.lays "SlipWeeks$Fault" "java/lang/Throwable" "depth" "I") ∈ lw_all := lw_g (lw_at lw_m4 0 rfl) rfl
theorem q782 : (Jvm.Cond.superclass "SlipWeeks$Fault" "java/lang/Exception") ∈ lw_all := lw_g (lw_at lw_m4 1 rfl) rfl
theorem in_X18 : ∀ w ∈ wsX180, w ∈ lw_all := lw_in wsX180 [768, 769, 770, 771, 772, 781, 779] (by decide +kernel) (by decide +kernel)
/-! SlipWeeks$Two -/
set_option maxRecDepth 100000
def RX19 : String := "SlipWeeks$Two"
def TX19 : u_T := fun k => match k with
  | 0 => ("SlipWeeks$Two", "sign", "I", true)
  | 1 => ("SlipWeeks$Two", "a", "LSlipWeeks$Part;", true)
  | _ => ("SlipWeeks$Two", "b", "LSlipWeeks$Part;", true)
def tyX19 : Nat → FieldType := fun k => match k with
  | 0 => .int
  | 1 => .object "SlipWeeks$Part"
  | _ => .object "SlipWeeks$Part"
abbrev wsX190 : List Cond := u_ws RX19 TX19 3
theorem nmX19 : ∀ a, a < 3 → ∀ b, b < 3 → a ≠ b → (TX19 a).2.1 ≠ (TX19 b).2.1 := by decide +kernel
theorem tyX19_ok : ∀ k, k < 3 → parseFieldDescriptor (TX19 k).2.2.1 = some (tyX19 k) := by decide +kernel
abbrev cX19_worth : ByteArray := prog_22_method_2_code
def yX19_worth : MethodName := ⟨RX19, "worth", "(LSlipWeeks$Named;)I"⟩
def dkwX19_worth_2 : List UInt8 := [29, 100, 167, 0, 6, 28, 29, 104, 172]
abbrev dktX19_worth_2 : List UInt8 := dkwX19_worth_2 ++ []
def dkwX19_worth_1 : List UInt8 := [180, 0, 7, 16, 43, 160, 0, 9, 28, 29, 96, 167, 0, 21, 42, 180, 0, 7, 16, 45, 160, 0, 9, 28]
abbrev dktX19_worth_1 : List UInt8 := dkwX19_worth_1 ++ dktX19_worth_2
def dkwX19_worth_0 : List UInt8 := [42, 180, 0, 13, 43, 185, 0, 20, 2, 0, 61, 42, 180, 0, 17, 43, 185, 0, 20, 2, 0, 62, 42]
abbrev dktX19_worth_0 : List UInt8 := dkwX19_worth_0 ++ dktX19_worth_1
theorem dksX19_worth_0 : cX19_worth.data.toList.drop 0 = dktX19_worth_0 := by decide +kernel
theorem dksX19_worth_1 : cX19_worth.data.toList.drop 23 = dktX19_worth_1 := dk_seg dksX19_worth_0 23 rfl rfl
theorem dksX19_worth_2 : cX19_worth.data.toList.drop 47 = dktX19_worth_2 := dk_seg dksX19_worth_1 24 rfl rfl
theorem dX19_worth_0 : decode cX19_worth 0 = .ok (.aload_n 0, 1) := dk_42 (dk_at dksX19_worth_0 0 rfl rfl)
theorem dX19_worth_1 : decode cX19_worth 1 = .ok (.getfield 13, 3) := dk_180 0 13 (dk_at dksX19_worth_0 1 rfl rfl)
theorem dX19_worth_4 : decode cX19_worth 4 = .ok (.aload_n 1, 1) := dk_43 (dk_at dksX19_worth_0 4 rfl rfl)
theorem dX19_worth_5 : decode cX19_worth 5 = .ok (.invokeinterface 20 2, 5) := by decide +kernel
theorem dX19_worth_10 : decode cX19_worth 10 = .ok (.istore_n 2, 1) := dk_61 (dk_at dksX19_worth_0 10 rfl rfl)
theorem dX19_worth_11 : decode cX19_worth 11 = .ok (.aload_n 0, 1) := dk_42 (dk_at dksX19_worth_0 11 rfl rfl)
theorem dX19_worth_12 : decode cX19_worth 12 = .ok (.getfield 17, 3) := dk_180 0 17 (dk_at dksX19_worth_0 12 rfl rfl)
theorem dX19_worth_15 : decode cX19_worth 15 = .ok (.aload_n 1, 1) := dk_43 (dk_at dksX19_worth_0 15 rfl rfl)
theorem dX19_worth_16 : decode cX19_worth 16 = .ok (.invokeinterface 20 2, 5) := by decide +kernel
theorem dX19_worth_21 : decode cX19_worth 21 = .ok (.istore_n 3, 1) := dk_62 (dk_at dksX19_worth_0 21 rfl rfl)
theorem dX19_worth_22 : decode cX19_worth 22 = .ok (.aload_n 0, 1) := dk_42 (dk_at dksX19_worth_0 22 rfl rfl)
theorem dX19_worth_23 : decode cX19_worth 23 = .ok (.getfield 7, 3) := dk_180 0 7 (dk_at dksX19_worth_1 0 rfl rfl)
theorem dX19_worth_26 : decode cX19_worth 26 = .ok (.bipush 43, 2) := dk_16 43 (dk_at dksX19_worth_1 3 rfl rfl)
theorem dX19_worth_28 : decode cX19_worth 28 = .ok (.if_icmp .ne 9, 3) := dk_160 0 9 (dk_at dksX19_worth_1 5 rfl rfl)
theorem dX19_worth_31 : decode cX19_worth 31 = .ok (.iload_n 2, 1) := dk_28 (dk_at dksX19_worth_1 8 rfl rfl)
theorem dX19_worth_32 : decode cX19_worth 32 = .ok (.iload_n 3, 1) := dk_29 (dk_at dksX19_worth_1 9 rfl rfl)
theorem dX19_worth_33 : decode cX19_worth 33 = .ok (.iadd, 1) := dk_96 (dk_at dksX19_worth_1 10 rfl rfl)
theorem dX19_worth_34 : decode cX19_worth 34 = .ok (.goto 21, 3) := dk_167 0 21 (dk_at dksX19_worth_1 11 rfl rfl)
theorem dX19_worth_37 : decode cX19_worth 37 = .ok (.aload_n 0, 1) := dk_42 (dk_at dksX19_worth_1 14 rfl rfl)
theorem dX19_worth_38 : decode cX19_worth 38 = .ok (.getfield 7, 3) := dk_180 0 7 (dk_at dksX19_worth_1 15 rfl rfl)
theorem dX19_worth_41 : decode cX19_worth 41 = .ok (.bipush 45, 2) := dk_16 45 (dk_at dksX19_worth_1 18 rfl rfl)
theorem dX19_worth_43 : decode cX19_worth 43 = .ok (.if_icmp .ne 9, 3) := dk_160 0 9 (dk_at dksX19_worth_1 20 rfl rfl)
theorem dX19_worth_46 : decode cX19_worth 46 = .ok (.iload_n 2, 1) := dk_28 (dk_at dksX19_worth_1 23 rfl rfl)
theorem dX19_worth_47 : decode cX19_worth 47 = .ok (.iload_n 3, 1) := dk_29 (dk_at dksX19_worth_2 0 rfl rfl)
theorem dX19_worth_48 : decode cX19_worth 48 = .ok (.isub, 1) := dk_100 (dk_at dksX19_worth_2 1 rfl rfl)
theorem dX19_worth_49 : decode cX19_worth 49 = .ok (.goto 6, 3) := dk_167 0 6 (dk_at dksX19_worth_2 2 rfl rfl)
theorem dX19_worth_52 : decode cX19_worth 52 = .ok (.iload_n 2, 1) := dk_28 (dk_at dksX19_worth_2 5 rfl rfl)
theorem dX19_worth_53 : decode cX19_worth 53 = .ok (.iload_n 3, 1) := dk_29 (dk_at dksX19_worth_2 6 rfl rfl)
theorem dX19_worth_54 : decode cX19_worth 54 = .ok (.imul, 1) := dk_104 (dk_at dksX19_worth_2 7 rfl rfl)
theorem dX19_worth_55 : decode cX19_worth 55 = .ok (.ireturn, 1) := dk_172 (dk_at dksX19_worth_2 8 rfl rfl)
abbrev cX19_init : ByteArray := prog_22_method_1_code
def yX19_init : MethodName := ⟨RX19, "<init>", "(ILSlipWeeks$Part;LSlipWeeks$Part;)V"⟩
def dkwX19_init_0 : List UInt8 := [42, 183, 0, 1, 42, 27, 181, 0, 7, 42, 44, 181, 0, 13, 42, 45, 181, 0, 17, 177]
abbrev dktX19_init_0 : List UInt8 := dkwX19_init_0 ++ []
theorem dksX19_init_0 : cX19_init.data.toList.drop 0 = dktX19_init_0 := by decide +kernel
theorem dX19_init_0 : decode cX19_init 0 = .ok (.aload_n 0, 1) := dk_42 (dk_at dksX19_init_0 0 rfl rfl)
theorem dX19_init_1 : decode cX19_init 1 = .ok (.invokespecial 1, 3) := dk_183 0 1 (dk_at dksX19_init_0 1 rfl rfl)
theorem dX19_init_4 : decode cX19_init 4 = .ok (.aload_n 0, 1) := dk_42 (dk_at dksX19_init_0 4 rfl rfl)
theorem dX19_init_5 : decode cX19_init 5 = .ok (.iload_n 1, 1) := dk_27 (dk_at dksX19_init_0 5 rfl rfl)
theorem dX19_init_6 : decode cX19_init 6 = .ok (.putfield 7, 3) := dk_181 0 7 (dk_at dksX19_init_0 6 rfl rfl)
theorem dX19_init_9 : decode cX19_init 9 = .ok (.aload_n 0, 1) := dk_42 (dk_at dksX19_init_0 9 rfl rfl)
theorem dX19_init_10 : decode cX19_init 10 = .ok (.aload_n 2, 1) := dk_44 (dk_at dksX19_init_0 10 rfl rfl)
theorem dX19_init_11 : decode cX19_init 11 = .ok (.putfield 13, 3) := dk_181 0 13 (dk_at dksX19_init_0 11 rfl rfl)
theorem dX19_init_14 : decode cX19_init 14 = .ok (.aload_n 0, 1) := dk_42 (dk_at dksX19_init_0 14 rfl rfl)
theorem dX19_init_15 : decode cX19_init 15 = .ok (.aload_n 3, 1) := dk_45 (dk_at dksX19_init_0 15 rfl rfl)
theorem dX19_init_16 : decode cX19_init 16 = .ok (.putfield 17, 3) := dk_181 0 17 (dk_at dksX19_init_0 16 rfl rfl)
theorem dX19_init_19 : decode cX19_init 19 = .ok (.return_, 1) := dk_177 (dk_at dksX19_init_0 19 rfl rfl)
theorem q85 : (Jvm.Cond.initialized "SlipWeeks$Two") ∈ lw_all := lw_g (lw_at lw_m1 24 rfl) rfl
theorem q603 : (Jvm.Cond.castable "SlipWeeks$Two" "SlipWeeks$Part") ∈ lw_tbl := lw_at lw_m3 62 rfl
theorem q604 : (Jvm.Cond.selects "SlipWeeks$Two" ({ cls := "SlipWeeks$Part", name := "worth", desc := "(LSlipWeeks$Named;)I" } : Jvm.MethodName) ({ cls := "SlipWeeks$Two", name := "worth", desc := "(LSlipWeeks$Named;)I" } : Jvm.MethodName)) ∈ lw_all := lw_g (lw_at lw_m3 63 rfl) rfl
theorem q605 : (Jvm.Cond.unhidden "SlipWeeks$Two" "worth" "(LSlipWeeks$Named;)I") ∈ lw_tbl := lw_at lw_m3 64 rfl
theorem q606 : (Jvm.Cond.instanceMethod ({ cls := "SlipWeeks$Two", name := "worth", desc := "(LSlipWeeks$Named;)I" } : Jvm.MethodName)) ∈ lw_all := lw_g (lw_at lw_m3 65 rfl) rfl
theorem q607 : (Jvm.Cond.publicMethod ({ cls := "SlipWeeks$Two", name := "worth", desc := "(LSlipWeeks$Named;)I" } : Jvm.MethodName)) ∈ lw_tbl := lw_at lw_m3 66 rfl
theorem q608 : (Jvm.Cond.code ({ cls := "SlipWeeks$Two", name := "worth", desc := "(LSlipWeeks$Named;)I" } : Jvm.MethodName) prog_22_method_2_code (4 : Nat) (Option.some Jvm.ClassFile.FieldType.int)) ∈ lw_all := lw_g (lw_at lw_m3 67 rfl) rfl
theorem q609 : (Jvm.Cond.interfaceEntry "SlipWeeks$Two" (20 : Nat)) ∈ lw_tbl := lw_at lw_m3 68 rfl
theorem q610 : (Jvm.Cond.methodLink "SlipWeeks$Two" (20 : Nat) ({ cls := "SlipWeeks$Part", name := "worth", desc := "(LSlipWeeks$Named;)I" } : Jvm.MethodName)) ∈ lw_all := lw_g (lw_at lw_m3 69 rfl) rfl
theorem q617 : (Jvm.Cond.unhidden "SlipWeeks$Two" "held" "(LSlipWeeks$Named;)I") ∈ lw_tbl := lw_at lw_m3 76 rfl
theorem q793 : (Jvm.Cond.instanceMethod ({ cls := "SlipWeeks$Two", name := "<init>", desc := "(ILSlipWeeks$Part;LSlipWeeks$Part;)V" } : Jvm.MethodName)) ∈ lw_all := lw_g (lw_at lw_m4 12 rfl) rfl
theorem q794 : (Jvm.Cond.code ({ cls := "SlipWeeks$Two", name := "<init>", desc := "(ILSlipWeeks$Part;LSlipWeeks$Part;)V" } : Jvm.MethodName) prog_22_method_1_code (4 : Nat) (Option.none : Option Jvm.ClassFile.FieldType)) ∈ lw_all := lw_g (lw_at lw_m4 13 rfl) rfl
theorem q795 : (Jvm.Cond.methodLink "SlipWeeks$Two" (1 : Nat) ({ cls := "java/lang/Object", name := "<init>", desc := "()V" } : Jvm.MethodName)) ∈ lw_all := lw_g (lw_at lw_m4 14 rfl) rfl
theorem q797 : (Jvm.Cond.fieldLink "SlipWeeks$Two" (7 : Nat) "SlipWeeks$Two" "sign" "I") ∈ lw_all := lw_g (lw_at lw_m4 16 rfl) rfl
theorem q798 : (Jvm.Cond.fieldLink "SlipWeeks$Two" (13 : Nat) "SlipWeeks$Two" "a" "LSlipWeeks$Part;") ∈ lw_all := lw_g (lw_at lw_m4 17 rfl) rfl
theorem q801 : (Jvm.Cond.fieldLink "SlipWeeks$Two" (17 : Nat) "SlipWeeks$Two" "b" "LSlipWeeks$Part;") ∈ lw_all := lw_g (lw_at lw_m4 20 rfl) rfl
theorem q807 : (Jvm.Cond.soleField "SlipWeeks$Two" "sign") ∈ lw_all := lw_g (lw_at lw_m4 26 rfl) rfl
theorem q809 : (Jvm.Cond.soleField "SlipWeeks$Two" "a") ∈ lw_all := lw_g (lw_at lw_m4 28 rfl) rfl
theorem q811 : (Jvm.Cond.soleField "SlipWeeks$Two" "b") ∈ lw_all := lw_g (lw_at lw_m4 30 rfl) rfl
theorem q814 : (Jvm.Cond.instantiable "SlipWeeks$Two" (3 : Nat)) ∈ lw_all := lw_g (lw_at lw_m4 33 rfl) rfl
theorem q816 : (Jvm.Cond.laysFinal "SlipWeeks$Two" "SlipWeeks$Two" "sign" "I") ∈ lw_all := lw_g (lw_at lw_m4 35 rfl) rfl
theorem q817 : (Jvm.Cond.laysFinal "SlipWeeks$Two" "SlipWeeks$Two" "a" "LSlipWeeks$Part;") ∈ lw_all := lw_g (lw_at lw_m4 36 rfl) rfl
theorem q818 : (Jvm.Cond.laysFinal "SlipWeeks$Two" "SlipWeeks$Two" "b" "LSlipWeeks$Part;") ∈ lw_all := lw_g (lw_at lw_m4 37 rfl) rfl
theorem q819 : (Jvm.Cond.superclass "SlipWeeks$Two" "java/lang/Object") ∈ lw_all := lw_g (lw_at lw_m4 38 rfl) rfl
theorem in_X19 : ∀ w ∈ wsX190, w ∈ lw_all := lw_in wsX190 [816, 817, 818] (by decide +kernel) (by decide +kernel)
/-! SlipWeeks$Choice -/
set_option maxRecDepth 100000
def RX20 : String := "SlipWeeks$Choice"
def TX20 : u_T := fun k => match k with
  | 0 => ("SlipWeeks$Two", "sign", "I", true)
  | 1 => ("SlipWeeks$Two", "a", "LSlipWeeks$Part;", true)
  | 2 => ("SlipWeeks$Two", "b", "LSlipWeeks$Part;", true)
  | _ => ("SlipWeeks$Choice", "first", "LSlipWeeks$Part;", true)
def tyX20 : Nat → FieldType := fun k => match k with
  | 0 => .int
  | 1 => .object "SlipWeeks$Part"
  | 2 => .object "SlipWeeks$Part"
  | _ => .object "SlipWeeks$Part"
abbrev wsX200 : List Cond := u_ws RX20 TX20 4
theorem nmX20 : ∀ a, a < 4 → ∀ b, b < 4 → a ≠ b → (TX20 a).2.1 ≠ (TX20 b).2.1 := by decide +kernel
theorem tyX20_ok : ∀ k, k < 4 → parseFieldDescriptor (TX20 k).2.2.1 = some (tyX20 k) := by decide +kernel
abbrev cX20_worth : ByteArray := prog_4_method_2_code
def yX20_worth : MethodName := ⟨RX20, "worth", "(LSlipWeeks$Named;)I"⟩
def dkwX20_worth_1 : List UInt8 := [167, 0, 13, 42, 180, 0, 22, 43, 185, 0, 13, 2, 0, 172]
abbrev dktX20_worth_1 : List UInt8 := dkwX20_worth_1 ++ []
def dkwX20_worth_0 : List UInt8 := [42, 180, 0, 7, 43, 185, 0, 13, 2, 0, 158, 0, 16, 42, 180, 0, 19, 43, 185, 0, 13, 2, 0]
abbrev dktX20_worth_0 : List UInt8 := dkwX20_worth_0 ++ dktX20_worth_1
theorem dksX20_worth_0 : cX20_worth.data.toList.drop 0 = dktX20_worth_0 := by decide +kernel
theorem dksX20_worth_1 : cX20_worth.data.toList.drop 23 = dktX20_worth_1 := dk_seg dksX20_worth_0 23 rfl rfl
theorem dX20_worth_0 : decode cX20_worth 0 = .ok (.aload_n 0, 1) := dk_42 (dk_at dksX20_worth_0 0 rfl rfl)
theorem dX20_worth_1 : decode cX20_worth 1 = .ok (.getfield 7, 3) := dk_180 0 7 (dk_at dksX20_worth_0 1 rfl rfl)
theorem dX20_worth_4 : decode cX20_worth 4 = .ok (.aload_n 1, 1) := dk_43 (dk_at dksX20_worth_0 4 rfl rfl)
theorem dX20_worth_5 : decode cX20_worth 5 = .ok (.invokeinterface 13 2, 5) := by decide +kernel
theorem dX20_worth_10 : decode cX20_worth 10 = .ok (.ifCond .le 16, 3) := dk_158 0 16 (dk_at dksX20_worth_0 10 rfl rfl)
theorem dX20_worth_13 : decode cX20_worth 13 = .ok (.aload_n 0, 1) := dk_42 (dk_at dksX20_worth_0 13 rfl rfl)
theorem dX20_worth_14 : decode cX20_worth 14 = .ok (.getfield 19, 3) := dk_180 0 19 (dk_at dksX20_worth_0 14 rfl rfl)
theorem dX20_worth_17 : decode cX20_worth 17 = .ok (.aload_n 1, 1) := dk_43 (dk_at dksX20_worth_0 17 rfl rfl)
theorem dX20_worth_18 : decode cX20_worth 18 = .ok (.invokeinterface 13 2, 5) := by decide +kernel
theorem dX20_worth_23 : decode cX20_worth 23 = .ok (.goto 13, 3) := dk_167 0 13 (dk_at dksX20_worth_1 0 rfl rfl)
theorem dX20_worth_26 : decode cX20_worth 26 = .ok (.aload_n 0, 1) := dk_42 (dk_at dksX20_worth_1 3 rfl rfl)
theorem dX20_worth_27 : decode cX20_worth 27 = .ok (.getfield 22, 3) := dk_180 0 22 (dk_at dksX20_worth_1 4 rfl rfl)
theorem dX20_worth_30 : decode cX20_worth 30 = .ok (.aload_n 1, 1) := dk_43 (dk_at dksX20_worth_1 7 rfl rfl)
theorem dX20_worth_31 : decode cX20_worth 31 = .ok (.invokeinterface 13 2, 5) := by decide +kernel
theorem dX20_worth_36 : decode cX20_worth 36 = .ok (.ireturn, 1) := dk_172 (dk_at dksX20_worth_1 13 rfl rfl)
abbrev cX20_init : ByteArray := prog_4_method_1_code
def yX20_init : MethodName := ⟨RX20, "<init>", "(LSlipWeeks$Part;LSlipWeeks$Part;LSlipWeeks$Part;)V"⟩
def dkwX20_init_0 : List UInt8 := [42, 16, 63, 44, 45, 183, 0, 1, 42, 43, 181, 0, 7, 177]
abbrev dktX20_init_0 : List UInt8 := dkwX20_init_0 ++ []
theorem dksX20_init_0 : cX20_init.data.toList.drop 0 = dktX20_init_0 := by decide +kernel
theorem dX20_init_0 : decode cX20_init 0 = .ok (.aload_n 0, 1) := dk_42 (dk_at dksX20_init_0 0 rfl rfl)
theorem dX20_init_1 : decode cX20_init 1 = .ok (.bipush 63, 2) := dk_16 63 (dk_at dksX20_init_0 1 rfl rfl)
theorem dX20_init_3 : decode cX20_init 3 = .ok (.aload_n 2, 1) := dk_44 (dk_at dksX20_init_0 3 rfl rfl)
theorem dX20_init_4 : decode cX20_init 4 = .ok (.aload_n 3, 1) := dk_45 (dk_at dksX20_init_0 4 rfl rfl)
theorem dX20_init_5 : decode cX20_init 5 = .ok (.invokespecial 1, 3) := dk_183 0 1 (dk_at dksX20_init_0 5 rfl rfl)
theorem dX20_init_8 : decode cX20_init 8 = .ok (.aload_n 0, 1) := dk_42 (dk_at dksX20_init_0 8 rfl rfl)
theorem dX20_init_9 : decode cX20_init 9 = .ok (.aload_n 1, 1) := dk_43 (dk_at dksX20_init_0 9 rfl rfl)
theorem dX20_init_10 : decode cX20_init 10 = .ok (.putfield 7, 3) := dk_181 0 7 (dk_at dksX20_init_0 10 rfl rfl)
theorem dX20_init_13 : decode cX20_init 13 = .ok (.return_, 1) := dk_177 (dk_at dksX20_init_0 13 rfl rfl)
theorem q86 : (Jvm.Cond.initialized "SlipWeeks$Choice") ∈ lw_all := lw_g (lw_at lw_m1 25 rfl) rfl
theorem q573 : (Jvm.Cond.castable "SlipWeeks$Choice" "SlipWeeks$Part") ∈ lw_tbl := lw_at lw_m3 32 rfl
theorem q574 : (Jvm.Cond.unhidden "SlipWeeks$Choice" "held" "(LSlipWeeks$Named;)I") ∈ lw_tbl := lw_at lw_m3 33 rfl
theorem q582 : (Jvm.Cond.selects "SlipWeeks$Choice" ({ cls := "SlipWeeks$Part", name := "worth", desc := "(LSlipWeeks$Named;)I" } : Jvm.MethodName) ({ cls := "SlipWeeks$Choice", name := "worth", desc := "(LSlipWeeks$Named;)I" } : Jvm.MethodName)) ∈ lw_all := lw_g (lw_at lw_m3 41 rfl) rfl
theorem q583 : (Jvm.Cond.unhidden "SlipWeeks$Choice" "worth" "(LSlipWeeks$Named;)I") ∈ lw_tbl := lw_at lw_m3 42 rfl
theorem q584 : (Jvm.Cond.instanceMethod ({ cls := "SlipWeeks$Choice", name := "worth", desc := "(LSlipWeeks$Named;)I" } : Jvm.MethodName)) ∈ lw_all := lw_g (lw_at lw_m3 43 rfl) rfl
theorem q585 : (Jvm.Cond.publicMethod ({ cls := "SlipWeeks$Choice", name := "worth", desc := "(LSlipWeeks$Named;)I" } : Jvm.MethodName)) ∈ lw_tbl := lw_at lw_m3 44 rfl
theorem q586 : (Jvm.Cond.code ({ cls := "SlipWeeks$Choice", name := "worth", desc := "(LSlipWeeks$Named;)I" } : Jvm.MethodName) prog_4_method_2_code (2 : Nat) (Option.some Jvm.ClassFile.FieldType.int)) ∈ lw_all := lw_g (lw_at lw_m3 45 rfl) rfl
theorem q587 : (Jvm.Cond.interfaceEntry "SlipWeeks$Choice" (13 : Nat)) ∈ lw_tbl := lw_at lw_m3 46 rfl
theorem q588 : (Jvm.Cond.methodLink "SlipWeeks$Choice" (13 : Nat) ({ cls := "SlipWeeks$Part", name := "worth", desc := "(LSlipWeeks$Named;)I" } : Jvm.MethodName)) ∈ lw_all := lw_g (lw_at lw_m3 47 rfl) rfl
theorem q788 : (Jvm.Cond.instantiable "SlipWeeks$Choice" (4 : Nat)) ∈ lw_all := lw_g (lw_at lw_m4 7 rfl) rfl
theorem q790 : (Jvm.Cond.instanceMethod ({ cls := "SlipWeeks$Choice", name := "<init>", desc := "(LSlipWeeks$Part;LSlipWeeks$Part;LSlipWeeks$Part;)V" } : Jvm.MethodName)) ∈ lw_all := lw_g (lw_at lw_m4 9 rfl) rfl
theorem q791 : (Jvm.Cond.code ({ cls := "SlipWeeks$Choice", name := "<init>", desc := "(LSlipWeeks$Part;LSlipWeeks$Part;LSlipWeeks$Part;)V" } : Jvm.MethodName) prog_4_method_1_code (4 : Nat) (Option.none : Option Jvm.ClassFile.FieldType)) ∈ lw_all := lw_g (lw_at lw_m4 10 rfl) rfl
theorem q792 : (Jvm.Cond.methodLink "SlipWeeks$Choice" (1 : Nat) ({ cls := "SlipWeeks$Two", name := "<init>", desc := "(ILSlipWeeks$Part;LSlipWeeks$Part;)V" } : Jvm.MethodName)) ∈ lw_all := lw_g (lw_at lw_m4 11 rfl) rfl
theorem q796 : (Jvm.Cond.fieldLink "SlipWeeks$Choice" (7 : Nat) "SlipWeeks$Choice" "first" "LSlipWeeks$Part;") ∈ lw_all := lw_g (lw_at lw_m4 15 rfl) rfl
theorem q799 : (Jvm.Cond.fieldLink "SlipWeeks$Choice" (19 : Nat) "SlipWeeks$Choice" "a" "LSlipWeeks$Part;") ∈ lw_all := lw_g (lw_at lw_m4 18 rfl) rfl
theorem q800 : (Jvm.Cond.sameField "SlipWeeks$Choice" "SlipWeeks$Two" "a" "LSlipWeeks$Part;") ∈ lw_all := lw_g (lw_at lw_m4 19 rfl) rfl
theorem q802 : (Jvm.Cond.fieldLink "SlipWeeks$Choice" (22 : Nat) "SlipWeeks$Choice" "b" "LSlipWeeks$Part;") ∈ lw_all := lw_g (lw_at lw_m4 21 rfl) rfl
theorem q803 : (Jvm.Cond.sameField "SlipWeeks$Choice" "SlipWeeks$Two" "b" "LSlipWeeks$Part;") ∈ lw_all := lw_g (lw_at lw_m4 22 rfl) rfl
theorem q804 : (Jvm.Cond.laysFinal "SlipWeeks$Choice" "SlipWeeks$Choice" "first" "LSlipWeeks$Part;") ∈ lw_all := lw_g (lw_at lw_m4 23 rfl) rfl
theorem q805 : (Jvm.Cond.soleField "SlipWeeks$Choice" "first") ∈ lw_all := lw_g (lw_at lw_m4 24 rfl) rfl
theorem q806 : (Jvm.Cond.laysFinal "SlipWeeks$Choice" "SlipWeeks$Two" "sign" "I") ∈ lw_all := lw_g (lw_at lw_m4 25 rfl) rfl
theorem q808 : (Jvm.Cond.laysFinal "SlipWeeks$Choice" "SlipWeeks$Two" "a" "LSlipWeeks$Part;") ∈ lw_all := lw_g (lw_at lw_m4 27 rfl) rfl
theorem q810 : (Jvm.Cond.laysFinal "SlipWeeks$Choice" "SlipWeeks$Two" "b" "LSlipWeeks$Part;") ∈ lw_all := lw_g (lw_at lw_m4 29 rfl) rfl
theorem q812 : (Jvm.Cond.superclass "SlipWeeks$Choice" "SlipWeeks$Two") ∈ lw_all := lw_g (lw_at lw_m4 31 rfl) rfl
theorem in_X20 : ∀ w ∈ wsX200, w ∈ lw_all := lw_in wsX200 [806, 808, 810, 804] (by decide +kernel) (by decide +kernel)
/-! SlipWeeks$Part -/
set_option maxRecDepth 100000
def RX21 : String := "SlipWeeks$Part"
abbrev cX21_held : ByteArray := prog_17_method_2_code
def yX21_held : MethodName := ⟨RX21, "held", "(LSlipWeeks$Named;)I"⟩
def dkwX21_held_0 : List UInt8 := [3, 16, 99, 42, 43, 185, 0, 3, 2, 0, 184, 0, 9, 184, 0, 15, 172]
abbrev dktX21_held_0 : List UInt8 := dkwX21_held_0 ++ []
theorem dksX21_held_0 : cX21_held.data.toList.drop 0 = dktX21_held_0 := by decide +kernel
theorem dX21_held_0 : decode cX21_held 0 = .ok (.iconst 0, 1) := dk_3 (dk_at dksX21_held_0 0 rfl rfl)
theorem dX21_held_1 : decode cX21_held 1 = .ok (.bipush 99, 2) := dk_16 99 (dk_at dksX21_held_0 1 rfl rfl)
theorem dX21_held_3 : decode cX21_held 3 = .ok (.aload_n 0, 1) := dk_42 (dk_at dksX21_held_0 3 rfl rfl)
theorem dX21_held_4 : decode cX21_held 4 = .ok (.aload_n 1, 1) := dk_43 (dk_at dksX21_held_0 4 rfl rfl)
theorem dX21_held_5 : decode cX21_held 5 = .ok (.invokeinterface 3 2, 5) := by decide +kernel
theorem dX21_held_10 : decode cX21_held 10 = .ok (.invokestatic 9, 3) := dk_184 0 9 (dk_at dksX21_held_0 10 rfl rfl)
theorem dX21_held_13 : decode cX21_held 13 = .ok (.invokestatic 15, 3) := dk_184 0 15 (dk_at dksX21_held_0 13 rfl rfl)
theorem dX21_held_16 : decode cX21_held 16 = .ok (.ireturn, 1) := dk_172 (dk_at dksX21_held_0 16 rfl rfl)
theorem q571 : (Jvm.Cond.interfaceMethod "SlipWeeks$Part" "SlipWeeks$Part" "held" "(LSlipWeeks$Named;)I") ∈ lw_tbl := lw_at lw_m3 30 rfl
theorem q572 : (Jvm.Cond.declares ({ cls := "SlipWeeks$Part", name := "held", desc := "(LSlipWeeks$Named;)I" } : Jvm.MethodName)) ∈ lw_tbl := lw_at lw_m3 31 rfl
theorem q575 : (Jvm.Cond.instanceMethod ({ cls := "SlipWeeks$Part", name := "held", desc := "(LSlipWeeks$Named;)I" } : Jvm.MethodName)) ∈ lw_all := lw_g (lw_at lw_m3 34 rfl) rfl
theorem q576 : (Jvm.Cond.publicMethod ({ cls := "SlipWeeks$Part", name := "held", desc := "(LSlipWeeks$Named;)I" } : Jvm.MethodName)) ∈ lw_tbl := lw_at lw_m3 35 rfl
theorem q577 : (Jvm.Cond.code ({ cls := "SlipWeeks$Part", name := "held", desc := "(LSlipWeeks$Named;)I" } : Jvm.MethodName) prog_17_method_2_code (2 : Nat) (Option.some Jvm.ClassFile.FieldType.int)) ∈ lw_all := lw_g (lw_at lw_m3 36 rfl) rfl
theorem q578 : (Jvm.Cond.interfaceEntry "SlipWeeks$Part" (3 : Nat)) ∈ lw_tbl := lw_at lw_m3 37 rfl
theorem q579 : (Jvm.Cond.methodLink "SlipWeeks$Part" (3 : Nat) ({ cls := "SlipWeeks$Part", name := "worth", desc := "(LSlipWeeks$Named;)I" } : Jvm.MethodName)) ∈ lw_all := lw_g (lw_at lw_m3 38 rfl) rfl
theorem q580 : (Jvm.Cond.interfaceMethod "SlipWeeks$Part" "SlipWeeks$Part" "worth" "(LSlipWeeks$Named;)I") ∈ lw_tbl := lw_at lw_m3 39 rfl
theorem q581 : (Jvm.Cond.declares ({ cls := "SlipWeeks$Part", name := "worth", desc := "(LSlipWeeks$Named;)I" } : Jvm.MethodName)) ∈ lw_tbl := lw_at lw_m3 40 rfl
theorem q611 : (Jvm.Cond.methodLink "SlipWeeks$Part" (9 : Nat) ({ cls := "java/lang/Math", name := "min", desc := "(II)I" } : Jvm.MethodName)) ∈ lw_all := lw_g (lw_at lw_m3 70 rfl) rfl
theorem q614 : (Jvm.Cond.methodLink "SlipWeeks$Part" (15 : Nat) ({ cls := "java/lang/Math", name := "max", desc := "(II)I" } : Jvm.MethodName)) ∈ lw_all := lw_g (lw_at lw_m3 73 rfl) rfl
theorem q61 : (Jvm.Cond.initialized "SlipWeeksLaw") ∈ lw_all := lw_g (lw_at lw_m1 0 rfl) rfl
set_option maxRecDepth 100000
theorem q88 : (Jvm.Cond.classLink "SlipWeeksLaw" (7 : Nat) "SlipWeeks") ∈ lw_all := lw_g (lw_at lw_m1 27 rfl) rfl
theorem q90 : (Jvm.Cond.methodLink "SlipWeeksLaw" (9 : Nat) ({ cls := "SlipWeeks", name := "<init>", desc := "()V" } : Jvm.MethodName)) ∈ lw_all := lw_g (lw_at lw_m1 29 rfl) rfl
theorem q269 : (Jvm.Cond.methodLink "SlipWeeksLaw" (13 : Nat) ({ cls := "SlipWeeks", name := "place", desc := "(I)I" } : Jvm.MethodName)) ∈ lw_all := lw_g (lw_at lw_m1 208 rfl) rfl
theorem q360 : (Jvm.Cond.methodLink "SlipWeeksLaw" (18 : Nat) ({ cls := "SlipWeeks", name := "row", desc := "(I)I" } : Jvm.MethodName)) ∈ lw_all := lw_g (lw_at lw_m2 59 rfl) rfl
theorem q368 : (Jvm.Cond.methodLink "SlipWeeksLaw" (22 : Nat) ({ cls := "SlipWeeks", name := "people", desc := "(II)I" } : Jvm.MethodName)) ∈ lw_all := lw_g (lw_at lw_m2 67 rfl) rfl
theorem q458 : (Jvm.Cond.methodLink "SlipWeeksLaw" (27 : Nat) ({ cls := "SlipWeeks", name := "of", desc := "(II)I" } : Jvm.MethodName)) ∈ lw_all := lw_g (lw_at lw_m2 157 rfl) rfl
theorem q504 : (Jvm.Cond.methodLink "SlipWeeksLaw" (31 : Nat) ({ cls := "SlipWeeks", name := "many", desc := "(II)I" } : Jvm.MethodName)) ∈ lw_all := lw_g (lw_at lw_m2 203 rfl) rfl
theorem q508 : (Jvm.Cond.methodLink "SlipWeeksLaw" (35 : Nat) ({ cls := "SlipWeeks", name := "as", desc := "(II)I" } : Jvm.MethodName)) ∈ lw_all := lw_g (lw_at lw_m2 207 rfl) rfl
theorem q534 : (Jvm.Cond.methodLink "SlipWeeksLaw" (39 : Nat) ({ cls := "SlipWeeks", name := "likes", desc := "(II)I" } : Jvm.MethodName)) ∈ lw_all := lw_g (lw_at lw_m2 233 rfl) rfl
theorem q665 : (Jvm.Cond.methodLink "SlipWeeksLaw" (43 : Nat) ({ cls := "SlipWeeks", name := "crossed", desc := "(II)I" } : Jvm.MethodName)) ∈ lw_all := lw_g (lw_at lw_m3 124 rfl) rfl
theorem q670 : (Jvm.Cond.methodLink "SlipWeeksLaw" (47 : Nat) ({ cls := "SlipWeeks", name := "buys", desc := "(II)I" } : Jvm.MethodName)) ∈ lw_all := lw_g (lw_at lw_m3 129 rfl) rfl
theorem q676 : (Jvm.Cond.methodLink "SlipWeeksLaw" (51 : Nat) ({ cls := "SlipWeeks", name := "returned", desc := "()I" } : Jvm.MethodName)) ∈ lw_all := lw_g (lw_at lw_m3 135 rfl) rfl
theorem q680 : (Jvm.Cond.methodLink "SlipWeeksLaw" (56 : Nat) ({ cls := "SlipWeeks", name := "feed", desc := "(II)I" } : Jvm.MethodName)) ∈ lw_all := lw_g (lw_at lw_m3 139 rfl) rfl
theorem q685 : (Jvm.Cond.methodLink "SlipWeeksLaw" (60 : Nat) ({ cls := "SlipWeeks", name := "wipe", desc := "()I" } : Jvm.MethodName)) ∈ lw_all := lw_g (lw_at lw_m3 144 rfl) rfl
theorem q689 : (Jvm.Cond.methodLink "SlipWeeksLaw" (64 : Nat) ({ cls := "SlipWeeks", name := "liking", desc := "()I" } : Jvm.MethodName)) ∈ lw_all := lw_g (lw_at lw_m3 148 rfl) rfl
theorem q820 : (Jvm.Cond.methodLink "SlipWeeksLaw" (68 : Nat) ({ cls := "SlipWeeks", name := "even", desc := "()I" } : Jvm.MethodName)) ∈ lw_all := lw_g (lw_at lw_m4 39 rfl) rfl
theorem q824 : (Jvm.Cond.methodLink "SlipWeeksLaw" (72 : Nat) ({ cls := "SlipWeeks", name := "rule", desc := "(II)I" } : Jvm.MethodName)) ∈ lw_all := lw_g (lw_at lw_m4 43 rfl) rfl
theorem q835 : (Jvm.Cond.methodLink "SlipWeeksLaw" (76 : Nat) ({ cls := "SlipWeeks", name := "seed", desc := "(I)I" } : Jvm.MethodName)) ∈ lw_all := lw_g (lw_at lw_m4 54 rfl) rfl
theorem q839 : (Jvm.Cond.methodLink "SlipWeeksLaw" (80 : Nat) ({ cls := "SlipWeeks", name := "week", desc := "()I" } : Jvm.MethodName)) ∈ lw_all := lw_g (lw_at lw_m4 58 rfl) rfl
theorem q873 : (Jvm.Cond.methodLink "SlipWeeksLaw" (84 : Nat) ({ cls := "SlipWeeks", name := "told", desc := "(I)I" } : Jvm.MethodName)) ∈ lw_all := lw_g (lw_at lw_m4 92 rfl) rfl
theorem q877 : (Jvm.Cond.methodLink "SlipWeeksLaw" (88 : Nat) ({ cls := "SlipWeeks", name := "book", desc := "(II)I" } : Jvm.MethodName)) ∈ lw_all := lw_g (lw_at lw_m4 96 rfl) rfl
theorem q881 : (Jvm.Cond.methodLink "SlipWeeksLaw" (92 : Nat) ({ cls := "SlipWeeks", name := "now", desc := "()I" } : Jvm.MethodName)) ∈ lw_all := lw_g (lw_at lw_m4 100 rfl) rfl
theorem q885 : (Jvm.Cond.methodLink "SlipWeeksLaw" (96 : Nat) ({ cls := "SlipWeeks", name := "worth", desc := "(I)I" } : Jvm.MethodName)) ∈ lw_all := lw_g (lw_at lw_m4 104 rfl) rfl
theorem q902 : (Jvm.Cond.methodLink "SlipWeeksLaw" (100 : Nat) ({ cls := "SlipWeeks", name := "best", desc := "(I)I" } : Jvm.MethodName)) ∈ lw_all := lw_g (lw_at lw_m4 121 rfl) rfl
theorem q906 : (Jvm.Cond.methodLink "SlipWeeksLaw" (104 : Nat) ({ cls := "SlipWeeks", name := "alone", desc := "(I)I" } : Jvm.MethodName)) ∈ lw_all := lw_g (lw_at lw_m4 125 rfl) rfl
theorem q913 : (Jvm.Cond.methodLink "SlipWeeksLaw" (108 : Nat) ({ cls := "SlipWeeks", name := "line", desc := "(I)I" } : Jvm.MethodName)) ∈ lw_all := lw_g (lw_at lw_m4 132 rfl) rfl
theorem q918 : (Jvm.Cond.methodLink "SlipWeeksLaw" (112 : Nat) ({ cls := "SlipWeeks", name := "house", desc := "(I)J" } : Jvm.MethodName)) ∈ lw_all := lw_g (lw_at lw_m4 137 rfl) rfl
theorem q930 : (Jvm.Cond.methodLink "SlipWeeksLaw" (117 : Nat) ({ cls := "SlipWeeks", name := "seek", desc := "(II)I" } : Jvm.MethodName)) ∈ lw_all := lw_g (lw_at lw_m4 149 rfl) rfl
theorem q935 : (Jvm.Cond.methodLink "SlipWeeksLaw" (121 : Nat) ({ cls := "SlipWeeks", name := "shares", desc := "(I)I" } : Jvm.MethodName)) ∈ lw_all := lw_g (lw_at lw_m4 154 rfl) rfl
theorem q939 : (Jvm.Cond.methodLink "SlipWeeksLaw" (125 : Nat) ({ cls := "SlipWeeks", name := "due", desc := "(I)I" } : Jvm.MethodName)) ∈ lw_all := lw_g (lw_at lw_m4 158 rfl) rfl
theorem q948 : (Jvm.Cond.methodLink "SlipWeeksLaw" (129 : Nat) ({ cls := "SlipWeeks", name := "came", desc := "(I)I" } : Jvm.MethodName)) ∈ lw_all := lw_g (lw_at lw_m4 167 rfl) rfl
theorem q956 : (Jvm.Cond.methodLink "SlipWeeksLaw" (133 : Nat) ({ cls := "SlipWeeks", name := "drum", desc := "()J" } : Jvm.MethodName)) ∈ lw_all := lw_g (lw_at lw_m4 175 rfl) rfl
theorem q960 : (Jvm.Cond.methodLink "SlipWeeksLaw" (138 : Nat) ({ cls := "SlipWeeks", name := "felt", desc := "(I)I" } : Jvm.MethodName)) ∈ lw_all := lw_g (lw_at lw_m4 179 rfl) rfl
theorem q964 : (Jvm.Cond.methodLink "SlipWeeksLaw" (159 : Nat) ({ cls := "SlipWeeks", name := "weeks", desc := "(I)I" } : Jvm.MethodName)) ∈ lw_all := lw_g (lw_at lw_m4 183 rfl) rfl
theorem q985 : (Jvm.Cond.methodLink "SlipWeeksLaw" (163 : Nat) ({ cls := "SlipWeeks", name := "read", desc := "(I)I" } : Jvm.MethodName)) ∈ lw_all := lw_g (lw_at lw_m4 204 rfl) rfl
theorem q989 : (Jvm.Cond.methodLink "SlipWeeksLaw" (142 : Nat) ({ cls := "SlipWeeks", name := "sheet", desc := "(III)I" } : Jvm.MethodName)) ∈ lw_all := lw_g (lw_at lw_m4 208 rfl) rfl
theorem q998 : (Jvm.Cond.methodLink "SlipWeeksLaw" (149 : Nat) ({ cls := "SlipWeeks", name := "write", desc := "(IIJ)J" } : Jvm.MethodName)) ∈ lw_all := lw_g (lw_at lw_m4 217 rfl) rfl
theorem q1009 : (Jvm.Cond.methodLink "SlipWeeksLaw" (154 : Nat) ({ cls := "SlipWeeks", name := "copy", desc := "(IIIII)I" } : Jvm.MethodName)) ∈ lw_all := lw_g (lw_at lw_m4 228 rfl) rfl
theorem q1019 : (Jvm.Cond.methodLink "SlipWeeksLaw" (167 : Nat) ({ cls := "SlipWeeks", name := "image", desc := "()I" } : Jvm.MethodName)) ∈ lw_all := lw_g (lw_at lw_m4 238 rfl) rfl
theorem q1074 : (Jvm.Cond.methodLink "SlipWeeksLaw" (171 : Nat) ({ cls := "SlipWeeks", name := "undo", desc := "()I" } : Jvm.MethodName)) ∈ lw_all := lw_g (lw_at lw_m5 53 rfl) rfl
theorem q1078 : (Jvm.Cond.methodLink "SlipWeeksLaw" (175 : Nat) ({ cls := "SlipWeeks", name := "tear", desc := "()I" } : Jvm.MethodName)) ∈ lw_all := lw_g (lw_at lw_m5 57 rfl) rfl
theorem q1082 : (Jvm.Cond.methodLink "SlipWeeksLaw" (179 : Nat) ({ cls := "SlipWeeks", name := "count", desc := "(I)I" } : Jvm.MethodName)) ∈ lw_all := lw_g (lw_at lw_m5 61 rfl) rfl
theorem q1090 : (Jvm.Cond.methodLink "SlipWeeksLaw" (183 : Nat) ({ cls := "SlipWeeks", name := "status", desc := "(I)I" } : Jvm.MethodName)) ∈ lw_all := lw_g (lw_at lw_m5 69 rfl) rfl
theorem q1095 : (Jvm.Cond.classLink "SlipWeeksLaw" (10 : Nat) "SlipWeeksModel") ∈ lw_all := lw_g (lw_at lw_m5 74 rfl) rfl
theorem q1097 : (Jvm.Cond.methodLink "SlipWeeksLaw" (12 : Nat) ({ cls := "SlipWeeksModel", name := "<init>", desc := "()V" } : Jvm.MethodName)) ∈ lw_all := lw_g (lw_at lw_m5 76 rfl) rfl
theorem q1199 : (Jvm.Cond.methodLink "SlipWeeksLaw" (17 : Nat) ({ cls := "SlipWeeksModel", name := "place", desc := "(I)I" } : Jvm.MethodName)) ∈ lw_all := lw_g (lw_at lw_m5 178 rfl) rfl
theorem q1208 : (Jvm.Cond.methodLink "SlipWeeksLaw" (21 : Nat) ({ cls := "SlipWeeksModel", name := "row", desc := "(I)I" } : Jvm.MethodName)) ∈ lw_all := lw_g (lw_at lw_m5 187 rfl) rfl
theorem q1215 : (Jvm.Cond.methodLink "SlipWeeksLaw" (26 : Nat) ({ cls := "SlipWeeksModel", name := "people", desc := "(II)I" } : Jvm.MethodName)) ∈ lw_all := lw_g (lw_at lw_m5 194 rfl) rfl
theorem q1225 : (Jvm.Cond.methodLink "SlipWeeksLaw" (30 : Nat) ({ cls := "SlipWeeksModel", name := "of", desc := "(II)I" } : Jvm.MethodName)) ∈ lw_all := lw_g (lw_at lw_m5 204 rfl) rfl
theorem q1233 : (Jvm.Cond.methodLink "SlipWeeksLaw" (34 : Nat) ({ cls := "SlipWeeksModel", name := "many", desc := "(II)I" } : Jvm.MethodName)) ∈ lw_all := lw_g (lw_at lw_m5 212 rfl) rfl
theorem q1237 : (Jvm.Cond.methodLink "SlipWeeksLaw" (38 : Nat) ({ cls := "SlipWeeksModel", name := "as", desc := "(II)I" } : Jvm.MethodName)) ∈ lw_all := lw_g (lw_at lw_m5 216 rfl) rfl
theorem q1245 : (Jvm.Cond.methodLink "SlipWeeksLaw" (59 : Nat) ({ cls := "SlipWeeksModel", name := "feed", desc := "(II)I" } : Jvm.MethodName)) ∈ lw_all := lw_g (lw_at lw_m5 224 rfl) rfl
theorem q1250 : (Jvm.Cond.methodLink "SlipWeeksLaw" (63 : Nat) ({ cls := "SlipWeeksModel", name := "wipe", desc := "()I" } : Jvm.MethodName)) ∈ lw_all := lw_g (lw_at lw_m5 229 rfl) rfl
theorem q1254 : (Jvm.Cond.methodLink "SlipWeeksLaw" (67 : Nat) ({ cls := "SlipWeeksModel", name := "liking", desc := "()I" } : Jvm.MethodName)) ∈ lw_all := lw_g (lw_at lw_m5 233 rfl) rfl
theorem q1312 : (Jvm.Cond.methodLink "SlipWeeksLaw" (71 : Nat) ({ cls := "SlipWeeksModel", name := "even", desc := "()I" } : Jvm.MethodName)) ∈ lw_all := lw_g (lw_at lw_m6 51 rfl) rfl
theorem q1316 : (Jvm.Cond.methodLink "SlipWeeksLaw" (42 : Nat) ({ cls := "SlipWeeksModel", name := "likes", desc := "(II)I" } : Jvm.MethodName)) ∈ lw_all := lw_g (lw_at lw_m6 55 rfl) rfl
theorem q1343 : (Jvm.Cond.methodLink "SlipWeeksLaw" (46 : Nat) ({ cls := "SlipWeeksModel", name := "crossed", desc := "(II)I" } : Jvm.MethodName)) ∈ lw_all := lw_g (lw_at lw_m6 82 rfl) rfl
theorem q1347 : (Jvm.Cond.methodLink "SlipWeeksLaw" (50 : Nat) ({ cls := "SlipWeeksModel", name := "buys", desc := "(II)I" } : Jvm.MethodName)) ∈ lw_all := lw_g (lw_at lw_m6 86 rfl) rfl
theorem q1353 : (Jvm.Cond.methodLink "SlipWeeksLaw" (55 : Nat) ({ cls := "SlipWeeksModel", name := "returned", desc := "()I" } : Jvm.MethodName)) ∈ lw_all := lw_g (lw_at lw_m6 92 rfl) rfl
theorem q1357 : (Jvm.Cond.methodLink "SlipWeeksLaw" (75 : Nat) ({ cls := "SlipWeeksModel", name := "rule", desc := "(II)I" } : Jvm.MethodName)) ∈ lw_all := lw_g (lw_at lw_m6 96 rfl) rfl
theorem q1363 : (Jvm.Cond.methodLink "SlipWeeksLaw" (79 : Nat) ({ cls := "SlipWeeksModel", name := "seed", desc := "(I)I" } : Jvm.MethodName)) ∈ lw_all := lw_g (lw_at lw_m6 102 rfl) rfl
theorem q1367 : (Jvm.Cond.methodLink "SlipWeeksLaw" (83 : Nat) ({ cls := "SlipWeeksModel", name := "week", desc := "()I" } : Jvm.MethodName)) ∈ lw_all := lw_g (lw_at lw_m6 106 rfl) rfl
theorem q1386 : (Jvm.Cond.methodLink "SlipWeeksLaw" (87 : Nat) ({ cls := "SlipWeeksModel", name := "told", desc := "(I)I" } : Jvm.MethodName)) ∈ lw_all := lw_g (lw_at lw_m6 125 rfl) rfl
theorem q1390 : (Jvm.Cond.methodLink "SlipWeeksLaw" (91 : Nat) ({ cls := "SlipWeeksModel", name := "book", desc := "(II)I" } : Jvm.MethodName)) ∈ lw_all := lw_g (lw_at lw_m6 129 rfl) rfl
theorem q1394 : (Jvm.Cond.methodLink "SlipWeeksLaw" (95 : Nat) ({ cls := "SlipWeeksModel", name := "now", desc := "()I" } : Jvm.MethodName)) ∈ lw_all := lw_g (lw_at lw_m6 133 rfl) rfl
theorem q1398 : (Jvm.Cond.methodLink "SlipWeeksLaw" (99 : Nat) ({ cls := "SlipWeeksModel", name := "worth", desc := "(I)I" } : Jvm.MethodName)) ∈ lw_all := lw_g (lw_at lw_m6 137 rfl) rfl
theorem q1419 : (Jvm.Cond.methodLink "SlipWeeksLaw" (103 : Nat) ({ cls := "SlipWeeksModel", name := "best", desc := "(I)I" } : Jvm.MethodName)) ∈ lw_all := lw_g (lw_at lw_m6 158 rfl) rfl
theorem q1423 : (Jvm.Cond.methodLink "SlipWeeksLaw" (107 : Nat) ({ cls := "SlipWeeksModel", name := "alone", desc := "(I)I" } : Jvm.MethodName)) ∈ lw_all := lw_g (lw_at lw_m6 162 rfl) rfl
theorem q1428 : (Jvm.Cond.methodLink "SlipWeeksLaw" (111 : Nat) ({ cls := "SlipWeeksModel", name := "line", desc := "(I)I" } : Jvm.MethodName)) ∈ lw_all := lw_g (lw_at lw_m6 167 rfl) rfl
theorem q1432 : (Jvm.Cond.methodLink "SlipWeeksLaw" (116 : Nat) ({ cls := "SlipWeeksModel", name := "house", desc := "(I)J" } : Jvm.MethodName)) ∈ lw_all := lw_g (lw_at lw_m6 171 rfl) rfl
theorem q1444 : (Jvm.Cond.methodLink "SlipWeeksLaw" (120 : Nat) ({ cls := "SlipWeeksModel", name := "seek", desc := "(II)I" } : Jvm.MethodName)) ∈ lw_all := lw_g (lw_at lw_m6 183 rfl) rfl
theorem q1449 : (Jvm.Cond.methodLink "SlipWeeksLaw" (124 : Nat) ({ cls := "SlipWeeksModel", name := "shares", desc := "(I)I" } : Jvm.MethodName)) ∈ lw_all := lw_g (lw_at lw_m6 188 rfl) rfl
theorem q1453 : (Jvm.Cond.methodLink "SlipWeeksLaw" (128 : Nat) ({ cls := "SlipWeeksModel", name := "due", desc := "(I)I" } : Jvm.MethodName)) ∈ lw_all := lw_g (lw_at lw_m6 192 rfl) rfl
theorem q1462 : (Jvm.Cond.methodLink "SlipWeeksLaw" (132 : Nat) ({ cls := "SlipWeeksModel", name := "came", desc := "(I)I" } : Jvm.MethodName)) ∈ lw_all := lw_g (lw_at lw_m6 201 rfl) rfl
theorem q1470 : (Jvm.Cond.methodLink "SlipWeeksLaw" (137 : Nat) ({ cls := "SlipWeeksModel", name := "drum", desc := "()J" } : Jvm.MethodName)) ∈ lw_all := lw_g (lw_at lw_m6 209 rfl) rfl
theorem q1475 : (Jvm.Cond.methodLink "SlipWeeksLaw" (141 : Nat) ({ cls := "SlipWeeksModel", name := "felt", desc := "(I)I" } : Jvm.MethodName)) ∈ lw_all := lw_g (lw_at lw_m6 214 rfl) rfl
theorem q1479 : (Jvm.Cond.methodLink "SlipWeeksLaw" (146 : Nat) ({ cls := "SlipWeeksModel", name := "sheet", desc := "(III)I" } : Jvm.MethodName)) ∈ lw_all := lw_g (lw_at lw_m6 218 rfl) rfl
theorem q1487 : (Jvm.Cond.methodLink "SlipWeeksLaw" (153 : Nat) ({ cls := "SlipWeeksModel", name := "write", desc := "(IIJ)J" } : Jvm.MethodName)) ∈ lw_all := lw_g (lw_at lw_m6 226 rfl) rfl
theorem q1495 : (Jvm.Cond.methodLink "SlipWeeksLaw" (158 : Nat) ({ cls := "SlipWeeksModel", name := "copy", desc := "(IIIII)I" } : Jvm.MethodName)) ∈ lw_all := lw_g (lw_at lw_m6 234 rfl) rfl
theorem q1499 : (Jvm.Cond.methodLink "SlipWeeksLaw" (162 : Nat) ({ cls := "SlipWeeksModel", name := "weeks", desc := "(I)I" } : Jvm.MethodName)) ∈ lw_all := lw_g (lw_at lw_m6 238 rfl) rfl
theorem q1504 : (Jvm.Cond.methodLink "SlipWeeksLaw" (166 : Nat) ({ cls := "SlipWeeksModel", name := "read", desc := "(I)I" } : Jvm.MethodName)) ∈ lw_all := lw_g (lw_at lw_m7 3 rfl) rfl
theorem q1508 : (Jvm.Cond.methodLink "SlipWeeksLaw" (170 : Nat) ({ cls := "SlipWeeksModel", name := "image", desc := "()I" } : Jvm.MethodName)) ∈ lw_all := lw_g (lw_at lw_m7 7 rfl) rfl
theorem q1512 : (Jvm.Cond.methodLink "SlipWeeksLaw" (174 : Nat) ({ cls := "SlipWeeksModel", name := "undo", desc := "()I" } : Jvm.MethodName)) ∈ lw_all := lw_g (lw_at lw_m7 11 rfl) rfl
theorem q1516 : (Jvm.Cond.methodLink "SlipWeeksLaw" (178 : Nat) ({ cls := "SlipWeeksModel", name := "tear", desc := "()I" } : Jvm.MethodName)) ∈ lw_all := lw_g (lw_at lw_m7 15 rfl) rfl
theorem q1520 : (Jvm.Cond.methodLink "SlipWeeksLaw" (182 : Nat) ({ cls := "SlipWeeksModel", name := "count", desc := "(I)I" } : Jvm.MethodName)) ∈ lw_all := lw_g (lw_at lw_m7 19 rfl) rfl
theorem q1524 : (Jvm.Cond.methodLink "SlipWeeksLaw" (186 : Nat) ({ cls := "SlipWeeksModel", name := "status", desc := "(I)I" } : Jvm.MethodName)) ∈ lw_all := lw_g (lw_at lw_m7 23 rfl) rfl
theorem q1530 : (Jvm.Cond.constantLong "SlipWeeksLaw" (147 : Nat) (4294967295 : Int64)) ∈ lw_all := lw_g (lw_at lw_m7 29 rfl) rfl
theorem q87 : (Jvm.Cond.initialized "java/lang/System") ∈ lw_all := lw_g (lw_at lw_m1 26 rfl) rfl
set_option maxRecDepth 100000
theorem q1017 : (Jvm.Cond.static ({ cls := "java/lang/System", name := "arraycopy", desc := "(Ljava/lang/Object;ILjava/lang/Object;II)V" } : Jvm.MethodName)) ∈ lw_all := lw_g (lw_at lw_m4 236 rfl) rfl
theorem q1018 : (Jvm.Cond.native ({ cls := "java/lang/System", name := "arraycopy", desc := "(Ljava/lang/Object;ILjava/lang/Object;II)V" } : Jvm.MethodName)) ∈ lw_all := lw_g (lw_at lw_m4 237 rfl) rfl
theorem q106 : (Jvm.Cond.arrayOver (Jvm.ClassFile.FieldType.object "SlipWeeks$Slot")) ∈ lw_tbl := lw_at lw_m1 45 rfl
set_option maxRecDepth 100000
theorem q117 : (Jvm.Cond.arrayClass Jvm.ClassFile.FieldType.int) ∈ lw_all := lw_g (lw_at lw_m1 56 rfl) rfl
theorem q121 : (Jvm.Cond.arrayOver (Jvm.ClassFile.FieldType.array Jvm.ClassFile.FieldType.int)) ∈ lw_tbl := lw_at lw_m1 60 rfl
theorem q191 : (Jvm.Cond.arrayClass Jvm.ClassFile.FieldType.byte) ∈ lw_all := lw_g (lw_at lw_m1 130 rfl) rfl
theorem q268 : (Jvm.Cond.arrayClass Jvm.ClassFile.FieldType.boolean) ∈ lw_all := lw_g (lw_at lw_m1 207 rfl) rfl
theorem q996 : (Jvm.Cond.arrayClass Jvm.ClassFile.FieldType.short) ∈ lw_all := lw_g (lw_at lw_m4 215 rfl) rfl
theorem q997 : (Jvm.Cond.arrayClass Jvm.ClassFile.FieldType.long) ∈ lw_all := lw_g (lw_at lw_m4 216 rfl) rfl
