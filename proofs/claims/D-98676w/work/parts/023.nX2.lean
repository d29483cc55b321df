/-! java/lang/Integer -/
set_option maxRecDepth 100000
def RJ10 : String := "java/lang/Integer"
abbrev cJ10_numberOfTrailingZeros : ByteArray := prog_29_method_48_code
def yJ10_numberOfTrailingZeros : MethodName := ⟨RJ10, "numberOfTrailingZeros", "(I)I"⟩
def dkwJ10_numberOfTrailingZeros_3 : List UInt8 := [5, 124, 59, 27, 26, 4, 124, 96, 172]
abbrev dktJ10_numberOfTrailingZeros_3 : List UInt8 := dkwJ10_numberOfTrailingZeros_3 ++ []
def dkwJ10_numberOfTrailingZeros_2 : List UInt8 := [124, 59, 26, 16, 16, 164, 0, 10, 132, 1, 4, 26, 7, 124, 59, 26, 7, 164, 0, 10, 132, 1, 2, 26]
abbrev dktJ10_numberOfTrailingZeros_2 : List UInt8 := dkwJ10_numberOfTrailingZeros_2 ++ dktJ10_numberOfTrailingZeros_3
def dkwJ10_numberOfTrailingZeros_1 : List UInt8 := [164, 0, 11, 132, 1, 16, 26, 16, 16, 124, 59, 26, 17, 1, 0, 164, 0, 11, 132, 1, 8, 26, 16, 8]
abbrev dktJ10_numberOfTrailingZeros_1 : List UInt8 := dkwJ10_numberOfTrailingZeros_1 ++ dktJ10_numberOfTrailingZeros_2
def dkwJ10_numberOfTrailingZeros_0 : List UInt8 := [26, 2, 130, 26, 4, 100, 126, 59, 26, 157, 0, 8, 26, 16, 32, 126, 172, 4, 60, 26, 19, 1, 8]
abbrev dktJ10_numberOfTrailingZeros_0 : List UInt8 := dkwJ10_numberOfTrailingZeros_0 ++ dktJ10_numberOfTrailingZeros_1
theorem dksJ10_numberOfTrailingZeros_0 : cJ10_numberOfTrailingZeros.data.toList.drop 0 = dktJ10_numberOfTrailingZeros_0 := by decide +kernel
theorem dksJ10_numberOfTrailingZeros_1 : cJ10_numberOfTrailingZeros.data.toList.drop 23 = dktJ10_numberOfTrailingZeros_1 := dk_seg dksJ10_numberOfTrailingZeros_0 23 rfl rfl
theorem dksJ10_numberOfTrailingZeros_2 : cJ10_numberOfTrailingZeros.data.toList.drop 47 = dktJ10_numberOfTrailingZeros_2 := dk_seg dksJ10_numberOfTrailingZeros_1 24 rfl rfl
theorem dksJ10_numberOfTrailingZeros_3 : cJ10_numberOfTrailingZeros.data.toList.drop 71 = dktJ10_numberOfTrailingZeros_3 := dk_seg dksJ10_numberOfTrailingZeros_2 24 rfl rfl
theorem dJ10_numberOfTrailingZeros_0 : decode cJ10_numberOfTrailingZeros 0 = .ok (.iload_n 0, 1) := dk_26 (dk_at dksJ10_numberOfTrailingZeros_0 0 rfl rfl)
theorem dJ10_numberOfTrailingZeros_1 : decode cJ10_numberOfTrailingZeros 1 = .ok (.iconst (-1), 1) := dk_2 (dk_at dksJ10_numberOfTrailingZeros_0 1 rfl rfl)
theorem dJ10_numberOfTrailingZeros_2 : decode cJ10_numberOfTrailingZeros 2 = .ok (.ixor, 1) := dk_130 (dk_at dksJ10_numberOfTrailingZeros_0 2 rfl rfl)
theorem dJ10_numberOfTrailingZeros_3 : decode cJ10_numberOfTrailingZeros 3 = .ok (.iload_n 0, 1) := dk_26 (dk_at dksJ10_numberOfTrailingZeros_0 3 rfl rfl)
theorem dJ10_numberOfTrailingZeros_4 : decode cJ10_numberOfTrailingZeros 4 = .ok (.iconst 1, 1) := dk_4 (dk_at dksJ10_numberOfTrailingZeros_0 4 rfl rfl)
theorem dJ10_numberOfTrailingZeros_5 : decode cJ10_numberOfTrailingZeros 5 = .ok (.isub, 1) := dk_100 (dk_at dksJ10_numberOfTrailingZeros_0 5 rfl rfl)
theorem dJ10_numberOfTrailingZeros_6 : decode cJ10_numberOfTrailingZeros 6 = .ok (.iand, 1) := dk_126 (dk_at dksJ10_numberOfTrailingZeros_0 6 rfl rfl)
theorem dJ10_numberOfTrailingZeros_7 : decode cJ10_numberOfTrailingZeros 7 = .ok (.istore_n 0, 1) := dk_59 (dk_at dksJ10_numberOfTrailingZeros_0 7 rfl rfl)
theorem dJ10_numberOfTrailingZeros_8 : decode cJ10_numberOfTrailingZeros 8 = .ok (.iload_n 0, 1) := dk_26 (dk_at dksJ10_numberOfTrailingZeros_0 8 rfl rfl)
theorem dJ10_numberOfTrailingZeros_9 : decode cJ10_numberOfTrailingZeros 9 = .ok (.ifCond .gt 8, 3) := dk_157 0 8 (dk_at dksJ10_numberOfTrailingZeros_0 9 rfl rfl)
theorem dJ10_numberOfTrailingZeros_12 : decode cJ10_numberOfTrailingZeros 12 = .ok (.iload_n 0, 1) := dk_26 (dk_at dksJ10_numberOfTrailingZeros_0 12 rfl rfl)
theorem dJ10_numberOfTrailingZeros_13 : decode cJ10_numberOfTrailingZeros 13 = .ok (.bipush 32, 2) := dk_16 32 (dk_at dksJ10_numberOfTrailingZeros_0 13 rfl rfl)
theorem dJ10_numberOfTrailingZeros_15 : decode cJ10_numberOfTrailingZeros 15 = .ok (.iand, 1) := dk_126 (dk_at dksJ10_numberOfTrailingZeros_0 15 rfl rfl)
theorem dJ10_numberOfTrailingZeros_16 : decode cJ10_numberOfTrailingZeros 16 = .ok (.ireturn, 1) := dk_172 (dk_at dksJ10_numberOfTrailingZeros_0 16 rfl rfl)
theorem dJ10_numberOfTrailingZeros_17 : decode cJ10_numberOfTrailingZeros 17 = .ok (.iconst 1, 1) := dk_4 (dk_at dksJ10_numberOfTrailingZeros_0 17 rfl rfl)
theorem dJ10_numberOfTrailingZeros_18 : decode cJ10_numberOfTrailingZeros 18 = .ok (.istore_n 1, 1) := dk_60 (dk_at dksJ10_numberOfTrailingZeros_0 18 rfl rfl)
theorem dJ10_numberOfTrailingZeros_19 : decode cJ10_numberOfTrailingZeros 19 = .ok (.iload_n 0, 1) := dk_26 (dk_at dksJ10_numberOfTrailingZeros_0 19 rfl rfl)
theorem dJ10_numberOfTrailingZeros_20 : decode cJ10_numberOfTrailingZeros 20 = .ok (.ldc_w 264, 3) := dk_19 1 8 (dk_at dksJ10_numberOfTrailingZeros_0 20 rfl rfl)
theorem dJ10_numberOfTrailingZeros_23 : decode cJ10_numberOfTrailingZeros 23 = .ok (.if_icmp .le 11, 3) := dk_164 0 11 (dk_at dksJ10_numberOfTrailingZeros_1 0 rfl rfl)
theorem dJ10_numberOfTrailingZeros_26 : decode cJ10_numberOfTrailingZeros 26 = .ok (.iinc 1 16, 3) := dk_132 1 16 (dk_at dksJ10_numberOfTrailingZeros_1 3 rfl rfl)
theorem dJ10_numberOfTrailingZeros_29 : decode cJ10_numberOfTrailingZeros 29 = .ok (.iload_n 0, 1) := dk_26 (dk_at dksJ10_numberOfTrailingZeros_1 6 rfl rfl)
theorem dJ10_numberOfTrailingZeros_30 : decode cJ10_numberOfTrailingZeros 30 = .ok (.bipush 16, 2) := dk_16 16 (dk_at dksJ10_numberOfTrailingZeros_1 7 rfl rfl)
theorem dJ10_numberOfTrailingZeros_32 : decode cJ10_numberOfTrailingZeros 32 = .ok (.iushr, 1) := dk_124 (dk_at dksJ10_numberOfTrailingZeros_1 9 rfl rfl)
theorem dJ10_numberOfTrailingZeros_33 : decode cJ10_numberOfTrailingZeros 33 = .ok (.istore_n 0, 1) := dk_59 (dk_at dksJ10_numberOfTrailingZeros_1 10 rfl rfl)
theorem dJ10_numberOfTrailingZeros_34 : decode cJ10_numberOfTrailingZeros 34 = .ok (.iload_n 0, 1) := dk_26 (dk_at dksJ10_numberOfTrailingZeros_1 11 rfl rfl)
theorem dJ10_numberOfTrailingZeros_35 : decode cJ10_numberOfTrailingZeros 35 = .ok (.sipush 256, 3) := dk_17 1 0 (dk_at dksJ10_numberOfTrailingZeros_1 12 rfl rfl)
theorem dJ10_numberOfTrailingZeros_38 : decode cJ10_numberOfTrailingZeros 38 = .ok (.if_icmp .le 11, 3) := dk_164 0 11 (dk_at dksJ10_numberOfTrailingZeros_1 15 rfl rfl)
theorem dJ10_numberOfTrailingZeros_41 : decode cJ10_numberOfTrailingZeros 41 = .ok (.iinc 1 8, 3) := dk_132 1 8 (dk_at dksJ10_numberOfTrailingZeros_1 18 rfl rfl)
theorem dJ10_numberOfTrailingZeros_44 : decode cJ10_numberOfTrailingZeros 44 = .ok (.iload_n 0, 1) := dk_26 (dk_at dksJ10_numberOfTrailingZeros_1 21 rfl rfl)
theorem dJ10_numberOfTrailingZeros_45 : decode cJ10_numberOfTrailingZeros 45 = .ok (.bipush 8, 2) := dk_16 8 (dk_at dksJ10_numberOfTrailingZeros_1 22 rfl rfl)
theorem dJ10_numberOfTrailingZeros_47 : decode cJ10_numberOfTrailingZeros 47 = .ok (.iushr, 1) := dk_124 (dk_at dksJ10_numberOfTrailingZeros_2 0 rfl rfl)
theorem dJ10_numberOfTrailingZeros_48 : decode cJ10_numberOfTrailingZeros 48 = .ok (.istore_n 0, 1) := dk_59 (dk_at dksJ10_numberOfTrailingZeros_2 1 rfl rfl)
theorem dJ10_numberOfTrailingZeros_49 : decode cJ10_numberOfTrailingZeros 49 = .ok (.iload_n 0, 1) := dk_26 (dk_at dksJ10_numberOfTrailingZeros_2 2 rfl rfl)
theorem dJ10_numberOfTrailingZeros_50 : decode cJ10_numberOfTrailingZeros 50 = .ok (.bipush 16, 2) := dk_16 16 (dk_at dksJ10_numberOfTrailingZeros_2 3 rfl rfl)
theorem dJ10_numberOfTrailingZeros_52 : decode cJ10_numberOfTrailingZeros 52 = .ok (.if_icmp .le 10, 3) := dk_164 0 10 (dk_at dksJ10_numberOfTrailingZeros_2 5 rfl rfl)
theorem dJ10_numberOfTrailingZeros_55 : decode cJ10_numberOfTrailingZeros 55 = .ok (.iinc 1 4, 3) := dk_132 1 4 (dk_at dksJ10_numberOfTrailingZeros_2 8 rfl rfl)
theorem dJ10_numberOfTrailingZeros_58 : decode cJ10_numberOfTrailingZeros 58 = .ok (.iload_n 0, 1) := dk_26 (dk_at dksJ10_numberOfTrailingZeros_2 11 rfl rfl)
theorem dJ10_numberOfTrailingZeros_59 : decode cJ10_numberOfTrailingZeros 59 = .ok (.iconst 4, 1) := dk_7 (dk_at dksJ10_numberOfTrailingZeros_2 12 rfl rfl)
theorem dJ10_numberOfTrailingZeros_60 : decode cJ10_numberOfTrailingZeros 60 = .ok (.iushr, 1) := dk_124 (dk_at dksJ10_numberOfTrailingZeros_2 13 rfl rfl)
theorem dJ10_numberOfTrailingZeros_61 : decode cJ10_numberOfTrailingZeros 61 = .ok (.istore_n 0, 1) := dk_59 (dk_at dksJ10_numberOfTrailingZeros_2 14 rfl rfl)
theorem dJ10_numberOfTrailingZeros_62 : decode cJ10_numberOfTrailingZeros 62 = .ok (.iload_n 0, 1) := dk_26 (dk_at dksJ10_numberOfTrailingZeros_2 15 rfl rfl)
theorem dJ10_numberOfTrailingZeros_63 : decode cJ10_numberOfTrailingZeros 63 = .ok (.iconst 4, 1) := dk_7 (dk_at dksJ10_numberOfTrailingZeros_2 16 rfl rfl)
theorem dJ10_numberOfTrailingZeros_64 : decode cJ10_numberOfTrailingZeros 64 = .ok (.if_icmp .le 10, 3) := dk_164 0 10 (dk_at dksJ10_numberOfTrailingZeros_2 17 rfl rfl)
theorem dJ10_numberOfTrailingZeros_67 : decode cJ10_numberOfTrailingZeros 67 = .ok (.iinc 1 2, 3) := dk_132 1 2 (dk_at dksJ10_numberOfTrailingZeros_2 20 rfl rfl)
theorem dJ10_numberOfTrailingZeros_70 : decode cJ10_numberOfTrailingZeros 70 = .ok (.iload_n 0, 1) := dk_26 (dk_at dksJ10_numberOfTrailingZeros_2 23 rfl rfl)
theorem dJ10_numberOfTrailingZeros_71 : decode cJ10_numberOfTrailingZeros 71 = .ok (.iconst 2, 1) := dk_5 (dk_at dksJ10_numberOfTrailingZeros_3 0 rfl rfl)
theorem dJ10_numberOfTrailingZeros_72 : decode cJ10_numberOfTrailingZeros 72 = .ok (.iushr, 1) := dk_124 (dk_at dksJ10_numberOfTrailingZeros_3 1 rfl rfl)
theorem dJ10_numberOfTrailingZeros_73 : decode cJ10_numberOfTrailingZeros 73 = .ok (.istore_n 0, 1) := dk_59 (dk_at dksJ10_numberOfTrailingZeros_3 2 rfl rfl)
theorem dJ10_numberOfTrailingZeros_74 : decode cJ10_numberOfTrailingZeros 74 = .ok (.iload_n 1, 1) := dk_27 (dk_at dksJ10_numberOfTrailingZeros_3 3 rfl rfl)
theorem dJ10_numberOfTrailingZeros_75 : decode cJ10_numberOfTrailingZeros 75 = .ok (.iload_n 0, 1) := dk_26 (dk_at dksJ10_numberOfTrailingZeros_3 4 rfl rfl)
theorem dJ10_numberOfTrailingZeros_76 : decode cJ10_numberOfTrailingZeros 76 = .ok (.iconst 1, 1) := dk_4 (dk_at dksJ10_numberOfTrailingZeros_3 5 rfl rfl)
theorem dJ10_numberOfTrailingZeros_77 : decode cJ10_numberOfTrailingZeros 77 = .ok (.iushr, 1) := dk_124 (dk_at dksJ10_numberOfTrailingZeros_3 6 rfl rfl)
theorem dJ10_numberOfTrailingZeros_78 : decode cJ10_numberOfTrailingZeros 78 = .ok (.iadd, 1) := dk_96 (dk_at dksJ10_numberOfTrailingZeros_3 7 rfl rfl)
theorem dJ10_numberOfTrailingZeros_79 : decode cJ10_numberOfTrailingZeros 79 = .ok (.ireturn, 1) := dk_172 (dk_at dksJ10_numberOfTrailingZeros_3 8 rfl rfl)
abbrev cJ10_bitCount : ByteArray := prog_29_method_49_code
def yJ10_bitCount : MethodName := ⟨RJ10, "bitCount", "(I)I"⟩
def dkwJ10_bitCount_2 : List UInt8 := [26, 16, 63, 126, 172]
abbrev dktJ10_bitCount_2 : List UInt8 := dkwJ10_bitCount_2 ++ []
def dkwJ10_bitCount_1 : List UInt8 := [26, 26, 7, 124, 96, 19, 1, 11, 126, 59, 26, 26, 16, 8, 124, 96, 59, 26, 26, 16, 16, 124, 96, 59]
abbrev dktJ10_bitCount_1 : List UInt8 := dkwJ10_bitCount_1 ++ dktJ10_bitCount_2
def dkwJ10_bitCount_0 : List UInt8 := [26, 26, 4, 124, 19, 1, 9, 126, 100, 59, 26, 19, 1, 10, 126, 26, 5, 124, 19, 1, 10, 126, 96, 59]
abbrev dktJ10_bitCount_0 : List UInt8 := dkwJ10_bitCount_0 ++ dktJ10_bitCount_1
theorem dksJ10_bitCount_0 : cJ10_bitCount.data.toList.drop 0 = dktJ10_bitCount_0 := by decide +kernel
theorem dksJ10_bitCount_1 : cJ10_bitCount.data.toList.drop 24 = dktJ10_bitCount_1 := dk_seg dksJ10_bitCount_0 24 rfl rfl
theorem dksJ10_bitCount_2 : cJ10_bitCount.data.toList.drop 48 = dktJ10_bitCount_2 := dk_seg dksJ10_bitCount_1 24 rfl rfl
theorem dJ10_bitCount_0 : decode cJ10_bitCount 0 = .ok (.iload_n 0, 1) := dk_26 (dk_at dksJ10_bitCount_0 0 rfl rfl)
theorem dJ10_bitCount_1 : decode cJ10_bitCount 1 = .ok (.iload_n 0, 1) := dk_26 (dk_at dksJ10_bitCount_0 1 rfl rfl)
theorem dJ10_bitCount_2 : decode cJ10_bitCount 2 = .ok (.iconst 1, 1) := dk_4 (dk_at dksJ10_bitCount_0 2 rfl rfl)
theorem dJ10_bitCount_3 : decode cJ10_bitCount 3 = .ok (.iushr, 1) := dk_124 (dk_at dksJ10_bitCount_0 3 rfl rfl)
theorem dJ10_bitCount_4 : decode cJ10_bitCount 4 = .ok (.ldc_w 265, 3) := dk_19 1 9 (dk_at dksJ10_bitCount_0 4 rfl rfl)
theorem dJ10_bitCount_7 : decode cJ10_bitCount 7 = .ok (.iand, 1) := dk_126 (dk_at dksJ10_bitCount_0 7 rfl rfl)
theorem dJ10_bitCount_8 : decode cJ10_bitCount 8 = .ok (.isub, 1) := dk_100 (dk_at dksJ10_bitCount_0 8 rfl rfl)
theorem dJ10_bitCount_9 : decode cJ10_bitCount 9 = .ok (.istore_n 0, 1) := dk_59 (dk_at dksJ10_bitCount_0 9 rfl rfl)
theorem dJ10_bitCount_10 : decode cJ10_bitCount 10 = .ok (.iload_n 0, 1) := dk_26 (dk_at dksJ10_bitCount_0 10 rfl rfl)
theorem dJ10_bitCount_11 : decode cJ10_bitCount 11 = .ok (.ldc_w 266, 3) := dk_19 1 10 (dk_at dksJ10_bitCount_0 11 rfl rfl)
theorem dJ10_bitCount_14 : decode cJ10_bitCount 14 = .ok (.iand, 1) := dk_126 (dk_at dksJ10_bitCount_0 14 rfl rfl)
theorem dJ10_bitCount_15 : decode cJ10_bitCount 15 = .ok (.iload_n 0, 1) := dk_26 (dk_at dksJ10_bitCount_0 15 rfl rfl)
theorem dJ10_bitCount_16 : decode cJ10_bitCount 16 = .ok (.iconst 2, 1) := dk_5 (dk_at dksJ10_bitCount_0 16 rfl rfl)
theorem dJ10_bitCount_17 : decode cJ10_bitCount 17 = .ok (.iushr, 1) := dk_124 (dk_at dksJ10_bitCount_0 17 rfl rfl)
theorem dJ10_bitCount_18 : decode cJ10_bitCount 18 = .ok (.ldc_w 266, 3) := dk_19 1 10 (dk_at dksJ10_bitCount_0 18 rfl rfl)
theorem dJ10_bitCount_21 : decode cJ10_bitCount 21 = .ok (.iand, 1) := dk_126 (dk_at dksJ10_bitCount_0 21 rfl rfl)
theorem dJ10_bitCount_22 : decode cJ10_bitCount 22 = .ok (.iadd, 1) := dk_96 (dk_at dksJ10_bitCount_0 22 rfl rfl)
theorem dJ10_bitCount_23 : decode cJ10_bitCount 23 = .ok (.istore_n 0, 1) := dk_59 (dk_at dksJ10_bitCount_0 23 rfl rfl)
theorem dJ10_bitCount_24 : decode cJ10_bitCount 24 = .ok (.iload_n 0, 1) := dk_26 (dk_at dksJ10_bitCount_1 0 rfl rfl)
theorem dJ10_bitCount_25 : decode cJ10_bitCount 25 = .ok (.iload_n 0, 1) := dk_26 (dk_at dksJ10_bitCount_1 1 rfl rfl)
theorem dJ10_bitCount_26 : decode cJ10_bitCount 26 = .ok (.iconst 4, 1) := dk_7 (dk_at dksJ10_bitCount_1 2 rfl rfl)
theorem dJ10_bitCount_27 : decode cJ10_bitCount 27 = .ok (.iushr, 1) := dk_124 (dk_at dksJ10_bitCount_1 3 rfl rfl)
theorem dJ10_bitCount_28 : decode cJ10_bitCount 28 = .ok (.iadd, 1) := dk_96 (dk_at dksJ10_bitCount_1 4 rfl rfl)
theorem dJ10_bitCount_29 : decode cJ10_bitCount 29 = .ok (.ldc_w 267, 3) := dk_19 1 11 (dk_at dksJ10_bitCount_1 5 rfl rfl)
theorem dJ10_bitCount_32 : decode cJ10_bitCount 32 = .ok (.iand, 1) := dk_126 (dk_at dksJ10_bitCount_1 8 rfl rfl)
theorem dJ10_bitCount_33 : decode cJ10_bitCount 33 = .ok (.istore_n 0, 1) := dk_59 (dk_at dksJ10_bitCount_1 9 rfl rfl)
theorem dJ10_bitCount_34 : decode cJ10_bitCount 34 = .ok (.iload_n 0, 1) := dk_26 (dk_at dksJ10_bitCount_1 10 rfl rfl)
theorem dJ10_bitCount_35 : decode cJ10_bitCount 35 = .ok (.iload_n 0, 1) := dk_26 (dk_at dksJ10_bitCount_1 11 rfl rfl)
theorem dJ10_bitCount_36 : decode cJ10_bitCount 36 = .ok (.bipush 8, 2) := dk_16 8 (dk_at dksJ10_bitCount_1 12 rfl rfl)
theorem dJ10_bitCount_38 : decode cJ10_bitCount 38 = .ok (.iushr, 1) := dk_124 (dk_at dksJ10_bitCount_1 14 rfl rfl)
theorem dJ10_bitCount_39 : decode cJ10_bitCount 39 = .ok (.iadd, 1) := dk_96 (dk_at dksJ10_bitCount_1 15 rfl rfl)
theorem dJ10_bitCount_40 : decode cJ10_bitCount 40 = .ok (.istore_n 0, 1) := dk_59 (dk_at dksJ10_bitCount_1 16 rfl rfl)
theorem dJ10_bitCount_41 : decode cJ10_bitCount 41 = .ok (.iload_n 0, 1) := dk_26 (dk_at dksJ10_bitCount_1 17 rfl rfl)
theorem dJ10_bitCount_42 : decode cJ10_bitCount 42 = .ok (.iload_n 0, 1) := dk_26 (dk_at dksJ10_bitCount_1 18 rfl rfl)
theorem dJ10_bitCount_43 : decode cJ10_bitCount 43 = .ok (.bipush 16, 2) := dk_16 16 (dk_at dksJ10_bitCount_1 19 rfl rfl)
theorem dJ10_bitCount_45 : decode cJ10_bitCount 45 = .ok (.iushr, 1) := dk_124 (dk_at dksJ10_bitCount_1 21 rfl rfl)
theorem dJ10_bitCount_46 : decode cJ10_bitCount 46 = .ok (.iadd, 1) := dk_96 (dk_at dksJ10_bitCount_1 22 rfl rfl)
theorem dJ10_bitCount_47 : decode cJ10_bitCount 47 = .ok (.istore_n 0, 1) := dk_59 (dk_at dksJ10_bitCount_1 23 rfl rfl)
theorem dJ10_bitCount_48 : decode cJ10_bitCount 48 = .ok (.iload_n 0, 1) := dk_26 (dk_at dksJ10_bitCount_2 0 rfl rfl)
theorem dJ10_bitCount_49 : decode cJ10_bitCount 49 = .ok (.bipush 63, 2) := dk_16 63 (dk_at dksJ10_bitCount_2 1 rfl rfl)
theorem dJ10_bitCount_51 : decode cJ10_bitCount 51 = .ok (.iand, 1) := dk_126 (dk_at dksJ10_bitCount_2 3 rfl rfl)
theorem dJ10_bitCount_52 : decode cJ10_bitCount 52 = .ok (.ireturn, 1) := dk_172 (dk_at dksJ10_bitCount_2 4 rfl rfl)
abbrev cJ10_toString : ByteArray := prog_29_method_10_code
def yJ10_toString : MethodName := ⟨RJ10, "toString", "(I)Ljava/lang/String;"⟩
def dkwJ10_toString_2 : List UInt8 := [187, 0, 5, 89, 44, 4, 183, 0, 65, 176]
abbrev dktJ10_toString_2 : List UInt8 := dkwJ10_toString_2 ++ []
def dkwJ10_toString_1 : List UInt8 := [187, 0, 5, 89, 44, 3, 183, 0, 65, 176, 27, 5, 104, 188, 8, 77, 26, 27, 44, 184, 0, 79, 87]
abbrev dktJ10_toString_1 : List UInt8 := dkwJ10_toString_1 ++ dktJ10_toString_2
def dkwJ10_toString_0 : List UInt8 := [26, 184, 0, 72, 60, 178, 0, 13, 153, 0, 24, 27, 188, 8, 77, 26, 27, 44, 184, 0, 75, 87]
abbrev dktJ10_toString_0 : List UInt8 := dkwJ10_toString_0 ++ dktJ10_toString_1
theorem dksJ10_toString_0 : cJ10_toString.data.toList.drop 0 = dktJ10_toString_0 := by decide +kernel
theorem dksJ10_toString_1 : cJ10_toString.data.toList.drop 22 = dktJ10_toString_1 := dk_seg dksJ10_toString_0 22 rfl rfl
theorem dksJ10_toString_2 : cJ10_toString.data.toList.drop 45 = dktJ10_toString_2 := dk_seg dksJ10_toString_1 23 rfl rfl
theorem dJ10_toString_0 : decode cJ10_toString 0 = .ok (.iload_n 0, 1) := dk_26 (dk_at dksJ10_toString_0 0 rfl rfl)
theorem dJ10_toString_1 : decode cJ10_toString 1 = .ok (.invokestatic 72, 3) := dk_184 0 72 (dk_at dksJ10_toString_0 1 rfl rfl)
theorem dJ10_toString_4 : decode cJ10_toString 4 = .ok (.istore_n 1, 1) := dk_60 (dk_at dksJ10_toString_0 4 rfl rfl)
theorem dJ10_toString_5 : decode cJ10_toString 5 = .ok (.getstatic 13, 3) := dk_178 0 13 (dk_at dksJ10_toString_0 5 rfl rfl)
theorem dJ10_toString_8 : decode cJ10_toString 8 = .ok (.ifCond .eq 24, 3) := dk_153 0 24 (dk_at dksJ10_toString_0 8 rfl rfl)
theorem dJ10_toString_11 : decode cJ10_toString 11 = .ok (.iload_n 1, 1) := dk_27 (dk_at dksJ10_toString_0 11 rfl rfl)
theorem dJ10_toString_12 : decode cJ10_toString 12 = .ok (.newarray .byte, 2) := dk_188_8 (dk_at dksJ10_toString_0 12 rfl rfl)
theorem dJ10_toString_14 : decode cJ10_toString 14 = .ok (.astore_n 2, 1) := dk_77 (dk_at dksJ10_toString_0 14 rfl rfl)
theorem dJ10_toString_15 : decode cJ10_toString 15 = .ok (.iload_n 0, 1) := dk_26 (dk_at dksJ10_toString_0 15 rfl rfl)
theorem dJ10_toString_16 : decode cJ10_toString 16 = .ok (.iload_n 1, 1) := dk_27 (dk_at dksJ10_toString_0 16 rfl rfl)
theorem dJ10_toString_17 : decode cJ10_toString 17 = .ok (.aload_n 2, 1) := dk_44 (dk_at dksJ10_toString_0 17 rfl rfl)
theorem dJ10_toString_18 : decode cJ10_toString 18 = .ok (.invokestatic 75, 3) := dk_184 0 75 (dk_at dksJ10_toString_0 18 rfl rfl)
theorem dJ10_toString_21 : decode cJ10_toString 21 = .ok (.pop, 1) := dk_87 (dk_at dksJ10_toString_0 21 rfl rfl)
theorem dJ10_toString_22 : decode cJ10_toString 22 = .ok (.new 5, 3) := dk_187 0 5 (dk_at dksJ10_toString_1 0 rfl rfl)
theorem dJ10_toString_25 : decode cJ10_toString 25 = .ok (.dup, 1) := dk_89 (dk_at dksJ10_toString_1 3 rfl rfl)
theorem dJ10_toString_26 : decode cJ10_toString 26 = .ok (.aload_n 2, 1) := dk_44 (dk_at dksJ10_toString_1 4 rfl rfl)
theorem dJ10_toString_27 : decode cJ10_toString 27 = .ok (.iconst 0, 1) := dk_3 (dk_at dksJ10_toString_1 5 rfl rfl)
theorem dJ10_toString_28 : decode cJ10_toString 28 = .ok (.invokespecial 65, 3) := dk_183 0 65 (dk_at dksJ10_toString_1 6 rfl rfl)
theorem dJ10_toString_31 : decode cJ10_toString 31 = .ok (.areturn, 1) := dk_176 (dk_at dksJ10_toString_1 9 rfl rfl)
theorem dJ10_toString_32 : decode cJ10_toString 32 = .ok (.iload_n 1, 1) := dk_27 (dk_at dksJ10_toString_1 10 rfl rfl)
theorem dJ10_toString_33 : decode cJ10_toString 33 = .ok (.iconst 2, 1) := dk_5 (dk_at dksJ10_toString_1 11 rfl rfl)
theorem dJ10_toString_34 : decode cJ10_toString 34 = .ok (.imul, 1) := dk_104 (dk_at dksJ10_toString_1 12 rfl rfl)
theorem dJ10_toString_35 : decode cJ10_toString 35 = .ok (.newarray .byte, 2) := dk_188_8 (dk_at dksJ10_toString_1 13 rfl rfl)
theorem dJ10_toString_37 : decode cJ10_toString 37 = .ok (.astore_n 2, 1) := dk_77 (dk_at dksJ10_toString_1 15 rfl rfl)
theorem dJ10_toString_38 : decode cJ10_toString 38 = .ok (.iload_n 0, 1) := dk_26 (dk_at dksJ10_toString_1 16 rfl rfl)
theorem dJ10_toString_39 : decode cJ10_toString 39 = .ok (.iload_n 1, 1) := dk_27 (dk_at dksJ10_toString_1 17 rfl rfl)
theorem dJ10_toString_40 : decode cJ10_toString 40 = .ok (.aload_n 2, 1) := dk_44 (dk_at dksJ10_toString_1 18 rfl rfl)
theorem dJ10_toString_41 : decode cJ10_toString 41 = .ok (.invokestatic 79, 3) := dk_184 0 79 (dk_at dksJ10_toString_1 19 rfl rfl)
theorem dJ10_toString_44 : decode cJ10_toString 44 = .ok (.pop, 1) := dk_87 (dk_at dksJ10_toString_1 22 rfl rfl)
theorem dJ10_toString_45 : decode cJ10_toString 45 = .ok (.new 5, 3) := dk_187 0 5 (dk_at dksJ10_toString_2 0 rfl rfl)
theorem dJ10_toString_48 : decode cJ10_toString 48 = .ok (.dup, 1) := dk_89 (dk_at dksJ10_toString_2 3 rfl rfl)
theorem dJ10_toString_49 : decode cJ10_toString 49 = .ok (.aload_n 2, 1) := dk_44 (dk_at dksJ10_toString_2 4 rfl rfl)
theorem dJ10_toString_50 : decode cJ10_toString 50 = .ok (.iconst 1, 1) := dk_4 (dk_at dksJ10_toString_2 5 rfl rfl)
theorem dJ10_toString_51 : decode cJ10_toString 51 = .ok (.invokespecial 65, 3) := dk_183 0 65 (dk_at dksJ10_toString_2 6 rfl rfl)
theorem dJ10_toString_54 : decode cJ10_toString 54 = .ok (.areturn, 1) := dk_176 (dk_at dksJ10_toString_2 9 rfl rfl)
abbrev cJ10_stringSize : ByteArray := prog_29_method_13_code
def yJ10_stringSize : MethodName := ⟨RJ10, "stringSize", "(I)I"⟩
def dkwJ10_stringSize_1 : List UInt8 := [164, 0, 7, 29, 27, 96, 172, 16, 10, 28, 104, 61, 132, 3, 1, 167, 255, 233, 16, 10, 27, 96, 172]
abbrev dktJ10_stringSize_1 : List UInt8 := dkwJ10_stringSize_1 ++ []
def dkwJ10_stringSize_0 : List UInt8 := [4, 60, 26, 155, 0, 8, 3, 60, 26, 116, 59, 16, 246, 61, 4, 62, 29, 16, 10, 162, 0, 23, 26, 28]
abbrev dktJ10_stringSize_0 : List UInt8 := dkwJ10_stringSize_0 ++ dktJ10_stringSize_1
theorem dksJ10_stringSize_0 : cJ10_stringSize.data.toList.drop 0 = dktJ10_stringSize_0 := by decide +kernel
theorem dksJ10_stringSize_1 : cJ10_stringSize.data.toList.drop 24 = dktJ10_stringSize_1 := dk_seg dksJ10_stringSize_0 24 rfl rfl
theorem dJ10_stringSize_0 : decode cJ10_stringSize 0 = .ok (.iconst 1, 1) := dk_4 (dk_at dksJ10_stringSize_0 0 rfl rfl)
theorem dJ10_stringSize_1 : decode cJ10_stringSize 1 = .ok (.istore_n 1, 1) := dk_60 (dk_at dksJ10_stringSize_0 1 rfl rfl)
theorem dJ10_stringSize_2 : decode cJ10_stringSize 2 = .ok (.iload_n 0, 1) := dk_26 (dk_at dksJ10_stringSize_0 2 rfl rfl)
theorem dJ10_stringSize_3 : decode cJ10_stringSize 3 = .ok (.ifCond .lt 8, 3) := dk_155 0 8 (dk_at dksJ10_stringSize_0 3 rfl rfl)
theorem dJ10_stringSize_6 : decode cJ10_stringSize 6 = .ok (.iconst 0, 1) := dk_3 (dk_at dksJ10_stringSize_0 6 rfl rfl)
theorem dJ10_stringSize_7 : decode cJ10_stringSize 7 = .ok (.istore_n 1, 1) := dk_60 (dk_at dksJ10_stringSize_0 7 rfl rfl)
theorem dJ10_stringSize_8 : decode cJ10_stringSize 8 = .ok (.iload_n 0, 1) := dk_26 (dk_at dksJ10_stringSize_0 8 rfl rfl)
theorem dJ10_stringSize_9 : decode cJ10_stringSize 9 = .ok (.ineg, 1) := dk_116 (dk_at dksJ10_stringSize_0 9 rfl rfl)
theorem dJ10_stringSize_10 : decode cJ10_stringSize 10 = .ok (.istore_n 0, 1) := dk_59 (dk_at dksJ10_stringSize_0 10 rfl rfl)
theorem dJ10_stringSize_11 : decode cJ10_stringSize 11 = .ok (.bipush (-10), 2) := dk_16 246 (dk_at dksJ10_stringSize_0 11 rfl rfl)
theorem dJ10_stringSize_13 : decode cJ10_stringSize 13 = .ok (.istore_n 2, 1) := dk_61 (dk_at dksJ10_stringSize_0 13 rfl rfl)
theorem dJ10_stringSize_14 : decode cJ10_stringSize 14 = .ok (.iconst 1, 1) := dk_4 (dk_at dksJ10_stringSize_0 14 rfl rfl)
theorem dJ10_stringSize_15 : decode cJ10_stringSize 15 = .ok (.istore_n 3, 1) := dk_62 (dk_at dksJ10_stringSize_0 15 rfl rfl)
theorem dJ10_stringSize_16 : decode cJ10_stringSize 16 = .ok (.iload_n 3, 1) := dk_29 (dk_at dksJ10_stringSize_0 16 rfl rfl)
theorem dJ10_stringSize_17 : decode cJ10_stringSize 17 = .ok (.bipush 10, 2) := dk_16 10 (dk_at dksJ10_stringSize_0 17 rfl rfl)
theorem dJ10_stringSize_19 : decode cJ10_stringSize 19 = .ok (.if_icmp .ge 23, 3) := dk_162 0 23 (dk_at dksJ10_stringSize_0 19 rfl rfl)
theorem dJ10_stringSize_22 : decode cJ10_stringSize 22 = .ok (.iload_n 0, 1) := dk_26 (dk_at dksJ10_stringSize_0 22 rfl rfl)
theorem dJ10_stringSize_23 : decode cJ10_stringSize 23 = .ok (.iload_n 2, 1) := dk_28 (dk_at dksJ10_stringSize_0 23 rfl rfl)
theorem dJ10_stringSize_24 : decode cJ10_stringSize 24 = .ok (.if_icmp .le 7, 3) := dk_164 0 7 (dk_at dksJ10_stringSize_1 0 rfl rfl)
theorem dJ10_stringSize_27 : decode cJ10_stringSize 27 = .ok (.iload_n 3, 1) := dk_29 (dk_at dksJ10_stringSize_1 3 rfl rfl)
theorem dJ10_stringSize_28 : decode cJ10_stringSize 28 = .ok (.iload_n 1, 1) := dk_27 (dk_at dksJ10_stringSize_1 4 rfl rfl)
theorem dJ10_stringSize_29 : decode cJ10_stringSize 29 = .ok (.iadd, 1) := dk_96 (dk_at dksJ10_stringSize_1 5 rfl rfl)
theorem dJ10_stringSize_30 : decode cJ10_stringSize 30 = .ok (.ireturn, 1) := dk_172 (dk_at dksJ10_stringSize_1 6 rfl rfl)
theorem dJ10_stringSize_31 : decode cJ10_stringSize 31 = .ok (.bipush 10, 2) := dk_16 10 (dk_at dksJ10_stringSize_1 7 rfl rfl)
theorem dJ10_stringSize_33 : decode cJ10_stringSize 33 = .ok (.iload_n 2, 1) := dk_28 (dk_at dksJ10_stringSize_1 9 rfl rfl)
theorem dJ10_stringSize_34 : decode cJ10_stringSize 34 = .ok (.imul, 1) := dk_104 (dk_at dksJ10_stringSize_1 10 rfl rfl)
theorem dJ10_stringSize_35 : decode cJ10_stringSize 35 = .ok (.istore_n 2, 1) := dk_61 (dk_at dksJ10_stringSize_1 11 rfl rfl)
theorem dJ10_stringSize_36 : decode cJ10_stringSize 36 = .ok (.iinc 3 1, 3) := dk_132 3 1 (dk_at dksJ10_stringSize_1 12 rfl rfl)
theorem dJ10_stringSize_39 : decode cJ10_stringSize 39 = .ok (.goto (-23), 3) := dk_167 255 233 (dk_at dksJ10_stringSize_1 15 rfl rfl)
theorem dJ10_stringSize_42 : decode cJ10_stringSize 42 = .ok (.bipush 10, 2) := dk_16 10 (dk_at dksJ10_stringSize_1 18 rfl rfl)
theorem dJ10_stringSize_44 : decode cJ10_stringSize 44 = .ok (.iload_n 1, 1) := dk_27 (dk_at dksJ10_stringSize_1 20 rfl rfl)
theorem dJ10_stringSize_45 : decode cJ10_stringSize 45 = .ok (.iadd, 1) := dk_96 (dk_at dksJ10_stringSize_1 21 rfl rfl)
theorem dJ10_stringSize_46 : decode cJ10_stringSize 46 = .ok (.ireturn, 1) := dk_172 (dk_at dksJ10_stringSize_1 22 rfl rfl)
abbrev cJ10_getChars : ByteArray := prog_29_method_12_code
def yJ10_getChars : MethodName := ⟨RJ10, "getChars", "(II[B)I"⟩
def dkwJ10_getChars_5 : List UInt8 := [16, 45, 84, 21, 5, 172]
abbrev dktJ10_getChars_5 : List UInt8 := dkwJ10_getChars_5 ++ []
def dkwJ10_getChars_4 : List UInt8 := [132, 5, 255, 21, 5, 178, 0, 87, 26, 116, 51, 84, 21, 6, 153, 0, 12, 44, 132, 5, 255, 21, 5]
abbrev dktJ10_getChars_4 : List UInt8 := dkwJ10_getChars_4 ++ dktJ10_getChars_5
def dkwJ10_getChars_3 : List UInt8 := [167, 255, 209, 44, 132, 5, 255, 21, 5, 178, 0, 83, 26, 116, 51, 84, 26, 16, 247, 162, 0, 16, 44]
abbrev dktJ10_getChars_3 : List UInt8 := dkwJ10_getChars_3 ++ dktJ10_getChars_4
def dkwJ10_getChars_2 : List UInt8 := [21, 5, 178, 0, 83, 21, 4, 51, 84, 44, 132, 5, 255, 21, 5, 178, 0, 87, 21, 4, 51, 84]
abbrev dktJ10_getChars_2 : List UInt8 := dkwJ10_getChars_2 ++ dktJ10_getChars_3
def dkwJ10_getChars_1 : List UInt8 := [16, 156, 163, 0, 47, 26, 16, 100, 108, 62, 29, 16, 100, 104, 26, 100, 54, 4, 29, 59, 44, 132, 5, 255]
abbrev dktJ10_getChars_1 : List UInt8 := dkwJ10_getChars_1 ++ dktJ10_getChars_2
def dkwJ10_getChars_0 : List UInt8 := [27, 54, 5, 26, 156, 0, 7, 4, 167, 0, 4, 3, 54, 6, 21, 6, 154, 0, 6, 26, 116, 59, 26]
abbrev dktJ10_getChars_0 : List UInt8 := dkwJ10_getChars_0 ++ dktJ10_getChars_1
theorem dksJ10_getChars_0 : cJ10_getChars.data.toList.drop 0 = dktJ10_getChars_0 := by decide +kernel
theorem dksJ10_getChars_1 : cJ10_getChars.data.toList.drop 23 = dktJ10_getChars_1 := dk_seg dksJ10_getChars_0 23 rfl rfl
theorem dksJ10_getChars_2 : cJ10_getChars.data.toList.drop 47 = dktJ10_getChars_2 := dk_seg dksJ10_getChars_1 24 rfl rfl
theorem dksJ10_getChars_3 : cJ10_getChars.data.toList.drop 69 = dktJ10_getChars_3 := dk_seg dksJ10_getChars_2 22 rfl rfl
theorem dksJ10_getChars_4 : cJ10_getChars.data.toList.drop 92 = dktJ10_getChars_4 := dk_seg dksJ10_getChars_3 23 rfl rfl
theorem dksJ10_getChars_5 : cJ10_getChars.data.toList.drop 115 = dktJ10_getChars_5 := dk_seg dksJ10_getChars_4 23 rfl rfl
theorem dJ10_getChars_0 : decode cJ10_getChars 0 = .ok (.iload_n 1, 1) := dk_27 (dk_at dksJ10_getChars_0 0 rfl rfl)
theorem dJ10_getChars_1 : decode cJ10_getChars 1 = .ok (.istore 5, 2) := dk_54 5 (dk_at dksJ10_getChars_0 1 rfl rfl)
theorem dJ10_getChars_3 : decode cJ10_getChars 3 = .ok (.iload_n 0, 1) := dk_26 (dk_at dksJ10_getChars_0 3 rfl rfl)
theorem dJ10_getChars_4 : decode cJ10_getChars 4 = .ok (.ifCond .ge 7, 3) := dk_156 0 7 (dk_at dksJ10_getChars_0 4 rfl rfl)
theorem dJ10_getChars_7 : decode cJ10_getChars 7 = .ok (.iconst 1, 1) := dk_4 (dk_at dksJ10_getChars_0 7 rfl rfl)
theorem dJ10_getChars_8 : decode cJ10_getChars 8 = .ok (.goto 4, 3) := dk_167 0 4 (dk_at dksJ10_getChars_0 8 rfl rfl)
theorem dJ10_getChars_11 : decode cJ10_getChars 11 = .ok (.iconst 0, 1) := dk_3 (dk_at dksJ10_getChars_0 11 rfl rfl)
theorem dJ10_getChars_12 : decode cJ10_getChars 12 = .ok (.istore 6, 2) := dk_54 6 (dk_at dksJ10_getChars_0 12 rfl rfl)
theorem dJ10_getChars_14 : decode cJ10_getChars 14 = .ok (.iload 6, 2) := dk_21 6 (dk_at dksJ10_getChars_0 14 rfl rfl)
theorem dJ10_getChars_16 : decode cJ10_getChars 16 = .ok (.ifCond .ne 6, 3) := dk_154 0 6 (dk_at dksJ10_getChars_0 16 rfl rfl)
theorem dJ10_getChars_19 : decode cJ10_getChars 19 = .ok (.iload_n 0, 1) := dk_26 (dk_at dksJ10_getChars_0 19 rfl rfl)
theorem dJ10_getChars_20 : decode cJ10_getChars 20 = .ok (.ineg, 1) := dk_116 (dk_at dksJ10_getChars_0 20 rfl rfl)
theorem dJ10_getChars_21 : decode cJ10_getChars 21 = .ok (.istore_n 0, 1) := dk_59 (dk_at dksJ10_getChars_0 21 rfl rfl)
theorem dJ10_getChars_22 : decode cJ10_getChars 22 = .ok (.iload_n 0, 1) := dk_26 (dk_at dksJ10_getChars_0 22 rfl rfl)
theorem dJ10_getChars_23 : decode cJ10_getChars 23 = .ok (.bipush (-100), 2) := dk_16 156 (dk_at dksJ10_getChars_1 0 rfl rfl)
theorem dJ10_getChars_25 : decode cJ10_getChars 25 = .ok (.if_icmp .gt 47, 3) := dk_163 0 47 (dk_at dksJ10_getChars_1 2 rfl rfl)
theorem dJ10_getChars_28 : decode cJ10_getChars 28 = .ok (.iload_n 0, 1) := dk_26 (dk_at dksJ10_getChars_1 5 rfl rfl)
theorem dJ10_getChars_29 : decode cJ10_getChars 29 = .ok (.bipush 100, 2) := dk_16 100 (dk_at dksJ10_getChars_1 6 rfl rfl)
theorem dJ10_getChars_31 : decode cJ10_getChars 31 = .ok (.idiv, 1) := dk_108 (dk_at dksJ10_getChars_1 8 rfl rfl)
theorem dJ10_getChars_32 : decode cJ10_getChars 32 = .ok (.istore_n 3, 1) := dk_62 (dk_at dksJ10_getChars_1 9 rfl rfl)
theorem dJ10_getChars_33 : decode cJ10_getChars 33 = .ok (.iload_n 3, 1) := dk_29 (dk_at dksJ10_getChars_1 10 rfl rfl)
theorem dJ10_getChars_34 : decode cJ10_getChars 34 = .ok (.bipush 100, 2) := dk_16 100 (dk_at dksJ10_getChars_1 11 rfl rfl)
theorem dJ10_getChars_36 : decode cJ10_getChars 36 = .ok (.imul, 1) := dk_104 (dk_at dksJ10_getChars_1 13 rfl rfl)
theorem dJ10_getChars_37 : decode cJ10_getChars 37 = .ok (.iload_n 0, 1) := dk_26 (dk_at dksJ10_getChars_1 14 rfl rfl)
theorem dJ10_getChars_38 : decode cJ10_getChars 38 = .ok (.isub, 1) := dk_100 (dk_at dksJ10_getChars_1 15 rfl rfl)
theorem dJ10_getChars_39 : decode cJ10_getChars 39 = .ok (.istore 4, 2) := dk_54 4 (dk_at dksJ10_getChars_1 16 rfl rfl)
theorem dJ10_getChars_41 : decode cJ10_getChars 41 = .ok (.iload_n 3, 1) := dk_29 (dk_at dksJ10_getChars_1 18 rfl rfl)
theorem dJ10_getChars_42 : decode cJ10_getChars 42 = .ok (.istore_n 0, 1) := dk_59 (dk_at dksJ10_getChars_1 19 rfl rfl)
theorem dJ10_getChars_43 : decode cJ10_getChars 43 = .ok (.aload_n 2, 1) := dk_44 (dk_at dksJ10_getChars_1 20 rfl rfl)
theorem dJ10_getChars_44 : decode cJ10_getChars 44 = .ok (.iinc 5 (-1), 3) := dk_132 5 255 (dk_at dksJ10_getChars_1 21 rfl rfl)
theorem dJ10_getChars_47 : decode cJ10_getChars 47 = .ok (.iload 5, 2) := dk_21 5 (dk_at dksJ10_getChars_2 0 rfl rfl)
theorem dJ10_getChars_49 : decode cJ10_getChars 49 = .ok (.getstatic 83, 3) := dk_178 0 83 (dk_at dksJ10_getChars_2 2 rfl rfl)
theorem dJ10_getChars_52 : decode cJ10_getChars 52 = .ok (.iload 4, 2) := dk_21 4 (dk_at dksJ10_getChars_2 5 rfl rfl)
theorem dJ10_getChars_54 : decode cJ10_getChars 54 = .ok (.baload, 1) := dk_51 (dk_at dksJ10_getChars_2 7 rfl rfl)
theorem dJ10_getChars_55 : decode cJ10_getChars 55 = .ok (.bastore, 1) := dk_84 (dk_at dksJ10_getChars_2 8 rfl rfl)
theorem dJ10_getChars_56 : decode cJ10_getChars 56 = .ok (.aload_n 2, 1) := dk_44 (dk_at dksJ10_getChars_2 9 rfl rfl)
theorem dJ10_getChars_57 : decode cJ10_getChars 57 = .ok (.iinc 5 (-1), 3) := dk_132 5 255 (dk_at dksJ10_getChars_2 10 rfl rfl)
theorem dJ10_getChars_60 : decode cJ10_getChars 60 = .ok (.iload 5, 2) := dk_21 5 (dk_at dksJ10_getChars_2 13 rfl rfl)
theorem dJ10_getChars_62 : decode cJ10_getChars 62 = .ok (.getstatic 87, 3) := dk_178 0 87 (dk_at dksJ10_getChars_2 15 rfl rfl)
theorem dJ10_getChars_65 : decode cJ10_getChars 65 = .ok (.iload 4, 2) := dk_21 4 (dk_at dksJ10_getChars_2 18 rfl rfl)
theorem dJ10_getChars_67 : decode cJ10_getChars 67 = .ok (.baload, 1) := dk_51 (dk_at dksJ10_getChars_2 20 rfl rfl)
theorem dJ10_getChars_68 : decode cJ10_getChars 68 = .ok (.bastore, 1) := dk_84 (dk_at dksJ10_getChars_2 21 rfl rfl)
theorem dJ10_getChars_69 : decode cJ10_getChars 69 = .ok (.goto (-47), 3) := dk_167 255 209 (dk_at dksJ10_getChars_3 0 rfl rfl)
theorem dJ10_getChars_72 : decode cJ10_getChars 72 = .ok (.aload_n 2, 1) := dk_44 (dk_at dksJ10_getChars_3 3 rfl rfl)
theorem dJ10_getChars_73 : decode cJ10_getChars 73 = .ok (.iinc 5 (-1), 3) := dk_132 5 255 (dk_at dksJ10_getChars_3 4 rfl rfl)
theorem dJ10_getChars_76 : decode cJ10_getChars 76 = .ok (.iload 5, 2) := dk_21 5 (dk_at dksJ10_getChars_3 7 rfl rfl)
theorem dJ10_getChars_78 : decode cJ10_getChars 78 = .ok (.getstatic 83, 3) := dk_178 0 83 (dk_at dksJ10_getChars_3 9 rfl rfl)
theorem dJ10_getChars_81 : decode cJ10_getChars 81 = .ok (.iload_n 0, 1) := dk_26 (dk_at dksJ10_getChars_3 12 rfl rfl)
theorem dJ10_getChars_82 : decode cJ10_getChars 82 = .ok (.ineg, 1) := dk_116 (dk_at dksJ10_getChars_3 13 rfl rfl)
theorem dJ10_getChars_83 : decode cJ10_getChars 83 = .ok (.baload, 1) := dk_51 (dk_at dksJ10_getChars_3 14 rfl rfl)
theorem dJ10_getChars_84 : decode cJ10_getChars 84 = .ok (.bastore, 1) := dk_84 (dk_at dksJ10_getChars_3 15 rfl rfl)
theorem dJ10_getChars_85 : decode cJ10_getChars 85 = .ok (.iload_n 0, 1) := dk_26 (dk_at dksJ10_getChars_3 16 rfl rfl)
theorem dJ10_getChars_86 : decode cJ10_getChars 86 = .ok (.bipush (-9), 2) := dk_16 247 (dk_at dksJ10_getChars_3 17 rfl rfl)
theorem dJ10_getChars_88 : decode cJ10_getChars 88 = .ok (.if_icmp .ge 16, 3) := dk_162 0 16 (dk_at dksJ10_getChars_3 19 rfl rfl)
theorem dJ10_getChars_91 : decode cJ10_getChars 91 = .ok (.aload_n 2, 1) := dk_44 (dk_at dksJ10_getChars_3 22 rfl rfl)
theorem dJ10_getChars_92 : decode cJ10_getChars 92 = .ok (.iinc 5 (-1), 3) := dk_132 5 255 (dk_at dksJ10_getChars_4 0 rfl rfl)
theorem dJ10_getChars_95 : decode cJ10_getChars 95 = .ok (.iload 5, 2) := dk_21 5 (dk_at dksJ10_getChars_4 3 rfl rfl)
theorem dJ10_getChars_97 : decode cJ10_getChars 97 = .ok (.getstatic 87, 3) := dk_178 0 87 (dk_at dksJ10_getChars_4 5 rfl rfl)
theorem dJ10_getChars_100 : decode cJ10_getChars 100 = .ok (.iload_n 0, 1) := dk_26 (dk_at dksJ10_getChars_4 8 rfl rfl)
theorem dJ10_getChars_101 : decode cJ10_getChars 101 = .ok (.ineg, 1) := dk_116 (dk_at dksJ10_getChars_4 9 rfl rfl)
theorem dJ10_getChars_102 : decode cJ10_getChars 102 = .ok (.baload, 1) := dk_51 (dk_at dksJ10_getChars_4 10 rfl rfl)
theorem dJ10_getChars_103 : decode cJ10_getChars 103 = .ok (.bastore, 1) := dk_84 (dk_at dksJ10_getChars_4 11 rfl rfl)
theorem dJ10_getChars_104 : decode cJ10_getChars 104 = .ok (.iload 6, 2) := dk_21 6 (dk_at dksJ10_getChars_4 12 rfl rfl)
theorem dJ10_getChars_106 : decode cJ10_getChars 106 = .ok (.ifCond .eq 12, 3) := dk_153 0 12 (dk_at dksJ10_getChars_4 14 rfl rfl)
theorem dJ10_getChars_109 : decode cJ10_getChars 109 = .ok (.aload_n 2, 1) := dk_44 (dk_at dksJ10_getChars_4 17 rfl rfl)
theorem dJ10_getChars_110 : decode cJ10_getChars 110 = .ok (.iinc 5 (-1), 3) := dk_132 5 255 (dk_at dksJ10_getChars_4 18 rfl rfl)
theorem dJ10_getChars_113 : decode cJ10_getChars 113 = .ok (.iload 5, 2) := dk_21 5 (dk_at dksJ10_getChars_4 21 rfl rfl)
theorem dJ10_getChars_115 : decode cJ10_getChars 115 = .ok (.bipush 45, 2) := dk_16 45 (dk_at dksJ10_getChars_5 0 rfl rfl)
theorem dJ10_getChars_117 : decode cJ10_getChars 117 = .ok (.bastore, 1) := dk_84 (dk_at dksJ10_getChars_5 2 rfl rfl)
theorem dJ10_getChars_118 : decode cJ10_getChars 118 = .ok (.iload 5, 2) := dk_21 5 (dk_at dksJ10_getChars_5 3 rfl rfl)
theorem dJ10_getChars_120 : decode cJ10_getChars 120 = .ok (.ireturn, 1) := dk_172 (dk_at dksJ10_getChars_5 5 rfl rfl)
theorem q143 : (Jvm.Cond.initialized "java/lang/Integer") ∈ lw_all := lw_g (lw_at lw_m1 23 rfl) rfl
theorem q1193 : (Jvm.Cond.static ({ cls := "java/lang/Integer", name := "numberOfTrailingZeros", desc := "(I)I" } : Jvm.MethodName)) ∈ lw_all := lw_g (lw_at lw_m5 113 rfl) rfl
theorem q1194 : (Jvm.Cond.code ({ cls := "java/lang/Integer", name := "numberOfTrailingZeros", desc := "(I)I" } : Jvm.MethodName) prog_29_method_48_code (2 : Nat) (Option.some Jvm.ClassFile.FieldType.int)) ∈ lw_all := lw_g (lw_at lw_m5 114 rfl) rfl
theorem q1195 : (Jvm.Cond.constant "java/lang/Integer" (264 : Nat) (65536 : Int32)) ∈ lw_all := lw_g (lw_at lw_m5 115 rfl) rfl
theorem q1256 : (Jvm.Cond.static ({ cls := "java/lang/Integer", name := "bitCount", desc := "(I)I" } : Jvm.MethodName)) ∈ lw_all := lw_g (lw_at lw_m5 176 rfl) rfl
theorem q1257 : (Jvm.Cond.code ({ cls := "java/lang/Integer", name := "bitCount", desc := "(I)I" } : Jvm.MethodName) prog_29_method_49_code (1 : Nat) (Option.some Jvm.ClassFile.FieldType.int)) ∈ lw_all := lw_g (lw_at lw_m5 177 rfl) rfl
theorem q1258 : (Jvm.Cond.constant "java/lang/Integer" (265 : Nat) (1431655765 : Int32)) ∈ lw_all := lw_g (lw_at lw_m5 178 rfl) rfl
theorem q1259 : (Jvm.Cond.constant "java/lang/Integer" (266 : Nat) (858993459 : Int32)) ∈ lw_all := lw_g (lw_at lw_m5 179 rfl) rfl
theorem q1260 : (Jvm.Cond.constant "java/lang/Integer" (267 : Nat) (252645135 : Int32)) ∈ lw_all := lw_g (lw_at lw_m5 180 rfl) rfl
theorem q1316 : (Jvm.Cond.static ({ cls := "java/lang/Integer", name := "toString", desc := "(I)Ljava/lang/String;" } : Jvm.MethodName)) ∈ lw_all := lw_g (lw_at lw_m5 236 rfl) rfl
theorem q1317 : (Jvm.Cond.code ({ cls := "java/lang/Integer", name := "toString", desc := "(I)Ljava/lang/String;" } : Jvm.MethodName) prog_29_method_10_code (3 : Nat) (Option.some (Jvm.ClassFile.FieldType.object "java/lang/String"))) ∈ lw_all := lw_g (lw_at lw_m5 237 rfl) rfl
theorem q1318 : (Jvm.Cond.methodLink "java/lang/Integer" (72 : Nat) ({ cls := "java/lang/Integer", name := "stringSize", desc := "(I)I" } : Jvm.MethodName)) ∈ lw_all := lw_g (lw_at lw_m5 238 rfl) rfl
theorem q1319 : (Jvm.Cond.static ({ cls := "java/lang/Integer", name := "stringSize", desc := "(I)I" } : Jvm.MethodName)) ∈ lw_all := lw_g (lw_at lw_m5 239 rfl) rfl
theorem q1320 : (Jvm.Cond.code ({ cls := "java/lang/Integer", name := "stringSize", desc := "(I)I" } : Jvm.MethodName) prog_29_method_13_code (4 : Nat) (Option.some Jvm.ClassFile.FieldType.int)) ∈ lw_all := lw_g (lw_at lw_m6 0 rfl) rfl
theorem q1321 : (Jvm.Cond.fieldLink "java/lang/Integer" (13 : Nat) "java/lang/String" "COMPACT_STRINGS" "Z") ∈ lw_all := lw_g (lw_at lw_m6 1 rfl) rfl
theorem q1322 : (Jvm.Cond.methodLink "java/lang/Integer" (75 : Nat) ({ cls := "java/lang/Integer", name := "getChars", desc := "(II[B)I" } : Jvm.MethodName)) ∈ lw_all := lw_g (lw_at lw_m6 2 rfl) rfl
theorem q1323 : (Jvm.Cond.static ({ cls := "java/lang/Integer", name := "getChars", desc := "(II[B)I" } : Jvm.MethodName)) ∈ lw_all := lw_g (lw_at lw_m6 3 rfl) rfl
theorem q1324 : (Jvm.Cond.code ({ cls := "java/lang/Integer", name := "getChars", desc := "(II[B)I" } : Jvm.MethodName) prog_29_method_12_code (7 : Nat) (Option.some Jvm.ClassFile.FieldType.int)) ∈ lw_all := lw_g (lw_at lw_m6 4 rfl) rfl
theorem q1325 : (Jvm.Cond.fieldLink "java/lang/Integer" (83 : Nat) "java/lang/Integer" "DigitOnes" "[B") ∈ lw_all := lw_g (lw_at lw_m6 5 rfl) rfl
theorem q1326 : (Jvm.Cond.laysStatic "java/lang/Integer" "DigitOnes" "[B") ∈ lw_tbl := lw_at lw_m6 6 rfl
theorem q1327 : (Jvm.Cond.fieldLink "java/lang/Integer" (87 : Nat) "java/lang/Integer" "DigitTens" "[B") ∈ lw_all := lw_g (lw_at lw_m6 7 rfl) rfl
theorem q1328 : (Jvm.Cond.laysStatic "java/lang/Integer" "DigitTens" "[B") ∈ lw_tbl := lw_at lw_m6 8 rfl
theorem q1329 : (Jvm.Cond.classLink "java/lang/Integer" (5 : Nat) "java/lang/String") ∈ lw_all := lw_g (lw_at lw_m6 9 rfl) rfl
theorem q1331 : (Jvm.Cond.methodLink "java/lang/Integer" (65 : Nat) ({ cls := "java/lang/String", name := "<init>", desc := "([BB)V" } : Jvm.MethodName)) ∈ lw_all := lw_g (lw_at lw_m6 11 rfl) rfl
theorem q1346 : (Jvm.Cond.methodLink "java/lang/Integer" (79 : Nat) ({ cls := "java/lang/StringUTF16", name := "getChars", desc := "(II[B)I" } : Jvm.MethodName)) ∈ lw_all := lw_g (lw_at lw_m6 26 rfl) rfl
/-! StatueRent$Fault -/
set_option maxRecDepth 100000
def RX2 : String := "StatueRent$Fault"
def TX2 : u_T := fun k => match k with
  | 0 => ("java/lang/Throwable", "cause", "Ljava/lang/Throwable;", false)
  | 1 => ("java/lang/Throwable", "stackTrace", "[Ljava/lang/StackTraceElement;", false)
  | 2 => ("java/lang/Throwable", "suppressedExceptions", "Ljava/util/List;", false)
  | 3 => ("java/lang/Throwable", "detailMessage", "Ljava/lang/String;", false)
  | 4 => ("java/lang/Throwable", "backtrace", "Ljava/lang/Object;", false)
  | 5 => ("java/lang/Throwable", "depth", "I", false)
  | 6 => ("StatueRent$Fault", "kind", "I", false)
  | _ => ("StatueRent$Fault", "place", "I", false)
def tyX2 : Nat → FieldType := fun k => match k with
  | 0 => .object "java/lang/Throwable"
  | 1 => .array (.object "java/lang/StackTraceElement")
  | 2 => .object "java/util/List"
  | 3 => .object "java/lang/String"
  | 4 => .object "java/lang/Object"
  | 5 => .int
  | 6 => .int
  | _ => .int
abbrev wsX20 : List Cond := u_ws RX2 TX2 8
theorem nmX2 : ∀ a, a < 8 → ∀ b, b < 8 → a ≠ b → (TX2 a).2.1 ≠ (TX2 b).2.1 := by decide +kernel
theorem tyX2_ok : ∀ k, k < 8 → parseFieldDescriptor (TX2 k).2.2.1 = some (tyX2 k) := by decide +kernel
abbrev cX2_init : ByteArray := prog_10_method_1_code
def yX2_init : MethodName := ⟨RX2, "<init>", "()V"⟩
def dkwX2_init_0 : List UInt8 := [42, 1, 1, 3, 3, 183, 0, 1, 177]
abbrev dktX2_init_0 : List UInt8 := dkwX2_init_0 ++ []
theorem dksX2_init_0 : cX2_init.data.toList.drop 0 = dktX2_init_0 := by decide +kernel
theorem dX2_init_0 : decode cX2_init 0 = .ok (.aload_n 0, 1) := dk_42 (dk_at dksX2_init_0 0 rfl rfl)
theorem dX2_init_1 : decode cX2_init 1 = .ok (.aconst_null, 1) := dk_1 (dk_at dksX2_init_0 1 rfl rfl)
theorem dX2_init_2 : decode cX2_init 2 = .ok (.aconst_null, 1) := dk_1 (dk_at dksX2_init_0 2 rfl rfl)
theorem dX2_init_3 : decode cX2_init 3 = .ok (.iconst 0, 1) := dk_3 (dk_at dksX2_init_0 3 rfl rfl)
theorem dX2_init_4 : decode cX2_init 4 = .ok (.iconst 0, 1) := dk_3 (dk_at dksX2_init_0 4 rfl rfl)
theorem dX2_init_5 : decode cX2_init 5 = .ok (.invokespecial 1, 3) := dk_183 0 1 (dk_at dksX2_init_0 5 rfl rfl)
theorem dX2_init_8 : decode cX2_init 8 = .ok (.return_, 1) := dk_177 (dk_at dksX2_init_0 8 rfl rfl)
theorem q124 : (Jvm.Cond.initialized "StatueRent$Fault") ∈ lw_all := lw_g (lw_at lw_m1 4 rfl) rfl
theorem q165 : (Jvm.Cond.instantiable "StatueRent$Fault" (8 : Nat)) ∈ lw_all := lw_g (lw_at lw_m1 45 rfl) rfl
theorem q166 : (Jvm.Cond.castable "StatueRent$Fault" "StatueRent$Fault") ∈ lw_tbl := lw_at lw_m1 46 rfl
theorem q171 : (Jvm.Cond.selects "StatueRent$Fault" ({ cls := "java/lang/Throwable", name := "fillInStackTrace", desc := "(I)Ljava/lang/Throwable;" } : Jvm.MethodName) ({ cls := "java/lang/Throwable", name := "fillInStackTrace", desc := "(I)Ljava/lang/Throwable;" } : Jvm.MethodName)) ∈ lw_all := lw_g (lw_at lw_m1 51 rfl) rfl
theorem q172 : (Jvm.Cond.selects "StatueRent$Fault" ({ cls := "java/lang/Throwable", name := "fillInStackTrace", desc := "()Ljava/lang/Throwable;" } : Jvm.MethodName) ({ cls := "java/lang/Throwable", name := "fillInStackTrace", desc := "()Ljava/lang/Throwable;" } : Jvm.MethodName)) ∈ lw_all := lw_g (lw_at lw_m1 52 rfl) rfl
theorem q173 : (Jvm.Cond.lays "StatueRent$Fault" "java/lang/Throwable" "cause" "Ljava/lang/Throwable;") ∈ lw_all := lw_g (lw_at lw_m1 53 rfl) rfl
theorem q175 : (Jvm.Cond.lays "StatueRent$Fault" "java/lang/Throwable" "stackTrace" "[Ljava/lang/StackTraceElement;") ∈ lw_all := lw_g (lw_at lw_m1 55 rfl) rfl
theorem q177 : (Jvm.Cond.lays "StatueRent$Fault" "java/lang/Throwable" "suppressedExceptions" "Ljava/util/List;") ∈ lw_all := lw_g (lw_at lw_m1 57 rfl) rfl
theorem q179 : (Jvm.Cond.lays "StatueRent$Fault" "java/lang/Throwable" "detailMessage" "Ljava/lang/String;") ∈ lw_all := lw_g (lw_at lw_m1 59 rfl) rfl
theorem q181 : (Jvm.Cond.lays "StatueRent$Fault" "java/lang/Throwable" "backtrace" "Ljava/lang/Object;") ∈ lw_all := lw_g (lw_at lw_m1 61 rfl) rfl
theorem q203 : (Jvm.Cond.instanceMethod ({ cls := "StatueRent$Fault", name := "<init>", desc := "()V" } : Jvm.MethodName)) ∈ lw_all := lw_g (lw_at lw_m1 83 rfl) rfl
theorem q204 : (Jvm.Cond.code ({ cls := "StatueRent$Fault", name := "<init>", desc := "()V" } : Jvm.MethodName) prog_10_method_1_code (1 : Nat) (Option.none : Option Jvm.ClassFile.FieldType)) ∈ lw_all := lw_g (lw_at lw_m1 84 rfl) rfl
theorem q205 : (Jvm.Cond.methodLink "StatueRent$Fault" (1 : Nat) ({ cls := "java/lang/Exception", name := "<init>", desc := "(Ljava/lang/String;Ljava/lang/Throwable;ZZ)V" } : Jvm.MethodName)) ∈ lw_all := lw_g (lw_at lw_m1 85 rfl) rfl
theorem q220 : (Jvm.Cond.lays "StatueRent$Fault" "StatueRent$Fault" "kind" "I") ∈ lw_all := lw_g (lw_at lw_m1 100 rfl) rfl
theorem q221 : (Jvm.Cond.soleField "StatueRent$Fault" "kind") ∈ lw_all := lw_g (lw_at lw_m1 101 rfl) rfl
theorem q222 : (Jvm.Cond.lays "StatueRent$Fault" "StatueRent$Fault" "place" "I") ∈ lw_all := lw_g (lw_at lw_m1 102 rfl) rfl
theorem q223 : (Jvm.Cond.soleField "StatueRent$Fault" "place") ∈ lw_all := lw_g (lw_at lw_m1 103 rfl) rfl
theorem q228 : (Jvm.Cond.lays "StatueRent$Fault" "java/lang/Throwable" "depth" "I") ∈ lw_all := lw_g (lw_at lw_m1 108 rfl) rfl
theorem q231 : (Jvm.Cond.superclass "StatueRent$Fault" "java/lang/Exception") ∈ lw_all := lw_g (lw_at lw_m1 111 rfl) rfl
theorem q2535 : (Jvm.Cond.castable "StatueRent$Fault" "java/lang/Object") ∈ lw_tbl := lw_at lw_m11 15 rfl
theorem in_X2 : ∀ w ∈ wsX20, w ∈ lw_all := lw_in wsX20 [173, 175, 177, 179, 181, 228, 220, 222] (by decide +kernel) (by decide +kernel)
/-! StatueRent$City -/
set_option maxRecDepth 100000
def RX3 : String := "StatueRent$City"
def TX3 : u_T := fun k => match k with
  | 0 => ("StatueRent$City", "squareNames", "[J", true)
  | 1 => ("StatueRent$City", "kindNames", "[J", true)
  | 2 => ("StatueRent$City", "statueNames", "[J", true)
  | 3 => ("StatueRent$City", "walkerNames", "[J", true)
  | 4 => ("StatueRent$City", "rent", "[I", true)
  | 5 => ("StatueRent$City", "next", "[I", true)
  | 6 => ("StatueRent$City", "kind", "[I", true)
  | 7 => ("StatueRent$City", "square", "[I", true)
  | 8 => ("StatueRent$City", "purse", "[I", true)
  | 9 => ("StatueRent$City", "bribe", "[I", true)
  | 10 => ("StatueRent$City", "from", "[I", true)
  | 11 => ("StatueRent$City", "to", "[I", true)
  | 12 => ("StatueRent$City", "every", "[I", true)
  | 13 => ("StatueRent$City", "worth", "[I", true)
  | 14 => ("StatueRent$City", "likes", "[I", true)
  | 15 => ("StatueRent$City", "ways", "[[I", true)
  | 16 => ("StatueRent$City", "told", "[Z", true)
  | 17 => ("StatueRent$City", "squares", "I", false)
  | 18 => ("StatueRent$City", "paths", "I", false)
  | 19 => ("StatueRent$City", "kinds", "I", false)
  | 20 => ("StatueRent$City", "statues", "I", false)
  | 21 => ("StatueRent$City", "walkers", "I", false)
  | _ => ("StatueRent$City", "arrears", "I", false)
def tyX3 : Nat → FieldType := fun k => match k with
  | 0 => .array .long
  | 1 => .array .long
  | 2 => .array .long
  | 3 => .array .long
  | 4 => .array .int
  | 5 => .array .int
  | 6 => .array .int
  | 7 => .array .int
  | 8 => .array .int
  | 9 => .array .int
  | 10 => .array .int
  | 11 => .array .int
  | 12 => .array .int
  | 13 => .array .int
  | 14 => .array .int
  | 15 => .array (.array .int)
  | 16 => .array .boolean
  | 17 => .int
  | 18 => .int
  | 19 => .int
  | 20 => .int
  | 21 => .int
  | _ => .int
abbrev wsX30 : List Cond := u_ws RX3 TX3 23
set_option maxRecDepth 100000 in
theorem nmX3 : ∀ a, a < 23 → ∀ b, b < 23 → a ≠ b → (TX3 a).2.1 ≠ (TX3 b).2.1 := by decide +kernel
set_option maxRecDepth 100000 in
theorem tyX3_ok : ∀ k, k < 23 → parseFieldDescriptor (TX3 k).2.2.1 = some (tyX3 k) := by decide +kernel
abbrev cX3_init : ByteArray := prog_4_method_1_code
def yX3_init : MethodName := ⟨RX3, "<init>", "()V"⟩
def dkwX3_init_6 : List UInt8 := [181, 0, 67, 177]
abbrev dktX3_init_6 : List UInt8 := dkwX3_init_6 ++ []
def dkwX3_init_5 : List UInt8 := [181, 0, 55, 42, 16, 8, 189, 0, 58, 181, 0, 59, 42, 16, 40, 188, 4, 181, 0, 63, 42, 6]
abbrev dktX3_init_5 : List UInt8 := dkwX3_init_5 ++ dktX3_init_6
def dkwX3_init_4 : List UInt8 := [181, 0, 46, 42, 16, 8, 188, 10, 181, 0, 49, 42, 16, 8, 188, 10, 181, 0, 52, 42, 16, 40, 188, 10]
abbrev dktX3_init_4 : List UInt8 := dkwX3_init_4 ++ dktX3_init_5
def dkwX3_init_3 : List UInt8 := [181, 0, 37, 42, 16, 8, 188, 10, 181, 0, 40, 42, 16, 8, 188, 10, 181, 0, 43, 42, 16, 8, 188, 10]
abbrev dktX3_init_3 : List UInt8 := dkwX3_init_3 ++ dktX3_init_4
def dkwX3_init_2 : List UInt8 := [181, 0, 28, 42, 16, 8, 188, 10, 181, 0, 31, 42, 16, 8, 188, 10, 181, 0, 34, 42, 16, 8, 188, 10]
abbrev dktX3_init_2 : List UInt8 := dkwX3_init_2 ++ dktX3_init_3
def dkwX3_init_1 : List UInt8 := [181, 0, 18, 42, 16, 8, 188, 11, 181, 0, 21, 42, 16, 8, 188, 10, 181, 0, 24, 42, 16, 8, 188, 10]
abbrev dktX3_init_1 : List UInt8 := dkwX3_init_1 ++ dktX3_init_2
def dkwX3_init_0 : List UInt8 := [42, 183, 0, 3, 42, 16, 8, 188, 11, 181, 0, 9, 42, 8, 188, 11, 181, 0, 15, 42, 16, 8, 188, 11]
abbrev dktX3_init_0 : List UInt8 := dkwX3_init_0 ++ dktX3_init_1
theorem dksX3_init_0 : cX3_init.data.toList.drop 0 = dktX3_init_0 := by decide +kernel
theorem dksX3_init_1 : cX3_init.data.toList.drop 24 = dktX3_init_1 := dk_seg dksX3_init_0 24 rfl rfl
theorem dksX3_init_2 : cX3_init.data.toList.drop 48 = dktX3_init_2 := dk_seg dksX3_init_1 24 rfl rfl
theorem dksX3_init_3 : cX3_init.data.toList.drop 72 = dktX3_init_3 := dk_seg dksX3_init_2 24 rfl rfl
theorem dksX3_init_4 : cX3_init.data.toList.drop 96 = dktX3_init_4 := dk_seg dksX3_init_3 24 rfl rfl
theorem dksX3_init_5 : cX3_init.data.toList.drop 120 = dktX3_init_5 := dk_seg dksX3_init_4 24 rfl rfl
theorem dksX3_init_6 : cX3_init.data.toList.drop 142 = dktX3_init_6 := dk_seg dksX3_init_5 22 rfl rfl
theorem dX3_init_0 : decode cX3_init 0 = .ok (.aload_n 0, 1) := dk_42 (dk_at dksX3_init_0 0 rfl rfl)
theorem dX3_init_1 : decode cX3_init 1 = .ok (.invokespecial 3, 3) := dk_183 0 3 (dk_at dksX3_init_0 1 rfl rfl)
theorem dX3_init_4 : decode cX3_init 4 = .ok (.aload_n 0, 1) := dk_42 (dk_at dksX3_init_0 4 rfl rfl)
theorem dX3_init_5 : decode cX3_init 5 = .ok (.bipush 8, 2) := dk_16 8 (dk_at dksX3_init_0 5 rfl rfl)
theorem dX3_init_7 : decode cX3_init 7 = .ok (.newarray .long, 2) := dk_188_11 (dk_at dksX3_init_0 7 rfl rfl)
theorem dX3_init_9 : decode cX3_init 9 = .ok (.putfield 9, 3) := dk_181 0 9 (dk_at dksX3_init_0 9 rfl rfl)
theorem dX3_init_12 : decode cX3_init 12 = .ok (.aload_n 0, 1) := dk_42 (dk_at dksX3_init_0 12 rfl rfl)
theorem dX3_init_13 : decode cX3_init 13 = .ok (.iconst 5, 1) := dk_8 (dk_at dksX3_init_0 13 rfl rfl)
theorem dX3_init_14 : decode cX3_init 14 = .ok (.newarray .long, 2) := dk_188_11 (dk_at dksX3_init_0 14 rfl rfl)
theorem dX3_init_16 : decode cX3_init 16 = .ok (.putfield 15, 3) := dk_181 0 15 (dk_at dksX3_init_0 16 rfl rfl)
theorem dX3_init_19 : decode cX3_init 19 = .ok (.aload_n 0, 1) := dk_42 (dk_at dksX3_init_0 19 rfl rfl)
theorem dX3_init_20 : decode cX3_init 20 = .ok (.bipush 8, 2) := dk_16 8 (dk_at dksX3_init_0 20 rfl rfl)
theorem dX3_init_22 : decode cX3_init 22 = .ok (.newarray .long, 2) := dk_188_11 (dk_at dksX3_init_0 22 rfl rfl)
theorem dX3_init_24 : decode cX3_init 24 = .ok (.putfield 18, 3) := dk_181 0 18 (dk_at dksX3_init_1 0 rfl rfl)
theorem dX3_init_27 : decode cX3_init 27 = .ok (.aload_n 0, 1) := dk_42 (dk_at dksX3_init_1 3 rfl rfl)
theorem dX3_init_28 : decode cX3_init 28 = .ok (.bipush 8, 2) := dk_16 8 (dk_at dksX3_init_1 4 rfl rfl)
theorem dX3_init_30 : decode cX3_init 30 = .ok (.newarray .long, 2) := dk_188_11 (dk_at dksX3_init_1 6 rfl rfl)
theorem dX3_init_32 : decode cX3_init 32 = .ok (.putfield 21, 3) := dk_181 0 21 (dk_at dksX3_init_1 8 rfl rfl)
theorem dX3_init_35 : decode cX3_init 35 = .ok (.aload_n 0, 1) := dk_42 (dk_at dksX3_init_1 11 rfl rfl)
theorem dX3_init_36 : decode cX3_init 36 = .ok (.bipush 8, 2) := dk_16 8 (dk_at dksX3_init_1 12 rfl rfl)
theorem dX3_init_38 : decode cX3_init 38 = .ok (.newarray .int, 2) := dk_188_10 (dk_at dksX3_init_1 14 rfl rfl)
theorem dX3_init_40 : decode cX3_init 40 = .ok (.putfield 24, 3) := dk_181 0 24 (dk_at dksX3_init_1 16 rfl rfl)
theorem dX3_init_43 : decode cX3_init 43 = .ok (.aload_n 0, 1) := dk_42 (dk_at dksX3_init_1 19 rfl rfl)
theorem dX3_init_44 : decode cX3_init 44 = .ok (.bipush 8, 2) := dk_16 8 (dk_at dksX3_init_1 20 rfl rfl)
theorem dX3_init_46 : decode cX3_init 46 = .ok (.newarray .int, 2) := dk_188_10 (dk_at dksX3_init_1 22 rfl rfl)
theorem dX3_init_48 : decode cX3_init 48 = .ok (.putfield 28, 3) := dk_181 0 28 (dk_at dksX3_init_2 0 rfl rfl)
theorem dX3_init_51 : decode cX3_init 51 = .ok (.aload_n 0, 1) := dk_42 (dk_at dksX3_init_2 3 rfl rfl)
theorem dX3_init_52 : decode cX3_init 52 = .ok (.bipush 8, 2) := dk_16 8 (dk_at dksX3_init_2 4 rfl rfl)
theorem dX3_init_54 : decode cX3_init 54 = .ok (.newarray .int, 2) := dk_188_10 (dk_at dksX3_init_2 6 rfl rfl)
theorem dX3_init_56 : decode cX3_init 56 = .ok (.putfield 31, 3) := dk_181 0 31 (dk_at dksX3_init_2 8 rfl rfl)
theorem dX3_init_59 : decode cX3_init 59 = .ok (.aload_n 0, 1) := dk_42 (dk_at dksX3_init_2 11 rfl rfl)
theorem dX3_init_60 : decode cX3_init 60 = .ok (.bipush 8, 2) := dk_16 8 (dk_at dksX3_init_2 12 rfl rfl)
theorem dX3_init_62 : decode cX3_init 62 = .ok (.newarray .int, 2) := dk_188_10 (dk_at dksX3_init_2 14 rfl rfl)
theorem dX3_init_64 : decode cX3_init 64 = .ok (.putfield 34, 3) := dk_181 0 34 (dk_at dksX3_init_2 16 rfl rfl)
theorem dX3_init_67 : decode cX3_init 67 = .ok (.aload_n 0, 1) := dk_42 (dk_at dksX3_init_2 19 rfl rfl)
theorem dX3_init_68 : decode cX3_init 68 = .ok (.bipush 8, 2) := dk_16 8 (dk_at dksX3_init_2 20 rfl rfl)
theorem dX3_init_70 : decode cX3_init 70 = .ok (.newarray .int, 2) := dk_188_10 (dk_at dksX3_init_2 22 rfl rfl)
theorem dX3_init_72 : decode cX3_init 72 = .ok (.putfield 37, 3) := dk_181 0 37 (dk_at dksX3_init_3 0 rfl rfl)
theorem dX3_init_75 : decode cX3_init 75 = .ok (.aload_n 0, 1) := dk_42 (dk_at dksX3_init_3 3 rfl rfl)
theorem dX3_init_76 : decode cX3_init 76 = .ok (.bipush 8, 2) := dk_16 8 (dk_at dksX3_init_3 4 rfl rfl)
theorem dX3_init_78 : decode cX3_init 78 = .ok (.newarray .int, 2) := dk_188_10 (dk_at dksX3_init_3 6 rfl rfl)
theorem dX3_init_80 : decode cX3_init 80 = .ok (.putfield 40, 3) := dk_181 0 40 (dk_at dksX3_init_3 8 rfl rfl)
theorem dX3_init_83 : decode cX3_init 83 = .ok (.aload_n 0, 1) := dk_42 (dk_at dksX3_init_3 11 rfl rfl)
theorem dX3_init_84 : decode cX3_init 84 = .ok (.bipush 8, 2) := dk_16 8 (dk_at dksX3_init_3 12 rfl rfl)
theorem dX3_init_86 : decode cX3_init 86 = .ok (.newarray .int, 2) := dk_188_10 (dk_at dksX3_init_3 14 rfl rfl)
theorem dX3_init_88 : decode cX3_init 88 = .ok (.putfield 43, 3) := dk_181 0 43 (dk_at dksX3_init_3 16 rfl rfl)
theorem dX3_init_91 : decode cX3_init 91 = .ok (.aload_n 0, 1) := dk_42 (dk_at dksX3_init_3 19 rfl rfl)
theorem dX3_init_92 : decode cX3_init 92 = .ok (.bipush 8, 2) := dk_16 8 (dk_at dksX3_init_3 20 rfl rfl)
theorem dX3_init_94 : decode cX3_init 94 = .ok (.newarray .int, 2) := dk_188_10 (dk_at dksX3_init_3 22 rfl rfl)
theorem dX3_init_96 : decode cX3_init 96 = .ok (.putfield 46, 3) := dk_181 0 46 (dk_at dksX3_init_4 0 rfl rfl)
theorem dX3_init_99 : decode cX3_init 99 = .ok (.aload_n 0, 1) := dk_42 (dk_at dksX3_init_4 3 rfl rfl)
theorem dX3_init_100 : decode cX3_init 100 = .ok (.bipush 8, 2) := dk_16 8 (dk_at dksX3_init_4 4 rfl rfl)
theorem dX3_init_102 : decode cX3_init 102 = .ok (.newarray .int, 2) := dk_188_10 (dk_at dksX3_init_4 6 rfl rfl)
theorem dX3_init_104 : decode cX3_init 104 = .ok (.putfield 49, 3) := dk_181 0 49 (dk_at dksX3_init_4 8 rfl rfl)
theorem dX3_init_107 : decode cX3_init 107 = .ok (.aload_n 0, 1) := dk_42 (dk_at dksX3_init_4 11 rfl rfl)
theorem dX3_init_108 : decode cX3_init 108 = .ok (.bipush 8, 2) := dk_16 8 (dk_at dksX3_init_4 12 rfl rfl)
theorem dX3_init_110 : decode cX3_init 110 = .ok (.newarray .int, 2) := dk_188_10 (dk_at dksX3_init_4 14 rfl rfl)
theorem dX3_init_112 : decode cX3_init 112 = .ok (.putfield 52, 3) := dk_181 0 52 (dk_at dksX3_init_4 16 rfl rfl)
theorem dX3_init_115 : decode cX3_init 115 = .ok (.aload_n 0, 1) := dk_42 (dk_at dksX3_init_4 19 rfl rfl)
theorem dX3_init_116 : decode cX3_init 116 = .ok (.bipush 40, 2) := dk_16 40 (dk_at dksX3_init_4 20 rfl rfl)
theorem dX3_init_118 : decode cX3_init 118 = .ok (.newarray .int, 2) := dk_188_10 (dk_at dksX3_init_4 22 rfl rfl)
theorem dX3_init_120 : decode cX3_init 120 = .ok (.putfield 55, 3) := dk_181 0 55 (dk_at dksX3_init_5 0 rfl rfl)
theorem dX3_init_123 : decode cX3_init 123 = .ok (.aload_n 0, 1) := dk_42 (dk_at dksX3_init_5 3 rfl rfl)
theorem dX3_init_124 : decode cX3_init 124 = .ok (.bipush 8, 2) := dk_16 8 (dk_at dksX3_init_5 4 rfl rfl)
theorem dX3_init_126 : decode cX3_init 126 = .ok (.anewarray 58, 3) := dk_189 0 58 (dk_at dksX3_init_5 6 rfl rfl)
theorem dX3_init_129 : decode cX3_init 129 = .ok (.putfield 59, 3) := dk_181 0 59 (dk_at dksX3_init_5 9 rfl rfl)
theorem dX3_init_132 : decode cX3_init 132 = .ok (.aload_n 0, 1) := dk_42 (dk_at dksX3_init_5 12 rfl rfl)
theorem dX3_init_133 : decode cX3_init 133 = .ok (.bipush 40, 2) := dk_16 40 (dk_at dksX3_init_5 13 rfl rfl)
theorem dX3_init_135 : decode cX3_init 135 = .ok (.newarray .boolean, 2) := dk_188_4 (dk_at dksX3_init_5 15 rfl rfl)
theorem dX3_init_137 : decode cX3_init 137 = .ok (.putfield 63, 3) := dk_181 0 63 (dk_at dksX3_init_5 17 rfl rfl)
theorem dX3_init_140 : decode cX3_init 140 = .ok (.aload_n 0, 1) := dk_42 (dk_at dksX3_init_5 20 rfl rfl)
theorem dX3_init_141 : decode cX3_init 141 = .ok (.iconst 3, 1) := dk_6 (dk_at dksX3_init_5 21 rfl rfl)
theorem dX3_init_142 : decode cX3_init 142 = .ok (.putfield 67, 3) := dk_181 0 67 (dk_at dksX3_init_6 0 rfl rfl)
theorem dX3_init_145 : decode cX3_init 145 = .ok (.return_, 1) := dk_177 (dk_at dksX3_init_6 3 rfl rfl)
abbrev cX3_lays : ByteArray := prog_4_method_3_code
def yX3_lays : MethodName := ⟨RX3, "lays", "()V"⟩
def dkwX3_lays_1 : List UInt8 := [180, 0, 46, 27, 46, 182, 0, 81, 83, 132, 1, 1, 167, 255, 223, 177]
abbrev dktX3_lays_1 : List UInt8 := dkwX3_lays_1 ++ []
def dkwX3_lays_0 : List UInt8 := [3, 60, 27, 42, 180, 0, 78, 162, 0, 31, 42, 180, 0, 59, 27, 42, 42, 180, 0, 43, 27, 46, 42]
abbrev dktX3_lays_0 : List UInt8 := dkwX3_lays_0 ++ dktX3_lays_1
theorem dksX3_lays_0 : cX3_lays.data.toList.drop 0 = dktX3_lays_0 := by decide +kernel
theorem dksX3_lays_1 : cX3_lays.data.toList.drop 23 = dktX3_lays_1 := dk_seg dksX3_lays_0 23 rfl rfl
theorem dX3_lays_0 : decode cX3_lays 0 = .ok (.iconst 0, 1) := dk_3 (dk_at dksX3_lays_0 0 rfl rfl)
theorem dX3_lays_1 : decode cX3_lays 1 = .ok (.istore_n 1, 1) := dk_60 (dk_at dksX3_lays_0 1 rfl rfl)
theorem dX3_lays_2 : decode cX3_lays 2 = .ok (.iload_n 1, 1) := dk_27 (dk_at dksX3_lays_0 2 rfl rfl)
theorem dX3_lays_3 : decode cX3_lays 3 = .ok (.aload_n 0, 1) := dk_42 (dk_at dksX3_lays_0 3 rfl rfl)
theorem dX3_lays_4 : decode cX3_lays 4 = .ok (.getfield 78, 3) := dk_180 0 78 (dk_at dksX3_lays_0 4 rfl rfl)
theorem dX3_lays_7 : decode cX3_lays 7 = .ok (.if_icmp .ge 31, 3) := dk_162 0 31 (dk_at dksX3_lays_0 7 rfl rfl)
theorem dX3_lays_10 : decode cX3_lays 10 = .ok (.aload_n 0, 1) := dk_42 (dk_at dksX3_lays_0 10 rfl rfl)
theorem dX3_lays_11 : decode cX3_lays 11 = .ok (.getfield 59, 3) := dk_180 0 59 (dk_at dksX3_lays_0 11 rfl rfl)
theorem dX3_lays_14 : decode cX3_lays 14 = .ok (.iload_n 1, 1) := dk_27 (dk_at dksX3_lays_0 14 rfl rfl)
theorem dX3_lays_15 : decode cX3_lays 15 = .ok (.aload_n 0, 1) := dk_42 (dk_at dksX3_lays_0 15 rfl rfl)
theorem dX3_lays_16 : decode cX3_lays 16 = .ok (.aload_n 0, 1) := dk_42 (dk_at dksX3_lays_0 16 rfl rfl)
theorem dX3_lays_17 : decode cX3_lays 17 = .ok (.getfield 43, 3) := dk_180 0 43 (dk_at dksX3_lays_0 17 rfl rfl)
theorem dX3_lays_20 : decode cX3_lays 20 = .ok (.iload_n 1, 1) := dk_27 (dk_at dksX3_lays_0 20 rfl rfl)
theorem dX3_lays_21 : decode cX3_lays 21 = .ok (.iaload, 1) := dk_46 (dk_at dksX3_lays_0 21 rfl rfl)
theorem dX3_lays_22 : decode cX3_lays 22 = .ok (.aload_n 0, 1) := dk_42 (dk_at dksX3_lays_0 22 rfl rfl)
theorem dX3_lays_23 : decode cX3_lays 23 = .ok (.getfield 46, 3) := dk_180 0 46 (dk_at dksX3_lays_1 0 rfl rfl)
theorem dX3_lays_26 : decode cX3_lays 26 = .ok (.iload_n 1, 1) := dk_27 (dk_at dksX3_lays_1 3 rfl rfl)
theorem dX3_lays_27 : decode cX3_lays 27 = .ok (.iaload, 1) := dk_46 (dk_at dksX3_lays_1 4 rfl rfl)
theorem dX3_lays_28 : decode cX3_lays 28 = .ok (.invokevirtual 81, 3) := dk_182 0 81 (dk_at dksX3_lays_1 5 rfl rfl)
theorem dX3_lays_31 : decode cX3_lays 31 = .ok (.aastore, 1) := dk_83 (dk_at dksX3_lays_1 8 rfl rfl)
theorem dX3_lays_32 : decode cX3_lays 32 = .ok (.iinc 1 1, 3) := dk_132 1 1 (dk_at dksX3_lays_1 9 rfl rfl)
theorem dX3_lays_35 : decode cX3_lays 35 = .ok (.goto (-33), 3) := dk_167 255 223 (dk_at dksX3_lays_1 12 rfl rfl)
theorem dX3_lays_38 : decode cX3_lays 38 = .ok (.return_, 1) := dk_177 (dk_at dksX3_lays_1 15 rfl rfl)
abbrev cX3_wayOf : ByteArray := prog_4_method_2_code
def yX3_wayOf : MethodName := ⟨RX3, "wayOf", "(II)[I"⟩
def dkwX3_wayOf_9 : List UInt8 := [167, 255, 215, 25, 4, 21, 5, 21, 6, 79, 132, 5, 1, 167, 255, 191, 25, 4, 176]
abbrev dktX3_wayOf_9 : List UInt8 := dkwX3_wayOf_9 ++ []
def dkwX3_wayOf_8 : List UInt8 := [153, 0, 21, 45, 21, 6, 46, 45, 25, 4, 21, 5, 4, 100, 46, 46, 4, 100, 159, 0, 9, 132, 6, 1]
abbrev dktX3_wayOf_8 : List UInt8 := dkwX3_wayOf_8 ++ dktX3_wayOf_9
def dkwX3_wayOf_7 : List UInt8 := [190, 162, 0, 63, 3, 54, 6, 42, 180, 0, 28, 25, 4, 21, 5, 4, 100, 46, 46, 21, 6, 184, 0, 74]
abbrev dktX3_wayOf_7 : List UInt8 := dkwX3_wayOf_7 ++ dktX3_wayOf_8
def dkwX3_wayOf_6 : List UInt8 := [188, 10, 176, 45, 27, 46, 4, 96, 188, 10, 58, 4, 25, 4, 3, 27, 79, 4, 54, 5, 21, 5, 25, 4]
abbrev dktX3_wayOf_6 : List UInt8 := dkwX3_wayOf_6 ++ dktX3_wayOf_7
def dkwX3_wayOf_5 : List UInt8 := [167, 255, 212, 132, 5, 1, 167, 255, 182, 132, 4, 1, 167, 255, 166, 45, 27, 46, 16, 8, 160, 0, 7, 3]
abbrev dktX3_wayOf_5 : List UInt8 := dkwX3_wayOf_5 ++ dktX3_wayOf_6
def dkwX3_wayOf_4 : List UInt8 := [153, 0, 20, 45, 21, 6, 46, 21, 4, 4, 100, 160, 0, 9, 45, 21, 5, 21, 4, 79, 132, 6, 1]
abbrev dktX3_wayOf_4 : List UInt8 := dkwX3_wayOf_4 ++ dktX3_wayOf_5
def dkwX3_wayOf_3 : List UInt8 := [54, 6, 21, 6, 42, 180, 0, 71, 162, 0, 41, 42, 180, 0, 28, 21, 5, 46, 21, 6, 184, 0, 74]
abbrev dktX3_wayOf_3 : List UInt8 := dkwX3_wayOf_3 ++ dktX3_wayOf_4
def dkwX3_wayOf_2 : List UInt8 := [54, 5, 21, 5, 42, 180, 0, 71, 162, 0, 71, 45, 21, 5, 46, 16, 8, 159, 0, 6, 167, 0, 53, 3]
abbrev dktX3_wayOf_2 : List UInt8 := dkwX3_wayOf_2 ++ dktX3_wayOf_3
def dkwX3_wayOf_1 : List UInt8 := [3, 167, 0, 5, 16, 8, 79, 132, 4, 1, 167, 255, 230, 4, 54, 4, 21, 4, 16, 8, 162, 0, 89, 3]
abbrev dktX3_wayOf_1 : List UInt8 := dkwX3_wayOf_1 ++ dktX3_wayOf_2
def dkwX3_wayOf_0 : List UInt8 := [16, 8, 188, 10, 78, 3, 54, 4, 21, 4, 16, 8, 162, 0, 25, 45, 21, 4, 21, 4, 28, 160, 0, 7]
abbrev dktX3_wayOf_0 : List UInt8 := dkwX3_wayOf_0 ++ dktX3_wayOf_1
theorem dksX3_wayOf_0 : cX3_wayOf.data.toList.drop 0 = dktX3_wayOf_0 := by decide +kernel
theorem dksX3_wayOf_1 : cX3_wayOf.data.toList.drop 24 = dktX3_wayOf_1 := dk_seg dksX3_wayOf_0 24 rfl rfl
theorem dksX3_wayOf_2 : cX3_wayOf.data.toList.drop 48 = dktX3_wayOf_2 := dk_seg dksX3_wayOf_1 24 rfl rfl
theorem dksX3_wayOf_3 : cX3_wayOf.data.toList.drop 72 = dktX3_wayOf_3 := dk_seg dksX3_wayOf_2 24 rfl rfl
theorem dksX3_wayOf_4 : cX3_wayOf.data.toList.drop 95 = dktX3_wayOf_4 := dk_seg dksX3_wayOf_3 23 rfl rfl
theorem dksX3_wayOf_5 : cX3_wayOf.data.toList.drop 118 = dktX3_wayOf_5 := dk_seg dksX3_wayOf_4 23 rfl rfl
theorem dksX3_wayOf_6 : cX3_wayOf.data.toList.drop 142 = dktX3_wayOf_6 := dk_seg dksX3_wayOf_5 24 rfl rfl
theorem dksX3_wayOf_7 : cX3_wayOf.data.toList.drop 166 = dktX3_wayOf_7 := dk_seg dksX3_wayOf_6 24 rfl rfl
theorem dksX3_wayOf_8 : cX3_wayOf.data.toList.drop 190 = dktX3_wayOf_8 := dk_seg dksX3_wayOf_7 24 rfl rfl
theorem dksX3_wayOf_9 : cX3_wayOf.data.toList.drop 214 = dktX3_wayOf_9 := dk_seg dksX3_wayOf_8 24 rfl rfl
theorem dX3_wayOf_0 : decode cX3_wayOf 0 = .ok (.bipush 8, 2) := dk_16 8 (dk_at dksX3_wayOf_0 0 rfl rfl)
theorem dX3_wayOf_2 : decode cX3_wayOf 2 = .ok (.newarray .int, 2) := dk_188_10 (dk_at dksX3_wayOf_0 2 rfl rfl)
theorem dX3_wayOf_4 : decode cX3_wayOf 4 = .ok (.astore_n 3, 1) := dk_78 (dk_at dksX3_wayOf_0 4 rfl rfl)
theorem dX3_wayOf_5 : decode cX3_wayOf 5 = .ok (.iconst 0, 1) := dk_3 (dk_at dksX3_wayOf_0 5 rfl rfl)
theorem dX3_wayOf_6 : decode cX3_wayOf 6 = .ok (.istore 4, 2) := dk_54 4 (dk_at dksX3_wayOf_0 6 rfl rfl)
theorem dX3_wayOf_8 : decode cX3_wayOf 8 = .ok (.iload 4, 2) := dk_21 4 (dk_at dksX3_wayOf_0 8 rfl rfl)
theorem dX3_wayOf_10 : decode cX3_wayOf 10 = .ok (.bipush 8, 2) := dk_16 8 (dk_at dksX3_wayOf_0 10 rfl rfl)
theorem dX3_wayOf_12 : decode cX3_wayOf 12 = .ok (.if_icmp .ge 25, 3) := dk_162 0 25 (dk_at dksX3_wayOf_0 12 rfl rfl)
theorem dX3_wayOf_15 : decode cX3_wayOf 15 = .ok (.aload_n 3, 1) := dk_45 (dk_at dksX3_wayOf_0 15 rfl rfl)
theorem dX3_wayOf_16 : decode cX3_wayOf 16 = .ok (.iload 4, 2) := dk_21 4 (dk_at dksX3_wayOf_0 16 rfl rfl)
theorem dX3_wayOf_18 : decode cX3_wayOf 18 = .ok (.iload 4, 2) := dk_21 4 (dk_at dksX3_wayOf_0 18 rfl rfl)
theorem dX3_wayOf_20 : decode cX3_wayOf 20 = .ok (.iload_n 2, 1) := dk_28 (dk_at dksX3_wayOf_0 20 rfl rfl)
theorem dX3_wayOf_21 : decode cX3_wayOf 21 = .ok (.if_icmp .ne 7, 3) := dk_160 0 7 (dk_at dksX3_wayOf_0 21 rfl rfl)
theorem dX3_wayOf_24 : decode cX3_wayOf 24 = .ok (.iconst 0, 1) := dk_3 (dk_at dksX3_wayOf_1 0 rfl rfl)
theorem dX3_wayOf_25 : decode cX3_wayOf 25 = .ok (.goto 5, 3) := dk_167 0 5 (dk_at dksX3_wayOf_1 1 rfl rfl)
theorem dX3_wayOf_28 : decode cX3_wayOf 28 = .ok (.bipush 8, 2) := dk_16 8 (dk_at dksX3_wayOf_1 4 rfl rfl)
theorem dX3_wayOf_30 : decode cX3_wayOf 30 = .ok (.iastore, 1) := dk_79 (dk_at dksX3_wayOf_1 6 rfl rfl)
theorem dX3_wayOf_31 : decode cX3_wayOf 31 = .ok (.iinc 4 1, 3) := dk_132 4 1 (dk_at dksX3_wayOf_1 7 rfl rfl)
theorem dX3_wayOf_34 : decode cX3_wayOf 34 = .ok (.goto (-26), 3) := dk_167 255 230 (dk_at dksX3_wayOf_1 10 rfl rfl)
theorem dX3_wayOf_37 : decode cX3_wayOf 37 = .ok (.iconst 1, 1) := dk_4 (dk_at dksX3_wayOf_1 13 rfl rfl)
theorem dX3_wayOf_38 : decode cX3_wayOf 38 = .ok (.istore 4, 2) := dk_54 4 (dk_at dksX3_wayOf_1 14 rfl rfl)
theorem dX3_wayOf_40 : decode cX3_wayOf 40 = .ok (.iload 4, 2) := dk_21 4 (dk_at dksX3_wayOf_1 16 rfl rfl)
theorem dX3_wayOf_42 : decode cX3_wayOf 42 = .ok (.bipush 8, 2) := dk_16 8 (dk_at dksX3_wayOf_1 18 rfl rfl)
theorem dX3_wayOf_44 : decode cX3_wayOf 44 = .ok (.if_icmp .ge 89, 3) := dk_162 0 89 (dk_at dksX3_wayOf_1 20 rfl rfl)
theorem dX3_wayOf_47 : decode cX3_wayOf 47 = .ok (.iconst 0, 1) := dk_3 (dk_at dksX3_wayOf_1 23 rfl rfl)
theorem dX3_wayOf_48 : decode cX3_wayOf 48 = .ok (.istore 5, 2) := dk_54 5 (dk_at dksX3_wayOf_2 0 rfl rfl)
theorem dX3_wayOf_50 : decode cX3_wayOf 50 = .ok (.iload 5, 2) := dk_21 5 (dk_at dksX3_wayOf_2 2 rfl rfl)
theorem dX3_wayOf_52 : decode cX3_wayOf 52 = .ok (.aload_n 0, 1) := dk_42 (dk_at dksX3_wayOf_2 4 rfl rfl)
theorem dX3_wayOf_53 : decode cX3_wayOf 53 = .ok (.getfield 71, 3) := dk_180 0 71 (dk_at dksX3_wayOf_2 5 rfl rfl)
theorem dX3_wayOf_56 : decode cX3_wayOf 56 = .ok (.if_icmp .ge 71, 3) := dk_162 0 71 (dk_at dksX3_wayOf_2 8 rfl rfl)
theorem dX3_wayOf_59 : decode cX3_wayOf 59 = .ok (.aload_n 3, 1) := dk_45 (dk_at dksX3_wayOf_2 11 rfl rfl)
theorem dX3_wayOf_60 : decode cX3_wayOf 60 = .ok (.iload 5, 2) := dk_21 5 (dk_at dksX3_wayOf_2 12 rfl rfl)
theorem dX3_wayOf_62 : decode cX3_wayOf 62 = .ok (.iaload, 1) := dk_46 (dk_at dksX3_wayOf_2 14 rfl rfl)
theorem dX3_wayOf_63 : decode cX3_wayOf 63 = .ok (.bipush 8, 2) := dk_16 8 (dk_at dksX3_wayOf_2 15 rfl rfl)
theorem dX3_wayOf_65 : decode cX3_wayOf 65 = .ok (.if_icmp .eq 6, 3) := dk_159 0 6 (dk_at dksX3_wayOf_2 17 rfl rfl)
theorem dX3_wayOf_68 : decode cX3_wayOf 68 = .ok (.goto 53, 3) := dk_167 0 53 (dk_at dksX3_wayOf_2 20 rfl rfl)
theorem dX3_wayOf_71 : decode cX3_wayOf 71 = .ok (.iconst 0, 1) := dk_3 (dk_at dksX3_wayOf_2 23 rfl rfl)
theorem dX3_wayOf_72 : decode cX3_wayOf 72 = .ok (.istore 6, 2) := dk_54 6 (dk_at dksX3_wayOf_3 0 rfl rfl)
theorem dX3_wayOf_74 : decode cX3_wayOf 74 = .ok (.iload 6, 2) := dk_21 6 (dk_at dksX3_wayOf_3 2 rfl rfl)
theorem dX3_wayOf_76 : decode cX3_wayOf 76 = .ok (.aload_n 0, 1) := dk_42 (dk_at dksX3_wayOf_3 4 rfl rfl)
theorem dX3_wayOf_77 : decode cX3_wayOf 77 = .ok (.getfield 71, 3) := dk_180 0 71 (dk_at dksX3_wayOf_3 5 rfl rfl)
theorem dX3_wayOf_80 : decode cX3_wayOf 80 = .ok (.if_icmp .ge 41, 3) := dk_162 0 41 (dk_at dksX3_wayOf_3 8 rfl rfl)
theorem dX3_wayOf_83 : decode cX3_wayOf 83 = .ok (.aload_n 0, 1) := dk_42 (dk_at dksX3_wayOf_3 11 rfl rfl)
theorem dX3_wayOf_84 : decode cX3_wayOf 84 = .ok (.getfield 28, 3) := dk_180 0 28 (dk_at dksX3_wayOf_3 12 rfl rfl)
theorem dX3_wayOf_87 : decode cX3_wayOf 87 = .ok (.iload 5, 2) := dk_21 5 (dk_at dksX3_wayOf_3 15 rfl rfl)
theorem dX3_wayOf_89 : decode cX3_wayOf 89 = .ok (.iaload, 1) := dk_46 (dk_at dksX3_wayOf_3 17 rfl rfl)
theorem dX3_wayOf_90 : decode cX3_wayOf 90 = .ok (.iload 6, 2) := dk_21 6 (dk_at dksX3_wayOf_3 18 rfl rfl)
theorem dX3_wayOf_92 : decode cX3_wayOf 92 = .ok (.invokestatic 74, 3) := dk_184 0 74 (dk_at dksX3_wayOf_3 20 rfl rfl)
theorem dX3_wayOf_95 : decode cX3_wayOf 95 = .ok (.ifCond .eq 20, 3) := dk_153 0 20 (dk_at dksX3_wayOf_4 0 rfl rfl)
theorem dX3_wayOf_98 : decode cX3_wayOf 98 = .ok (.aload_n 3, 1) := dk_45 (dk_at dksX3_wayOf_4 3 rfl rfl)
theorem dX3_wayOf_99 : decode cX3_wayOf 99 = .ok (.iload 6, 2) := dk_21 6 (dk_at dksX3_wayOf_4 4 rfl rfl)
theorem dX3_wayOf_101 : decode cX3_wayOf 101 = .ok (.iaload, 1) := dk_46 (dk_at dksX3_wayOf_4 6 rfl rfl)
theorem dX3_wayOf_102 : decode cX3_wayOf 102 = .ok (.iload 4, 2) := dk_21 4 (dk_at dksX3_wayOf_4 7 rfl rfl)
theorem dX3_wayOf_104 : decode cX3_wayOf 104 = .ok (.iconst 1, 1) := dk_4 (dk_at dksX3_wayOf_4 9 rfl rfl)
theorem dX3_wayOf_105 : decode cX3_wayOf 105 = .ok (.isub, 1) := dk_100 (dk_at dksX3_wayOf_4 10 rfl rfl)
theorem dX3_wayOf_106 : decode cX3_wayOf 106 = .ok (.if_icmp .ne 9, 3) := dk_160 0 9 (dk_at dksX3_wayOf_4 11 rfl rfl)
theorem dX3_wayOf_109 : decode cX3_wayOf 109 = .ok (.aload_n 3, 1) := dk_45 (dk_at dksX3_wayOf_4 14 rfl rfl)
theorem dX3_wayOf_110 : decode cX3_wayOf 110 = .ok (.iload 5, 2) := dk_21 5 (dk_at dksX3_wayOf_4 15 rfl rfl)
theorem dX3_wayOf_112 : decode cX3_wayOf 112 = .ok (.iload 4, 2) := dk_21 4 (dk_at dksX3_wayOf_4 17 rfl rfl)
theorem dX3_wayOf_114 : decode cX3_wayOf 114 = .ok (.iastore, 1) := dk_79 (dk_at dksX3_wayOf_4 19 rfl rfl)
theorem dX3_wayOf_115 : decode cX3_wayOf 115 = .ok (.iinc 6 1, 3) := dk_132 6 1 (dk_at dksX3_wayOf_4 20 rfl rfl)
theorem dX3_wayOf_118 : decode cX3_wayOf 118 = .ok (.goto (-44), 3) := dk_167 255 212 (dk_at dksX3_wayOf_5 0 rfl rfl)
theorem dX3_wayOf_121 : decode cX3_wayOf 121 = .ok (.iinc 5 1, 3) := dk_132 5 1 (dk_at dksX3_wayOf_5 3 rfl rfl)
theorem dX3_wayOf_124 : decode cX3_wayOf 124 = .ok (.goto (-74), 3) := dk_167 255 182 (dk_at dksX3_wayOf_5 6 rfl rfl)
theorem dX3_wayOf_127 : decode cX3_wayOf 127 = .ok (.iinc 4 1, 3) := dk_132 4 1 (dk_at dksX3_wayOf_5 9 rfl rfl)
theorem dX3_wayOf_130 : decode cX3_wayOf 130 = .ok (.goto (-90), 3) := dk_167 255 166 (dk_at dksX3_wayOf_5 12 rfl rfl)
theorem dX3_wayOf_133 : decode cX3_wayOf 133 = .ok (.aload_n 3, 1) := dk_45 (dk_at dksX3_wayOf_5 15 rfl rfl)
theorem dX3_wayOf_134 : decode cX3_wayOf 134 = .ok (.iload_n 1, 1) := dk_27 (dk_at dksX3_wayOf_5 16 rfl rfl)
theorem dX3_wayOf_135 : decode cX3_wayOf 135 = .ok (.iaload, 1) := dk_46 (dk_at dksX3_wayOf_5 17 rfl rfl)
theorem dX3_wayOf_136 : decode cX3_wayOf 136 = .ok (.bipush 8, 2) := dk_16 8 (dk_at dksX3_wayOf_5 18 rfl rfl)
theorem dX3_wayOf_138 : decode cX3_wayOf 138 = .ok (.if_icmp .ne 7, 3) := dk_160 0 7 (dk_at dksX3_wayOf_5 20 rfl rfl)
theorem dX3_wayOf_141 : decode cX3_wayOf 141 = .ok (.iconst 0, 1) := dk_3 (dk_at dksX3_wayOf_5 23 rfl rfl)
theorem dX3_wayOf_142 : decode cX3_wayOf 142 = .ok (.newarray .int, 2) := dk_188_10 (dk_at dksX3_wayOf_6 0 rfl rfl)
theorem dX3_wayOf_144 : decode cX3_wayOf 144 = .ok (.areturn, 1) := dk_176 (dk_at dksX3_wayOf_6 2 rfl rfl)
theorem dX3_wayOf_145 : decode cX3_wayOf 145 = .ok (.aload_n 3, 1) := dk_45 (dk_at dksX3_wayOf_6 3 rfl rfl)
theorem dX3_wayOf_146 : decode cX3_wayOf 146 = .ok (.iload_n 1, 1) := dk_27 (dk_at dksX3_wayOf_6 4 rfl rfl)
theorem dX3_wayOf_147 : decode cX3_wayOf 147 = .ok (.iaload, 1) := dk_46 (dk_at dksX3_wayOf_6 5 rfl rfl)
theorem dX3_wayOf_148 : decode cX3_wayOf 148 = .ok (.iconst 1, 1) := dk_4 (dk_at dksX3_wayOf_6 6 rfl rfl)
theorem dX3_wayOf_149 : decode cX3_wayOf 149 = .ok (.iadd, 1) := dk_96 (dk_at dksX3_wayOf_6 7 rfl rfl)
theorem dX3_wayOf_150 : decode cX3_wayOf 150 = .ok (.newarray .int, 2) := dk_188_10 (dk_at dksX3_wayOf_6 8 rfl rfl)
theorem dX3_wayOf_152 : decode cX3_wayOf 152 = .ok (.astore 4, 2) := dk_58 4 (dk_at dksX3_wayOf_6 10 rfl rfl)
theorem dX3_wayOf_154 : decode cX3_wayOf 154 = .ok (.aload 4, 2) := dk_25 4 (dk_at dksX3_wayOf_6 12 rfl rfl)
theorem dX3_wayOf_156 : decode cX3_wayOf 156 = .ok (.iconst 0, 1) := dk_3 (dk_at dksX3_wayOf_6 14 rfl rfl)
theorem dX3_wayOf_157 : decode cX3_wayOf 157 = .ok (.iload_n 1, 1) := dk_27 (dk_at dksX3_wayOf_6 15 rfl rfl)
theorem dX3_wayOf_158 : decode cX3_wayOf 158 = .ok (.iastore, 1) := dk_79 (dk_at dksX3_wayOf_6 16 rfl rfl)
theorem dX3_wayOf_159 : decode cX3_wayOf 159 = .ok (.iconst 1, 1) := dk_4 (dk_at dksX3_wayOf_6 17 rfl rfl)
theorem dX3_wayOf_160 : decode cX3_wayOf 160 = .ok (.istore 5, 2) := dk_54 5 (dk_at dksX3_wayOf_6 18 rfl rfl)
theorem dX3_wayOf_162 : decode cX3_wayOf 162 = .ok (.iload 5, 2) := dk_21 5 (dk_at dksX3_wayOf_6 20 rfl rfl)
theorem dX3_wayOf_164 : decode cX3_wayOf 164 = .ok (.aload 4, 2) := dk_25 4 (dk_at dksX3_wayOf_6 22 rfl rfl)
theorem dX3_wayOf_166 : decode cX3_wayOf 166 = .ok (.arraylength, 1) := dk_190 (dk_at dksX3_wayOf_7 0 rfl rfl)
theorem dX3_wayOf_167 : decode cX3_wayOf 167 = .ok (.if_icmp .ge 63, 3) := dk_162 0 63 (dk_at dksX3_wayOf_7 1 rfl rfl)
theorem dX3_wayOf_170 : decode cX3_wayOf 170 = .ok (.iconst 0, 1) := dk_3 (dk_at dksX3_wayOf_7 4 rfl rfl)
theorem dX3_wayOf_171 : decode cX3_wayOf 171 = .ok (.istore 6, 2) := dk_54 6 (dk_at dksX3_wayOf_7 5 rfl rfl)
theorem dX3_wayOf_173 : decode cX3_wayOf 173 = .ok (.aload_n 0, 1) := dk_42 (dk_at dksX3_wayOf_7 7 rfl rfl)
theorem dX3_wayOf_174 : decode cX3_wayOf 174 = .ok (.getfield 28, 3) := dk_180 0 28 (dk_at dksX3_wayOf_7 8 rfl rfl)
theorem dX3_wayOf_177 : decode cX3_wayOf 177 = .ok (.aload 4, 2) := dk_25 4 (dk_at dksX3_wayOf_7 11 rfl rfl)
theorem dX3_wayOf_179 : decode cX3_wayOf 179 = .ok (.iload 5, 2) := dk_21 5 (dk_at dksX3_wayOf_7 13 rfl rfl)
theorem dX3_wayOf_181 : decode cX3_wayOf 181 = .ok (.iconst 1, 1) := dk_4 (dk_at dksX3_wayOf_7 15 rfl rfl)
theorem dX3_wayOf_182 : decode cX3_wayOf 182 = .ok (.isub, 1) := dk_100 (dk_at dksX3_wayOf_7 16 rfl rfl)
theorem dX3_wayOf_183 : decode cX3_wayOf 183 = .ok (.iaload, 1) := dk_46 (dk_at dksX3_wayOf_7 17 rfl rfl)
theorem dX3_wayOf_184 : decode cX3_wayOf 184 = .ok (.iaload, 1) := dk_46 (dk_at dksX3_wayOf_7 18 rfl rfl)
theorem dX3_wayOf_185 : decode cX3_wayOf 185 = .ok (.iload 6, 2) := dk_21 6 (dk_at dksX3_wayOf_7 19 rfl rfl)
theorem dX3_wayOf_187 : decode cX3_wayOf 187 = .ok (.invokestatic 74, 3) := dk_184 0 74 (dk_at dksX3_wayOf_7 21 rfl rfl)
theorem dX3_wayOf_190 : decode cX3_wayOf 190 = .ok (.ifCond .eq 21, 3) := dk_153 0 21 (dk_at dksX3_wayOf_8 0 rfl rfl)
theorem dX3_wayOf_193 : decode cX3_wayOf 193 = .ok (.aload_n 3, 1) := dk_45 (dk_at dksX3_wayOf_8 3 rfl rfl)
theorem dX3_wayOf_194 : decode cX3_wayOf 194 = .ok (.iload 6, 2) := dk_21 6 (dk_at dksX3_wayOf_8 4 rfl rfl)
theorem dX3_wayOf_196 : decode cX3_wayOf 196 = .ok (.iaload, 1) := dk_46 (dk_at dksX3_wayOf_8 6 rfl rfl)
theorem dX3_wayOf_197 : decode cX3_wayOf 197 = .ok (.aload_n 3, 1) := dk_45 (dk_at dksX3_wayOf_8 7 rfl rfl)
theorem dX3_wayOf_198 : decode cX3_wayOf 198 = .ok (.aload 4, 2) := dk_25 4 (dk_at dksX3_wayOf_8 8 rfl rfl)
theorem dX3_wayOf_200 : decode cX3_wayOf 200 = .ok (.iload 5, 2) := dk_21 5 (dk_at dksX3_wayOf_8 10 rfl rfl)
theorem dX3_wayOf_202 : decode cX3_wayOf 202 = .ok (.iconst 1, 1) := dk_4 (dk_at dksX3_wayOf_8 12 rfl rfl)
theorem dX3_wayOf_203 : decode cX3_wayOf 203 = .ok (.isub, 1) := dk_100 (dk_at dksX3_wayOf_8 13 rfl rfl)
theorem dX3_wayOf_204 : decode cX3_wayOf 204 = .ok (.iaload, 1) := dk_46 (dk_at dksX3_wayOf_8 14 rfl rfl)
theorem dX3_wayOf_205 : decode cX3_wayOf 205 = .ok (.iaload, 1) := dk_46 (dk_at dksX3_wayOf_8 15 rfl rfl)
theorem dX3_wayOf_206 : decode cX3_wayOf 206 = .ok (.iconst 1, 1) := dk_4 (dk_at dksX3_wayOf_8 16 rfl rfl)
theorem dX3_wayOf_207 : decode cX3_wayOf 207 = .ok (.isub, 1) := dk_100 (dk_at dksX3_wayOf_8 17 rfl rfl)
theorem dX3_wayOf_208 : decode cX3_wayOf 208 = .ok (.if_icmp .eq 9, 3) := dk_159 0 9 (dk_at dksX3_wayOf_8 18 rfl rfl)
theorem dX3_wayOf_211 : decode cX3_wayOf 211 = .ok (.iinc 6 1, 3) := dk_132 6 1 (dk_at dksX3_wayOf_8 21 rfl rfl)
theorem dX3_wayOf_214 : decode cX3_wayOf 214 = .ok (.goto (-41), 3) := dk_167 255 215 (dk_at dksX3_wayOf_9 0 rfl rfl)
theorem dX3_wayOf_217 : decode cX3_wayOf 217 = .ok (.aload 4, 2) := dk_25 4 (dk_at dksX3_wayOf_9 3 rfl rfl)
theorem dX3_wayOf_219 : decode cX3_wayOf 219 = .ok (.iload 5, 2) := dk_21 5 (dk_at dksX3_wayOf_9 5 rfl rfl)
theorem dX3_wayOf_221 : decode cX3_wayOf 221 = .ok (.iload 6, 2) := dk_21 6 (dk_at dksX3_wayOf_9 7 rfl rfl)
theorem dX3_wayOf_223 : decode cX3_wayOf 223 = .ok (.iastore, 1) := dk_79 (dk_at dksX3_wayOf_9 9 rfl rfl)
theorem dX3_wayOf_224 : decode cX3_wayOf 224 = .ok (.iinc 5 1, 3) := dk_132 5 1 (dk_at dksX3_wayOf_9 10 rfl rfl)
theorem dX3_wayOf_227 : decode cX3_wayOf 227 = .ok (.goto (-65), 3) := dk_167 255 191 (dk_at dksX3_wayOf_9 13 rfl rfl)
theorem dX3_wayOf_230 : decode cX3_wayOf 230 = .ok (.aload 4, 2) := dk_25 4 (dk_at dksX3_wayOf_9 16 rfl rfl)
theorem dX3_wayOf_232 : decode cX3_wayOf 232 = .ok (.areturn, 1) := dk_176 (dk_at dksX3_wayOf_9 18 rfl rfl)
abbrev cX3_passers : ByteArray := prog_4_method_5_code
def yX3_passers : MethodName := ⟨RX3, "passers", "(I)I"⟩
def dkwX3_passers_1 : List UInt8 := [120, 128, 61, 132, 3, 1, 167, 255, 230, 28, 172]
abbrev dktX3_passers_1 : List UInt8 := dkwX3_passers_1 ++ []
def dkwX3_passers_0 : List UInt8 := [3, 61, 3, 62, 29, 42, 180, 0, 78, 162, 0, 24, 42, 29, 27, 182, 0, 85, 153, 0, 9, 28, 4, 29]
abbrev dktX3_passers_0 : List UInt8 := dkwX3_passers_0 ++ dktX3_passers_1
theorem dksX3_passers_0 : cX3_passers.data.toList.drop 0 = dktX3_passers_0 := by decide +kernel
theorem dksX3_passers_1 : cX3_passers.data.toList.drop 24 = dktX3_passers_1 := dk_seg dksX3_passers_0 24 rfl rfl
theorem dX3_passers_0 : decode cX3_passers 0 = .ok (.iconst 0, 1) := dk_3 (dk_at dksX3_passers_0 0 rfl rfl)
theorem dX3_passers_1 : decode cX3_passers 1 = .ok (.istore_n 2, 1) := dk_61 (dk_at dksX3_passers_0 1 rfl rfl)
theorem dX3_passers_2 : decode cX3_passers 2 = .ok (.iconst 0, 1) := dk_3 (dk_at dksX3_passers_0 2 rfl rfl)
theorem dX3_passers_3 : decode cX3_passers 3 = .ok (.istore_n 3, 1) := dk_62 (dk_at dksX3_passers_0 3 rfl rfl)
theorem dX3_passers_4 : decode cX3_passers 4 = .ok (.iload_n 3, 1) := dk_29 (dk_at dksX3_passers_0 4 rfl rfl)
theorem dX3_passers_5 : decode cX3_passers 5 = .ok (.aload_n 0, 1) := dk_42 (dk_at dksX3_passers_0 5 rfl rfl)
theorem dX3_passers_6 : decode cX3_passers 6 = .ok (.getfield 78, 3) := dk_180 0 78 (dk_at dksX3_passers_0 6 rfl rfl)
theorem dX3_passers_9 : decode cX3_passers 9 = .ok (.if_icmp .ge 24, 3) := dk_162 0 24 (dk_at dksX3_passers_0 9 rfl rfl)
theorem dX3_passers_12 : decode cX3_passers 12 = .ok (.aload_n 0, 1) := dk_42 (dk_at dksX3_passers_0 12 rfl rfl)
theorem dX3_passers_13 : decode cX3_passers 13 = .ok (.iload_n 3, 1) := dk_29 (dk_at dksX3_passers_0 13 rfl rfl)
theorem dX3_passers_14 : decode cX3_passers 14 = .ok (.iload_n 1, 1) := dk_27 (dk_at dksX3_passers_0 14 rfl rfl)
theorem dX3_passers_15 : decode cX3_passers 15 = .ok (.invokevirtual 85, 3) := dk_182 0 85 (dk_at dksX3_passers_0 15 rfl rfl)
theorem dX3_passers_18 : decode cX3_passers 18 = .ok (.ifCond .eq 9, 3) := dk_153 0 9 (dk_at dksX3_passers_0 18 rfl rfl)
theorem dX3_passers_21 : decode cX3_passers 21 = .ok (.iload_n 2, 1) := dk_28 (dk_at dksX3_passers_0 21 rfl rfl)
theorem dX3_passers_22 : decode cX3_passers 22 = .ok (.iconst 1, 1) := dk_4 (dk_at dksX3_passers_0 22 rfl rfl)
theorem dX3_passers_23 : decode cX3_passers 23 = .ok (.iload_n 3, 1) := dk_29 (dk_at dksX3_passers_0 23 rfl rfl)
theorem dX3_passers_24 : decode cX3_passers 24 = .ok (.ishl, 1) := dk_120 (dk_at dksX3_passers_1 0 rfl rfl)
theorem dX3_passers_25 : decode cX3_passers 25 = .ok (.ior, 1) := dk_128 (dk_at dksX3_passers_1 1 rfl rfl)
theorem dX3_passers_26 : decode cX3_passers 26 = .ok (.istore_n 2, 1) := dk_61 (dk_at dksX3_passers_1 2 rfl rfl)
theorem dX3_passers_27 : decode cX3_passers 27 = .ok (.iinc 3 1, 3) := dk_132 3 1 (dk_at dksX3_passers_1 3 rfl rfl)
theorem dX3_passers_30 : decode cX3_passers 30 = .ok (.goto (-26), 3) := dk_167 255 230 (dk_at dksX3_passers_1 6 rfl rfl)
theorem dX3_passers_33 : decode cX3_passers 33 = .ok (.iload_n 2, 1) := dk_28 (dk_at dksX3_passers_1 9 rfl rfl)
theorem dX3_passers_34 : decode cX3_passers 34 = .ok (.ireturn, 1) := dk_172 (dk_at dksX3_passers_1 10 rfl rfl)
abbrev cX3_comes : ByteArray := prog_4_method_4_code
def yX3_comes : MethodName := ⟨RX3, "comes", "(II)Z"⟩
def dkwX3_comes_1 : List UInt8 := [46, 54, 6, 21, 6, 28, 160, 0, 5, 4, 172, 132, 5, 1, 167, 255, 232, 3, 172]
abbrev dktX3_comes_1 : List UInt8 := dkwX3_comes_1 ++ []
def dkwX3_comes_0 : List UInt8 := [42, 180, 0, 59, 27, 50, 78, 45, 190, 54, 4, 3, 54, 5, 21, 5, 21, 4, 162, 0, 23, 45, 21, 5]
abbrev dktX3_comes_0 : List UInt8 := dkwX3_comes_0 ++ dktX3_comes_1
theorem dksX3_comes_0 : cX3_comes.data.toList.drop 0 = dktX3_comes_0 := by decide +kernel
theorem dksX3_comes_1 : cX3_comes.data.toList.drop 24 = dktX3_comes_1 := dk_seg dksX3_comes_0 24 rfl rfl
theorem dX3_comes_0 : decode cX3_comes 0 = .ok (.aload_n 0, 1) := dk_42 (dk_at dksX3_comes_0 0 rfl rfl)
theorem dX3_comes_1 : decode cX3_comes 1 = .ok (.getfield 59, 3) := dk_180 0 59 (dk_at dksX3_comes_0 1 rfl rfl)
theorem dX3_comes_4 : decode cX3_comes 4 = .ok (.iload_n 1, 1) := dk_27 (dk_at dksX3_comes_0 4 rfl rfl)
theorem dX3_comes_5 : decode cX3_comes 5 = .ok (.aaload, 1) := dk_50 (dk_at dksX3_comes_0 5 rfl rfl)
theorem dX3_comes_6 : decode cX3_comes 6 = .ok (.astore_n 3, 1) := dk_78 (dk_at dksX3_comes_0 6 rfl rfl)
theorem dX3_comes_7 : decode cX3_comes 7 = .ok (.aload_n 3, 1) := dk_45 (dk_at dksX3_comes_0 7 rfl rfl)
theorem dX3_comes_8 : decode cX3_comes 8 = .ok (.arraylength, 1) := dk_190 (dk_at dksX3_comes_0 8 rfl rfl)
theorem dX3_comes_9 : decode cX3_comes 9 = .ok (.istore 4, 2) := dk_54 4 (dk_at dksX3_comes_0 9 rfl rfl)
theorem dX3_comes_11 : decode cX3_comes 11 = .ok (.iconst 0, 1) := dk_3 (dk_at dksX3_comes_0 11 rfl rfl)
theorem dX3_comes_12 : decode cX3_comes 12 = .ok (.istore 5, 2) := dk_54 5 (dk_at dksX3_comes_0 12 rfl rfl)
theorem dX3_comes_14 : decode cX3_comes 14 = .ok (.iload 5, 2) := dk_21 5 (dk_at dksX3_comes_0 14 rfl rfl)
theorem dX3_comes_16 : decode cX3_comes 16 = .ok (.iload 4, 2) := dk_21 4 (dk_at dksX3_comes_0 16 rfl rfl)
theorem dX3_comes_18 : decode cX3_comes 18 = .ok (.if_icmp .ge 23, 3) := dk_162 0 23 (dk_at dksX3_comes_0 18 rfl rfl)
theorem dX3_comes_21 : decode cX3_comes 21 = .ok (.aload_n 3, 1) := dk_45 (dk_at dksX3_comes_0 21 rfl rfl)
theorem dX3_comes_22 : decode cX3_comes 22 = .ok (.iload 5, 2) := dk_21 5 (dk_at dksX3_comes_0 22 rfl rfl)
theorem dX3_comes_24 : decode cX3_comes 24 = .ok (.iaload, 1) := dk_46 (dk_at dksX3_comes_1 0 rfl rfl)
theorem dX3_comes_25 : decode cX3_comes 25 = .ok (.istore 6, 2) := dk_54 6 (dk_at dksX3_comes_1 1 rfl rfl)
theorem dX3_comes_27 : decode cX3_comes 27 = .ok (.iload 6, 2) := dk_21 6 (dk_at dksX3_comes_1 3 rfl rfl)
theorem dX3_comes_29 : decode cX3_comes 29 = .ok (.iload_n 2, 1) := dk_28 (dk_at dksX3_comes_1 5 rfl rfl)
theorem dX3_comes_30 : decode cX3_comes 30 = .ok (.if_icmp .ne 5, 3) := dk_160 0 5 (dk_at dksX3_comes_1 6 rfl rfl)
theorem dX3_comes_33 : decode cX3_comes 33 = .ok (.iconst 1, 1) := dk_4 (dk_at dksX3_comes_1 9 rfl rfl)
theorem dX3_comes_34 : decode cX3_comes 34 = .ok (.ireturn, 1) := dk_172 (dk_at dksX3_comes_1 10 rfl rfl)
theorem dX3_comes_35 : decode cX3_comes 35 = .ok (.iinc 5 1, 3) := dk_132 5 1 (dk_at dksX3_comes_1 11 rfl rfl)
theorem dX3_comes_38 : decode cX3_comes 38 = .ok (.goto (-24), 3) := dk_167 255 232 (dk_at dksX3_comes_1 14 rfl rfl)
theorem dX3_comes_41 : decode cX3_comes 41 = .ok (.iconst 0, 1) := dk_3 (dk_at dksX3_comes_1 17 rfl rfl)
theorem dX3_comes_42 : decode cX3_comes 42 = .ok (.ireturn, 1) := dk_172 (dk_at dksX3_comes_1 18 rfl rfl)
abbrev cX3_likes : ByteArray := prog_4_method_6_code
def yX3_likes : MethodName := ⟨RX3, "likes", "(II)I"⟩
def dkwX3_likes_1 : List UInt8 := [167, 0, 5, 16, 6, 172]
abbrev dktX3_likes_1 : List UInt8 := dkwX3_likes_1 ++ []
def dkwX3_likes_0 : List UInt8 := [42, 180, 0, 63, 8, 27, 104, 28, 96, 51, 153, 0, 16, 42, 180, 0, 55, 8, 27, 104, 28, 96, 46]
abbrev dktX3_likes_0 : List UInt8 := dkwX3_likes_0 ++ dktX3_likes_1
theorem dksX3_likes_0 : cX3_likes.data.toList.drop 0 = dktX3_likes_0 := by decide +kernel
theorem dksX3_likes_1 : cX3_likes.data.toList.drop 23 = dktX3_likes_1 := dk_seg dksX3_likes_0 23 rfl rfl
theorem dX3_likes_0 : decode cX3_likes 0 = .ok (.aload_n 0, 1) := dk_42 (dk_at dksX3_likes_0 0 rfl rfl)
theorem dX3_likes_1 : decode cX3_likes 1 = .ok (.getfield 63, 3) := dk_180 0 63 (dk_at dksX3_likes_0 1 rfl rfl)
theorem dX3_likes_4 : decode cX3_likes 4 = .ok (.iconst 5, 1) := dk_8 (dk_at dksX3_likes_0 4 rfl rfl)
theorem dX3_likes_5 : decode cX3_likes 5 = .ok (.iload_n 1, 1) := dk_27 (dk_at dksX3_likes_0 5 rfl rfl)
theorem dX3_likes_6 : decode cX3_likes 6 = .ok (.imul, 1) := dk_104 (dk_at dksX3_likes_0 6 rfl rfl)
theorem dX3_likes_7 : decode cX3_likes 7 = .ok (.iload_n 2, 1) := dk_28 (dk_at dksX3_likes_0 7 rfl rfl)
theorem dX3_likes_8 : decode cX3_likes 8 = .ok (.iadd, 1) := dk_96 (dk_at dksX3_likes_0 8 rfl rfl)
theorem dX3_likes_9 : decode cX3_likes 9 = .ok (.baload, 1) := dk_51 (dk_at dksX3_likes_0 9 rfl rfl)
theorem dX3_likes_10 : decode cX3_likes 10 = .ok (.ifCond .eq 16, 3) := dk_153 0 16 (dk_at dksX3_likes_0 10 rfl rfl)
theorem dX3_likes_13 : decode cX3_likes 13 = .ok (.aload_n 0, 1) := dk_42 (dk_at dksX3_likes_0 13 rfl rfl)
theorem dX3_likes_14 : decode cX3_likes 14 = .ok (.getfield 55, 3) := dk_180 0 55 (dk_at dksX3_likes_0 14 rfl rfl)
theorem dX3_likes_17 : decode cX3_likes 17 = .ok (.iconst 5, 1) := dk_8 (dk_at dksX3_likes_0 17 rfl rfl)
theorem dX3_likes_18 : decode cX3_likes 18 = .ok (.iload_n 1, 1) := dk_27 (dk_at dksX3_likes_0 18 rfl rfl)
theorem dX3_likes_19 : decode cX3_likes 19 = .ok (.imul, 1) := dk_104 (dk_at dksX3_likes_0 19 rfl rfl)
theorem dX3_likes_20 : decode cX3_likes 20 = .ok (.iload_n 2, 1) := dk_28 (dk_at dksX3_likes_0 20 rfl rfl)
theorem dX3_likes_21 : decode cX3_likes 21 = .ok (.iadd, 1) := dk_96 (dk_at dksX3_likes_0 21 rfl rfl)
theorem dX3_likes_22 : decode cX3_likes 22 = .ok (.iaload, 1) := dk_46 (dk_at dksX3_likes_0 22 rfl rfl)
theorem dX3_likes_23 : decode cX3_likes 23 = .ok (.goto 5, 3) := dk_167 0 5 (dk_at dksX3_likes_1 0 rfl rfl)
theorem dX3_likes_26 : decode cX3_likes 26 = .ok (.bipush 6, 2) := dk_16 6 (dk_at dksX3_likes_1 3 rfl rfl)
theorem dX3_likes_28 : decode cX3_likes 28 = .ok (.ireturn, 1) := dk_172 (dk_at dksX3_likes_1 5 rfl rfl)
abbrev cX3_isEnough : ByteArray := prog_4_method_8_code
def yX3_isEnough : MethodName := ⟨RX3, "isEnough", "(IIIZ)Z"⟩
def dkwX3_isEnough_1 : List UInt8 := [167, 0, 4, 3, 172]
abbrev dktX3_isEnough_1 : List UInt8 := dkwX3_isEnough_1 ++ []
def dkwX3_isEnough_0 : List UInt8 := [42, 27, 28, 29, 21, 4, 182, 0, 91, 17, 19, 176, 42, 180, 0, 24, 28, 46, 104, 161, 0, 7, 4]
abbrev dktX3_isEnough_0 : List UInt8 := dkwX3_isEnough_0 ++ dktX3_isEnough_1
theorem dksX3_isEnough_0 : cX3_isEnough.data.toList.drop 0 = dktX3_isEnough_0 := by decide +kernel
theorem dksX3_isEnough_1 : cX3_isEnough.data.toList.drop 23 = dktX3_isEnough_1 := dk_seg dksX3_isEnough_0 23 rfl rfl
theorem dX3_isEnough_0 : decode cX3_isEnough 0 = .ok (.aload_n 0, 1) := dk_42 (dk_at dksX3_isEnough_0 0 rfl rfl)
theorem dX3_isEnough_1 : decode cX3_isEnough 1 = .ok (.iload_n 1, 1) := dk_27 (dk_at dksX3_isEnough_0 1 rfl rfl)
theorem dX3_isEnough_2 : decode cX3_isEnough 2 = .ok (.iload_n 2, 1) := dk_28 (dk_at dksX3_isEnough_0 2 rfl rfl)
theorem dX3_isEnough_3 : decode cX3_isEnough 3 = .ok (.iload_n 3, 1) := dk_29 (dk_at dksX3_isEnough_0 3 rfl rfl)
theorem dX3_isEnough_4 : decode cX3_isEnough 4 = .ok (.iload 4, 2) := dk_21 4 (dk_at dksX3_isEnough_0 4 rfl rfl)
theorem dX3_isEnough_6 : decode cX3_isEnough 6 = .ok (.invokevirtual 91, 3) := dk_182 0 91 (dk_at dksX3_isEnough_0 6 rfl rfl)
theorem dX3_isEnough_9 : decode cX3_isEnough 9 = .ok (.sipush 5040, 3) := dk_17 19 176 (dk_at dksX3_isEnough_0 9 rfl rfl)
theorem dX3_isEnough_12 : decode cX3_isEnough 12 = .ok (.aload_n 0, 1) := dk_42 (dk_at dksX3_isEnough_0 12 rfl rfl)
theorem dX3_isEnough_13 : decode cX3_isEnough 13 = .ok (.getfield 24, 3) := dk_180 0 24 (dk_at dksX3_isEnough_0 13 rfl rfl)
theorem dX3_isEnough_16 : decode cX3_isEnough 16 = .ok (.iload_n 2, 1) := dk_28 (dk_at dksX3_isEnough_0 16 rfl rfl)
theorem dX3_isEnough_17 : decode cX3_isEnough 17 = .ok (.iaload, 1) := dk_46 (dk_at dksX3_isEnough_0 17 rfl rfl)
theorem dX3_isEnough_18 : decode cX3_isEnough 18 = .ok (.imul, 1) := dk_104 (dk_at dksX3_isEnough_0 18 rfl rfl)
theorem dX3_isEnough_19 : decode cX3_isEnough 19 = .ok (.if_icmp .lt 7, 3) := dk_161 0 7 (dk_at dksX3_isEnough_0 19 rfl rfl)
theorem dX3_isEnough_22 : decode cX3_isEnough 22 = .ok (.iconst 1, 1) := dk_4 (dk_at dksX3_isEnough_0 22 rfl rfl)
theorem dX3_isEnough_23 : decode cX3_isEnough 23 = .ok (.goto 4, 3) := dk_167 0 4 (dk_at dksX3_isEnough_1 0 rfl rfl)
theorem dX3_isEnough_26 : decode cX3_isEnough 26 = .ok (.iconst 0, 1) := dk_3 (dk_at dksX3_isEnough_1 3 rfl rfl)
theorem dX3_isEnough_27 : decode cX3_isEnough 27 = .ok (.ireturn, 1) := dk_172 (dk_at dksX3_isEnough_1 4 rfl rfl)
abbrev cX3_yields : ByteArray := prog_4_method_7_code
def yX3_yields : MethodName := ⟨RX3, "yields", "(IIIZ)I"⟩
def dkwX3_yields_3 : List UInt8 := [180, 0, 49, 21, 6, 46, 108, 104, 96, 54, 5, 132, 6, 1, 167, 255, 176, 21, 5, 172]
abbrev dktX3_yields_3 : List UInt8 := dkwX3_yields_3 ++ []
def dkwX3_yields_2 : List UInt8 := [5, 108, 167, 0, 10, 42, 180, 0, 52, 21, 6, 46, 42, 21, 6, 29, 182, 0, 88, 104, 17, 1, 164, 42]
abbrev dktX3_yields_2 : List UInt8 := dkwX3_yields_2 ++ dktX3_yields_3
def dkwX3_yields_1 : List UInt8 := [42, 21, 6, 28, 182, 0, 85, 153, 0, 52, 21, 5, 21, 4, 153, 0, 15, 42, 180, 0, 52, 21, 6, 46]
abbrev dktX3_yields_1 : List UInt8 := dkwX3_yields_1 ++ dktX3_yields_2
def dkwX3_yields_0 : List UInt8 := [3, 54, 5, 3, 54, 6, 21, 6, 42, 180, 0, 78, 162, 0, 77, 27, 21, 6, 184, 0, 74, 153, 0, 62]
abbrev dktX3_yields_0 : List UInt8 := dkwX3_yields_0 ++ dktX3_yields_1
theorem dksX3_yields_0 : cX3_yields.data.toList.drop 0 = dktX3_yields_0 := by decide +kernel
theorem dksX3_yields_1 : cX3_yields.data.toList.drop 24 = dktX3_yields_1 := dk_seg dksX3_yields_0 24 rfl rfl
theorem dksX3_yields_2 : cX3_yields.data.toList.drop 48 = dktX3_yields_2 := dk_seg dksX3_yields_1 24 rfl rfl
theorem dksX3_yields_3 : cX3_yields.data.toList.drop 72 = dktX3_yields_3 := dk_seg dksX3_yields_2 24 rfl rfl
theorem dX3_yields_0 : decode cX3_yields 0 = .ok (.iconst 0, 1) := dk_3 (dk_at dksX3_yields_0 0 rfl rfl)
theorem dX3_yields_1 : decode cX3_yields 1 = .ok (.istore 5, 2) := dk_54 5 (dk_at dksX3_yields_0 1 rfl rfl)
theorem dX3_yields_3 : decode cX3_yields 3 = .ok (.iconst 0, 1) := dk_3 (dk_at dksX3_yields_0 3 rfl rfl)
theorem dX3_yields_4 : decode cX3_yields 4 = .ok (.istore 6, 2) := dk_54 6 (dk_at dksX3_yields_0 4 rfl rfl)
theorem dX3_yields_6 : decode cX3_yields 6 = .ok (.iload 6, 2) := dk_21 6 (dk_at dksX3_yields_0 6 rfl rfl)
theorem dX3_yields_8 : decode cX3_yields 8 = .ok (.aload_n 0, 1) := dk_42 (dk_at dksX3_yields_0 8 rfl rfl)
theorem dX3_yields_9 : decode cX3_yields 9 = .ok (.getfield 78, 3) := dk_180 0 78 (dk_at dksX3_yields_0 9 rfl rfl)
theorem dX3_yields_12 : decode cX3_yields 12 = .ok (.if_icmp .ge 77, 3) := dk_162 0 77 (dk_at dksX3_yields_0 12 rfl rfl)
theorem dX3_yields_15 : decode cX3_yields 15 = .ok (.iload_n 1, 1) := dk_27 (dk_at dksX3_yields_0 15 rfl rfl)
theorem dX3_yields_16 : decode cX3_yields 16 = .ok (.iload 6, 2) := dk_21 6 (dk_at dksX3_yields_0 16 rfl rfl)
theorem dX3_yields_18 : decode cX3_yields 18 = .ok (.invokestatic 74, 3) := dk_184 0 74 (dk_at dksX3_yields_0 18 rfl rfl)
theorem dX3_yields_21 : decode cX3_yields 21 = .ok (.ifCond .eq 62, 3) := dk_153 0 62 (dk_at dksX3_yields_0 21 rfl rfl)
theorem dX3_yields_24 : decode cX3_yields 24 = .ok (.aload_n 0, 1) := dk_42 (dk_at dksX3_yields_1 0 rfl rfl)
theorem dX3_yields_25 : decode cX3_yields 25 = .ok (.iload 6, 2) := dk_21 6 (dk_at dksX3_yields_1 1 rfl rfl)
theorem dX3_yields_27 : decode cX3_yields 27 = .ok (.iload_n 2, 1) := dk_28 (dk_at dksX3_yields_1 3 rfl rfl)
theorem dX3_yields_28 : decode cX3_yields 28 = .ok (.invokevirtual 85, 3) := dk_182 0 85 (dk_at dksX3_yields_1 4 rfl rfl)
theorem dX3_yields_31 : decode cX3_yields 31 = .ok (.ifCond .eq 52, 3) := dk_153 0 52 (dk_at dksX3_yields_1 7 rfl rfl)
theorem dX3_yields_34 : decode cX3_yields 34 = .ok (.iload 5, 2) := dk_21 5 (dk_at dksX3_yields_1 10 rfl rfl)
theorem dX3_yields_36 : decode cX3_yields 36 = .ok (.iload 4, 2) := dk_21 4 (dk_at dksX3_yields_1 12 rfl rfl)
theorem dX3_yields_38 : decode cX3_yields 38 = .ok (.ifCond .eq 15, 3) := dk_153 0 15 (dk_at dksX3_yields_1 14 rfl rfl)
theorem dX3_yields_41 : decode cX3_yields 41 = .ok (.aload_n 0, 1) := dk_42 (dk_at dksX3_yields_1 17 rfl rfl)
theorem dX3_yields_42 : decode cX3_yields 42 = .ok (.getfield 52, 3) := dk_180 0 52 (dk_at dksX3_yields_1 18 rfl rfl)
theorem dX3_yields_45 : decode cX3_yields 45 = .ok (.iload 6, 2) := dk_21 6 (dk_at dksX3_yields_1 21 rfl rfl)
theorem dX3_yields_47 : decode cX3_yields 47 = .ok (.iaload, 1) := dk_46 (dk_at dksX3_yields_1 23 rfl rfl)
theorem dX3_yields_48 : decode cX3_yields 48 = .ok (.iconst 2, 1) := dk_5 (dk_at dksX3_yields_2 0 rfl rfl)
theorem dX3_yields_49 : decode cX3_yields 49 = .ok (.idiv, 1) := dk_108 (dk_at dksX3_yields_2 1 rfl rfl)
theorem dX3_yields_50 : decode cX3_yields 50 = .ok (.goto 10, 3) := dk_167 0 10 (dk_at dksX3_yields_2 2 rfl rfl)
theorem dX3_yields_53 : decode cX3_yields 53 = .ok (.aload_n 0, 1) := dk_42 (dk_at dksX3_yields_2 5 rfl rfl)
theorem dX3_yields_54 : decode cX3_yields 54 = .ok (.getfield 52, 3) := dk_180 0 52 (dk_at dksX3_yields_2 6 rfl rfl)
theorem dX3_yields_57 : decode cX3_yields 57 = .ok (.iload 6, 2) := dk_21 6 (dk_at dksX3_yields_2 9 rfl rfl)
theorem dX3_yields_59 : decode cX3_yields 59 = .ok (.iaload, 1) := dk_46 (dk_at dksX3_yields_2 11 rfl rfl)
theorem dX3_yields_60 : decode cX3_yields 60 = .ok (.aload_n 0, 1) := dk_42 (dk_at dksX3_yields_2 12 rfl rfl)
theorem dX3_yields_61 : decode cX3_yields 61 = .ok (.iload 6, 2) := dk_21 6 (dk_at dksX3_yields_2 13 rfl rfl)
theorem dX3_yields_63 : decode cX3_yields 63 = .ok (.iload_n 3, 1) := dk_29 (dk_at dksX3_yields_2 15 rfl rfl)
theorem dX3_yields_64 : decode cX3_yields 64 = .ok (.invokevirtual 88, 3) := dk_182 0 88 (dk_at dksX3_yields_2 16 rfl rfl)
theorem dX3_yields_67 : decode cX3_yields 67 = .ok (.imul, 1) := dk_104 (dk_at dksX3_yields_2 19 rfl rfl)
theorem dX3_yields_68 : decode cX3_yields 68 = .ok (.sipush 420, 3) := dk_17 1 164 (dk_at dksX3_yields_2 20 rfl rfl)
theorem dX3_yields_71 : decode cX3_yields 71 = .ok (.aload_n 0, 1) := dk_42 (dk_at dksX3_yields_2 23 rfl rfl)
theorem dX3_yields_72 : decode cX3_yields 72 = .ok (.getfield 49, 3) := dk_180 0 49 (dk_at dksX3_yields_3 0 rfl rfl)
theorem dX3_yields_75 : decode cX3_yields 75 = .ok (.iload 6, 2) := dk_21 6 (dk_at dksX3_yields_3 3 rfl rfl)
theorem dX3_yields_77 : decode cX3_yields 77 = .ok (.iaload, 1) := dk_46 (dk_at dksX3_yields_3 5 rfl rfl)
theorem dX3_yields_78 : decode cX3_yields 78 = .ok (.idiv, 1) := dk_108 (dk_at dksX3_yields_3 6 rfl rfl)
theorem dX3_yields_79 : decode cX3_yields 79 = .ok (.imul, 1) := dk_104 (dk_at dksX3_yields_3 7 rfl rfl)
theorem dX3_yields_80 : decode cX3_yields 80 = .ok (.iadd, 1) := dk_96 (dk_at dksX3_yields_3 8 rfl rfl)
theorem dX3_yields_81 : decode cX3_yields 81 = .ok (.istore 5, 2) := dk_54 5 (dk_at dksX3_yields_3 9 rfl rfl)
theorem dX3_yields_83 : decode cX3_yields 83 = .ok (.iinc 6 1, 3) := dk_132 6 1 (dk_at dksX3_yields_3 11 rfl rfl)
theorem dX3_yields_86 : decode cX3_yields 86 = .ok (.goto (-80), 3) := dk_167 255 176 (dk_at dksX3_yields_3 14 rfl rfl)
theorem dX3_yields_89 : decode cX3_yields 89 = .ok (.iload 5, 2) := dk_21 5 (dk_at dksX3_yields_3 17 rfl rfl)
theorem dX3_yields_91 : decode cX3_yields 91 = .ok (.ireturn, 1) := dk_172 (dk_at dksX3_yields_3 19 rfl rfl)
theorem q125 : (Jvm.Cond.initialized "StatueRent$City") ∈ lw_all := lw_g (lw_at lw_m1 5 rfl) rfl
theorem q260 : (Jvm.Cond.instantiable "StatueRent$City" (23 : Nat)) ∈ lw_all := lw_g (lw_at lw_m1 140 rfl) rfl
theorem q262 : (Jvm.Cond.instanceMethod ({ cls := "StatueRent$City", name := "<init>", desc := "()V" } : Jvm.MethodName)) ∈ lw_all := lw_g (lw_at lw_m1 142 rfl) rfl
theorem q263 : (Jvm.Cond.code ({ cls := "StatueRent$City", name := "<init>", desc := "()V" } : Jvm.MethodName) prog_4_method_1_code (1 : Nat) (Option.none : Option Jvm.ClassFile.FieldType)) ∈ lw_all := lw_g (lw_at lw_m1 143 rfl) rfl
theorem q264 : (Jvm.Cond.methodLink "StatueRent$City" (3 : Nat) ({ cls := "java/lang/Object", name := "<init>", desc := "()V" } : Jvm.MethodName)) ∈ lw_all := lw_g (lw_at lw_m1 144 rfl) rfl
theorem q265 : (Jvm.Cond.classLink "StatueRent$City" (58 : Nat) "[I") ∈ lw_all := lw_g (lw_at lw_m1 145 rfl) rfl
theorem q267 : (Jvm.Cond.fieldLink "StatueRent$City" (9 : Nat) "StatueRent$City" "squareNames" "[J") ∈ lw_all := lw_g (lw_at lw_m1 147 rfl) rfl
theorem q272 : (Jvm.Cond.fieldLink "StatueRent$City" (15 : Nat) "StatueRent$City" "kindNames" "[J") ∈ lw_all := lw_g (lw_at lw_m1 152 rfl) rfl
theorem q276 : (Jvm.Cond.fieldLink "StatueRent$City" (18 : Nat) "StatueRent$City" "statueNames" "[J") ∈ lw_all := lw_g (lw_at lw_m1 156 rfl) rfl
theorem q280 : (Jvm.Cond.fieldLink "StatueRent$City" (21 : Nat) "StatueRent$City" "walkerNames" "[J") ∈ lw_all := lw_g (lw_at lw_m1 160 rfl) rfl
theorem q282 : (Jvm.Cond.fieldLink "StatueRent$City" (24 : Nat) "StatueRent$City" "rent" "[I") ∈ lw_all := lw_g (lw_at lw_m1 162 rfl) rfl
theorem q286 : (Jvm.Cond.fieldLink "StatueRent$City" (28 : Nat) "StatueRent$City" "next" "[I") ∈ lw_all := lw_g (lw_at lw_m1 166 rfl) rfl
theorem q289 : (Jvm.Cond.fieldLink "StatueRent$City" (31 : Nat) "StatueRent$City" "kind" "[I") ∈ lw_all := lw_g (lw_at lw_m1 169 rfl) rfl
theorem q292 : (Jvm.Cond.fieldLink "StatueRent$City" (34 : Nat) "StatueRent$City" "square" "[I") ∈ lw_all := lw_g (lw_at lw_m1 172 rfl) rfl
theorem q295 : (Jvm.Cond.fieldLink "StatueRent$City" (37 : Nat) "StatueRent$City" "purse" "[I") ∈ lw_all := lw_g (lw_at lw_m1 175 rfl) rfl
theorem q298 : (Jvm.Cond.fieldLink "StatueRent$City" (40 : Nat) "StatueRent$City" "bribe" "[I") ∈ lw_all := lw_g (lw_at lw_m1 178 rfl) rfl
theorem q301 : (Jvm.Cond.fieldLink "StatueRent$City" (43 : Nat) "StatueRent$City" "from" "[I") ∈ lw_all := lw_g (lw_at lw_m1 181 rfl) rfl
theorem q304 : (Jvm.Cond.fieldLink "StatueRent$City" (46 : Nat) "StatueRent$City" "to" "[I") ∈ lw_all := lw_g (lw_at lw_m1 184 rfl) rfl
theorem q307 : (Jvm.Cond.fieldLink "StatueRent$City" (49 : Nat) "StatueRent$City" "every" "[I") ∈ lw_all := lw_g (lw_at lw_m1 187 rfl) rfl
theorem q311 : (Jvm.Cond.fieldLink "StatueRent$City" (52 : Nat) "StatueRent$City" "worth" "[I") ∈ lw_all := lw_g (lw_at lw_m1 191 rfl) rfl
theorem q315 : (Jvm.Cond.fieldLink "StatueRent$City" (55 : Nat) "StatueRent$City" "likes" "[I") ∈ lw_all := lw_g (lw_at lw_m1 195 rfl) rfl
theorem q317 : (Jvm.Cond.fieldLink "StatueRent$City" (59 : Nat) "StatueRent$City" "ways" "[[I") ∈ lw_all := lw_g (lw_at lw_m1 197 rfl) rfl
theorem q320 : (Jvm.Cond.fieldLink "StatueRent$City" (63 : Nat) "StatueRent$City" "told" "[Z") ∈ lw_all := lw_g (lw_at lw_m1 200 rfl) rfl
theorem q322 : (Jvm.Cond.fieldLink "StatueRent$City" (71 : Nat) "StatueRent$City" "squares" "I") ∈ lw_all := lw_g (lw_at lw_m1 202 rfl) rfl
theorem q338 : (Jvm.Cond.fieldLink "StatueRent$City" (78 : Nat) "StatueRent$City" "walkers" "I") ∈ lw_all := lw_g (lw_at lw_m1 218 rfl) rfl
theorem q342 : (Jvm.Cond.fieldLink "StatueRent$City" (67 : Nat) "StatueRent$City" "arrears" "I") ∈ lw_all := lw_g (lw_at lw_m1 222 rfl) rfl
theorem q346 : (Jvm.Cond.laysFinal "StatueRent$City" "StatueRent$City" "squareNames" "[J") ∈ lw_all := lw_g (lw_at lw_m1 226 rfl) rfl
theorem q347 : (Jvm.Cond.soleField "StatueRent$City" "squareNames") ∈ lw_all := lw_g (lw_at lw_m1 227 rfl) rfl
theorem q348 : (Jvm.Cond.laysFinal "StatueRent$City" "StatueRent$City" "kindNames" "[J") ∈ lw_all := lw_g (lw_at lw_m1 228 rfl) rfl
theorem q349 : (Jvm.Cond.soleField "StatueRent$City" "kindNames") ∈ lw_all := lw_g (lw_at lw_m1 229 rfl) rfl
theorem q350 : (Jvm.Cond.laysFinal "StatueRent$City" "StatueRent$City" "statueNames" "[J") ∈ lw_all := lw_g (lw_at lw_m1 230 rfl) rfl
theorem q351 : (Jvm.Cond.soleField "StatueRent$City" "statueNames") ∈ lw_all := lw_g (lw_at lw_m1 231 rfl) rfl
theorem q352 : (Jvm.Cond.laysFinal "StatueRent$City" "StatueRent$City" "walkerNames" "[J") ∈ lw_all := lw_g (lw_at lw_m1 232 rfl) rfl
theorem q353 : (Jvm.Cond.soleField "StatueRent$City" "walkerNames") ∈ lw_all := lw_g (lw_at lw_m1 233 rfl) rfl
theorem q354 : (Jvm.Cond.laysFinal "StatueRent$City" "StatueRent$City" "rent" "[I") ∈ lw_all := lw_g (lw_at lw_m1 234 rfl) rfl
theorem q355 : (Jvm.Cond.soleField "StatueRent$City" "rent") ∈ lw_all := lw_g (lw_at lw_m1 235 rfl) rfl
theorem q356 : (Jvm.Cond.laysFinal "StatueRent$City" "StatueRent$City" "next" "[I") ∈ lw_all := lw_g (lw_at lw_m1 236 rfl) rfl
theorem q357 : (Jvm.Cond.soleField "StatueRent$City" "next") ∈ lw_all := lw_g (lw_at lw_m1 237 rfl) rfl
theorem q358 : (Jvm.Cond.laysFinal "StatueRent$City" "StatueRent$City" "kind" "[I") ∈ lw_all := lw_g (lw_at lw_m1 238 rfl) rfl
theorem q359 : (Jvm.Cond.soleField "StatueRent$City" "kind") ∈ lw_all := lw_g (lw_at lw_m1 239 rfl) rfl
theorem q360 : (Jvm.Cond.laysFinal "StatueRent$City" "StatueRent$City" "square" "[I") ∈ lw_all := lw_g (lw_at lw_m2 0 rfl) rfl
theorem q361 : (Jvm.Cond.soleField "StatueRent$City" "square") ∈ lw_all := lw_g (lw_at lw_m2 1 rfl) rfl
theorem q362 : (Jvm.Cond.laysFinal "StatueRent$City" "StatueRent$City" "purse" "[I") ∈ lw_all := lw_g (lw_at lw_m2 2 rfl) rfl
theorem q363 : (Jvm.Cond.soleField "StatueRent$City" "purse") ∈ lw_all := lw_g (lw_at lw_m2 3 rfl) rfl
theorem q364 : (Jvm.Cond.laysFinal "StatueRent$City" "StatueRent$City" "bribe" "[I") ∈ lw_all := lw_g (lw_at lw_m2 4 rfl) rfl
theorem q365 : (Jvm.Cond.soleField "StatueRent$City" "bribe") ∈ lw_all := lw_g (lw_at lw_m2 5 rfl) rfl
theorem q366 : (Jvm.Cond.laysFinal "StatueRent$City" "StatueRent$City" "from" "[I") ∈ lw_all := lw_g (lw_at lw_m2 6 rfl) rfl
theorem q367 : (Jvm.Cond.soleField "StatueRent$City" "from") ∈ lw_all := lw_g (lw_at lw_m2 7 rfl) rfl
theorem q368 : (Jvm.Cond.laysFinal "StatueRent$City" "StatueRent$City" "to" "[I") ∈ lw_all := lw_g (lw_at lw_m2 8 rfl) rfl
theorem q369 : (Jvm.Cond.soleField "StatueRent$City" "to") ∈ lw_all := lw_g (lw_at lw_m2 9 rfl) rfl
theorem q370 : (Jvm.Cond.laysFinal "StatueRent$City" "StatueRent$City" "every" "[I") ∈ lw_all := lw_g (lw_at lw_m2 10 rfl) rfl
theorem q371 : (Jvm.Cond.soleField "StatueRent$City" "every") ∈ lw_all := lw_g (lw_at lw_m2 11 rfl) rfl
theorem q372 : (Jvm.Cond.laysFinal "StatueRent$City" "StatueRent$City" "worth" "[I") ∈ lw_all := lw_g (lw_at lw_m2 12 rfl) rfl
theorem q373 : (Jvm.Cond.soleField "StatueRent$City" "worth") ∈ lw_all := lw_g (lw_at lw_m2 13 rfl) rfl
theorem q374 : (Jvm.Cond.laysFinal "StatueRent$City" "StatueRent$City" "likes" "[I") ∈ lw_all := lw_g (lw_at lw_m2 14 rfl) rfl
theorem q375 : (Jvm.Cond.soleField "StatueRent$City" "likes") ∈ lw_all := lw_g (lw_at lw_m2 15 rfl) rfl
theorem q376 : (Jvm.Cond.laysFinal "StatueRent$City" "StatueRent$City" "ways" "[[I") ∈ lw_all := lw_g (lw_at lw_m2 16 rfl) rfl
theorem q377 : (Jvm.Cond.soleField "StatueRent$City" "ways") ∈ lw_all := lw_g (lw_at lw_m2 17 rfl) rfl
theorem q378 : (Jvm.Cond.laysFinal "StatueRent$City" "StatueRent$City" "told" "[Z") ∈ lw_all := lw_g (lw_at lw_m2 18 rfl) rfl
theorem q379 : (Jvm.Cond.soleField "StatueRent$City" "told") ∈ lw_all := lw_g (lw_at lw_m2 19 rfl) rfl
theorem q380 : (Jvm.Cond.lays "StatueRent$City" "StatueRent$City" "squares" "I") ∈ lw_all := lw_g (lw_at lw_m2 20 rfl) rfl
theorem q381 : (Jvm.Cond.soleField "StatueRent$City" "squares") ∈ lw_all := lw_g (lw_at lw_m2 21 rfl) rfl
theorem q382 : (Jvm.Cond.lays "StatueRent$City" "StatueRent$City" "paths" "I") ∈ lw_all := lw_g (lw_at lw_m2 22 rfl) rfl
theorem q383 : (Jvm.Cond.soleField "StatueRent$City" "paths") ∈ lw_all := lw_g (lw_at lw_m2 23 rfl) rfl
theorem q384 : (Jvm.Cond.lays "StatueRent$City" "StatueRent$City" "kinds" "I") ∈ lw_all := lw_g (lw_at lw_m2 24 rfl) rfl
theorem q385 : (Jvm.Cond.soleField "StatueRent$City" "kinds") ∈ lw_all := lw_g (lw_at lw_m2 25 rfl) rfl
theorem q386 : (Jvm.Cond.lays "StatueRent$City" "StatueRent$City" "statues" "I") ∈ lw_all := lw_g (lw_at lw_m2 26 rfl) rfl
theorem q387 : (Jvm.Cond.soleField "StatueRent$City" "statues") ∈ lw_all := lw_g (lw_at lw_m2 27 rfl) rfl
theorem q388 : (Jvm.Cond.lays "StatueRent$City" "StatueRent$City" "walkers" "I") ∈ lw_all := lw_g (lw_at lw_m2 28 rfl) rfl
theorem q389 : (Jvm.Cond.soleField "StatueRent$City" "walkers") ∈ lw_all := lw_g (lw_at lw_m2 29 rfl) rfl
theorem q390 : (Jvm.Cond.lays "StatueRent$City" "StatueRent$City" "arrears" "I") ∈ lw_all := lw_g (lw_at lw_m2 30 rfl) rfl
theorem q391 : (Jvm.Cond.soleField "StatueRent$City" "arrears") ∈ lw_all := lw_g (lw_at lw_m2 31 rfl) rfl
theorem q392 : (Jvm.Cond.superclass "StatueRent$City" "java/lang/Object") ∈ lw_all := lw_g (lw_at lw_m2 32 rfl) rfl
theorem q953 : (Jvm.Cond.instanceMethod ({ cls := "StatueRent$City", name := "lays", desc := "()V" } : Jvm.MethodName)) ∈ lw_all := lw_g (lw_at lw_m4 113 rfl) rfl
theorem q954 : (Jvm.Cond.selects "StatueRent$City" ({ cls := "StatueRent$City", name := "lays", desc := "()V" } : Jvm.MethodName) ({ cls := "StatueRent$City", name := "lays", desc := "()V" } : Jvm.MethodName)) ∈ lw_all := lw_g (lw_at lw_m4 114 rfl) rfl
theorem q955 : (Jvm.Cond.code ({ cls := "StatueRent$City", name := "lays", desc := "()V" } : Jvm.MethodName) prog_4_method_3_code (2 : Nat) (Option.none : Option Jvm.ClassFile.FieldType)) ∈ lw_all := lw_g (lw_at lw_m4 115 rfl) rfl
theorem q956 : (Jvm.Cond.methodLink "StatueRent$City" (81 : Nat) ({ cls := "StatueRent$City", name := "wayOf", desc := "(II)[I" } : Jvm.MethodName)) ∈ lw_all := lw_g (lw_at lw_m4 116 rfl) rfl
theorem q957 : (Jvm.Cond.privateMethod ({ cls := "StatueRent$City", name := "wayOf", desc := "(II)[I" } : Jvm.MethodName)) ∈ lw_tbl := lw_at lw_m4 117 rfl
theorem q958 : (Jvm.Cond.instanceMethod ({ cls := "StatueRent$City", name := "wayOf", desc := "(II)[I" } : Jvm.MethodName)) ∈ lw_all := lw_g (lw_at lw_m4 118 rfl) rfl
theorem q959 : (Jvm.Cond.code ({ cls := "StatueRent$City", name := "wayOf", desc := "(II)[I" } : Jvm.MethodName) prog_4_method_2_code (7 : Nat) (Option.some (Jvm.ClassFile.FieldType.array Jvm.ClassFile.FieldType.int))) ∈ lw_all := lw_g (lw_at lw_m4 119 rfl) rfl
theorem q960 : (Jvm.Cond.methodLinkNest "StatueRent$City" (74 : Nat) ({ cls := "StatueRent", name := "has", desc := "(II)Z" } : Jvm.MethodName) "StatueRent") ∈ lw_tbl := lw_at lw_m4 120 rfl
theorem q979 : (Jvm.Cond.instanceMethod ({ cls := "StatueRent$City", name := "passers", desc := "(I)I" } : Jvm.MethodName)) ∈ lw_all := lw_g (lw_at lw_m4 139 rfl) rfl
theorem q980 : (Jvm.Cond.selects "StatueRent$City" ({ cls := "StatueRent$City", name := "passers", desc := "(I)I" } : Jvm.MethodName) ({ cls := "StatueRent$City", name := "passers", desc := "(I)I" } : Jvm.MethodName)) ∈ lw_all := lw_g (lw_at lw_m4 140 rfl) rfl
theorem q981 : (Jvm.Cond.code ({ cls := "StatueRent$City", name := "passers", desc := "(I)I" } : Jvm.MethodName) prog_4_method_5_code (4 : Nat) (Option.some Jvm.ClassFile.FieldType.int)) ∈ lw_all := lw_g (lw_at lw_m4 141 rfl) rfl
theorem q982 : (Jvm.Cond.methodLink "StatueRent$City" (85 : Nat) ({ cls := "StatueRent$City", name := "comes", desc := "(II)Z" } : Jvm.MethodName)) ∈ lw_all := lw_g (lw_at lw_m4 142 rfl) rfl
theorem q983 : (Jvm.Cond.instanceMethod ({ cls := "StatueRent$City", name := "comes", desc := "(II)Z" } : Jvm.MethodName)) ∈ lw_all := lw_g (lw_at lw_m4 143 rfl) rfl
theorem q984 : (Jvm.Cond.selects "StatueRent$City" ({ cls := "StatueRent$City", name := "comes", desc := "(II)Z" } : Jvm.MethodName) ({ cls := "StatueRent$City", name := "comes", desc := "(II)Z" } : Jvm.MethodName)) ∈ lw_all := lw_g (lw_at lw_m4 144 rfl) rfl
theorem q985 : (Jvm.Cond.code ({ cls := "StatueRent$City", name := "comes", desc := "(II)Z" } : Jvm.MethodName) prog_4_method_4_code (7 : Nat) (Option.some Jvm.ClassFile.FieldType.boolean)) ∈ lw_all := lw_g (lw_at lw_m4 145 rfl) rfl
theorem q1003 : (Jvm.Cond.instanceMethod ({ cls := "StatueRent$City", name := "likes", desc := "(II)I" } : Jvm.MethodName)) ∈ lw_all := lw_g (lw_at lw_m4 163 rfl) rfl
theorem q1004 : (Jvm.Cond.selects "StatueRent$City" ({ cls := "StatueRent$City", name := "likes", desc := "(II)I" } : Jvm.MethodName) ({ cls := "StatueRent$City", name := "likes", desc := "(II)I" } : Jvm.MethodName)) ∈ lw_all := lw_g (lw_at lw_m4 164 rfl) rfl
theorem q1005 : (Jvm.Cond.code ({ cls := "StatueRent$City", name := "likes", desc := "(II)I" } : Jvm.MethodName) prog_4_method_6_code (3 : Nat) (Option.some Jvm.ClassFile.FieldType.int)) ∈ lw_all := lw_g (lw_at lw_m4 165 rfl) rfl
theorem q1148 : (Jvm.Cond.instanceMethod ({ cls := "StatueRent$City", name := "isEnough", desc := "(IIIZ)Z" } : Jvm.MethodName)) ∈ lw_all := lw_g (lw_at lw_m5 68 rfl) rfl
theorem q1149 : (Jvm.Cond.selects "StatueRent$City" ({ cls := "StatueRent$City", name := "isEnough", desc := "(IIIZ)Z" } : Jvm.MethodName) ({ cls := "StatueRent$City", name := "isEnough", desc := "(IIIZ)Z" } : Jvm.MethodName)) ∈ lw_all := lw_g (lw_at lw_m5 69 rfl) rfl
theorem q1150 : (Jvm.Cond.code ({ cls := "StatueRent$City", name := "isEnough", desc := "(IIIZ)Z" } : Jvm.MethodName) prog_4_method_8_code (5 : Nat) (Option.some Jvm.ClassFile.FieldType.boolean)) ∈ lw_all := lw_g (lw_at lw_m5 70 rfl) rfl
theorem q1151 : (Jvm.Cond.methodLink "StatueRent$City" (91 : Nat) ({ cls := "StatueRent$City", name := "yields", desc := "(IIIZ)I" } : Jvm.MethodName)) ∈ lw_all := lw_g (lw_at lw_m5 71 rfl) rfl
theorem q1152 : (Jvm.Cond.instanceMethod ({ cls := "StatueRent$City", name := "yields", desc := "(IIIZ)I" } : Jvm.MethodName)) ∈ lw_all := lw_g (lw_at lw_m5 72 rfl) rfl
theorem q1153 : (Jvm.Cond.selects "StatueRent$City" ({ cls := "StatueRent$City", name := "yields", desc := "(IIIZ)I" } : Jvm.MethodName) ({ cls := "StatueRent$City", name := "yields", desc := "(IIIZ)I" } : Jvm.MethodName)) ∈ lw_all := lw_g (lw_at lw_m5 73 rfl) rfl
theorem q1154 : (Jvm.Cond.code ({ cls := "StatueRent$City", name := "yields", desc := "(IIIZ)I" } : Jvm.MethodName) prog_4_method_7_code (7 : Nat) (Option.some Jvm.ClassFile.FieldType.int)) ∈ lw_all := lw_g (lw_at lw_m5 74 rfl) rfl
theorem q1155 : (Jvm.Cond.methodLink "StatueRent$City" (88 : Nat) ({ cls := "StatueRent$City", name := "likes", desc := "(II)I" } : Jvm.MethodName)) ∈ lw_all := lw_g (lw_at lw_m5 75 rfl) rfl
theorem q2536 : (Jvm.Cond.castable "StatueRent$City" "java/lang/Object") ∈ lw_tbl := lw_at lw_m11 16 rfl
theorem in_X3 : ∀ w ∈ wsX30, w ∈ lw_all := lw_in wsX30 [346, 348, 350, 352, 354, 356, 358, 360, 362, 364, 366, 368, 370, 372, 374, 376, 378, 380, 382, 384, 386, 388, 390] (by decide +kernel) (by decide +kernel)
/-! StatueRent$State -/
set_option maxRecDepth 100000
def RX4 : String := "StatueRent$State"
def TX4 : u_T := fun k => match k with
  | 0 => ("StatueRent$State", "stones", "[LStatueRent$Stone;", true)
  | 1 => ("StatueRent$State", "tired", "[I", true)
  | 2 => ("StatueRent$State", "gave", "[I", true)
  | 3 => ("StatueRent$State", "looked", "[I", true)
  | 4 => ("StatueRent$State", "day", "I", false)
  | 5 => ("StatueRent$State", "paid", "I", false)
  | _ => ("StatueRent$State", "seed", "I", false)
def tyX4 : Nat → FieldType := fun k => match k with
  | 0 => .array (.object "StatueRent$Stone")
  | 1 => .array .int
  | 2 => .array .int
  | 3 => .array .int
  | 4 => .int
  | 5 => .int
  | _ => .int
abbrev wsX40 : List Cond := u_ws RX4 TX4 7
theorem nmX4 : ∀ a, a < 7 → ∀ b, b < 7 → a ≠ b → (TX4 a).2.1 ≠ (TX4 b).2.1 := by decide +kernel
theorem tyX4_ok : ∀ k, k < 7 → parseFieldDescriptor (TX4 k).2.2.1 = some (tyX4 k) := by decide +kernel
abbrev cX4_init : ByteArray := prog_21_method_1_code
def yX4_init : MethodName := ⟨RX4, "<init>", "()V"⟩
def dkwX4_init_2 : List UInt8 := [180, 0, 11, 27, 187, 0, 9, 89, 183, 0, 27, 83, 132, 1, 1, 167, 255, 234, 177]
abbrev dktX4_init_2 : List UInt8 := dkwX4_init_2 ++ []
def dkwX4_init_1 : List UInt8 := [188, 10, 181, 0, 21, 42, 16, 8, 188, 10, 181, 0, 24, 3, 60, 27, 16, 8, 162, 0, 22, 42]
abbrev dktX4_init_1 : List UInt8 := dkwX4_init_1 ++ dktX4_init_2
def dkwX4_init_0 : List UInt8 := [42, 183, 0, 3, 42, 16, 8, 189, 0, 9, 181, 0, 11, 42, 16, 40, 188, 10, 181, 0, 17, 42, 16, 8]
abbrev dktX4_init_0 : List UInt8 := dkwX4_init_0 ++ dktX4_init_1
theorem dksX4_init_0 : cX4_init.data.toList.drop 0 = dktX4_init_0 := by decide +kernel
theorem dksX4_init_1 : cX4_init.data.toList.drop 24 = dktX4_init_1 := dk_seg dksX4_init_0 24 rfl rfl
theorem dksX4_init_2 : cX4_init.data.toList.drop 46 = dktX4_init_2 := dk_seg dksX4_init_1 22 rfl rfl
theorem dX4_init_0 : decode cX4_init 0 = .ok (.aload_n 0, 1) := dk_42 (dk_at dksX4_init_0 0 rfl rfl)
theorem dX4_init_1 : decode cX4_init 1 = .ok (.invokespecial 3, 3) := dk_183 0 3 (dk_at dksX4_init_0 1 rfl rfl)
theorem dX4_init_4 : decode cX4_init 4 = .ok (.aload_n 0, 1) := dk_42 (dk_at dksX4_init_0 4 rfl rfl)
theorem dX4_init_5 : decode cX4_init 5 = .ok (.bipush 8, 2) := dk_16 8 (dk_at dksX4_init_0 5 rfl rfl)
theorem dX4_init_7 : decode cX4_init 7 = .ok (.anewarray 9, 3) := dk_189 0 9 (dk_at dksX4_init_0 7 rfl rfl)
theorem dX4_init_10 : decode cX4_init 10 = .ok (.putfield 11, 3) := dk_181 0 11 (dk_at dksX4_init_0 10 rfl rfl)
theorem dX4_init_13 : decode cX4_init 13 = .ok (.aload_n 0, 1) := dk_42 (dk_at dksX4_init_0 13 rfl rfl)
theorem dX4_init_14 : decode cX4_init 14 = .ok (.bipush 40, 2) := dk_16 40 (dk_at dksX4_init_0 14 rfl rfl)
theorem dX4_init_16 : decode cX4_init 16 = .ok (.newarray .int, 2) := dk_188_10 (dk_at dksX4_init_0 16 rfl rfl)
theorem dX4_init_18 : decode cX4_init 18 = .ok (.putfield 17, 3) := dk_181 0 17 (dk_at dksX4_init_0 18 rfl rfl)
theorem dX4_init_21 : decode cX4_init 21 = .ok (.aload_n 0, 1) := dk_42 (dk_at dksX4_init_0 21 rfl rfl)
theorem dX4_init_22 : decode cX4_init 22 = .ok (.bipush 8, 2) := dk_16 8 (dk_at dksX4_init_0 22 rfl rfl)
theorem dX4_init_24 : decode cX4_init 24 = .ok (.newarray .int, 2) := dk_188_10 (dk_at dksX4_init_1 0 rfl rfl)
theorem dX4_init_26 : decode cX4_init 26 = .ok (.putfield 21, 3) := dk_181 0 21 (dk_at dksX4_init_1 2 rfl rfl)
theorem dX4_init_29 : decode cX4_init 29 = .ok (.aload_n 0, 1) := dk_42 (dk_at dksX4_init_1 5 rfl rfl)
theorem dX4_init_30 : decode cX4_init 30 = .ok (.bipush 8, 2) := dk_16 8 (dk_at dksX4_init_1 6 rfl rfl)
theorem dX4_init_32 : decode cX4_init 32 = .ok (.newarray .int, 2) := dk_188_10 (dk_at dksX4_init_1 8 rfl rfl)
theorem dX4_init_34 : decode cX4_init 34 = .ok (.putfield 24, 3) := dk_181 0 24 (dk_at dksX4_init_1 10 rfl rfl)
theorem dX4_init_37 : decode cX4_init 37 = .ok (.iconst 0, 1) := dk_3 (dk_at dksX4_init_1 13 rfl rfl)
theorem dX4_init_38 : decode cX4_init 38 = .ok (.istore_n 1, 1) := dk_60 (dk_at dksX4_init_1 14 rfl rfl)
theorem dX4_init_39 : decode cX4_init 39 = .ok (.iload_n 1, 1) := dk_27 (dk_at dksX4_init_1 15 rfl rfl)
theorem dX4_init_40 : decode cX4_init 40 = .ok (.bipush 8, 2) := dk_16 8 (dk_at dksX4_init_1 16 rfl rfl)
theorem dX4_init_42 : decode cX4_init 42 = .ok (.if_icmp .ge 22, 3) := dk_162 0 22 (dk_at dksX4_init_1 18 rfl rfl)
theorem dX4_init_45 : decode cX4_init 45 = .ok (.aload_n 0, 1) := dk_42 (dk_at dksX4_init_1 21 rfl rfl)
theorem dX4_init_46 : decode cX4_init 46 = .ok (.getfield 11, 3) := dk_180 0 11 (dk_at dksX4_init_2 0 rfl rfl)
theorem dX4_init_49 : decode cX4_init 49 = .ok (.iload_n 1, 1) := dk_27 (dk_at dksX4_init_2 3 rfl rfl)
theorem dX4_init_50 : decode cX4_init 50 = .ok (.new 9, 3) := dk_187 0 9 (dk_at dksX4_init_2 4 rfl rfl)
theorem dX4_init_53 : decode cX4_init 53 = .ok (.dup, 1) := dk_89 (dk_at dksX4_init_2 7 rfl rfl)
theorem dX4_init_54 : decode cX4_init 54 = .ok (.invokespecial 27, 3) := dk_183 0 27 (dk_at dksX4_init_2 8 rfl rfl)
theorem dX4_init_57 : decode cX4_init 57 = .ok (.aastore, 1) := dk_83 (dk_at dksX4_init_2 11 rfl rfl)
theorem dX4_init_58 : decode cX4_init 58 = .ok (.iinc 1 1, 3) := dk_132 1 1 (dk_at dksX4_init_2 12 rfl rfl)
theorem dX4_init_61 : decode cX4_init 61 = .ok (.goto (-22), 3) := dk_167 255 234 (dk_at dksX4_init_2 15 rfl rfl)
theorem dX4_init_64 : decode cX4_init 64 = .ok (.return_, 1) := dk_177 (dk_at dksX4_init_2 18 rfl rfl)
abbrev cX4_begin : ByteArray := prog_21_method_3_code
def yX4_begin : MethodName := ⟨RX4, "begin", "(LStatueRent$City;)V"⟩
def dkwX4_begin_4 : List UInt8 := [184, 0, 75, 42, 3, 181, 0, 38, 42, 3, 181, 0, 42, 177]
abbrev dktX4_begin_4 : List UInt8 := dkwX4_begin_4 ++ []
def dkwX4_begin_3 : List UInt8 := [3, 181, 0, 71, 132, 2, 1, 167, 255, 183, 42, 180, 0, 17, 3, 184, 0, 75, 42, 180, 0, 21, 3]
abbrev dktX4_begin_3 : List UInt8 := dkwX4_begin_3 ++ dktX4_begin_4
def dkwX4_begin_2 : List UInt8 := [181, 0, 58, 45, 43, 180, 0, 60, 28, 46, 181, 0, 63, 45, 3, 181, 0, 65, 45, 3, 181, 0, 68, 45]
abbrev dktX4_begin_2 : List UInt8 := dkwX4_begin_2 ++ dktX4_begin_3
def dkwX4_begin_1 : List UInt8 := [181, 0, 50, 45, 28, 43, 180, 0, 52, 162, 0, 12, 43, 180, 0, 55, 28, 46, 167, 0, 4, 2]
abbrev dktX4_begin_1 : List UInt8 := dkwX4_begin_1 ++ dktX4_begin_2
def dkwX4_begin_0 : List UInt8 := [3, 61, 28, 16, 8, 162, 0, 73, 42, 180, 0, 11, 28, 50, 78, 45, 43, 180, 0, 45, 28, 46]
abbrev dktX4_begin_0 : List UInt8 := dkwX4_begin_0 ++ dktX4_begin_1
theorem dksX4_begin_0 : cX4_begin.data.toList.drop 0 = dktX4_begin_0 := by decide +kernel
theorem dksX4_begin_1 : cX4_begin.data.toList.drop 22 = dktX4_begin_1 := dk_seg dksX4_begin_0 22 rfl rfl
theorem dksX4_begin_2 : cX4_begin.data.toList.drop 44 = dktX4_begin_2 := dk_seg dksX4_begin_1 22 rfl rfl
theorem dksX4_begin_3 : cX4_begin.data.toList.drop 68 = dktX4_begin_3 := dk_seg dksX4_begin_2 24 rfl rfl
theorem dksX4_begin_4 : cX4_begin.data.toList.drop 91 = dktX4_begin_4 := dk_seg dksX4_begin_3 23 rfl rfl
theorem dX4_begin_0 : decode cX4_begin 0 = .ok (.iconst 0, 1) := dk_3 (dk_at dksX4_begin_0 0 rfl rfl)
theorem dX4_begin_1 : decode cX4_begin 1 = .ok (.istore_n 2, 1) := dk_61 (dk_at dksX4_begin_0 1 rfl rfl)
theorem dX4_begin_2 : decode cX4_begin 2 = .ok (.iload_n 2, 1) := dk_28 (dk_at dksX4_begin_0 2 rfl rfl)
theorem dX4_begin_3 : decode cX4_begin 3 = .ok (.bipush 8, 2) := dk_16 8 (dk_at dksX4_begin_0 3 rfl rfl)
theorem dX4_begin_5 : decode cX4_begin 5 = .ok (.if_icmp .ge 73, 3) := dk_162 0 73 (dk_at dksX4_begin_0 5 rfl rfl)
theorem dX4_begin_8 : decode cX4_begin 8 = .ok (.aload_n 0, 1) := dk_42 (dk_at dksX4_begin_0 8 rfl rfl)
theorem dX4_begin_9 : decode cX4_begin 9 = .ok (.getfield 11, 3) := dk_180 0 11 (dk_at dksX4_begin_0 9 rfl rfl)
theorem dX4_begin_12 : decode cX4_begin 12 = .ok (.iload_n 2, 1) := dk_28 (dk_at dksX4_begin_0 12 rfl rfl)
theorem dX4_begin_13 : decode cX4_begin 13 = .ok (.aaload, 1) := dk_50 (dk_at dksX4_begin_0 13 rfl rfl)
theorem dX4_begin_14 : decode cX4_begin 14 = .ok (.astore_n 3, 1) := dk_78 (dk_at dksX4_begin_0 14 rfl rfl)
theorem dX4_begin_15 : decode cX4_begin 15 = .ok (.aload_n 3, 1) := dk_45 (dk_at dksX4_begin_0 15 rfl rfl)
theorem dX4_begin_16 : decode cX4_begin 16 = .ok (.aload_n 1, 1) := dk_43 (dk_at dksX4_begin_0 16 rfl rfl)
theorem dX4_begin_17 : decode cX4_begin 17 = .ok (.getfield 45, 3) := dk_180 0 45 (dk_at dksX4_begin_0 17 rfl rfl)
theorem dX4_begin_20 : decode cX4_begin 20 = .ok (.iload_n 2, 1) := dk_28 (dk_at dksX4_begin_0 20 rfl rfl)
theorem dX4_begin_21 : decode cX4_begin 21 = .ok (.iaload, 1) := dk_46 (dk_at dksX4_begin_0 21 rfl rfl)
theorem dX4_begin_22 : decode cX4_begin 22 = .ok (.putfield 50, 3) := dk_181 0 50 (dk_at dksX4_begin_1 0 rfl rfl)
theorem dX4_begin_25 : decode cX4_begin 25 = .ok (.aload_n 3, 1) := dk_45 (dk_at dksX4_begin_1 3 rfl rfl)
theorem dX4_begin_26 : decode cX4_begin 26 = .ok (.iload_n 2, 1) := dk_28 (dk_at dksX4_begin_1 4 rfl rfl)
theorem dX4_begin_27 : decode cX4_begin 27 = .ok (.aload_n 1, 1) := dk_43 (dk_at dksX4_begin_1 5 rfl rfl)
theorem dX4_begin_28 : decode cX4_begin 28 = .ok (.getfield 52, 3) := dk_180 0 52 (dk_at dksX4_begin_1 6 rfl rfl)
theorem dX4_begin_31 : decode cX4_begin 31 = .ok (.if_icmp .ge 12, 3) := dk_162 0 12 (dk_at dksX4_begin_1 9 rfl rfl)
theorem dX4_begin_34 : decode cX4_begin 34 = .ok (.aload_n 1, 1) := dk_43 (dk_at dksX4_begin_1 12 rfl rfl)
theorem dX4_begin_35 : decode cX4_begin 35 = .ok (.getfield 55, 3) := dk_180 0 55 (dk_at dksX4_begin_1 13 rfl rfl)
theorem dX4_begin_38 : decode cX4_begin 38 = .ok (.iload_n 2, 1) := dk_28 (dk_at dksX4_begin_1 16 rfl rfl)
theorem dX4_begin_39 : decode cX4_begin 39 = .ok (.iaload, 1) := dk_46 (dk_at dksX4_begin_1 17 rfl rfl)
theorem dX4_begin_40 : decode cX4_begin 40 = .ok (.goto 4, 3) := dk_167 0 4 (dk_at dksX4_begin_1 18 rfl rfl)
theorem dX4_begin_43 : decode cX4_begin 43 = .ok (.iconst (-1), 1) := dk_2 (dk_at dksX4_begin_1 21 rfl rfl)
theorem dX4_begin_44 : decode cX4_begin 44 = .ok (.putfield 58, 3) := dk_181 0 58 (dk_at dksX4_begin_2 0 rfl rfl)
theorem dX4_begin_47 : decode cX4_begin 47 = .ok (.aload_n 3, 1) := dk_45 (dk_at dksX4_begin_2 3 rfl rfl)
theorem dX4_begin_48 : decode cX4_begin 48 = .ok (.aload_n 1, 1) := dk_43 (dk_at dksX4_begin_2 4 rfl rfl)
theorem dX4_begin_49 : decode cX4_begin 49 = .ok (.getfield 60, 3) := dk_180 0 60 (dk_at dksX4_begin_2 5 rfl rfl)
theorem dX4_begin_52 : decode cX4_begin 52 = .ok (.iload_n 2, 1) := dk_28 (dk_at dksX4_begin_2 8 rfl rfl)
theorem dX4_begin_53 : decode cX4_begin 53 = .ok (.iaload, 1) := dk_46 (dk_at dksX4_begin_2 9 rfl rfl)
theorem dX4_begin_54 : decode cX4_begin 54 = .ok (.putfield 63, 3) := dk_181 0 63 (dk_at dksX4_begin_2 10 rfl rfl)
theorem dX4_begin_57 : decode cX4_begin 57 = .ok (.aload_n 3, 1) := dk_45 (dk_at dksX4_begin_2 13 rfl rfl)
theorem dX4_begin_58 : decode cX4_begin 58 = .ok (.iconst 0, 1) := dk_3 (dk_at dksX4_begin_2 14 rfl rfl)
theorem dX4_begin_59 : decode cX4_begin 59 = .ok (.putfield 65, 3) := dk_181 0 65 (dk_at dksX4_begin_2 15 rfl rfl)
theorem dX4_begin_62 : decode cX4_begin 62 = .ok (.aload_n 3, 1) := dk_45 (dk_at dksX4_begin_2 18 rfl rfl)
theorem dX4_begin_63 : decode cX4_begin 63 = .ok (.iconst 0, 1) := dk_3 (dk_at dksX4_begin_2 19 rfl rfl)
theorem dX4_begin_64 : decode cX4_begin 64 = .ok (.putfield 68, 3) := dk_181 0 68 (dk_at dksX4_begin_2 20 rfl rfl)
theorem dX4_begin_67 : decode cX4_begin 67 = .ok (.aload_n 3, 1) := dk_45 (dk_at dksX4_begin_2 23 rfl rfl)
theorem dX4_begin_68 : decode cX4_begin 68 = .ok (.iconst 0, 1) := dk_3 (dk_at dksX4_begin_3 0 rfl rfl)
theorem dX4_begin_69 : decode cX4_begin 69 = .ok (.putfield 71, 3) := dk_181 0 71 (dk_at dksX4_begin_3 1 rfl rfl)
theorem dX4_begin_72 : decode cX4_begin 72 = .ok (.iinc 2 1, 3) := dk_132 2 1 (dk_at dksX4_begin_3 4 rfl rfl)
theorem dX4_begin_75 : decode cX4_begin 75 = .ok (.goto (-73), 3) := dk_167 255 183 (dk_at dksX4_begin_3 7 rfl rfl)
theorem dX4_begin_78 : decode cX4_begin 78 = .ok (.aload_n 0, 1) := dk_42 (dk_at dksX4_begin_3 10 rfl rfl)
theorem dX4_begin_79 : decode cX4_begin 79 = .ok (.getfield 17, 3) := dk_180 0 17 (dk_at dksX4_begin_3 11 rfl rfl)
theorem dX4_begin_82 : decode cX4_begin 82 = .ok (.iconst 0, 1) := dk_3 (dk_at dksX4_begin_3 14 rfl rfl)
theorem dX4_begin_83 : decode cX4_begin 83 = .ok (.invokestatic 75, 3) := dk_184 0 75 (dk_at dksX4_begin_3 15 rfl rfl)
theorem dX4_begin_86 : decode cX4_begin 86 = .ok (.aload_n 0, 1) := dk_42 (dk_at dksX4_begin_3 18 rfl rfl)
theorem dX4_begin_87 : decode cX4_begin 87 = .ok (.getfield 21, 3) := dk_180 0 21 (dk_at dksX4_begin_3 19 rfl rfl)
theorem dX4_begin_90 : decode cX4_begin 90 = .ok (.iconst 0, 1) := dk_3 (dk_at dksX4_begin_3 22 rfl rfl)
theorem dX4_begin_91 : decode cX4_begin 91 = .ok (.invokestatic 75, 3) := dk_184 0 75 (dk_at dksX4_begin_4 0 rfl rfl)
theorem dX4_begin_94 : decode cX4_begin 94 = .ok (.aload_n 0, 1) := dk_42 (dk_at dksX4_begin_4 3 rfl rfl)
theorem dX4_begin_95 : decode cX4_begin 95 = .ok (.iconst 0, 1) := dk_3 (dk_at dksX4_begin_4 4 rfl rfl)
theorem dX4_begin_96 : decode cX4_begin 96 = .ok (.putfield 38, 3) := dk_181 0 38 (dk_at dksX4_begin_4 5 rfl rfl)
theorem dX4_begin_99 : decode cX4_begin 99 = .ok (.aload_n 0, 1) := dk_42 (dk_at dksX4_begin_4 8 rfl rfl)
theorem dX4_begin_100 : decode cX4_begin 100 = .ok (.iconst 0, 1) := dk_3 (dk_at dksX4_begin_4 9 rfl rfl)
theorem dX4_begin_101 : decode cX4_begin 101 = .ok (.putfield 42, 3) := dk_181 0 42 (dk_at dksX4_begin_4 10 rfl rfl)
theorem dX4_begin_104 : decode cX4_begin 104 = .ok (.return_, 1) := dk_177 (dk_at dksX4_begin_4 13 rfl rfl)
abbrev cX4_at : ByteArray := prog_21_method_4_code
def yX4_at : MethodName := ⟨RX4, "at", "(LStatueRent$City;I)I"⟩
def dkwX4_at_1 : List UInt8 := [172, 132, 3, 1, 167, 255, 230, 2, 172]
abbrev dktX4_at_1 : List UInt8 := dkwX4_at_1 ++ []
def dkwX4_at_0 : List UInt8 := [3, 62, 29, 43, 180, 0, 52, 162, 0, 24, 42, 180, 0, 11, 29, 50, 180, 0, 58, 28, 160, 0, 5, 29]
abbrev dktX4_at_0 : List UInt8 := dkwX4_at_0 ++ dktX4_at_1
theorem dksX4_at_0 : cX4_at.data.toList.drop 0 = dktX4_at_0 := by decide +kernel
theorem dksX4_at_1 : cX4_at.data.toList.drop 24 = dktX4_at_1 := dk_seg dksX4_at_0 24 rfl rfl
theorem dX4_at_0 : decode cX4_at 0 = .ok (.iconst 0, 1) := dk_3 (dk_at dksX4_at_0 0 rfl rfl)
theorem dX4_at_1 : decode cX4_at 1 = .ok (.istore_n 3, 1) := dk_62 (dk_at dksX4_at_0 1 rfl rfl)
theorem dX4_at_2 : decode cX4_at 2 = .ok (.iload_n 3, 1) := dk_29 (dk_at dksX4_at_0 2 rfl rfl)
theorem dX4_at_3 : decode cX4_at 3 = .ok (.aload_n 1, 1) := dk_43 (dk_at dksX4_at_0 3 rfl rfl)
theorem dX4_at_4 : decode cX4_at 4 = .ok (.getfield 52, 3) := dk_180 0 52 (dk_at dksX4_at_0 4 rfl rfl)
theorem dX4_at_7 : decode cX4_at 7 = .ok (.if_icmp .ge 24, 3) := dk_162 0 24 (dk_at dksX4_at_0 7 rfl rfl)
theorem dX4_at_10 : decode cX4_at 10 = .ok (.aload_n 0, 1) := dk_42 (dk_at dksX4_at_0 10 rfl rfl)
theorem dX4_at_11 : decode cX4_at 11 = .ok (.getfield 11, 3) := dk_180 0 11 (dk_at dksX4_at_0 11 rfl rfl)
theorem dX4_at_14 : decode cX4_at 14 = .ok (.iload_n 3, 1) := dk_29 (dk_at dksX4_at_0 14 rfl rfl)
theorem dX4_at_15 : decode cX4_at 15 = .ok (.aaload, 1) := dk_50 (dk_at dksX4_at_0 15 rfl rfl)
theorem dX4_at_16 : decode cX4_at 16 = .ok (.getfield 58, 3) := dk_180 0 58 (dk_at dksX4_at_0 16 rfl rfl)
theorem dX4_at_19 : decode cX4_at 19 = .ok (.iload_n 2, 1) := dk_28 (dk_at dksX4_at_0 19 rfl rfl)
theorem dX4_at_20 : decode cX4_at 20 = .ok (.if_icmp .ne 5, 3) := dk_160 0 5 (dk_at dksX4_at_0 20 rfl rfl)
theorem dX4_at_23 : decode cX4_at 23 = .ok (.iload_n 3, 1) := dk_29 (dk_at dksX4_at_0 23 rfl rfl)
theorem dX4_at_24 : decode cX4_at 24 = .ok (.ireturn, 1) := dk_172 (dk_at dksX4_at_1 0 rfl rfl)
theorem dX4_at_25 : decode cX4_at 25 = .ok (.iinc 3 1, 3) := dk_132 3 1 (dk_at dksX4_at_1 1 rfl rfl)
theorem dX4_at_28 : decode cX4_at 28 = .ok (.goto (-26), 3) := dk_167 255 230 (dk_at dksX4_at_1 4 rfl rfl)
theorem dX4_at_31 : decode cX4_at 31 = .ok (.iconst (-1), 1) := dk_2 (dk_at dksX4_at_1 7 rfl rfl)
theorem dX4_at_32 : decode cX4_at 32 = .ok (.ireturn, 1) := dk_172 (dk_at dksX4_at_1 8 rfl rfl)
abbrev cX4_chance : ByteArray := prog_21_method_6_code
def yX4_chance : MethodName := ⟨RX4, "chance", "(LStatueRent$City;II)I"⟩
def dkwX4_chance_0 : List UInt8 := [43, 28, 29, 182, 0, 85, 42, 180, 0, 17, 8, 28, 104, 29, 96, 46, 122, 172]
abbrev dktX4_chance_0 : List UInt8 := dkwX4_chance_0 ++ []
theorem dksX4_chance_0 : cX4_chance.data.toList.drop 0 = dktX4_chance_0 := by decide +kernel
theorem dX4_chance_0 : decode cX4_chance 0 = .ok (.aload_n 1, 1) := dk_43 (dk_at dksX4_chance_0 0 rfl rfl)
theorem dX4_chance_1 : decode cX4_chance 1 = .ok (.iload_n 2, 1) := dk_28 (dk_at dksX4_chance_0 1 rfl rfl)
theorem dX4_chance_2 : decode cX4_chance 2 = .ok (.iload_n 3, 1) := dk_29 (dk_at dksX4_chance_0 2 rfl rfl)
theorem dX4_chance_3 : decode cX4_chance 3 = .ok (.invokevirtual 85, 3) := dk_182 0 85 (dk_at dksX4_chance_0 3 rfl rfl)
theorem dX4_chance_6 : decode cX4_chance 6 = .ok (.aload_n 0, 1) := dk_42 (dk_at dksX4_chance_0 6 rfl rfl)
theorem dX4_chance_7 : decode cX4_chance 7 = .ok (.getfield 17, 3) := dk_180 0 17 (dk_at dksX4_chance_0 7 rfl rfl)
theorem dX4_chance_10 : decode cX4_chance 10 = .ok (.iconst 5, 1) := dk_8 (dk_at dksX4_chance_0 10 rfl rfl)
theorem dX4_chance_11 : decode cX4_chance 11 = .ok (.iload_n 2, 1) := dk_28 (dk_at dksX4_chance_0 11 rfl rfl)
theorem dX4_chance_12 : decode cX4_chance 12 = .ok (.imul, 1) := dk_104 (dk_at dksX4_chance_0 12 rfl rfl)
theorem dX4_chance_13 : decode cX4_chance 13 = .ok (.iload_n 3, 1) := dk_29 (dk_at dksX4_chance_0 13 rfl rfl)
theorem dX4_chance_14 : decode cX4_chance 14 = .ok (.iadd, 1) := dk_96 (dk_at dksX4_chance_0 14 rfl rfl)
theorem dX4_chance_15 : decode cX4_chance 15 = .ok (.iaload, 1) := dk_46 (dk_at dksX4_chance_0 15 rfl rfl)
theorem dX4_chance_16 : decode cX4_chance 16 = .ok (.ishr, 1) := dk_122 (dk_at dksX4_chance_0 16 rfl rfl)
theorem dX4_chance_17 : decode cX4_chance 17 = .ok (.ireturn, 1) := dk_172 (dk_at dksX4_chance_0 17 rfl rfl)
abbrev cX4_gone : ByteArray := prog_21_method_5_code
def yX4_gone : MethodName := ⟨RX4, "gone", "(LStatueRent$City;)I"⟩
def dkwX4_gone_1 : List UInt8 := [28, 4, 29, 120, 128, 61, 132, 3, 1, 167, 255, 227, 28, 172]
abbrev dktX4_gone_1 : List UInt8 := dkwX4_gone_1 ++ []
def dkwX4_gone_0 : List UInt8 := [3, 61, 3, 62, 29, 43, 180, 0, 52, 162, 0, 27, 42, 180, 0, 11, 29, 50, 182, 0, 81, 153, 0, 9]
abbrev dktX4_gone_0 : List UInt8 := dkwX4_gone_0 ++ dktX4_gone_1
theorem dksX4_gone_0 : cX4_gone.data.toList.drop 0 = dktX4_gone_0 := by decide +kernel
theorem dksX4_gone_1 : cX4_gone.data.toList.drop 24 = dktX4_gone_1 := dk_seg dksX4_gone_0 24 rfl rfl
theorem dX4_gone_0 : decode cX4_gone 0 = .ok (.iconst 0, 1) := dk_3 (dk_at dksX4_gone_0 0 rfl rfl)
theorem dX4_gone_1 : decode cX4_gone 1 = .ok (.istore_n 2, 1) := dk_61 (dk_at dksX4_gone_0 1 rfl rfl)
theorem dX4_gone_2 : decode cX4_gone 2 = .ok (.iconst 0, 1) := dk_3 (dk_at dksX4_gone_0 2 rfl rfl)
theorem dX4_gone_3 : decode cX4_gone 3 = .ok (.istore_n 3, 1) := dk_62 (dk_at dksX4_gone_0 3 rfl rfl)
theorem dX4_gone_4 : decode cX4_gone 4 = .ok (.iload_n 3, 1) := dk_29 (dk_at dksX4_gone_0 4 rfl rfl)
theorem dX4_gone_5 : decode cX4_gone 5 = .ok (.aload_n 1, 1) := dk_43 (dk_at dksX4_gone_0 5 rfl rfl)
theorem dX4_gone_6 : decode cX4_gone 6 = .ok (.getfield 52, 3) := dk_180 0 52 (dk_at dksX4_gone_0 6 rfl rfl)
theorem dX4_gone_9 : decode cX4_gone 9 = .ok (.if_icmp .ge 27, 3) := dk_162 0 27 (dk_at dksX4_gone_0 9 rfl rfl)
theorem dX4_gone_12 : decode cX4_gone 12 = .ok (.aload_n 0, 1) := dk_42 (dk_at dksX4_gone_0 12 rfl rfl)
theorem dX4_gone_13 : decode cX4_gone 13 = .ok (.getfield 11, 3) := dk_180 0 11 (dk_at dksX4_gone_0 13 rfl rfl)
theorem dX4_gone_16 : decode cX4_gone 16 = .ok (.iload_n 3, 1) := dk_29 (dk_at dksX4_gone_0 16 rfl rfl)
theorem dX4_gone_17 : decode cX4_gone 17 = .ok (.aaload, 1) := dk_50 (dk_at dksX4_gone_0 17 rfl rfl)
theorem dX4_gone_18 : decode cX4_gone 18 = .ok (.invokevirtual 81, 3) := dk_182 0 81 (dk_at dksX4_gone_0 18 rfl rfl)
theorem dX4_gone_21 : decode cX4_gone 21 = .ok (.ifCond .eq 9, 3) := dk_153 0 9 (dk_at dksX4_gone_0 21 rfl rfl)
theorem dX4_gone_24 : decode cX4_gone 24 = .ok (.iload_n 2, 1) := dk_28 (dk_at dksX4_gone_1 0 rfl rfl)
theorem dX4_gone_25 : decode cX4_gone 25 = .ok (.iconst 1, 1) := dk_4 (dk_at dksX4_gone_1 1 rfl rfl)
theorem dX4_gone_26 : decode cX4_gone 26 = .ok (.iload_n 3, 1) := dk_29 (dk_at dksX4_gone_1 2 rfl rfl)
theorem dX4_gone_27 : decode cX4_gone 27 = .ok (.ishl, 1) := dk_120 (dk_at dksX4_gone_1 3 rfl rfl)
theorem dX4_gone_28 : decode cX4_gone 28 = .ok (.ior, 1) := dk_128 (dk_at dksX4_gone_1 4 rfl rfl)
theorem dX4_gone_29 : decode cX4_gone 29 = .ok (.istore_n 2, 1) := dk_61 (dk_at dksX4_gone_1 5 rfl rfl)
theorem dX4_gone_30 : decode cX4_gone 30 = .ok (.iinc 3 1, 3) := dk_132 3 1 (dk_at dksX4_gone_1 6 rfl rfl)
theorem dX4_gone_33 : decode cX4_gone 33 = .ok (.goto (-29), 3) := dk_167 255 227 (dk_at dksX4_gone_1 9 rfl rfl)
theorem dX4_gone_36 : decode cX4_gone 36 = .ok (.iload_n 2, 1) := dk_28 (dk_at dksX4_gone_1 12 rfl rfl)
theorem dX4_gone_37 : decode cX4_gone 37 = .ok (.ireturn, 1) := dk_172 (dk_at dksX4_gone_1 13 rfl rfl)
abbrev cX4_be : ByteArray := prog_21_method_2_code
def yX4_be : MethodName := ⟨RX4, "be", "(LStatueRent$State;)V"⟩
def dkwX4_be_3 : List UInt8 := [43, 180, 0, 42, 181, 0, 42, 177]
abbrev dktX4_be_3 : List UInt8 := dkwX4_be_3 ++ []
def dkwX4_be_2 : List UInt8 := [43, 180, 0, 21, 3, 42, 180, 0, 21, 3, 16, 8, 184, 0, 32, 42, 43, 180, 0, 38, 181, 0, 38, 42]
abbrev dktX4_be_2 : List UInt8 := dkwX4_be_2 ++ dktX4_be_3
def dkwX4_be_1 : List UInt8 := [132, 2, 1, 167, 255, 232, 43, 180, 0, 17, 3, 42, 180, 0, 17, 3, 42, 180, 0, 17, 190, 184, 0, 32]
abbrev dktX4_be_1 : List UInt8 := dkwX4_be_1 ++ dktX4_be_2
def dkwX4_be_0 : List UInt8 := [3, 61, 28, 16, 8, 162, 0, 24, 42, 180, 0, 11, 28, 50, 43, 180, 0, 11, 28, 50, 182, 0, 28]
abbrev dktX4_be_0 : List UInt8 := dkwX4_be_0 ++ dktX4_be_1
theorem dksX4_be_0 : cX4_be.data.toList.drop 0 = dktX4_be_0 := by decide +kernel
theorem dksX4_be_1 : cX4_be.data.toList.drop 23 = dktX4_be_1 := dk_seg dksX4_be_0 23 rfl rfl
theorem dksX4_be_2 : cX4_be.data.toList.drop 47 = dktX4_be_2 := dk_seg dksX4_be_1 24 rfl rfl
theorem dksX4_be_3 : cX4_be.data.toList.drop 71 = dktX4_be_3 := dk_seg dksX4_be_2 24 rfl rfl
theorem dX4_be_0 : decode cX4_be 0 = .ok (.iconst 0, 1) := dk_3 (dk_at dksX4_be_0 0 rfl rfl)
theorem dX4_be_1 : decode cX4_be 1 = .ok (.istore_n 2, 1) := dk_61 (dk_at dksX4_be_0 1 rfl rfl)
theorem dX4_be_2 : decode cX4_be 2 = .ok (.iload_n 2, 1) := dk_28 (dk_at dksX4_be_0 2 rfl rfl)
theorem dX4_be_3 : decode cX4_be 3 = .ok (.bipush 8, 2) := dk_16 8 (dk_at dksX4_be_0 3 rfl rfl)
theorem dX4_be_5 : decode cX4_be 5 = .ok (.if_icmp .ge 24, 3) := dk_162 0 24 (dk_at dksX4_be_0 5 rfl rfl)
theorem dX4_be_8 : decode cX4_be 8 = .ok (.aload_n 0, 1) := dk_42 (dk_at dksX4_be_0 8 rfl rfl)
theorem dX4_be_9 : decode cX4_be 9 = .ok (.getfield 11, 3) := dk_180 0 11 (dk_at dksX4_be_0 9 rfl rfl)
theorem dX4_be_12 : decode cX4_be 12 = .ok (.iload_n 2, 1) := dk_28 (dk_at dksX4_be_0 12 rfl rfl)
theorem dX4_be_13 : decode cX4_be 13 = .ok (.aaload, 1) := dk_50 (dk_at dksX4_be_0 13 rfl rfl)
theorem dX4_be_14 : decode cX4_be 14 = .ok (.aload_n 1, 1) := dk_43 (dk_at dksX4_be_0 14 rfl rfl)
theorem dX4_be_15 : decode cX4_be 15 = .ok (.getfield 11, 3) := dk_180 0 11 (dk_at dksX4_be_0 15 rfl rfl)
theorem dX4_be_18 : decode cX4_be 18 = .ok (.iload_n 2, 1) := dk_28 (dk_at dksX4_be_0 18 rfl rfl)
theorem dX4_be_19 : decode cX4_be 19 = .ok (.aaload, 1) := dk_50 (dk_at dksX4_be_0 19 rfl rfl)
theorem dX4_be_20 : decode cX4_be 20 = .ok (.invokevirtual 28, 3) := dk_182 0 28 (dk_at dksX4_be_0 20 rfl rfl)
theorem dX4_be_23 : decode cX4_be 23 = .ok (.iinc 2 1, 3) := dk_132 2 1 (dk_at dksX4_be_1 0 rfl rfl)
theorem dX4_be_26 : decode cX4_be 26 = .ok (.goto (-24), 3) := dk_167 255 232 (dk_at dksX4_be_1 3 rfl rfl)
theorem dX4_be_29 : decode cX4_be 29 = .ok (.aload_n 1, 1) := dk_43 (dk_at dksX4_be_1 6 rfl rfl)
theorem dX4_be_30 : decode cX4_be 30 = .ok (.getfield 17, 3) := dk_180 0 17 (dk_at dksX4_be_1 7 rfl rfl)
theorem dX4_be_33 : decode cX4_be 33 = .ok (.iconst 0, 1) := dk_3 (dk_at dksX4_be_1 10 rfl rfl)
theorem dX4_be_34 : decode cX4_be 34 = .ok (.aload_n 0, 1) := dk_42 (dk_at dksX4_be_1 11 rfl rfl)
theorem dX4_be_35 : decode cX4_be 35 = .ok (.getfield 17, 3) := dk_180 0 17 (dk_at dksX4_be_1 12 rfl rfl)
theorem dX4_be_38 : decode cX4_be 38 = .ok (.iconst 0, 1) := dk_3 (dk_at dksX4_be_1 15 rfl rfl)
theorem dX4_be_39 : decode cX4_be 39 = .ok (.aload_n 0, 1) := dk_42 (dk_at dksX4_be_1 16 rfl rfl)
theorem dX4_be_40 : decode cX4_be 40 = .ok (.getfield 17, 3) := dk_180 0 17 (dk_at dksX4_be_1 17 rfl rfl)
theorem dX4_be_43 : decode cX4_be 43 = .ok (.arraylength, 1) := dk_190 (dk_at dksX4_be_1 20 rfl rfl)
theorem dX4_be_44 : decode cX4_be 44 = .ok (.invokestatic 32, 3) := dk_184 0 32 (dk_at dksX4_be_1 21 rfl rfl)
theorem dX4_be_47 : decode cX4_be 47 = .ok (.aload_n 1, 1) := dk_43 (dk_at dksX4_be_2 0 rfl rfl)
theorem dX4_be_48 : decode cX4_be 48 = .ok (.getfield 21, 3) := dk_180 0 21 (dk_at dksX4_be_2 1 rfl rfl)
theorem dX4_be_51 : decode cX4_be 51 = .ok (.iconst 0, 1) := dk_3 (dk_at dksX4_be_2 4 rfl rfl)
theorem dX4_be_52 : decode cX4_be 52 = .ok (.aload_n 0, 1) := dk_42 (dk_at dksX4_be_2 5 rfl rfl)
theorem dX4_be_53 : decode cX4_be 53 = .ok (.getfield 21, 3) := dk_180 0 21 (dk_at dksX4_be_2 6 rfl rfl)
theorem dX4_be_56 : decode cX4_be 56 = .ok (.iconst 0, 1) := dk_3 (dk_at dksX4_be_2 9 rfl rfl)
theorem dX4_be_57 : decode cX4_be 57 = .ok (.bipush 8, 2) := dk_16 8 (dk_at dksX4_be_2 10 rfl rfl)
theorem dX4_be_59 : decode cX4_be 59 = .ok (.invokestatic 32, 3) := dk_184 0 32 (dk_at dksX4_be_2 12 rfl rfl)
theorem dX4_be_62 : decode cX4_be 62 = .ok (.aload_n 0, 1) := dk_42 (dk_at dksX4_be_2 15 rfl rfl)
theorem dX4_be_63 : decode cX4_be 63 = .ok (.aload_n 1, 1) := dk_43 (dk_at dksX4_be_2 16 rfl rfl)
theorem dX4_be_64 : decode cX4_be 64 = .ok (.getfield 38, 3) := dk_180 0 38 (dk_at dksX4_be_2 17 rfl rfl)
theorem dX4_be_67 : decode cX4_be 67 = .ok (.putfield 38, 3) := dk_181 0 38 (dk_at dksX4_be_2 20 rfl rfl)
theorem dX4_be_70 : decode cX4_be 70 = .ok (.aload_n 0, 1) := dk_42 (dk_at dksX4_be_2 23 rfl rfl)
theorem dX4_be_71 : decode cX4_be 71 = .ok (.aload_n 1, 1) := dk_43 (dk_at dksX4_be_3 0 rfl rfl)
theorem dX4_be_72 : decode cX4_be 72 = .ok (.getfield 42, 3) := dk_180 0 42 (dk_at dksX4_be_3 1 rfl rfl)
theorem dX4_be_75 : decode cX4_be 75 = .ok (.putfield 42, 3) := dk_181 0 42 (dk_at dksX4_be_3 4 rfl rfl)
theorem dX4_be_78 : decode cX4_be 78 = .ok (.return_, 1) := dk_177 (dk_at dksX4_be_3 7 rfl rfl)
abbrev cX4_whyMove : ByteArray := prog_21_method_13_code
def yX4_whyMove : MethodName := ⟨RX4, "whyMove", "(LStatueRent$City;II)I"⟩
def dkwX4_whyMove_1 : List UInt8 := [160, 0, 7, 5, 167, 0, 18, 42, 43, 29, 182, 0, 106, 2, 159, 0, 7, 6, 167, 0, 4, 3, 172]
abbrev dktX4_whyMove_1 : List UInt8 := dkwX4_whyMove_1 ++ []
def dkwX4_whyMove_0 : List UInt8 := [42, 180, 0, 11, 28, 50, 182, 0, 81, 153, 0, 5, 4, 172, 42, 180, 0, 11, 28, 50, 180, 0, 58, 29]
abbrev dktX4_whyMove_0 : List UInt8 := dkwX4_whyMove_0 ++ dktX4_whyMove_1
theorem dksX4_whyMove_0 : cX4_whyMove.data.toList.drop 0 = dktX4_whyMove_0 := by decide +kernel
theorem dksX4_whyMove_1 : cX4_whyMove.data.toList.drop 24 = dktX4_whyMove_1 := dk_seg dksX4_whyMove_0 24 rfl rfl
theorem dX4_whyMove_0 : decode cX4_whyMove 0 = .ok (.aload_n 0, 1) := dk_42 (dk_at dksX4_whyMove_0 0 rfl rfl)
theorem dX4_whyMove_1 : decode cX4_whyMove 1 = .ok (.getfield 11, 3) := dk_180 0 11 (dk_at dksX4_whyMove_0 1 rfl rfl)
theorem dX4_whyMove_4 : decode cX4_whyMove 4 = .ok (.iload_n 2, 1) := dk_28 (dk_at dksX4_whyMove_0 4 rfl rfl)
theorem dX4_whyMove_5 : decode cX4_whyMove 5 = .ok (.aaload, 1) := dk_50 (dk_at dksX4_whyMove_0 5 rfl rfl)
theorem dX4_whyMove_6 : decode cX4_whyMove 6 = .ok (.invokevirtual 81, 3) := dk_182 0 81 (dk_at dksX4_whyMove_0 6 rfl rfl)
theorem dX4_whyMove_9 : decode cX4_whyMove 9 = .ok (.ifCond .eq 5, 3) := dk_153 0 5 (dk_at dksX4_whyMove_0 9 rfl rfl)
theorem dX4_whyMove_12 : decode cX4_whyMove 12 = .ok (.iconst 1, 1) := dk_4 (dk_at dksX4_whyMove_0 12 rfl rfl)
theorem dX4_whyMove_13 : decode cX4_whyMove 13 = .ok (.ireturn, 1) := dk_172 (dk_at dksX4_whyMove_0 13 rfl rfl)
theorem dX4_whyMove_14 : decode cX4_whyMove 14 = .ok (.aload_n 0, 1) := dk_42 (dk_at dksX4_whyMove_0 14 rfl rfl)
theorem dX4_whyMove_15 : decode cX4_whyMove 15 = .ok (.getfield 11, 3) := dk_180 0 11 (dk_at dksX4_whyMove_0 15 rfl rfl)
theorem dX4_whyMove_18 : decode cX4_whyMove 18 = .ok (.iload_n 2, 1) := dk_28 (dk_at dksX4_whyMove_0 18 rfl rfl)
theorem dX4_whyMove_19 : decode cX4_whyMove 19 = .ok (.aaload, 1) := dk_50 (dk_at dksX4_whyMove_0 19 rfl rfl)
theorem dX4_whyMove_20 : decode cX4_whyMove 20 = .ok (.getfield 58, 3) := dk_180 0 58 (dk_at dksX4_whyMove_0 20 rfl rfl)
theorem dX4_whyMove_23 : decode cX4_whyMove 23 = .ok (.iload_n 3, 1) := dk_29 (dk_at dksX4_whyMove_0 23 rfl rfl)
theorem dX4_whyMove_24 : decode cX4_whyMove 24 = .ok (.if_icmp .ne 7, 3) := dk_160 0 7 (dk_at dksX4_whyMove_1 0 rfl rfl)
theorem dX4_whyMove_27 : decode cX4_whyMove 27 = .ok (.iconst 2, 1) := dk_5 (dk_at dksX4_whyMove_1 3 rfl rfl)
theorem dX4_whyMove_28 : decode cX4_whyMove 28 = .ok (.goto 18, 3) := dk_167 0 18 (dk_at dksX4_whyMove_1 4 rfl rfl)
theorem dX4_whyMove_31 : decode cX4_whyMove 31 = .ok (.aload_n 0, 1) := dk_42 (dk_at dksX4_whyMove_1 7 rfl rfl)
theorem dX4_whyMove_32 : decode cX4_whyMove 32 = .ok (.aload_n 1, 1) := dk_43 (dk_at dksX4_whyMove_1 8 rfl rfl)
theorem dX4_whyMove_33 : decode cX4_whyMove 33 = .ok (.iload_n 3, 1) := dk_29 (dk_at dksX4_whyMove_1 9 rfl rfl)
theorem dX4_whyMove_34 : decode cX4_whyMove 34 = .ok (.invokevirtual 106, 3) := dk_182 0 106 (dk_at dksX4_whyMove_1 10 rfl rfl)
theorem dX4_whyMove_37 : decode cX4_whyMove 37 = .ok (.iconst (-1), 1) := dk_2 (dk_at dksX4_whyMove_1 13 rfl rfl)
theorem dX4_whyMove_38 : decode cX4_whyMove 38 = .ok (.if_icmp .eq 7, 3) := dk_159 0 7 (dk_at dksX4_whyMove_1 14 rfl rfl)
theorem dX4_whyMove_41 : decode cX4_whyMove 41 = .ok (.iconst 3, 1) := dk_6 (dk_at dksX4_whyMove_1 17 rfl rfl)
theorem dX4_whyMove_42 : decode cX4_whyMove 42 = .ok (.goto 4, 3) := dk_167 0 4 (dk_at dksX4_whyMove_1 18 rfl rfl)
theorem dX4_whyMove_45 : decode cX4_whyMove 45 = .ok (.iconst 0, 1) := dk_3 (dk_at dksX4_whyMove_1 21 rfl rfl)
theorem dX4_whyMove_46 : decode cX4_whyMove 46 = .ok (.ireturn, 1) := dk_172 (dk_at dksX4_whyMove_1 22 rfl rfl)
abbrev cX4_whyClean : ByteArray := prog_21_method_14_code
def yX4_whyClean : MethodName := ⟨RX4, "whyClean", "(I)I"⟩
def dkwX4_whyClean_2 : List UInt8 := [167, 0, 4, 3, 172]
abbrev dktX4_whyClean_2 : List UInt8 := dkwX4_whyClean_2 ++ []
def dkwX4_whyClean_1 : List UInt8 := [180, 0, 71, 154, 0, 7, 5, 167, 0, 21, 42, 180, 0, 11, 27, 50, 180, 0, 63, 8, 162, 0, 7, 6]
abbrev dktX4_whyClean_1 : List UInt8 := dkwX4_whyClean_1 ++ dktX4_whyClean_2
def dkwX4_whyClean_0 : List UInt8 := [42, 180, 0, 11, 27, 50, 182, 0, 81, 153, 0, 7, 4, 167, 0, 37, 42, 180, 0, 11, 27, 50]
abbrev dktX4_whyClean_0 : List UInt8 := dkwX4_whyClean_0 ++ dktX4_whyClean_1
theorem dksX4_whyClean_0 : cX4_whyClean.data.toList.drop 0 = dktX4_whyClean_0 := by decide +kernel
theorem dksX4_whyClean_1 : cX4_whyClean.data.toList.drop 22 = dktX4_whyClean_1 := dk_seg dksX4_whyClean_0 22 rfl rfl
theorem dksX4_whyClean_2 : cX4_whyClean.data.toList.drop 46 = dktX4_whyClean_2 := dk_seg dksX4_whyClean_1 24 rfl rfl
theorem dX4_whyClean_0 : decode cX4_whyClean 0 = .ok (.aload_n 0, 1) := dk_42 (dk_at dksX4_whyClean_0 0 rfl rfl)
theorem dX4_whyClean_1 : decode cX4_whyClean 1 = .ok (.getfield 11, 3) := dk_180 0 11 (dk_at dksX4_whyClean_0 1 rfl rfl)
theorem dX4_whyClean_4 : decode cX4_whyClean 4 = .ok (.iload_n 1, 1) := dk_27 (dk_at dksX4_whyClean_0 4 rfl rfl)
theorem dX4_whyClean_5 : decode cX4_whyClean 5 = .ok (.aaload, 1) := dk_50 (dk_at dksX4_whyClean_0 5 rfl rfl)
theorem dX4_whyClean_6 : decode cX4_whyClean 6 = .ok (.invokevirtual 81, 3) := dk_182 0 81 (dk_at dksX4_whyClean_0 6 rfl rfl)
theorem dX4_whyClean_9 : decode cX4_whyClean 9 = .ok (.ifCond .eq 7, 3) := dk_153 0 7 (dk_at dksX4_whyClean_0 9 rfl rfl)
theorem dX4_whyClean_12 : decode cX4_whyClean 12 = .ok (.iconst 1, 1) := dk_4 (dk_at dksX4_whyClean_0 12 rfl rfl)
theorem dX4_whyClean_13 : decode cX4_whyClean 13 = .ok (.goto 37, 3) := dk_167 0 37 (dk_at dksX4_whyClean_0 13 rfl rfl)
theorem dX4_whyClean_16 : decode cX4_whyClean 16 = .ok (.aload_n 0, 1) := dk_42 (dk_at dksX4_whyClean_0 16 rfl rfl)
theorem dX4_whyClean_17 : decode cX4_whyClean 17 = .ok (.getfield 11, 3) := dk_180 0 11 (dk_at dksX4_whyClean_0 17 rfl rfl)
theorem dX4_whyClean_20 : decode cX4_whyClean 20 = .ok (.iload_n 1, 1) := dk_27 (dk_at dksX4_whyClean_0 20 rfl rfl)
theorem dX4_whyClean_21 : decode cX4_whyClean 21 = .ok (.aaload, 1) := dk_50 (dk_at dksX4_whyClean_0 21 rfl rfl)
theorem dX4_whyClean_22 : decode cX4_whyClean 22 = .ok (.getfield 71, 3) := dk_180 0 71 (dk_at dksX4_whyClean_1 0 rfl rfl)
theorem dX4_whyClean_25 : decode cX4_whyClean 25 = .ok (.ifCond .ne 7, 3) := dk_154 0 7 (dk_at dksX4_whyClean_1 3 rfl rfl)
theorem dX4_whyClean_28 : decode cX4_whyClean 28 = .ok (.iconst 2, 1) := dk_5 (dk_at dksX4_whyClean_1 6 rfl rfl)
theorem dX4_whyClean_29 : decode cX4_whyClean 29 = .ok (.goto 21, 3) := dk_167 0 21 (dk_at dksX4_whyClean_1 7 rfl rfl)
theorem dX4_whyClean_32 : decode cX4_whyClean 32 = .ok (.aload_n 0, 1) := dk_42 (dk_at dksX4_whyClean_1 10 rfl rfl)
theorem dX4_whyClean_33 : decode cX4_whyClean 33 = .ok (.getfield 11, 3) := dk_180 0 11 (dk_at dksX4_whyClean_1 11 rfl rfl)
theorem dX4_whyClean_36 : decode cX4_whyClean 36 = .ok (.iload_n 1, 1) := dk_27 (dk_at dksX4_whyClean_1 14 rfl rfl)
theorem dX4_whyClean_37 : decode cX4_whyClean 37 = .ok (.aaload, 1) := dk_50 (dk_at dksX4_whyClean_1 15 rfl rfl)
theorem dX4_whyClean_38 : decode cX4_whyClean 38 = .ok (.getfield 63, 3) := dk_180 0 63 (dk_at dksX4_whyClean_1 16 rfl rfl)
theorem dX4_whyClean_41 : decode cX4_whyClean 41 = .ok (.iconst 5, 1) := dk_8 (dk_at dksX4_whyClean_1 19 rfl rfl)
theorem dX4_whyClean_42 : decode cX4_whyClean 42 = .ok (.if_icmp .ge 7, 3) := dk_162 0 7 (dk_at dksX4_whyClean_1 20 rfl rfl)
theorem dX4_whyClean_45 : decode cX4_whyClean 45 = .ok (.iconst 3, 1) := dk_6 (dk_at dksX4_whyClean_1 23 rfl rfl)
theorem dX4_whyClean_46 : decode cX4_whyClean 46 = .ok (.goto 4, 3) := dk_167 0 4 (dk_at dksX4_whyClean_2 0 rfl rfl)
theorem dX4_whyClean_49 : decode cX4_whyClean 49 = .ok (.iconst 0, 1) := dk_3 (dk_at dksX4_whyClean_2 3 rfl rfl)
theorem dX4_whyClean_50 : decode cX4_whyClean 50 = .ok (.ireturn, 1) := dk_172 (dk_at dksX4_whyClean_2 4 rfl rfl)
abbrev cX4_clean : ByteArray := prog_21_method_15_code
def yX4_clean : MethodName := ⟨RX4, "clean", "(I)V"⟩
def dkwX4_clean_1 : List UInt8 := [181, 0, 63, 177]
abbrev dktX4_clean_1 : List UInt8 := dkwX4_clean_1 ++ []
def dkwX4_clean_0 : List UInt8 := [42, 180, 0, 11, 27, 50, 3, 181, 0, 71, 42, 180, 0, 11, 27, 50, 89, 180, 0, 63, 8, 100]
abbrev dktX4_clean_0 : List UInt8 := dkwX4_clean_0 ++ dktX4_clean_1
theorem dksX4_clean_0 : cX4_clean.data.toList.drop 0 = dktX4_clean_0 := by decide +kernel
theorem dksX4_clean_1 : cX4_clean.data.toList.drop 22 = dktX4_clean_1 := dk_seg dksX4_clean_0 22 rfl rfl
theorem dX4_clean_0 : decode cX4_clean 0 = .ok (.aload_n 0, 1) := dk_42 (dk_at dksX4_clean_0 0 rfl rfl)
theorem dX4_clean_1 : decode cX4_clean 1 = .ok (.getfield 11, 3) := dk_180 0 11 (dk_at dksX4_clean_0 1 rfl rfl)
theorem dX4_clean_4 : decode cX4_clean 4 = .ok (.iload_n 1, 1) := dk_27 (dk_at dksX4_clean_0 4 rfl rfl)
theorem dX4_clean_5 : decode cX4_clean 5 = .ok (.aaload, 1) := dk_50 (dk_at dksX4_clean_0 5 rfl rfl)
theorem dX4_clean_6 : decode cX4_clean 6 = .ok (.iconst 0, 1) := dk_3 (dk_at dksX4_clean_0 6 rfl rfl)
theorem dX4_clean_7 : decode cX4_clean 7 = .ok (.putfield 71, 3) := dk_181 0 71 (dk_at dksX4_clean_0 7 rfl rfl)
theorem dX4_clean_10 : decode cX4_clean 10 = .ok (.aload_n 0, 1) := dk_42 (dk_at dksX4_clean_0 10 rfl rfl)
theorem dX4_clean_11 : decode cX4_clean 11 = .ok (.getfield 11, 3) := dk_180 0 11 (dk_at dksX4_clean_0 11 rfl rfl)
theorem dX4_clean_14 : decode cX4_clean 14 = .ok (.iload_n 1, 1) := dk_27 (dk_at dksX4_clean_0 14 rfl rfl)
theorem dX4_clean_15 : decode cX4_clean 15 = .ok (.aaload, 1) := dk_50 (dk_at dksX4_clean_0 15 rfl rfl)
theorem dX4_clean_16 : decode cX4_clean 16 = .ok (.dup, 1) := dk_89 (dk_at dksX4_clean_0 16 rfl rfl)
theorem dX4_clean_17 : decode cX4_clean 17 = .ok (.getfield 63, 3) := dk_180 0 63 (dk_at dksX4_clean_0 17 rfl rfl)
theorem dX4_clean_20 : decode cX4_clean 20 = .ok (.iconst 5, 1) := dk_8 (dk_at dksX4_clean_0 20 rfl rfl)
theorem dX4_clean_21 : decode cX4_clean 21 = .ok (.isub, 1) := dk_100 (dk_at dksX4_clean_0 21 rfl rfl)
theorem dX4_clean_22 : decode cX4_clean 22 = .ok (.putfield 63, 3) := dk_181 0 63 (dk_at dksX4_clean_1 0 rfl rfl)
theorem dX4_clean_25 : decode cX4_clean 25 = .ok (.return_, 1) := dk_177 (dk_at dksX4_clean_1 3 rfl rfl)
abbrev cX4_whyShow : ByteArray := prog_21_method_16_code
def yX4_whyShow : MethodName := ⟨RX4, "whyShow", "(II)I"⟩
def dkwX4_whyShow_2 : List UInt8 := [162, 0, 7, 6, 167, 0, 4, 3, 172]
abbrev dktX4_whyShow_2 : List UInt8 := dkwX4_whyShow_2 ++ []
def dkwX4_whyShow_1 : List UInt8 := [180, 0, 50, 28, 160, 0, 7, 5, 167, 0, 22, 42, 180, 0, 11, 27, 50, 180, 0, 63, 16, 10]
abbrev dktX4_whyShow_1 : List UInt8 := dkwX4_whyShow_1 ++ dktX4_whyShow_2
def dkwX4_whyShow_0 : List UInt8 := [42, 180, 0, 11, 27, 50, 182, 0, 81, 153, 0, 7, 4, 167, 0, 39, 42, 180, 0, 11, 27, 50]
abbrev dktX4_whyShow_0 : List UInt8 := dkwX4_whyShow_0 ++ dktX4_whyShow_1
theorem dksX4_whyShow_0 : cX4_whyShow.data.toList.drop 0 = dktX4_whyShow_0 := by decide +kernel
theorem dksX4_whyShow_1 : cX4_whyShow.data.toList.drop 22 = dktX4_whyShow_1 := dk_seg dksX4_whyShow_0 22 rfl rfl
theorem dksX4_whyShow_2 : cX4_whyShow.data.toList.drop 44 = dktX4_whyShow_2 := dk_seg dksX4_whyShow_1 22 rfl rfl
theorem dX4_whyShow_0 : decode cX4_whyShow 0 = .ok (.aload_n 0, 1) := dk_42 (dk_at dksX4_whyShow_0 0 rfl rfl)
theorem dX4_whyShow_1 : decode cX4_whyShow 1 = .ok (.getfield 11, 3) := dk_180 0 11 (dk_at dksX4_whyShow_0 1 rfl rfl)
theorem dX4_whyShow_4 : decode cX4_whyShow 4 = .ok (.iload_n 1, 1) := dk_27 (dk_at dksX4_whyShow_0 4 rfl rfl)
theorem dX4_whyShow_5 : decode cX4_whyShow 5 = .ok (.aaload, 1) := dk_50 (dk_at dksX4_whyShow_0 5 rfl rfl)
theorem dX4_whyShow_6 : decode cX4_whyShow 6 = .ok (.invokevirtual 81, 3) := dk_182 0 81 (dk_at dksX4_whyShow_0 6 rfl rfl)
theorem dX4_whyShow_9 : decode cX4_whyShow 9 = .ok (.ifCond .eq 7, 3) := dk_153 0 7 (dk_at dksX4_whyShow_0 9 rfl rfl)
theorem dX4_whyShow_12 : decode cX4_whyShow 12 = .ok (.iconst 1, 1) := dk_4 (dk_at dksX4_whyShow_0 12 rfl rfl)
theorem dX4_whyShow_13 : decode cX4_whyShow 13 = .ok (.goto 39, 3) := dk_167 0 39 (dk_at dksX4_whyShow_0 13 rfl rfl)
theorem dX4_whyShow_16 : decode cX4_whyShow 16 = .ok (.aload_n 0, 1) := dk_42 (dk_at dksX4_whyShow_0 16 rfl rfl)
theorem dX4_whyShow_17 : decode cX4_whyShow 17 = .ok (.getfield 11, 3) := dk_180 0 11 (dk_at dksX4_whyShow_0 17 rfl rfl)
theorem dX4_whyShow_20 : decode cX4_whyShow 20 = .ok (.iload_n 1, 1) := dk_27 (dk_at dksX4_whyShow_0 20 rfl rfl)
theorem dX4_whyShow_21 : decode cX4_whyShow 21 = .ok (.aaload, 1) := dk_50 (dk_at dksX4_whyShow_0 21 rfl rfl)
theorem dX4_whyShow_22 : decode cX4_whyShow 22 = .ok (.getfield 50, 3) := dk_180 0 50 (dk_at dksX4_whyShow_1 0 rfl rfl)
theorem dX4_whyShow_25 : decode cX4_whyShow 25 = .ok (.iload_n 2, 1) := dk_28 (dk_at dksX4_whyShow_1 3 rfl rfl)
theorem dX4_whyShow_26 : decode cX4_whyShow 26 = .ok (.if_icmp .ne 7, 3) := dk_160 0 7 (dk_at dksX4_whyShow_1 4 rfl rfl)
theorem dX4_whyShow_29 : decode cX4_whyShow 29 = .ok (.iconst 2, 1) := dk_5 (dk_at dksX4_whyShow_1 7 rfl rfl)
theorem dX4_whyShow_30 : decode cX4_whyShow 30 = .ok (.goto 22, 3) := dk_167 0 22 (dk_at dksX4_whyShow_1 8 rfl rfl)
theorem dX4_whyShow_33 : decode cX4_whyShow 33 = .ok (.aload_n 0, 1) := dk_42 (dk_at dksX4_whyShow_1 11 rfl rfl)
theorem dX4_whyShow_34 : decode cX4_whyShow 34 = .ok (.getfield 11, 3) := dk_180 0 11 (dk_at dksX4_whyShow_1 12 rfl rfl)
theorem dX4_whyShow_37 : decode cX4_whyShow 37 = .ok (.iload_n 1, 1) := dk_27 (dk_at dksX4_whyShow_1 15 rfl rfl)
theorem dX4_whyShow_38 : decode cX4_whyShow 38 = .ok (.aaload, 1) := dk_50 (dk_at dksX4_whyShow_1 16 rfl rfl)
theorem dX4_whyShow_39 : decode cX4_whyShow 39 = .ok (.getfield 63, 3) := dk_180 0 63 (dk_at dksX4_whyShow_1 17 rfl rfl)
theorem dX4_whyShow_42 : decode cX4_whyShow 42 = .ok (.bipush 10, 2) := dk_16 10 (dk_at dksX4_whyShow_1 20 rfl rfl)
theorem dX4_whyShow_44 : decode cX4_whyShow 44 = .ok (.if_icmp .ge 7, 3) := dk_162 0 7 (dk_at dksX4_whyShow_2 0 rfl rfl)
theorem dX4_whyShow_47 : decode cX4_whyShow 47 = .ok (.iconst 3, 1) := dk_6 (dk_at dksX4_whyShow_2 3 rfl rfl)
theorem dX4_whyShow_48 : decode cX4_whyShow 48 = .ok (.goto 4, 3) := dk_167 0 4 (dk_at dksX4_whyShow_2 4 rfl rfl)
theorem dX4_whyShow_51 : decode cX4_whyShow 51 = .ok (.iconst 0, 1) := dk_3 (dk_at dksX4_whyShow_2 7 rfl rfl)
theorem dX4_whyShow_52 : decode cX4_whyShow 52 = .ok (.ireturn, 1) := dk_172 (dk_at dksX4_whyShow_2 8 rfl rfl)
abbrev cX4_show : ByteArray := prog_21_method_17_code
def yX4_show : MethodName := ⟨RX4, "show", "(II)V"⟩
def dkwX4_show_1 : List UInt8 := [181, 0, 63, 177]
abbrev dktX4_show_1 : List UInt8 := dkwX4_show_1 ++ []
def dkwX4_show_0 : List UInt8 := [42, 180, 0, 11, 27, 50, 28, 181, 0, 50, 42, 180, 0, 11, 27, 50, 89, 180, 0, 63, 16, 10, 100]
abbrev dktX4_show_0 : List UInt8 := dkwX4_show_0 ++ dktX4_show_1
theorem dksX4_show_0 : cX4_show.data.toList.drop 0 = dktX4_show_0 := by decide +kernel
theorem dksX4_show_1 : cX4_show.data.toList.drop 23 = dktX4_show_1 := dk_seg dksX4_show_0 23 rfl rfl
theorem dX4_show_0 : decode cX4_show 0 = .ok (.aload_n 0, 1) := dk_42 (dk_at dksX4_show_0 0 rfl rfl)
theorem dX4_show_1 : decode cX4_show 1 = .ok (.getfield 11, 3) := dk_180 0 11 (dk_at dksX4_show_0 1 rfl rfl)
theorem dX4_show_4 : decode cX4_show 4 = .ok (.iload_n 1, 1) := dk_27 (dk_at dksX4_show_0 4 rfl rfl)
theorem dX4_show_5 : decode cX4_show 5 = .ok (.aaload, 1) := dk_50 (dk_at dksX4_show_0 5 rfl rfl)
theorem dX4_show_6 : decode cX4_show 6 = .ok (.iload_n 2, 1) := dk_28 (dk_at dksX4_show_0 6 rfl rfl)
theorem dX4_show_7 : decode cX4_show 7 = .ok (.putfield 50, 3) := dk_181 0 50 (dk_at dksX4_show_0 7 rfl rfl)
theorem dX4_show_10 : decode cX4_show 10 = .ok (.aload_n 0, 1) := dk_42 (dk_at dksX4_show_0 10 rfl rfl)
theorem dX4_show_11 : decode cX4_show 11 = .ok (.getfield 11, 3) := dk_180 0 11 (dk_at dksX4_show_0 11 rfl rfl)
theorem dX4_show_14 : decode cX4_show 14 = .ok (.iload_n 1, 1) := dk_27 (dk_at dksX4_show_0 14 rfl rfl)
theorem dX4_show_15 : decode cX4_show 15 = .ok (.aaload, 1) := dk_50 (dk_at dksX4_show_0 15 rfl rfl)
theorem dX4_show_16 : decode cX4_show 16 = .ok (.dup, 1) := dk_89 (dk_at dksX4_show_0 16 rfl rfl)
theorem dX4_show_17 : decode cX4_show 17 = .ok (.getfield 63, 3) := dk_180 0 63 (dk_at dksX4_show_0 17 rfl rfl)
theorem dX4_show_20 : decode cX4_show 20 = .ok (.bipush 10, 2) := dk_16 10 (dk_at dksX4_show_0 20 rfl rfl)
theorem dX4_show_22 : decode cX4_show 22 = .ok (.isub, 1) := dk_100 (dk_at dksX4_show_0 22 rfl rfl)
theorem dX4_show_23 : decode cX4_show 23 = .ok (.putfield 63, 3) := dk_181 0 63 (dk_at dksX4_show_1 0 rfl rfl)
theorem dX4_show_26 : decode cX4_show 26 = .ok (.return_, 1) := dk_177 (dk_at dksX4_show_1 3 rfl rfl)
abbrev cX4_whyLend : ByteArray := prog_21_method_18_code
def yX4_whyLend : MethodName := ⟨RX4, "whyLend", "(III)I"⟩
def dkwX4_whyLend_2 : List UInt8 := [180, 0, 11, 28, 50, 180, 0, 65, 29, 162, 0, 7, 6, 167, 0, 4, 3, 172]
abbrev dktX4_whyLend_2 : List UInt8 := dkwX4_whyLend_2 ++ []
def dkwX4_whyLend_1 : List UInt8 := [4, 167, 0, 38, 42, 180, 0, 11, 27, 50, 180, 0, 63, 29, 162, 0, 7, 5, 167, 0, 21, 42]
abbrev dktX4_whyLend_1 : List UInt8 := dkwX4_whyLend_1 ++ dktX4_whyLend_2
def dkwX4_whyLend_0 : List UInt8 := [42, 180, 0, 11, 27, 50, 182, 0, 81, 154, 0, 15, 42, 180, 0, 11, 28, 50, 182, 0, 81, 153, 0, 7]
abbrev dktX4_whyLend_0 : List UInt8 := dkwX4_whyLend_0 ++ dktX4_whyLend_1
theorem dksX4_whyLend_0 : cX4_whyLend.data.toList.drop 0 = dktX4_whyLend_0 := by decide +kernel
theorem dksX4_whyLend_1 : cX4_whyLend.data.toList.drop 24 = dktX4_whyLend_1 := dk_seg dksX4_whyLend_0 24 rfl rfl
theorem dksX4_whyLend_2 : cX4_whyLend.data.toList.drop 46 = dktX4_whyLend_2 := dk_seg dksX4_whyLend_1 22 rfl rfl
theorem dX4_whyLend_0 : decode cX4_whyLend 0 = .ok (.aload_n 0, 1) := dk_42 (dk_at dksX4_whyLend_0 0 rfl rfl)
theorem dX4_whyLend_1 : decode cX4_whyLend 1 = .ok (.getfield 11, 3) := dk_180 0 11 (dk_at dksX4_whyLend_0 1 rfl rfl)
theorem dX4_whyLend_4 : decode cX4_whyLend 4 = .ok (.iload_n 1, 1) := dk_27 (dk_at dksX4_whyLend_0 4 rfl rfl)
theorem dX4_whyLend_5 : decode cX4_whyLend 5 = .ok (.aaload, 1) := dk_50 (dk_at dksX4_whyLend_0 5 rfl rfl)
theorem dX4_whyLend_6 : decode cX4_whyLend 6 = .ok (.invokevirtual 81, 3) := dk_182 0 81 (dk_at dksX4_whyLend_0 6 rfl rfl)
theorem dX4_whyLend_9 : decode cX4_whyLend 9 = .ok (.ifCond .ne 15, 3) := dk_154 0 15 (dk_at dksX4_whyLend_0 9 rfl rfl)
theorem dX4_whyLend_12 : decode cX4_whyLend 12 = .ok (.aload_n 0, 1) := dk_42 (dk_at dksX4_whyLend_0 12 rfl rfl)
theorem dX4_whyLend_13 : decode cX4_whyLend 13 = .ok (.getfield 11, 3) := dk_180 0 11 (dk_at dksX4_whyLend_0 13 rfl rfl)
theorem dX4_whyLend_16 : decode cX4_whyLend 16 = .ok (.iload_n 2, 1) := dk_28 (dk_at dksX4_whyLend_0 16 rfl rfl)
theorem dX4_whyLend_17 : decode cX4_whyLend 17 = .ok (.aaload, 1) := dk_50 (dk_at dksX4_whyLend_0 17 rfl rfl)
theorem dX4_whyLend_18 : decode cX4_whyLend 18 = .ok (.invokevirtual 81, 3) := dk_182 0 81 (dk_at dksX4_whyLend_0 18 rfl rfl)
theorem dX4_whyLend_21 : decode cX4_whyLend 21 = .ok (.ifCond .eq 7, 3) := dk_153 0 7 (dk_at dksX4_whyLend_0 21 rfl rfl)
theorem dX4_whyLend_24 : decode cX4_whyLend 24 = .ok (.iconst 1, 1) := dk_4 (dk_at dksX4_whyLend_1 0 rfl rfl)
theorem dX4_whyLend_25 : decode cX4_whyLend 25 = .ok (.goto 38, 3) := dk_167 0 38 (dk_at dksX4_whyLend_1 1 rfl rfl)
theorem dX4_whyLend_28 : decode cX4_whyLend 28 = .ok (.aload_n 0, 1) := dk_42 (dk_at dksX4_whyLend_1 4 rfl rfl)
theorem dX4_whyLend_29 : decode cX4_whyLend 29 = .ok (.getfield 11, 3) := dk_180 0 11 (dk_at dksX4_whyLend_1 5 rfl rfl)
theorem dX4_whyLend_32 : decode cX4_whyLend 32 = .ok (.iload_n 1, 1) := dk_27 (dk_at dksX4_whyLend_1 8 rfl rfl)
theorem dX4_whyLend_33 : decode cX4_whyLend 33 = .ok (.aaload, 1) := dk_50 (dk_at dksX4_whyLend_1 9 rfl rfl)
theorem dX4_whyLend_34 : decode cX4_whyLend 34 = .ok (.getfield 63, 3) := dk_180 0 63 (dk_at dksX4_whyLend_1 10 rfl rfl)
theorem dX4_whyLend_37 : decode cX4_whyLend 37 = .ok (.iload_n 3, 1) := dk_29 (dk_at dksX4_whyLend_1 13 rfl rfl)
theorem dX4_whyLend_38 : decode cX4_whyLend 38 = .ok (.if_icmp .ge 7, 3) := dk_162 0 7 (dk_at dksX4_whyLend_1 14 rfl rfl)
theorem dX4_whyLend_41 : decode cX4_whyLend 41 = .ok (.iconst 2, 1) := dk_5 (dk_at dksX4_whyLend_1 17 rfl rfl)
theorem dX4_whyLend_42 : decode cX4_whyLend 42 = .ok (.goto 21, 3) := dk_167 0 21 (dk_at dksX4_whyLend_1 18 rfl rfl)
theorem dX4_whyLend_45 : decode cX4_whyLend 45 = .ok (.aload_n 0, 1) := dk_42 (dk_at dksX4_whyLend_1 21 rfl rfl)
theorem dX4_whyLend_46 : decode cX4_whyLend 46 = .ok (.getfield 11, 3) := dk_180 0 11 (dk_at dksX4_whyLend_2 0 rfl rfl)
theorem dX4_whyLend_49 : decode cX4_whyLend 49 = .ok (.iload_n 2, 1) := dk_28 (dk_at dksX4_whyLend_2 3 rfl rfl)
theorem dX4_whyLend_50 : decode cX4_whyLend 50 = .ok (.aaload, 1) := dk_50 (dk_at dksX4_whyLend_2 4 rfl rfl)
theorem dX4_whyLend_51 : decode cX4_whyLend 51 = .ok (.getfield 65, 3) := dk_180 0 65 (dk_at dksX4_whyLend_2 5 rfl rfl)
theorem dX4_whyLend_54 : decode cX4_whyLend 54 = .ok (.iload_n 3, 1) := dk_29 (dk_at dksX4_whyLend_2 8 rfl rfl)
theorem dX4_whyLend_55 : decode cX4_whyLend 55 = .ok (.if_icmp .ge 7, 3) := dk_162 0 7 (dk_at dksX4_whyLend_2 9 rfl rfl)
theorem dX4_whyLend_58 : decode cX4_whyLend 58 = .ok (.iconst 3, 1) := dk_6 (dk_at dksX4_whyLend_2 12 rfl rfl)
theorem dX4_whyLend_59 : decode cX4_whyLend 59 = .ok (.goto 4, 3) := dk_167 0 4 (dk_at dksX4_whyLend_2 13 rfl rfl)
theorem dX4_whyLend_62 : decode cX4_whyLend 62 = .ok (.iconst 0, 1) := dk_3 (dk_at dksX4_whyLend_2 16 rfl rfl)
theorem dX4_whyLend_63 : decode cX4_whyLend 63 = .ok (.ireturn, 1) := dk_172 (dk_at dksX4_whyLend_2 17 rfl rfl)
abbrev cX4_lend : ByteArray := prog_21_method_19_code
def yX4_lend : MethodName := ⟨RX4, "lend", "(III)V"⟩
def dkwX4_lend_1 : List UInt8 := [180, 0, 65, 29, 100, 181, 0, 65, 177]
abbrev dktX4_lend_1 : List UInt8 := dkwX4_lend_1 ++ []
def dkwX4_lend_0 : List UInt8 := [42, 180, 0, 11, 27, 50, 89, 180, 0, 63, 29, 100, 181, 0, 63, 42, 180, 0, 11, 28, 50, 89]
abbrev dktX4_lend_0 : List UInt8 := dkwX4_lend_0 ++ dktX4_lend_1
theorem dksX4_lend_0 : cX4_lend.data.toList.drop 0 = dktX4_lend_0 := by decide +kernel
theorem dksX4_lend_1 : cX4_lend.data.toList.drop 22 = dktX4_lend_1 := dk_seg dksX4_lend_0 22 rfl rfl
theorem dX4_lend_0 : decode cX4_lend 0 = .ok (.aload_n 0, 1) := dk_42 (dk_at dksX4_lend_0 0 rfl rfl)
theorem dX4_lend_1 : decode cX4_lend 1 = .ok (.getfield 11, 3) := dk_180 0 11 (dk_at dksX4_lend_0 1 rfl rfl)
theorem dX4_lend_4 : decode cX4_lend 4 = .ok (.iload_n 1, 1) := dk_27 (dk_at dksX4_lend_0 4 rfl rfl)
theorem dX4_lend_5 : decode cX4_lend 5 = .ok (.aaload, 1) := dk_50 (dk_at dksX4_lend_0 5 rfl rfl)
theorem dX4_lend_6 : decode cX4_lend 6 = .ok (.dup, 1) := dk_89 (dk_at dksX4_lend_0 6 rfl rfl)
theorem dX4_lend_7 : decode cX4_lend 7 = .ok (.getfield 63, 3) := dk_180 0 63 (dk_at dksX4_lend_0 7 rfl rfl)
theorem dX4_lend_10 : decode cX4_lend 10 = .ok (.iload_n 3, 1) := dk_29 (dk_at dksX4_lend_0 10 rfl rfl)
theorem dX4_lend_11 : decode cX4_lend 11 = .ok (.isub, 1) := dk_100 (dk_at dksX4_lend_0 11 rfl rfl)
theorem dX4_lend_12 : decode cX4_lend 12 = .ok (.putfield 63, 3) := dk_181 0 63 (dk_at dksX4_lend_0 12 rfl rfl)
theorem dX4_lend_15 : decode cX4_lend 15 = .ok (.aload_n 0, 1) := dk_42 (dk_at dksX4_lend_0 15 rfl rfl)
theorem dX4_lend_16 : decode cX4_lend 16 = .ok (.getfield 11, 3) := dk_180 0 11 (dk_at dksX4_lend_0 16 rfl rfl)
theorem dX4_lend_19 : decode cX4_lend 19 = .ok (.iload_n 2, 1) := dk_28 (dk_at dksX4_lend_0 19 rfl rfl)
theorem dX4_lend_20 : decode cX4_lend 20 = .ok (.aaload, 1) := dk_50 (dk_at dksX4_lend_0 20 rfl rfl)
theorem dX4_lend_21 : decode cX4_lend 21 = .ok (.dup, 1) := dk_89 (dk_at dksX4_lend_0 21 rfl rfl)
theorem dX4_lend_22 : decode cX4_lend 22 = .ok (.getfield 65, 3) := dk_180 0 65 (dk_at dksX4_lend_1 0 rfl rfl)
theorem dX4_lend_25 : decode cX4_lend 25 = .ok (.iload_n 3, 1) := dk_29 (dk_at dksX4_lend_1 3 rfl rfl)
theorem dX4_lend_26 : decode cX4_lend 26 = .ok (.isub, 1) := dk_100 (dk_at dksX4_lend_1 4 rfl rfl)
theorem dX4_lend_27 : decode cX4_lend 27 = .ok (.putfield 65, 3) := dk_181 0 65 (dk_at dksX4_lend_1 5 rfl rfl)
theorem dX4_lend_30 : decode cX4_lend 30 = .ok (.return_, 1) := dk_177 (dk_at dksX4_lend_1 8 rfl rfl)
abbrev cX4_days : ByteArray := prog_21_method_12_code
def yX4_days : MethodName := ⟨RX4, "days", "(LStatueRent$City;II)I"⟩
def dkwX4_days_1 : List UInt8 := [42, 43, 43, 180, 0, 147, 182, 0, 150, 87, 42, 43, 182, 0, 153, 132, 4, 1, 167, 255, 222, 21, 4, 172]
abbrev dktX4_days_1 : List UInt8 := dkwX4_days_1 ++ []
def dkwX4_days_0 : List UInt8 := [42, 29, 181, 0, 89, 3, 54, 4, 21, 4, 28, 162, 0, 34, 42, 180, 0, 38, 17, 1, 144, 162, 0, 24]
abbrev dktX4_days_0 : List UInt8 := dkwX4_days_0 ++ dktX4_days_1
theorem dksX4_days_0 : cX4_days.data.toList.drop 0 = dktX4_days_0 := by decide +kernel
theorem dksX4_days_1 : cX4_days.data.toList.drop 24 = dktX4_days_1 := dk_seg dksX4_days_0 24 rfl rfl
theorem dX4_days_0 : decode cX4_days 0 = .ok (.aload_n 0, 1) := dk_42 (dk_at dksX4_days_0 0 rfl rfl)
theorem dX4_days_1 : decode cX4_days 1 = .ok (.iload_n 3, 1) := dk_29 (dk_at dksX4_days_0 1 rfl rfl)
theorem dX4_days_2 : decode cX4_days 2 = .ok (.putfield 89, 3) := dk_181 0 89 (dk_at dksX4_days_0 2 rfl rfl)
theorem dX4_days_5 : decode cX4_days 5 = .ok (.iconst 0, 1) := dk_3 (dk_at dksX4_days_0 5 rfl rfl)
theorem dX4_days_6 : decode cX4_days 6 = .ok (.istore 4, 2) := dk_54 4 (dk_at dksX4_days_0 6 rfl rfl)
theorem dX4_days_8 : decode cX4_days 8 = .ok (.iload 4, 2) := dk_21 4 (dk_at dksX4_days_0 8 rfl rfl)
theorem dX4_days_10 : decode cX4_days 10 = .ok (.iload_n 2, 1) := dk_28 (dk_at dksX4_days_0 10 rfl rfl)
theorem dX4_days_11 : decode cX4_days 11 = .ok (.if_icmp .ge 34, 3) := dk_162 0 34 (dk_at dksX4_days_0 11 rfl rfl)
theorem dX4_days_14 : decode cX4_days 14 = .ok (.aload_n 0, 1) := dk_42 (dk_at dksX4_days_0 14 rfl rfl)
theorem dX4_days_15 : decode cX4_days 15 = .ok (.getfield 38, 3) := dk_180 0 38 (dk_at dksX4_days_0 15 rfl rfl)
theorem dX4_days_18 : decode cX4_days 18 = .ok (.sipush 400, 3) := dk_17 1 144 (dk_at dksX4_days_0 18 rfl rfl)
theorem dX4_days_21 : decode cX4_days 21 = .ok (.if_icmp .ge 24, 3) := dk_162 0 24 (dk_at dksX4_days_0 21 rfl rfl)
theorem dX4_days_24 : decode cX4_days 24 = .ok (.aload_n 0, 1) := dk_42 (dk_at dksX4_days_1 0 rfl rfl)
theorem dX4_days_25 : decode cX4_days 25 = .ok (.aload_n 1, 1) := dk_43 (dk_at dksX4_days_1 1 rfl rfl)
theorem dX4_days_26 : decode cX4_days 26 = .ok (.aload_n 1, 1) := dk_43 (dk_at dksX4_days_1 2 rfl rfl)
theorem dX4_days_27 : decode cX4_days 27 = .ok (.getfield 147, 3) := dk_180 0 147 (dk_at dksX4_days_1 3 rfl rfl)
theorem dX4_days_30 : decode cX4_days 30 = .ok (.invokevirtual 150, 3) := dk_182 0 150 (dk_at dksX4_days_1 6 rfl rfl)
theorem dX4_days_33 : decode cX4_days 33 = .ok (.pop, 1) := dk_87 (dk_at dksX4_days_1 9 rfl rfl)
theorem dX4_days_34 : decode cX4_days 34 = .ok (.aload_n 0, 1) := dk_42 (dk_at dksX4_days_1 10 rfl rfl)
theorem dX4_days_35 : decode cX4_days 35 = .ok (.aload_n 1, 1) := dk_43 (dk_at dksX4_days_1 11 rfl rfl)
theorem dX4_days_36 : decode cX4_days 36 = .ok (.invokevirtual 153, 3) := dk_182 0 153 (dk_at dksX4_days_1 12 rfl rfl)
theorem dX4_days_39 : decode cX4_days 39 = .ok (.iinc 4 1, 3) := dk_132 4 1 (dk_at dksX4_days_1 15 rfl rfl)
theorem dX4_days_42 : decode cX4_days 42 = .ok (.goto (-34), 3) := dk_167 255 222 (dk_at dksX4_days_1 18 rfl rfl)
theorem dX4_days_45 : decode cX4_days 45 = .ok (.iload 4, 2) := dk_21 4 (dk_at dksX4_days_1 21 rfl rfl)
theorem dX4_days_47 : decode cX4_days 47 = .ok (.ireturn, 1) := dk_172 (dk_at dksX4_days_1 23 rfl rfl)
abbrev cX4_dawn : ByteArray := prog_21_method_8_code
def yX4_dawn : MethodName := ⟨RX4, "dawn", "(LStatueRent$City;I)I"⟩
def dkwX4_dawn_3 : List UInt8 := [167, 255, 191, 29, 172]
abbrev dktX4_dawn_3 : List UInt8 := dkwX4_dawn_3 ++ []
def dkwX4_dawn_2 : List UInt8 := [104, 163, 0, 6, 167, 0, 16, 25, 5, 2, 181, 0, 58, 29, 4, 21, 4, 120, 128, 62, 132, 4, 1]
abbrev dktX4_dawn_2 : List UInt8 := dkwX4_dawn_2 ++ dktX4_dawn_3
def dkwX4_dawn_1 : List UInt8 := [25, 5, 182, 0, 81, 154, 0, 39, 25, 5, 180, 0, 65, 28, 43, 180, 0, 93, 25, 5, 180, 0, 58, 46]
abbrev dktX4_dawn_1 : List UInt8 := dkwX4_dawn_1 ++ dktX4_dawn_2
def dkwX4_dawn_0 : List UInt8 := [3, 62, 3, 54, 4, 21, 4, 43, 180, 0, 52, 162, 0, 62, 42, 180, 0, 11, 21, 4, 50, 58, 5]
abbrev dktX4_dawn_0 : List UInt8 := dkwX4_dawn_0 ++ dktX4_dawn_1
theorem dksX4_dawn_0 : cX4_dawn.data.toList.drop 0 = dktX4_dawn_0 := by decide +kernel
theorem dksX4_dawn_1 : cX4_dawn.data.toList.drop 23 = dktX4_dawn_1 := dk_seg dksX4_dawn_0 23 rfl rfl
theorem dksX4_dawn_2 : cX4_dawn.data.toList.drop 47 = dktX4_dawn_2 := dk_seg dksX4_dawn_1 24 rfl rfl
theorem dksX4_dawn_3 : cX4_dawn.data.toList.drop 70 = dktX4_dawn_3 := dk_seg dksX4_dawn_2 23 rfl rfl
theorem dX4_dawn_0 : decode cX4_dawn 0 = .ok (.iconst 0, 1) := dk_3 (dk_at dksX4_dawn_0 0 rfl rfl)
theorem dX4_dawn_1 : decode cX4_dawn 1 = .ok (.istore_n 3, 1) := dk_62 (dk_at dksX4_dawn_0 1 rfl rfl)
theorem dX4_dawn_2 : decode cX4_dawn 2 = .ok (.iconst 0, 1) := dk_3 (dk_at dksX4_dawn_0 2 rfl rfl)
theorem dX4_dawn_3 : decode cX4_dawn 3 = .ok (.istore 4, 2) := dk_54 4 (dk_at dksX4_dawn_0 3 rfl rfl)
theorem dX4_dawn_5 : decode cX4_dawn 5 = .ok (.iload 4, 2) := dk_21 4 (dk_at dksX4_dawn_0 5 rfl rfl)
theorem dX4_dawn_7 : decode cX4_dawn 7 = .ok (.aload_n 1, 1) := dk_43 (dk_at dksX4_dawn_0 7 rfl rfl)
theorem dX4_dawn_8 : decode cX4_dawn 8 = .ok (.getfield 52, 3) := dk_180 0 52 (dk_at dksX4_dawn_0 8 rfl rfl)
theorem dX4_dawn_11 : decode cX4_dawn 11 = .ok (.if_icmp .ge 62, 3) := dk_162 0 62 (dk_at dksX4_dawn_0 11 rfl rfl)
theorem dX4_dawn_14 : decode cX4_dawn 14 = .ok (.aload_n 0, 1) := dk_42 (dk_at dksX4_dawn_0 14 rfl rfl)
theorem dX4_dawn_15 : decode cX4_dawn 15 = .ok (.getfield 11, 3) := dk_180 0 11 (dk_at dksX4_dawn_0 15 rfl rfl)
theorem dX4_dawn_18 : decode cX4_dawn 18 = .ok (.iload 4, 2) := dk_21 4 (dk_at dksX4_dawn_0 18 rfl rfl)
theorem dX4_dawn_20 : decode cX4_dawn 20 = .ok (.aaload, 1) := dk_50 (dk_at dksX4_dawn_0 20 rfl rfl)
theorem dX4_dawn_21 : decode cX4_dawn 21 = .ok (.astore 5, 2) := dk_58 5 (dk_at dksX4_dawn_0 21 rfl rfl)
theorem dX4_dawn_23 : decode cX4_dawn 23 = .ok (.aload 5, 2) := dk_25 5 (dk_at dksX4_dawn_1 0 rfl rfl)
theorem dX4_dawn_25 : decode cX4_dawn 25 = .ok (.invokevirtual 81, 3) := dk_182 0 81 (dk_at dksX4_dawn_1 2 rfl rfl)
theorem dX4_dawn_28 : decode cX4_dawn 28 = .ok (.ifCond .ne 39, 3) := dk_154 0 39 (dk_at dksX4_dawn_1 5 rfl rfl)
theorem dX4_dawn_31 : decode cX4_dawn 31 = .ok (.aload 5, 2) := dk_25 5 (dk_at dksX4_dawn_1 8 rfl rfl)
theorem dX4_dawn_33 : decode cX4_dawn 33 = .ok (.getfield 65, 3) := dk_180 0 65 (dk_at dksX4_dawn_1 10 rfl rfl)
theorem dX4_dawn_36 : decode cX4_dawn 36 = .ok (.iload_n 2, 1) := dk_28 (dk_at dksX4_dawn_1 13 rfl rfl)
theorem dX4_dawn_37 : decode cX4_dawn 37 = .ok (.aload_n 1, 1) := dk_43 (dk_at dksX4_dawn_1 14 rfl rfl)
theorem dX4_dawn_38 : decode cX4_dawn 38 = .ok (.getfield 93, 3) := dk_180 0 93 (dk_at dksX4_dawn_1 15 rfl rfl)
theorem dX4_dawn_41 : decode cX4_dawn 41 = .ok (.aload 5, 2) := dk_25 5 (dk_at dksX4_dawn_1 18 rfl rfl)
theorem dX4_dawn_43 : decode cX4_dawn 43 = .ok (.getfield 58, 3) := dk_180 0 58 (dk_at dksX4_dawn_1 20 rfl rfl)
theorem dX4_dawn_46 : decode cX4_dawn 46 = .ok (.iaload, 1) := dk_46 (dk_at dksX4_dawn_1 23 rfl rfl)
theorem dX4_dawn_47 : decode cX4_dawn 47 = .ok (.imul, 1) := dk_104 (dk_at dksX4_dawn_2 0 rfl rfl)
theorem dX4_dawn_48 : decode cX4_dawn 48 = .ok (.if_icmp .gt 6, 3) := dk_163 0 6 (dk_at dksX4_dawn_2 1 rfl rfl)
theorem dX4_dawn_51 : decode cX4_dawn 51 = .ok (.goto 16, 3) := dk_167 0 16 (dk_at dksX4_dawn_2 4 rfl rfl)
theorem dX4_dawn_54 : decode cX4_dawn 54 = .ok (.aload 5, 2) := dk_25 5 (dk_at dksX4_dawn_2 7 rfl rfl)
theorem dX4_dawn_56 : decode cX4_dawn 56 = .ok (.iconst (-1), 1) := dk_2 (dk_at dksX4_dawn_2 9 rfl rfl)
theorem dX4_dawn_57 : decode cX4_dawn 57 = .ok (.putfield 58, 3) := dk_181 0 58 (dk_at dksX4_dawn_2 10 rfl rfl)
theorem dX4_dawn_60 : decode cX4_dawn 60 = .ok (.iload_n 3, 1) := dk_29 (dk_at dksX4_dawn_2 13 rfl rfl)
theorem dX4_dawn_61 : decode cX4_dawn 61 = .ok (.iconst 1, 1) := dk_4 (dk_at dksX4_dawn_2 14 rfl rfl)
theorem dX4_dawn_62 : decode cX4_dawn 62 = .ok (.iload 4, 2) := dk_21 4 (dk_at dksX4_dawn_2 15 rfl rfl)
theorem dX4_dawn_64 : decode cX4_dawn 64 = .ok (.ishl, 1) := dk_120 (dk_at dksX4_dawn_2 17 rfl rfl)
theorem dX4_dawn_65 : decode cX4_dawn 65 = .ok (.ior, 1) := dk_128 (dk_at dksX4_dawn_2 18 rfl rfl)
theorem dX4_dawn_66 : decode cX4_dawn 66 = .ok (.istore_n 3, 1) := dk_62 (dk_at dksX4_dawn_2 19 rfl rfl)
theorem dX4_dawn_67 : decode cX4_dawn 67 = .ok (.iinc 4 1, 3) := dk_132 4 1 (dk_at dksX4_dawn_2 20 rfl rfl)
theorem dX4_dawn_70 : decode cX4_dawn 70 = .ok (.goto (-65), 3) := dk_167 255 191 (dk_at dksX4_dawn_3 0 rfl rfl)
theorem dX4_dawn_73 : decode cX4_dawn 73 = .ok (.iload_n 3, 1) := dk_29 (dk_at dksX4_dawn_3 3 rfl rfl)
theorem dX4_dawn_74 : decode cX4_dawn 74 = .ok (.ireturn, 1) := dk_172 (dk_at dksX4_dawn_3 4 rfl rfl)
abbrev cX4_goOn : ByteArray := prog_21_method_9_code
def yX4_goOn : MethodName := ⟨RX4, "goOn", "(LStatueRent$City;)V"⟩
def dkwX4_goOn_12 : List UInt8 := [132, 3, 1, 167, 255, 206, 42, 89, 180, 0, 38, 4, 96, 181, 0, 38, 177]
abbrev dktX4_goOn_12 : List UInt8 := dkwX4_goOn_12 ++ []
def dkwX4_goOn_11 : List UInt8 := [104, 21, 4, 96, 42, 180, 0, 24, 29, 46, 21, 4, 184, 0, 125, 182, 0, 132, 132, 4, 1, 167, 255, 223]
abbrev dktX4_goOn_11 : List UInt8 := dkwX4_goOn_11 ++ dktX4_goOn_12
def dkwX4_goOn_10 : List UInt8 := [62, 29, 43, 180, 0, 96, 162, 0, 48, 3, 54, 4, 21, 4, 43, 180, 0, 129, 162, 0, 30, 42, 8, 29]
abbrev dktX4_goOn_10 : List UInt8 := dkwX4_goOn_10 ++ dktX4_goOn_11
def dkwX4_goOn_9 : List UInt8 := [181, 0, 42, 28, 29, 184, 0, 125, 154, 0, 9, 25, 4, 4, 181, 0, 71, 132, 3, 1, 167, 255, 188, 3]
abbrev dktX4_goOn_9 : List UInt8 := dkwX4_goOn_9 ++ dktX4_goOn_10
def dkwX4_goOn_8 : List UInt8 := [167, 0, 41, 42, 89, 180, 0, 42, 25, 4, 43, 180, 0, 93, 25, 4, 180, 0, 58, 46, 182, 0, 122, 96]
abbrev dktX4_goOn_8 : List UInt8 := dkwX4_goOn_8 ++ dktX4_goOn_9
def dkwX4_goOn_7 : List UInt8 := [43, 180, 0, 52, 162, 0, 66, 42, 180, 0, 11, 29, 50, 58, 4, 25, 4, 182, 0, 81, 153, 0, 6]
abbrev dktX4_goOn_7 : List UInt8 := dkwX4_goOn_7 ++ dktX4_goOn_8
def dkwX4_goOn_6 : List UInt8 := [21, 8, 50, 180, 0, 50, 120, 128, 79, 132, 6, 1, 167, 255, 155, 132, 3, 1, 167, 255, 101, 3, 62, 29]
abbrev dktX4_goOn_6 : List UInt8 := dkwX4_goOn_6 ++ dktX4_goOn_7
def dkwX4_goOn_5 : List UInt8 := [50, 182, 0, 118, 28, 4, 21, 8, 120, 128, 61, 42, 180, 0, 24, 29, 92, 46, 4, 42, 180, 0, 11]
abbrev dktX4_goOn_5 : List UInt8 := dkwX4_goOn_5 ++ dktX4_goOn_6
def dkwX4_goOn_4 : List UInt8 := [21, 8, 50, 180, 0, 50, 182, 0, 114, 161, 0, 6, 167, 0, 44, 42, 43, 29, 42, 180, 0, 11, 21, 8]
abbrev dktX4_goOn_4 : List UInt8 := dkwX4_goOn_4 ++ dktX4_goOn_5
def dkwX4_goOn_3 : List UInt8 := [182, 0, 106, 54, 8, 21, 8, 2, 159, 0, 72, 42, 16, 12, 182, 0, 110, 42, 43, 29, 42, 180, 0, 11]
abbrev dktX4_goOn_3 : List UInt8 := dkwX4_goOn_3 ++ dktX4_goOn_4
def dkwX4_goOn_2 : List UInt8 := [54, 5, 3, 54, 6, 21, 6, 21, 5, 162, 0, 100, 25, 4, 21, 6, 46, 54, 7, 42, 43, 21, 7]
abbrev dktX4_goOn_2 : List UInt8 := dkwX4_goOn_2 ++ dktX4_goOn_3
def dkwX4_goOn_1 : List UInt8 := [180, 0, 99, 29, 46, 112, 153, 0, 6, 167, 0, 123, 43, 180, 0, 102, 29, 50, 58, 4, 25, 4, 190]
abbrev dktX4_goOn_1 : List UInt8 := dkwX4_goOn_1 ++ dktX4_goOn_2
def dkwX4_goOn_0 : List UInt8 := [3, 61, 3, 62, 29, 43, 180, 0, 96, 162, 0, 153, 42, 180, 0, 24, 29, 3, 79, 42, 180, 0, 38, 43]
abbrev dktX4_goOn_0 : List UInt8 := dkwX4_goOn_0 ++ dktX4_goOn_1
theorem dksX4_goOn_0 : cX4_goOn.data.toList.drop 0 = dktX4_goOn_0 := by decide +kernel
theorem dksX4_goOn_1 : cX4_goOn.data.toList.drop 24 = dktX4_goOn_1 := dk_seg dksX4_goOn_0 24 rfl rfl
theorem dksX4_goOn_2 : cX4_goOn.data.toList.drop 47 = dktX4_goOn_2 := dk_seg dksX4_goOn_1 23 rfl rfl
theorem dksX4_goOn_3 : cX4_goOn.data.toList.drop 70 = dktX4_goOn_3 := dk_seg dksX4_goOn_2 23 rfl rfl
theorem dksX4_goOn_4 : cX4_goOn.data.toList.drop 94 = dktX4_goOn_4 := dk_seg dksX4_goOn_3 24 rfl rfl
theorem dksX4_goOn_5 : cX4_goOn.data.toList.drop 118 = dktX4_goOn_5 := dk_seg dksX4_goOn_4 24 rfl rfl
theorem dksX4_goOn_6 : cX4_goOn.data.toList.drop 141 = dktX4_goOn_6 := dk_seg dksX4_goOn_5 23 rfl rfl
theorem dksX4_goOn_7 : cX4_goOn.data.toList.drop 165 = dktX4_goOn_7 := dk_seg dksX4_goOn_6 24 rfl rfl
theorem dksX4_goOn_8 : cX4_goOn.data.toList.drop 188 = dktX4_goOn_8 := dk_seg dksX4_goOn_7 23 rfl rfl
theorem dksX4_goOn_9 : cX4_goOn.data.toList.drop 212 = dktX4_goOn_9 := dk_seg dksX4_goOn_8 24 rfl rfl
theorem dksX4_goOn_10 : cX4_goOn.data.toList.drop 236 = dktX4_goOn_10 := dk_seg dksX4_goOn_9 24 rfl rfl
theorem dksX4_goOn_11 : cX4_goOn.data.toList.drop 260 = dktX4_goOn_11 := dk_seg dksX4_goOn_10 24 rfl rfl
theorem dksX4_goOn_12 : cX4_goOn.data.toList.drop 284 = dktX4_goOn_12 := dk_seg dksX4_goOn_11 24 rfl rfl
theorem dX4_goOn_0 : decode cX4_goOn 0 = .ok (.iconst 0, 1) := dk_3 (dk_at dksX4_goOn_0 0 rfl rfl)
theorem dX4_goOn_1 : decode cX4_goOn 1 = .ok (.istore_n 2, 1) := dk_61 (dk_at dksX4_goOn_0 1 rfl rfl)
theorem dX4_goOn_2 : decode cX4_goOn 2 = .ok (.iconst 0, 1) := dk_3 (dk_at dksX4_goOn_0 2 rfl rfl)
theorem dX4_goOn_3 : decode cX4_goOn 3 = .ok (.istore_n 3, 1) := dk_62 (dk_at dksX4_goOn_0 3 rfl rfl)
theorem dX4_goOn_4 : decode cX4_goOn 4 = .ok (.iload_n 3, 1) := dk_29 (dk_at dksX4_goOn_0 4 rfl rfl)
theorem dX4_goOn_5 : decode cX4_goOn 5 = .ok (.aload_n 1, 1) := dk_43 (dk_at dksX4_goOn_0 5 rfl rfl)
theorem dX4_goOn_6 : decode cX4_goOn 6 = .ok (.getfield 96, 3) := dk_180 0 96 (dk_at dksX4_goOn_0 6 rfl rfl)
theorem dX4_goOn_9 : decode cX4_goOn 9 = .ok (.if_icmp .ge 153, 3) := dk_162 0 153 (dk_at dksX4_goOn_0 9 rfl rfl)
theorem dX4_goOn_12 : decode cX4_goOn 12 = .ok (.aload_n 0, 1) := dk_42 (dk_at dksX4_goOn_0 12 rfl rfl)
theorem dX4_goOn_13 : decode cX4_goOn 13 = .ok (.getfield 24, 3) := dk_180 0 24 (dk_at dksX4_goOn_0 13 rfl rfl)
theorem dX4_goOn_16 : decode cX4_goOn 16 = .ok (.iload_n 3, 1) := dk_29 (dk_at dksX4_goOn_0 16 rfl rfl)
theorem dX4_goOn_17 : decode cX4_goOn 17 = .ok (.iconst 0, 1) := dk_3 (dk_at dksX4_goOn_0 17 rfl rfl)
theorem dX4_goOn_18 : decode cX4_goOn 18 = .ok (.iastore, 1) := dk_79 (dk_at dksX4_goOn_0 18 rfl rfl)
theorem dX4_goOn_19 : decode cX4_goOn 19 = .ok (.aload_n 0, 1) := dk_42 (dk_at dksX4_goOn_0 19 rfl rfl)
theorem dX4_goOn_20 : decode cX4_goOn 20 = .ok (.getfield 38, 3) := dk_180 0 38 (dk_at dksX4_goOn_0 20 rfl rfl)
theorem dX4_goOn_23 : decode cX4_goOn 23 = .ok (.aload_n 1, 1) := dk_43 (dk_at dksX4_goOn_0 23 rfl rfl)
theorem dX4_goOn_24 : decode cX4_goOn 24 = .ok (.getfield 99, 3) := dk_180 0 99 (dk_at dksX4_goOn_1 0 rfl rfl)
theorem dX4_goOn_27 : decode cX4_goOn 27 = .ok (.iload_n 3, 1) := dk_29 (dk_at dksX4_goOn_1 3 rfl rfl)
theorem dX4_goOn_28 : decode cX4_goOn 28 = .ok (.iaload, 1) := dk_46 (dk_at dksX4_goOn_1 4 rfl rfl)
theorem dX4_goOn_29 : decode cX4_goOn 29 = .ok (.irem, 1) := dk_112 (dk_at dksX4_goOn_1 5 rfl rfl)
theorem dX4_goOn_30 : decode cX4_goOn 30 = .ok (.ifCond .eq 6, 3) := dk_153 0 6 (dk_at dksX4_goOn_1 6 rfl rfl)
theorem dX4_goOn_33 : decode cX4_goOn 33 = .ok (.goto 123, 3) := dk_167 0 123 (dk_at dksX4_goOn_1 9 rfl rfl)
theorem dX4_goOn_36 : decode cX4_goOn 36 = .ok (.aload_n 1, 1) := dk_43 (dk_at dksX4_goOn_1 12 rfl rfl)
theorem dX4_goOn_37 : decode cX4_goOn 37 = .ok (.getfield 102, 3) := dk_180 0 102 (dk_at dksX4_goOn_1 13 rfl rfl)
theorem dX4_goOn_40 : decode cX4_goOn 40 = .ok (.iload_n 3, 1) := dk_29 (dk_at dksX4_goOn_1 16 rfl rfl)
theorem dX4_goOn_41 : decode cX4_goOn 41 = .ok (.aaload, 1) := dk_50 (dk_at dksX4_goOn_1 17 rfl rfl)
theorem dX4_goOn_42 : decode cX4_goOn 42 = .ok (.astore 4, 2) := dk_58 4 (dk_at dksX4_goOn_1 18 rfl rfl)
theorem dX4_goOn_44 : decode cX4_goOn 44 = .ok (.aload 4, 2) := dk_25 4 (dk_at dksX4_goOn_1 20 rfl rfl)
theorem dX4_goOn_46 : decode cX4_goOn 46 = .ok (.arraylength, 1) := dk_190 (dk_at dksX4_goOn_1 22 rfl rfl)
theorem dX4_goOn_47 : decode cX4_goOn 47 = .ok (.istore 5, 2) := dk_54 5 (dk_at dksX4_goOn_2 0 rfl rfl)
theorem dX4_goOn_49 : decode cX4_goOn 49 = .ok (.iconst 0, 1) := dk_3 (dk_at dksX4_goOn_2 2 rfl rfl)
theorem dX4_goOn_50 : decode cX4_goOn 50 = .ok (.istore 6, 2) := dk_54 6 (dk_at dksX4_goOn_2 3 rfl rfl)
theorem dX4_goOn_52 : decode cX4_goOn 52 = .ok (.iload 6, 2) := dk_21 6 (dk_at dksX4_goOn_2 5 rfl rfl)
theorem dX4_goOn_54 : decode cX4_goOn 54 = .ok (.iload 5, 2) := dk_21 5 (dk_at dksX4_goOn_2 7 rfl rfl)
theorem dX4_goOn_56 : decode cX4_goOn 56 = .ok (.if_icmp .ge 100, 3) := dk_162 0 100 (dk_at dksX4_goOn_2 9 rfl rfl)
theorem dX4_goOn_59 : decode cX4_goOn 59 = .ok (.aload 4, 2) := dk_25 4 (dk_at dksX4_goOn_2 12 rfl rfl)
theorem dX4_goOn_61 : decode cX4_goOn 61 = .ok (.iload 6, 2) := dk_21 6 (dk_at dksX4_goOn_2 14 rfl rfl)
theorem dX4_goOn_63 : decode cX4_goOn 63 = .ok (.iaload, 1) := dk_46 (dk_at dksX4_goOn_2 16 rfl rfl)
theorem dX4_goOn_64 : decode cX4_goOn 64 = .ok (.istore 7, 2) := dk_54 7 (dk_at dksX4_goOn_2 17 rfl rfl)
theorem dX4_goOn_66 : decode cX4_goOn 66 = .ok (.aload_n 0, 1) := dk_42 (dk_at dksX4_goOn_2 19 rfl rfl)
theorem dX4_goOn_67 : decode cX4_goOn 67 = .ok (.aload_n 1, 1) := dk_43 (dk_at dksX4_goOn_2 20 rfl rfl)
theorem dX4_goOn_68 : decode cX4_goOn 68 = .ok (.iload 7, 2) := dk_21 7 (dk_at dksX4_goOn_2 21 rfl rfl)
theorem dX4_goOn_70 : decode cX4_goOn 70 = .ok (.invokevirtual 106, 3) := dk_182 0 106 (dk_at dksX4_goOn_3 0 rfl rfl)
theorem dX4_goOn_73 : decode cX4_goOn 73 = .ok (.istore 8, 2) := dk_54 8 (dk_at dksX4_goOn_3 3 rfl rfl)
theorem dX4_goOn_75 : decode cX4_goOn 75 = .ok (.iload 8, 2) := dk_21 8 (dk_at dksX4_goOn_3 5 rfl rfl)
theorem dX4_goOn_77 : decode cX4_goOn 77 = .ok (.iconst (-1), 1) := dk_2 (dk_at dksX4_goOn_3 7 rfl rfl)
theorem dX4_goOn_78 : decode cX4_goOn 78 = .ok (.if_icmp .eq 72, 3) := dk_159 0 72 (dk_at dksX4_goOn_3 8 rfl rfl)
theorem dX4_goOn_81 : decode cX4_goOn 81 = .ok (.aload_n 0, 1) := dk_42 (dk_at dksX4_goOn_3 11 rfl rfl)
theorem dX4_goOn_82 : decode cX4_goOn 82 = .ok (.bipush 12, 2) := dk_16 12 (dk_at dksX4_goOn_3 12 rfl rfl)
theorem dX4_goOn_84 : decode cX4_goOn 84 = .ok (.invokevirtual 110, 3) := dk_182 0 110 (dk_at dksX4_goOn_3 14 rfl rfl)
theorem dX4_goOn_87 : decode cX4_goOn 87 = .ok (.aload_n 0, 1) := dk_42 (dk_at dksX4_goOn_3 17 rfl rfl)
theorem dX4_goOn_88 : decode cX4_goOn 88 = .ok (.aload_n 1, 1) := dk_43 (dk_at dksX4_goOn_3 18 rfl rfl)
theorem dX4_goOn_89 : decode cX4_goOn 89 = .ok (.iload_n 3, 1) := dk_29 (dk_at dksX4_goOn_3 19 rfl rfl)
theorem dX4_goOn_90 : decode cX4_goOn 90 = .ok (.aload_n 0, 1) := dk_42 (dk_at dksX4_goOn_3 20 rfl rfl)
theorem dX4_goOn_91 : decode cX4_goOn 91 = .ok (.getfield 11, 3) := dk_180 0 11 (dk_at dksX4_goOn_3 21 rfl rfl)
theorem dX4_goOn_94 : decode cX4_goOn 94 = .ok (.iload 8, 2) := dk_21 8 (dk_at dksX4_goOn_4 0 rfl rfl)
theorem dX4_goOn_96 : decode cX4_goOn 96 = .ok (.aaload, 1) := dk_50 (dk_at dksX4_goOn_4 2 rfl rfl)
theorem dX4_goOn_97 : decode cX4_goOn 97 = .ok (.getfield 50, 3) := dk_180 0 50 (dk_at dksX4_goOn_4 3 rfl rfl)
theorem dX4_goOn_100 : decode cX4_goOn 100 = .ok (.invokevirtual 114, 3) := dk_182 0 114 (dk_at dksX4_goOn_4 6 rfl rfl)
theorem dX4_goOn_103 : decode cX4_goOn 103 = .ok (.if_icmp .lt 6, 3) := dk_161 0 6 (dk_at dksX4_goOn_4 9 rfl rfl)
theorem dX4_goOn_106 : decode cX4_goOn 106 = .ok (.goto 44, 3) := dk_167 0 44 (dk_at dksX4_goOn_4 12 rfl rfl)
theorem dX4_goOn_109 : decode cX4_goOn 109 = .ok (.aload_n 0, 1) := dk_42 (dk_at dksX4_goOn_4 15 rfl rfl)
theorem dX4_goOn_110 : decode cX4_goOn 110 = .ok (.aload_n 1, 1) := dk_43 (dk_at dksX4_goOn_4 16 rfl rfl)
theorem dX4_goOn_111 : decode cX4_goOn 111 = .ok (.iload_n 3, 1) := dk_29 (dk_at dksX4_goOn_4 17 rfl rfl)
theorem dX4_goOn_112 : decode cX4_goOn 112 = .ok (.aload_n 0, 1) := dk_42 (dk_at dksX4_goOn_4 18 rfl rfl)
theorem dX4_goOn_113 : decode cX4_goOn 113 = .ok (.getfield 11, 3) := dk_180 0 11 (dk_at dksX4_goOn_4 19 rfl rfl)
theorem dX4_goOn_116 : decode cX4_goOn 116 = .ok (.iload 8, 2) := dk_21 8 (dk_at dksX4_goOn_4 22 rfl rfl)
theorem dX4_goOn_118 : decode cX4_goOn 118 = .ok (.aaload, 1) := dk_50 (dk_at dksX4_goOn_5 0 rfl rfl)
theorem dX4_goOn_119 : decode cX4_goOn 119 = .ok (.invokevirtual 118, 3) := dk_182 0 118 (dk_at dksX4_goOn_5 1 rfl rfl)
theorem dX4_goOn_122 : decode cX4_goOn 122 = .ok (.iload_n 2, 1) := dk_28 (dk_at dksX4_goOn_5 4 rfl rfl)
theorem dX4_goOn_123 : decode cX4_goOn 123 = .ok (.iconst 1, 1) := dk_4 (dk_at dksX4_goOn_5 5 rfl rfl)
theorem dX4_goOn_124 : decode cX4_goOn 124 = .ok (.iload 8, 2) := dk_21 8 (dk_at dksX4_goOn_5 6 rfl rfl)
theorem dX4_goOn_126 : decode cX4_goOn 126 = .ok (.ishl, 1) := dk_120 (dk_at dksX4_goOn_5 8 rfl rfl)
theorem dX4_goOn_127 : decode cX4_goOn 127 = .ok (.ior, 1) := dk_128 (dk_at dksX4_goOn_5 9 rfl rfl)
theorem dX4_goOn_128 : decode cX4_goOn 128 = .ok (.istore_n 2, 1) := dk_61 (dk_at dksX4_goOn_5 10 rfl rfl)
theorem dX4_goOn_129 : decode cX4_goOn 129 = .ok (.aload_n 0, 1) := dk_42 (dk_at dksX4_goOn_5 11 rfl rfl)
theorem dX4_goOn_130 : decode cX4_goOn 130 = .ok (.getfield 24, 3) := dk_180 0 24 (dk_at dksX4_goOn_5 12 rfl rfl)
theorem dX4_goOn_133 : decode cX4_goOn 133 = .ok (.iload_n 3, 1) := dk_29 (dk_at dksX4_goOn_5 15 rfl rfl)
theorem dX4_goOn_134 : decode cX4_goOn 134 = .ok (.dup2, 1) := dk_92 (dk_at dksX4_goOn_5 16 rfl rfl)
theorem dX4_goOn_135 : decode cX4_goOn 135 = .ok (.iaload, 1) := dk_46 (dk_at dksX4_goOn_5 17 rfl rfl)
theorem dX4_goOn_136 : decode cX4_goOn 136 = .ok (.iconst 1, 1) := dk_4 (dk_at dksX4_goOn_5 18 rfl rfl)
theorem dX4_goOn_137 : decode cX4_goOn 137 = .ok (.aload_n 0, 1) := dk_42 (dk_at dksX4_goOn_5 19 rfl rfl)
theorem dX4_goOn_138 : decode cX4_goOn 138 = .ok (.getfield 11, 3) := dk_180 0 11 (dk_at dksX4_goOn_5 20 rfl rfl)
theorem dX4_goOn_141 : decode cX4_goOn 141 = .ok (.iload 8, 2) := dk_21 8 (dk_at dksX4_goOn_6 0 rfl rfl)
theorem dX4_goOn_143 : decode cX4_goOn 143 = .ok (.aaload, 1) := dk_50 (dk_at dksX4_goOn_6 2 rfl rfl)
theorem dX4_goOn_144 : decode cX4_goOn 144 = .ok (.getfield 50, 3) := dk_180 0 50 (dk_at dksX4_goOn_6 3 rfl rfl)
theorem dX4_goOn_147 : decode cX4_goOn 147 = .ok (.ishl, 1) := dk_120 (dk_at dksX4_goOn_6 6 rfl rfl)
theorem dX4_goOn_148 : decode cX4_goOn 148 = .ok (.ior, 1) := dk_128 (dk_at dksX4_goOn_6 7 rfl rfl)
theorem dX4_goOn_149 : decode cX4_goOn 149 = .ok (.iastore, 1) := dk_79 (dk_at dksX4_goOn_6 8 rfl rfl)
theorem dX4_goOn_150 : decode cX4_goOn 150 = .ok (.iinc 6 1, 3) := dk_132 6 1 (dk_at dksX4_goOn_6 9 rfl rfl)
theorem dX4_goOn_153 : decode cX4_goOn 153 = .ok (.goto (-101), 3) := dk_167 255 155 (dk_at dksX4_goOn_6 12 rfl rfl)
theorem dX4_goOn_156 : decode cX4_goOn 156 = .ok (.iinc 3 1, 3) := dk_132 3 1 (dk_at dksX4_goOn_6 15 rfl rfl)
theorem dX4_goOn_159 : decode cX4_goOn 159 = .ok (.goto (-155), 3) := dk_167 255 101 (dk_at dksX4_goOn_6 18 rfl rfl)
theorem dX4_goOn_162 : decode cX4_goOn 162 = .ok (.iconst 0, 1) := dk_3 (dk_at dksX4_goOn_6 21 rfl rfl)
theorem dX4_goOn_163 : decode cX4_goOn 163 = .ok (.istore_n 3, 1) := dk_62 (dk_at dksX4_goOn_6 22 rfl rfl)
theorem dX4_goOn_164 : decode cX4_goOn 164 = .ok (.iload_n 3, 1) := dk_29 (dk_at dksX4_goOn_6 23 rfl rfl)
theorem dX4_goOn_165 : decode cX4_goOn 165 = .ok (.aload_n 1, 1) := dk_43 (dk_at dksX4_goOn_7 0 rfl rfl)
theorem dX4_goOn_166 : decode cX4_goOn 166 = .ok (.getfield 52, 3) := dk_180 0 52 (dk_at dksX4_goOn_7 1 rfl rfl)
theorem dX4_goOn_169 : decode cX4_goOn 169 = .ok (.if_icmp .ge 66, 3) := dk_162 0 66 (dk_at dksX4_goOn_7 4 rfl rfl)
theorem dX4_goOn_172 : decode cX4_goOn 172 = .ok (.aload_n 0, 1) := dk_42 (dk_at dksX4_goOn_7 7 rfl rfl)
theorem dX4_goOn_173 : decode cX4_goOn 173 = .ok (.getfield 11, 3) := dk_180 0 11 (dk_at dksX4_goOn_7 8 rfl rfl)
theorem dX4_goOn_176 : decode cX4_goOn 176 = .ok (.iload_n 3, 1) := dk_29 (dk_at dksX4_goOn_7 11 rfl rfl)
theorem dX4_goOn_177 : decode cX4_goOn 177 = .ok (.aaload, 1) := dk_50 (dk_at dksX4_goOn_7 12 rfl rfl)
theorem dX4_goOn_178 : decode cX4_goOn 178 = .ok (.astore 4, 2) := dk_58 4 (dk_at dksX4_goOn_7 13 rfl rfl)
theorem dX4_goOn_180 : decode cX4_goOn 180 = .ok (.aload 4, 2) := dk_25 4 (dk_at dksX4_goOn_7 15 rfl rfl)
theorem dX4_goOn_182 : decode cX4_goOn 182 = .ok (.invokevirtual 81, 3) := dk_182 0 81 (dk_at dksX4_goOn_7 17 rfl rfl)
theorem dX4_goOn_185 : decode cX4_goOn 185 = .ok (.ifCond .eq 6, 3) := dk_153 0 6 (dk_at dksX4_goOn_7 20 rfl rfl)
theorem dX4_goOn_188 : decode cX4_goOn 188 = .ok (.goto 41, 3) := dk_167 0 41 (dk_at dksX4_goOn_8 0 rfl rfl)
theorem dX4_goOn_191 : decode cX4_goOn 191 = .ok (.aload_n 0, 1) := dk_42 (dk_at dksX4_goOn_8 3 rfl rfl)
theorem dX4_goOn_192 : decode cX4_goOn 192 = .ok (.dup, 1) := dk_89 (dk_at dksX4_goOn_8 4 rfl rfl)
theorem dX4_goOn_193 : decode cX4_goOn 193 = .ok (.getfield 42, 3) := dk_180 0 42 (dk_at dksX4_goOn_8 5 rfl rfl)
theorem dX4_goOn_196 : decode cX4_goOn 196 = .ok (.aload 4, 2) := dk_25 4 (dk_at dksX4_goOn_8 8 rfl rfl)
theorem dX4_goOn_198 : decode cX4_goOn 198 = .ok (.aload_n 1, 1) := dk_43 (dk_at dksX4_goOn_8 10 rfl rfl)
theorem dX4_goOn_199 : decode cX4_goOn 199 = .ok (.getfield 93, 3) := dk_180 0 93 (dk_at dksX4_goOn_8 11 rfl rfl)
theorem dX4_goOn_202 : decode cX4_goOn 202 = .ok (.aload 4, 2) := dk_25 4 (dk_at dksX4_goOn_8 14 rfl rfl)
theorem dX4_goOn_204 : decode cX4_goOn 204 = .ok (.getfield 58, 3) := dk_180 0 58 (dk_at dksX4_goOn_8 16 rfl rfl)
theorem dX4_goOn_207 : decode cX4_goOn 207 = .ok (.iaload, 1) := dk_46 (dk_at dksX4_goOn_8 19 rfl rfl)
theorem dX4_goOn_208 : decode cX4_goOn 208 = .ok (.invokevirtual 122, 3) := dk_182 0 122 (dk_at dksX4_goOn_8 20 rfl rfl)
theorem dX4_goOn_211 : decode cX4_goOn 211 = .ok (.iadd, 1) := dk_96 (dk_at dksX4_goOn_8 23 rfl rfl)
theorem dX4_goOn_212 : decode cX4_goOn 212 = .ok (.putfield 42, 3) := dk_181 0 42 (dk_at dksX4_goOn_9 0 rfl rfl)
theorem dX4_goOn_215 : decode cX4_goOn 215 = .ok (.iload_n 2, 1) := dk_28 (dk_at dksX4_goOn_9 3 rfl rfl)
theorem dX4_goOn_216 : decode cX4_goOn 216 = .ok (.iload_n 3, 1) := dk_29 (dk_at dksX4_goOn_9 4 rfl rfl)
theorem dX4_goOn_217 : decode cX4_goOn 217 = .ok (.invokestatic 125, 3) := dk_184 0 125 (dk_at dksX4_goOn_9 5 rfl rfl)
theorem dX4_goOn_220 : decode cX4_goOn 220 = .ok (.ifCond .ne 9, 3) := dk_154 0 9 (dk_at dksX4_goOn_9 8 rfl rfl)
theorem dX4_goOn_223 : decode cX4_goOn 223 = .ok (.aload 4, 2) := dk_25 4 (dk_at dksX4_goOn_9 11 rfl rfl)
theorem dX4_goOn_225 : decode cX4_goOn 225 = .ok (.iconst 1, 1) := dk_4 (dk_at dksX4_goOn_9 13 rfl rfl)
theorem dX4_goOn_226 : decode cX4_goOn 226 = .ok (.putfield 71, 3) := dk_181 0 71 (dk_at dksX4_goOn_9 14 rfl rfl)
theorem dX4_goOn_229 : decode cX4_goOn 229 = .ok (.iinc 3 1, 3) := dk_132 3 1 (dk_at dksX4_goOn_9 17 rfl rfl)
theorem dX4_goOn_232 : decode cX4_goOn 232 = .ok (.goto (-68), 3) := dk_167 255 188 (dk_at dksX4_goOn_9 20 rfl rfl)
theorem dX4_goOn_235 : decode cX4_goOn 235 = .ok (.iconst 0, 1) := dk_3 (dk_at dksX4_goOn_9 23 rfl rfl)
theorem dX4_goOn_236 : decode cX4_goOn 236 = .ok (.istore_n 3, 1) := dk_62 (dk_at dksX4_goOn_10 0 rfl rfl)
theorem dX4_goOn_237 : decode cX4_goOn 237 = .ok (.iload_n 3, 1) := dk_29 (dk_at dksX4_goOn_10 1 rfl rfl)
theorem dX4_goOn_238 : decode cX4_goOn 238 = .ok (.aload_n 1, 1) := dk_43 (dk_at dksX4_goOn_10 2 rfl rfl)
theorem dX4_goOn_239 : decode cX4_goOn 239 = .ok (.getfield 96, 3) := dk_180 0 96 (dk_at dksX4_goOn_10 3 rfl rfl)
theorem dX4_goOn_242 : decode cX4_goOn 242 = .ok (.if_icmp .ge 48, 3) := dk_162 0 48 (dk_at dksX4_goOn_10 6 rfl rfl)
theorem dX4_goOn_245 : decode cX4_goOn 245 = .ok (.iconst 0, 1) := dk_3 (dk_at dksX4_goOn_10 9 rfl rfl)
theorem dX4_goOn_246 : decode cX4_goOn 246 = .ok (.istore 4, 2) := dk_54 4 (dk_at dksX4_goOn_10 10 rfl rfl)
theorem dX4_goOn_248 : decode cX4_goOn 248 = .ok (.iload 4, 2) := dk_21 4 (dk_at dksX4_goOn_10 12 rfl rfl)
theorem dX4_goOn_250 : decode cX4_goOn 250 = .ok (.aload_n 1, 1) := dk_43 (dk_at dksX4_goOn_10 14 rfl rfl)
theorem dX4_goOn_251 : decode cX4_goOn 251 = .ok (.getfield 129, 3) := dk_180 0 129 (dk_at dksX4_goOn_10 15 rfl rfl)
theorem dX4_goOn_254 : decode cX4_goOn 254 = .ok (.if_icmp .ge 30, 3) := dk_162 0 30 (dk_at dksX4_goOn_10 18 rfl rfl)
theorem dX4_goOn_257 : decode cX4_goOn 257 = .ok (.aload_n 0, 1) := dk_42 (dk_at dksX4_goOn_10 21 rfl rfl)
theorem dX4_goOn_258 : decode cX4_goOn 258 = .ok (.iconst 5, 1) := dk_8 (dk_at dksX4_goOn_10 22 rfl rfl)
theorem dX4_goOn_259 : decode cX4_goOn 259 = .ok (.iload_n 3, 1) := dk_29 (dk_at dksX4_goOn_10 23 rfl rfl)
theorem dX4_goOn_260 : decode cX4_goOn 260 = .ok (.imul, 1) := dk_104 (dk_at dksX4_goOn_11 0 rfl rfl)
theorem dX4_goOn_261 : decode cX4_goOn 261 = .ok (.iload 4, 2) := dk_21 4 (dk_at dksX4_goOn_11 1 rfl rfl)
theorem dX4_goOn_263 : decode cX4_goOn 263 = .ok (.iadd, 1) := dk_96 (dk_at dksX4_goOn_11 3 rfl rfl)
theorem dX4_goOn_264 : decode cX4_goOn 264 = .ok (.aload_n 0, 1) := dk_42 (dk_at dksX4_goOn_11 4 rfl rfl)
theorem dX4_goOn_265 : decode cX4_goOn 265 = .ok (.getfield 24, 3) := dk_180 0 24 (dk_at dksX4_goOn_11 5 rfl rfl)
theorem dX4_goOn_268 : decode cX4_goOn 268 = .ok (.iload_n 3, 1) := dk_29 (dk_at dksX4_goOn_11 8 rfl rfl)
theorem dX4_goOn_269 : decode cX4_goOn 269 = .ok (.iaload, 1) := dk_46 (dk_at dksX4_goOn_11 9 rfl rfl)
theorem dX4_goOn_270 : decode cX4_goOn 270 = .ok (.iload 4, 2) := dk_21 4 (dk_at dksX4_goOn_11 10 rfl rfl)
theorem dX4_goOn_272 : decode cX4_goOn 272 = .ok (.invokestatic 125, 3) := dk_184 0 125 (dk_at dksX4_goOn_11 12 rfl rfl)
theorem dX4_goOn_275 : decode cX4_goOn 275 = .ok (.invokevirtual 132, 3) := dk_182 0 132 (dk_at dksX4_goOn_11 15 rfl rfl)
theorem dX4_goOn_278 : decode cX4_goOn 278 = .ok (.iinc 4 1, 3) := dk_132 4 1 (dk_at dksX4_goOn_11 18 rfl rfl)
theorem dX4_goOn_281 : decode cX4_goOn 281 = .ok (.goto (-33), 3) := dk_167 255 223 (dk_at dksX4_goOn_11 21 rfl rfl)
theorem dX4_goOn_284 : decode cX4_goOn 284 = .ok (.iinc 3 1, 3) := dk_132 3 1 (dk_at dksX4_goOn_12 0 rfl rfl)
theorem dX4_goOn_287 : decode cX4_goOn 287 = .ok (.goto (-50), 3) := dk_167 255 206 (dk_at dksX4_goOn_12 3 rfl rfl)
theorem dX4_goOn_290 : decode cX4_goOn 290 = .ok (.aload_n 0, 1) := dk_42 (dk_at dksX4_goOn_12 6 rfl rfl)
theorem dX4_goOn_291 : decode cX4_goOn 291 = .ok (.dup, 1) := dk_89 (dk_at dksX4_goOn_12 7 rfl rfl)
theorem dX4_goOn_292 : decode cX4_goOn 292 = .ok (.getfield 38, 3) := dk_180 0 38 (dk_at dksX4_goOn_12 8 rfl rfl)
theorem dX4_goOn_295 : decode cX4_goOn 295 = .ok (.iconst 1, 1) := dk_4 (dk_at dksX4_goOn_12 11 rfl rfl)
theorem dX4_goOn_296 : decode cX4_goOn 296 = .ok (.iadd, 1) := dk_96 (dk_at dksX4_goOn_12 12 rfl rfl)
theorem dX4_goOn_297 : decode cX4_goOn 297 = .ok (.putfield 38, 3) := dk_181 0 38 (dk_at dksX4_goOn_12 13 rfl rfl)
theorem dX4_goOn_300 : decode cX4_goOn 300 = .ok (.return_, 1) := dk_177 (dk_at dksX4_goOn_12 16 rfl rfl)
abbrev cX4_draw : ByteArray := prog_21_method_7_code
def yX4_draw : MethodName := ⟨RX4, "draw", "(I)I"⟩
def dkwX4_draw_1 : List UInt8 := [172]
abbrev dktX4_draw_1 : List UInt8 := dkwX4_draw_1 ++ []
def dkwX4_draw_0 : List UInt8 := [42, 42, 180, 0, 89, 18, 92, 104, 17, 48, 57, 96, 181, 0, 89, 42, 180, 0, 89, 16, 8, 124, 27, 112]
abbrev dktX4_draw_0 : List UInt8 := dkwX4_draw_0 ++ dktX4_draw_1
theorem dksX4_draw_0 : cX4_draw.data.toList.drop 0 = dktX4_draw_0 := by decide +kernel
theorem dksX4_draw_1 : cX4_draw.data.toList.drop 24 = dktX4_draw_1 := dk_seg dksX4_draw_0 24 rfl rfl
theorem dX4_draw_0 : decode cX4_draw 0 = .ok (.aload_n 0, 1) := dk_42 (dk_at dksX4_draw_0 0 rfl rfl)
theorem dX4_draw_1 : decode cX4_draw 1 = .ok (.aload_n 0, 1) := dk_42 (dk_at dksX4_draw_0 1 rfl rfl)
theorem dX4_draw_2 : decode cX4_draw 2 = .ok (.getfield 89, 3) := dk_180 0 89 (dk_at dksX4_draw_0 2 rfl rfl)
theorem dX4_draw_5 : decode cX4_draw 5 = .ok (.ldc 92, 2) := dk_18 92 (dk_at dksX4_draw_0 5 rfl rfl)
theorem dX4_draw_7 : decode cX4_draw 7 = .ok (.imul, 1) := dk_104 (dk_at dksX4_draw_0 7 rfl rfl)
theorem dX4_draw_8 : decode cX4_draw 8 = .ok (.sipush 12345, 3) := dk_17 48 57 (dk_at dksX4_draw_0 8 rfl rfl)
theorem dX4_draw_11 : decode cX4_draw 11 = .ok (.iadd, 1) := dk_96 (dk_at dksX4_draw_0 11 rfl rfl)
theorem dX4_draw_12 : decode cX4_draw 12 = .ok (.putfield 89, 3) := dk_181 0 89 (dk_at dksX4_draw_0 12 rfl rfl)
theorem dX4_draw_15 : decode cX4_draw 15 = .ok (.aload_n 0, 1) := dk_42 (dk_at dksX4_draw_0 15 rfl rfl)
theorem dX4_draw_16 : decode cX4_draw 16 = .ok (.getfield 89, 3) := dk_180 0 89 (dk_at dksX4_draw_0 16 rfl rfl)
theorem dX4_draw_19 : decode cX4_draw 19 = .ok (.bipush 8, 2) := dk_16 8 (dk_at dksX4_draw_0 19 rfl rfl)
theorem dX4_draw_21 : decode cX4_draw 21 = .ok (.iushr, 1) := dk_124 (dk_at dksX4_draw_0 21 rfl rfl)
theorem dX4_draw_22 : decode cX4_draw 22 = .ok (.iload_n 1, 1) := dk_27 (dk_at dksX4_draw_0 22 rfl rfl)
theorem dX4_draw_23 : decode cX4_draw 23 = .ok (.irem, 1) := dk_112 (dk_at dksX4_draw_0 23 rfl rfl)
theorem dX4_draw_24 : decode cX4_draw 24 = .ok (.ireturn, 1) := dk_172 (dk_at dksX4_draw_1 0 rfl rfl)
abbrev cX4_look : ByteArray := prog_21_method_10_code
def yX4_look : MethodName := ⟨RX4, "look", "(LStatueRent$City;ILStatueRent$Stone;)V"⟩
def dkwX4_look_2 : List UInt8 := [181, 0, 68, 42, 180, 0, 21, 28, 92, 46, 4, 96, 79, 177]
abbrev dktX4_look_2 : List UInt8 := dkwX4_look_2 ++ []
def dkwX4_look_1 : List UInt8 := [167, 0, 9, 43, 180, 0, 136, 28, 46, 96, 184, 0, 139, 181, 0, 63, 45, 89, 180, 0, 68, 4, 96]
abbrev dktX4_look_1 : List UInt8 := dkwX4_look_1 ++ dktX4_look_2
def dkwX4_look_0 : List UInt8 := [45, 17, 3, 231, 45, 180, 0, 63, 45, 180, 0, 71, 153, 0, 14, 43, 180, 0, 136, 28, 46, 5, 108]
abbrev dktX4_look_0 : List UInt8 := dkwX4_look_0 ++ dktX4_look_1
theorem dksX4_look_0 : cX4_look.data.toList.drop 0 = dktX4_look_0 := by decide +kernel
theorem dksX4_look_1 : cX4_look.data.toList.drop 23 = dktX4_look_1 := dk_seg dksX4_look_0 23 rfl rfl
theorem dksX4_look_2 : cX4_look.data.toList.drop 46 = dktX4_look_2 := dk_seg dksX4_look_1 23 rfl rfl
theorem dX4_look_0 : decode cX4_look 0 = .ok (.aload_n 3, 1) := dk_45 (dk_at dksX4_look_0 0 rfl rfl)
theorem dX4_look_1 : decode cX4_look 1 = .ok (.sipush 999, 3) := dk_17 3 231 (dk_at dksX4_look_0 1 rfl rfl)
theorem dX4_look_4 : decode cX4_look 4 = .ok (.aload_n 3, 1) := dk_45 (dk_at dksX4_look_0 4 rfl rfl)
theorem dX4_look_5 : decode cX4_look 5 = .ok (.getfield 63, 3) := dk_180 0 63 (dk_at dksX4_look_0 5 rfl rfl)
theorem dX4_look_8 : decode cX4_look 8 = .ok (.aload_n 3, 1) := dk_45 (dk_at dksX4_look_0 8 rfl rfl)
theorem dX4_look_9 : decode cX4_look 9 = .ok (.getfield 71, 3) := dk_180 0 71 (dk_at dksX4_look_0 9 rfl rfl)
theorem dX4_look_12 : decode cX4_look 12 = .ok (.ifCond .eq 14, 3) := dk_153 0 14 (dk_at dksX4_look_0 12 rfl rfl)
theorem dX4_look_15 : decode cX4_look 15 = .ok (.aload_n 1, 1) := dk_43 (dk_at dksX4_look_0 15 rfl rfl)
theorem dX4_look_16 : decode cX4_look 16 = .ok (.getfield 136, 3) := dk_180 0 136 (dk_at dksX4_look_0 16 rfl rfl)
theorem dX4_look_19 : decode cX4_look 19 = .ok (.iload_n 2, 1) := dk_28 (dk_at dksX4_look_0 19 rfl rfl)
theorem dX4_look_20 : decode cX4_look 20 = .ok (.iaload, 1) := dk_46 (dk_at dksX4_look_0 20 rfl rfl)
theorem dX4_look_21 : decode cX4_look 21 = .ok (.iconst 2, 1) := dk_5 (dk_at dksX4_look_0 21 rfl rfl)
theorem dX4_look_22 : decode cX4_look 22 = .ok (.idiv, 1) := dk_108 (dk_at dksX4_look_0 22 rfl rfl)
theorem dX4_look_23 : decode cX4_look 23 = .ok (.goto 9, 3) := dk_167 0 9 (dk_at dksX4_look_1 0 rfl rfl)
theorem dX4_look_26 : decode cX4_look 26 = .ok (.aload_n 1, 1) := dk_43 (dk_at dksX4_look_1 3 rfl rfl)
theorem dX4_look_27 : decode cX4_look 27 = .ok (.getfield 136, 3) := dk_180 0 136 (dk_at dksX4_look_1 4 rfl rfl)
theorem dX4_look_30 : decode cX4_look 30 = .ok (.iload_n 2, 1) := dk_28 (dk_at dksX4_look_1 7 rfl rfl)
theorem dX4_look_31 : decode cX4_look 31 = .ok (.iaload, 1) := dk_46 (dk_at dksX4_look_1 8 rfl rfl)
theorem dX4_look_32 : decode cX4_look 32 = .ok (.iadd, 1) := dk_96 (dk_at dksX4_look_1 9 rfl rfl)
theorem dX4_look_33 : decode cX4_look 33 = .ok (.invokestatic 139, 3) := dk_184 0 139 (dk_at dksX4_look_1 10 rfl rfl)
theorem dX4_look_36 : decode cX4_look 36 = .ok (.putfield 63, 3) := dk_181 0 63 (dk_at dksX4_look_1 13 rfl rfl)
theorem dX4_look_39 : decode cX4_look 39 = .ok (.aload_n 3, 1) := dk_45 (dk_at dksX4_look_1 16 rfl rfl)
theorem dX4_look_40 : decode cX4_look 40 = .ok (.dup, 1) := dk_89 (dk_at dksX4_look_1 17 rfl rfl)
theorem dX4_look_41 : decode cX4_look 41 = .ok (.getfield 68, 3) := dk_180 0 68 (dk_at dksX4_look_1 18 rfl rfl)
theorem dX4_look_44 : decode cX4_look 44 = .ok (.iconst 1, 1) := dk_4 (dk_at dksX4_look_1 21 rfl rfl)
theorem dX4_look_45 : decode cX4_look 45 = .ok (.iadd, 1) := dk_96 (dk_at dksX4_look_1 22 rfl rfl)
theorem dX4_look_46 : decode cX4_look 46 = .ok (.putfield 68, 3) := dk_181 0 68 (dk_at dksX4_look_2 0 rfl rfl)
theorem dX4_look_49 : decode cX4_look 49 = .ok (.aload_n 0, 1) := dk_42 (dk_at dksX4_look_2 3 rfl rfl)
theorem dX4_look_50 : decode cX4_look 50 = .ok (.getfield 21, 3) := dk_180 0 21 (dk_at dksX4_look_2 4 rfl rfl)
theorem dX4_look_53 : decode cX4_look 53 = .ok (.iload_n 2, 1) := dk_28 (dk_at dksX4_look_2 7 rfl rfl)
theorem dX4_look_54 : decode cX4_look 54 = .ok (.dup2, 1) := dk_92 (dk_at dksX4_look_2 8 rfl rfl)
theorem dX4_look_55 : decode cX4_look 55 = .ok (.iaload, 1) := dk_46 (dk_at dksX4_look_2 9 rfl rfl)
theorem dX4_look_56 : decode cX4_look 56 = .ok (.iconst 1, 1) := dk_4 (dk_at dksX4_look_2 10 rfl rfl)
theorem dX4_look_57 : decode cX4_look 57 = .ok (.iadd, 1) := dk_96 (dk_at dksX4_look_2 11 rfl rfl)
theorem dX4_look_58 : decode cX4_look 58 = .ok (.iastore, 1) := dk_79 (dk_at dksX4_look_2 12 rfl rfl)
theorem dX4_look_59 : decode cX4_look 59 = .ok (.return_, 1) := dk_177 (dk_at dksX4_look_2 13 rfl rfl)
abbrev cX4_tires : ByteArray := prog_21_method_11_code
def yX4_tires : MethodName := ⟨RX4, "tires", "(IZ)V"⟩
def dkwX4_tires_1 : List UInt8 := [3, 42, 180, 0, 17, 27, 46, 4, 100, 184, 0, 144, 79, 177]
abbrev dktX4_tires_1 : List UInt8 := dkwX4_tires_1 ++ []
def dkwX4_tires_0 : List UInt8 := [42, 180, 0, 17, 27, 28, 153, 0, 18, 6, 42, 180, 0, 17, 27, 46, 4, 96, 184, 0, 139, 167, 0, 15]
abbrev dktX4_tires_0 : List UInt8 := dkwX4_tires_0 ++ dktX4_tires_1
theorem dksX4_tires_0 : cX4_tires.data.toList.drop 0 = dktX4_tires_0 := by decide +kernel
theorem dksX4_tires_1 : cX4_tires.data.toList.drop 24 = dktX4_tires_1 := dk_seg dksX4_tires_0 24 rfl rfl
theorem dX4_tires_0 : decode cX4_tires 0 = .ok (.aload_n 0, 1) := dk_42 (dk_at dksX4_tires_0 0 rfl rfl)
theorem dX4_tires_1 : decode cX4_tires 1 = .ok (.getfield 17, 3) := dk_180 0 17 (dk_at dksX4_tires_0 1 rfl rfl)
theorem dX4_tires_4 : decode cX4_tires 4 = .ok (.iload_n 1, 1) := dk_27 (dk_at dksX4_tires_0 4 rfl rfl)
theorem dX4_tires_5 : decode cX4_tires 5 = .ok (.iload_n 2, 1) := dk_28 (dk_at dksX4_tires_0 5 rfl rfl)
theorem dX4_tires_6 : decode cX4_tires 6 = .ok (.ifCond .eq 18, 3) := dk_153 0 18 (dk_at dksX4_tires_0 6 rfl rfl)
theorem dX4_tires_9 : decode cX4_tires 9 = .ok (.iconst 3, 1) := dk_6 (dk_at dksX4_tires_0 9 rfl rfl)
theorem dX4_tires_10 : decode cX4_tires 10 = .ok (.aload_n 0, 1) := dk_42 (dk_at dksX4_tires_0 10 rfl rfl)
theorem dX4_tires_11 : decode cX4_tires 11 = .ok (.getfield 17, 3) := dk_180 0 17 (dk_at dksX4_tires_0 11 rfl rfl)
theorem dX4_tires_14 : decode cX4_tires 14 = .ok (.iload_n 1, 1) := dk_27 (dk_at dksX4_tires_0 14 rfl rfl)
theorem dX4_tires_15 : decode cX4_tires 15 = .ok (.iaload, 1) := dk_46 (dk_at dksX4_tires_0 15 rfl rfl)
theorem dX4_tires_16 : decode cX4_tires 16 = .ok (.iconst 1, 1) := dk_4 (dk_at dksX4_tires_0 16 rfl rfl)
theorem dX4_tires_17 : decode cX4_tires 17 = .ok (.iadd, 1) := dk_96 (dk_at dksX4_tires_0 17 rfl rfl)
theorem dX4_tires_18 : decode cX4_tires 18 = .ok (.invokestatic 139, 3) := dk_184 0 139 (dk_at dksX4_tires_0 18 rfl rfl)
theorem dX4_tires_21 : decode cX4_tires 21 = .ok (.goto 15, 3) := dk_167 0 15 (dk_at dksX4_tires_0 21 rfl rfl)
theorem dX4_tires_24 : decode cX4_tires 24 = .ok (.iconst 0, 1) := dk_3 (dk_at dksX4_tires_1 0 rfl rfl)
theorem dX4_tires_25 : decode cX4_tires 25 = .ok (.aload_n 0, 1) := dk_42 (dk_at dksX4_tires_1 1 rfl rfl)
theorem dX4_tires_26 : decode cX4_tires 26 = .ok (.getfield 17, 3) := dk_180 0 17 (dk_at dksX4_tires_1 2 rfl rfl)
theorem dX4_tires_29 : decode cX4_tires 29 = .ok (.iload_n 1, 1) := dk_27 (dk_at dksX4_tires_1 5 rfl rfl)
theorem dX4_tires_30 : decode cX4_tires 30 = .ok (.iaload, 1) := dk_46 (dk_at dksX4_tires_1 6 rfl rfl)
theorem dX4_tires_31 : decode cX4_tires 31 = .ok (.iconst 1, 1) := dk_4 (dk_at dksX4_tires_1 7 rfl rfl)
theorem dX4_tires_32 : decode cX4_tires 32 = .ok (.isub, 1) := dk_100 (dk_at dksX4_tires_1 8 rfl rfl)
theorem dX4_tires_33 : decode cX4_tires 33 = .ok (.invokestatic 144, 3) := dk_184 0 144 (dk_at dksX4_tires_1 9 rfl rfl)
theorem dX4_tires_36 : decode cX4_tires 36 = .ok (.iastore, 1) := dk_79 (dk_at dksX4_tires_1 12 rfl rfl)
theorem dX4_tires_37 : decode cX4_tires 37 = .ok (.return_, 1) := dk_177 (dk_at dksX4_tires_1 13 rfl rfl)
theorem q126 : (Jvm.Cond.initialized "StatueRent$State") ∈ lw_all := lw_g (lw_at lw_m1 6 rfl) rfl
theorem q284 : (Jvm.Cond.fieldLinkNest "StatueRent$State" (93 : Nat) "StatueRent$City" "rent" "[I" "StatueRent") ∈ lw_tbl := lw_at lw_m1 164 rfl
theorem q290 : (Jvm.Cond.fieldLinkNest "StatueRent$State" (45 : Nat) "StatueRent$City" "kind" "[I" "StatueRent") ∈ lw_tbl := lw_at lw_m1 170 rfl
theorem q293 : (Jvm.Cond.fieldLinkNest "StatueRent$State" (55 : Nat) "StatueRent$City" "square" "[I" "StatueRent") ∈ lw_tbl := lw_at lw_m1 173 rfl
theorem q296 : (Jvm.Cond.fieldLinkNest "StatueRent$State" (60 : Nat) "StatueRent$City" "purse" "[I" "StatueRent") ∈ lw_tbl := lw_at lw_m1 176 rfl
theorem q309 : (Jvm.Cond.fieldLinkNest "StatueRent$State" (99 : Nat) "StatueRent$City" "every" "[I" "StatueRent") ∈ lw_tbl := lw_at lw_m1 189 rfl
theorem q313 : (Jvm.Cond.fieldLinkNest "StatueRent$State" (136 : Nat) "StatueRent$City" "worth" "[I" "StatueRent") ∈ lw_tbl := lw_at lw_m1 193 rfl
theorem q318 : (Jvm.Cond.fieldLinkNest "StatueRent$State" (102 : Nat) "StatueRent$City" "ways" "[[I" "StatueRent") ∈ lw_tbl := lw_at lw_m1 198 rfl
theorem q332 : (Jvm.Cond.fieldLinkNest "StatueRent$State" (129 : Nat) "StatueRent$City" "kinds" "I" "StatueRent") ∈ lw_tbl := lw_at lw_m1 212 rfl
theorem q334 : (Jvm.Cond.fieldLinkNest "StatueRent$State" (52 : Nat) "StatueRent$City" "statues" "I" "StatueRent") ∈ lw_tbl := lw_at lw_m1 214 rfl
theorem q340 : (Jvm.Cond.fieldLinkNest "StatueRent$State" (96 : Nat) "StatueRent$City" "walkers" "I" "StatueRent") ∈ lw_tbl := lw_at lw_m1 220 rfl
theorem q344 : (Jvm.Cond.fieldLinkNest "StatueRent$State" (147 : Nat) "StatueRent$City" "arrears" "I" "StatueRent") ∈ lw_tbl := lw_at lw_m1 224 rfl
theorem q397 : (Jvm.Cond.instantiable "StatueRent$State" (7 : Nat)) ∈ lw_all := lw_g (lw_at lw_m2 37 rfl) rfl
theorem q399 : (Jvm.Cond.instanceMethod ({ cls := "StatueRent$State", name := "<init>", desc := "()V" } : Jvm.MethodName)) ∈ lw_all := lw_g (lw_at lw_m2 39 rfl) rfl
theorem q400 : (Jvm.Cond.code ({ cls := "StatueRent$State", name := "<init>", desc := "()V" } : Jvm.MethodName) prog_21_method_1_code (2 : Nat) (Option.none : Option Jvm.ClassFile.FieldType)) ∈ lw_all := lw_g (lw_at lw_m2 40 rfl) rfl
theorem q401 : (Jvm.Cond.methodLink "StatueRent$State" (3 : Nat) ({ cls := "java/lang/Object", name := "<init>", desc := "()V" } : Jvm.MethodName)) ∈ lw_all := lw_g (lw_at lw_m2 41 rfl) rfl
theorem q402 : (Jvm.Cond.classLink "StatueRent$State" (9 : Nat) "StatueRent$Stone") ∈ lw_all := lw_g (lw_at lw_m2 42 rfl) rfl
theorem q405 : (Jvm.Cond.methodLinkNest "StatueRent$State" (27 : Nat) ({ cls := "StatueRent$Stone", name := "<init>", desc := "()V" } : Jvm.MethodName) "StatueRent") ∈ lw_tbl := lw_at lw_m2 45 rfl
theorem q411 : (Jvm.Cond.fieldLinkNest "StatueRent$State" (50 : Nat) "StatueRent$Stone" "kind" "I" "StatueRent") ∈ lw_tbl := lw_at lw_m2 51 rfl
theorem q416 : (Jvm.Cond.fieldLinkNest "StatueRent$State" (58 : Nat) "StatueRent$Stone" "square" "I" "StatueRent") ∈ lw_tbl := lw_at lw_m2 56 rfl
theorem q420 : (Jvm.Cond.fieldLinkNest "StatueRent$State" (63 : Nat) "StatueRent$Stone" "purse" "I" "StatueRent") ∈ lw_tbl := lw_at lw_m2 60 rfl
theorem q424 : (Jvm.Cond.fieldLinkNest "StatueRent$State" (65 : Nat) "StatueRent$Stone" "owes" "I" "StatueRent") ∈ lw_tbl := lw_at lw_m2 64 rfl
theorem q428 : (Jvm.Cond.fieldLinkNest "StatueRent$State" (68 : Nat) "StatueRent$Stone" "glances" "I" "StatueRent") ∈ lw_tbl := lw_at lw_m2 68 rfl
theorem q432 : (Jvm.Cond.fieldLinkNest "StatueRent$State" (71 : Nat) "StatueRent$Stone" "stained" "Z" "StatueRent") ∈ lw_tbl := lw_at lw_m2 72 rfl
theorem q447 : (Jvm.Cond.fieldLink "StatueRent$State" (11 : Nat) "StatueRent$State" "stones" "[LStatueRent$Stone;") ∈ lw_all := lw_g (lw_at lw_m2 87 rfl) rfl
theorem q452 : (Jvm.Cond.fieldLink "StatueRent$State" (17 : Nat) "StatueRent$State" "tired" "[I") ∈ lw_all := lw_g (lw_at lw_m2 92 rfl) rfl
theorem q454 : (Jvm.Cond.fieldLink "StatueRent$State" (21 : Nat) "StatueRent$State" "gave" "[I") ∈ lw_all := lw_g (lw_at lw_m2 94 rfl) rfl
theorem q456 : (Jvm.Cond.fieldLink "StatueRent$State" (24 : Nat) "StatueRent$State" "looked" "[I") ∈ lw_all := lw_g (lw_at lw_m2 96 rfl) rfl
theorem q458 : (Jvm.Cond.fieldLink "StatueRent$State" (38 : Nat) "StatueRent$State" "day" "I") ∈ lw_all := lw_g (lw_at lw_m2 98 rfl) rfl
theorem q460 : (Jvm.Cond.fieldLink "StatueRent$State" (42 : Nat) "StatueRent$State" "paid" "I") ∈ lw_all := lw_g (lw_at lw_m2 100 rfl) rfl
theorem q462 : (Jvm.Cond.fieldLink "StatueRent$State" (89 : Nat) "StatueRent$State" "seed" "I") ∈ lw_all := lw_g (lw_at lw_m2 102 rfl) rfl
theorem q464 : (Jvm.Cond.laysFinal "StatueRent$State" "StatueRent$State" "stones" "[LStatueRent$Stone;") ∈ lw_all := lw_g (lw_at lw_m2 104 rfl) rfl
theorem q465 : (Jvm.Cond.soleField "StatueRent$State" "stones") ∈ lw_all := lw_g (lw_at lw_m2 105 rfl) rfl
theorem q466 : (Jvm.Cond.laysFinal "StatueRent$State" "StatueRent$State" "tired" "[I") ∈ lw_all := lw_g (lw_at lw_m2 106 rfl) rfl
theorem q467 : (Jvm.Cond.soleField "StatueRent$State" "tired") ∈ lw_all := lw_g (lw_at lw_m2 107 rfl) rfl
theorem q468 : (Jvm.Cond.laysFinal "StatueRent$State" "StatueRent$State" "gave" "[I") ∈ lw_all := lw_g (lw_at lw_m2 108 rfl) rfl
theorem q469 : (Jvm.Cond.soleField "StatueRent$State" "gave") ∈ lw_all := lw_g (lw_at lw_m2 109 rfl) rfl
theorem q470 : (Jvm.Cond.laysFinal "StatueRent$State" "StatueRent$State" "looked" "[I") ∈ lw_all := lw_g (lw_at lw_m2 110 rfl) rfl
theorem q471 : (Jvm.Cond.soleField "StatueRent$State" "looked") ∈ lw_all := lw_g (lw_at lw_m2 111 rfl) rfl
theorem q472 : (Jvm.Cond.lays "StatueRent$State" "StatueRent$State" "day" "I") ∈ lw_all := lw_g (lw_at lw_m2 112 rfl) rfl
theorem q473 : (Jvm.Cond.soleField "StatueRent$State" "day") ∈ lw_all := lw_g (lw_at lw_m2 113 rfl) rfl
theorem q474 : (Jvm.Cond.lays "StatueRent$State" "StatueRent$State" "paid" "I") ∈ lw_all := lw_g (lw_at lw_m2 114 rfl) rfl
theorem q475 : (Jvm.Cond.soleField "StatueRent$State" "paid") ∈ lw_all := lw_g (lw_at lw_m2 115 rfl) rfl
theorem q476 : (Jvm.Cond.lays "StatueRent$State" "StatueRent$State" "seed" "I") ∈ lw_all := lw_g (lw_at lw_m2 116 rfl) rfl
theorem q477 : (Jvm.Cond.soleField "StatueRent$State" "seed") ∈ lw_all := lw_g (lw_at lw_m2 117 rfl) rfl
theorem q478 : (Jvm.Cond.superclass "StatueRent$State" "java/lang/Object") ∈ lw_all := lw_g (lw_at lw_m2 118 rfl) rfl
theorem q561 : (Jvm.Cond.instanceMethod ({ cls := "StatueRent$State", name := "begin", desc := "(LStatueRent$City;)V" } : Jvm.MethodName)) ∈ lw_all := lw_g (lw_at lw_m2 201 rfl) rfl
theorem q562 : (Jvm.Cond.selects "StatueRent$State" ({ cls := "StatueRent$State", name := "begin", desc := "(LStatueRent$City;)V" } : Jvm.MethodName) ({ cls := "StatueRent$State", name := "begin", desc := "(LStatueRent$City;)V" } : Jvm.MethodName)) ∈ lw_all := lw_g (lw_at lw_m2 202 rfl) rfl
theorem q563 : (Jvm.Cond.code ({ cls := "StatueRent$State", name := "begin", desc := "(LStatueRent$City;)V" } : Jvm.MethodName) prog_21_method_3_code (4 : Nat) (Option.none : Option Jvm.ClassFile.FieldType)) ∈ lw_all := lw_g (lw_at lw_m2 203 rfl) rfl
theorem q564 : (Jvm.Cond.methodLink "StatueRent$State" (75 : Nat) ({ cls := "java/util/Arrays", name := "fill", desc := "([II)V" } : Jvm.MethodName)) ∈ lw_all := lw_g (lw_at lw_m2 204 rfl) rfl
theorem q975 : (Jvm.Cond.instanceMethod ({ cls := "StatueRent$State", name := "at", desc := "(LStatueRent$City;I)I" } : Jvm.MethodName)) ∈ lw_all := lw_g (lw_at lw_m4 135 rfl) rfl
theorem q976 : (Jvm.Cond.selects "StatueRent$State" ({ cls := "StatueRent$State", name := "at", desc := "(LStatueRent$City;I)I" } : Jvm.MethodName) ({ cls := "StatueRent$State", name := "at", desc := "(LStatueRent$City;I)I" } : Jvm.MethodName)) ∈ lw_all := lw_g (lw_at lw_m4 136 rfl) rfl
theorem q977 : (Jvm.Cond.code ({ cls := "StatueRent$State", name := "at", desc := "(LStatueRent$City;I)I" } : Jvm.MethodName) prog_21_method_4_code (4 : Nat) (Option.some Jvm.ClassFile.FieldType.int)) ∈ lw_all := lw_g (lw_at lw_m4 137 rfl) rfl
theorem q1007 : (Jvm.Cond.instanceMethod ({ cls := "StatueRent$State", name := "chance", desc := "(LStatueRent$City;II)I" } : Jvm.MethodName)) ∈ lw_all := lw_g (lw_at lw_m4 167 rfl) rfl
theorem q1008 : (Jvm.Cond.selects "StatueRent$State" ({ cls := "StatueRent$State", name := "chance", desc := "(LStatueRent$City;II)I" } : Jvm.MethodName) ({ cls := "StatueRent$State", name := "chance", desc := "(LStatueRent$City;II)I" } : Jvm.MethodName)) ∈ lw_all := lw_g (lw_at lw_m4 168 rfl) rfl
theorem q1009 : (Jvm.Cond.code ({ cls := "StatueRent$State", name := "chance", desc := "(LStatueRent$City;II)I" } : Jvm.MethodName) prog_21_method_6_code (4 : Nat) (Option.some Jvm.ClassFile.FieldType.int)) ∈ lw_all := lw_g (lw_at lw_m4 169 rfl) rfl
theorem q1010 : (Jvm.Cond.methodLink "StatueRent$State" (85 : Nat) ({ cls := "StatueRent$City", name := "likes", desc := "(II)I" } : Jvm.MethodName)) ∈ lw_all := lw_g (lw_at lw_m4 170 rfl) rfl
theorem q1016 : (Jvm.Cond.instanceMethod ({ cls := "StatueRent$State", name := "gone", desc := "(LStatueRent$City;)I" } : Jvm.MethodName)) ∈ lw_all := lw_g (lw_at lw_m4 176 rfl) rfl
theorem q1017 : (Jvm.Cond.selects "StatueRent$State" ({ cls := "StatueRent$State", name := "gone", desc := "(LStatueRent$City;)I" } : Jvm.MethodName) ({ cls := "StatueRent$State", name := "gone", desc := "(LStatueRent$City;)I" } : Jvm.MethodName)) ∈ lw_all := lw_g (lw_at lw_m4 177 rfl) rfl
theorem q1018 : (Jvm.Cond.code ({ cls := "StatueRent$State", name := "gone", desc := "(LStatueRent$City;)I" } : Jvm.MethodName) prog_21_method_5_code (4 : Nat) (Option.some Jvm.ClassFile.FieldType.int)) ∈ lw_all := lw_g (lw_at lw_m4 178 rfl) rfl
theorem q1019 : (Jvm.Cond.methodLink "StatueRent$State" (81 : Nat) ({ cls := "StatueRent$Stone", name := "isGone", desc := "()Z" } : Jvm.MethodName)) ∈ lw_all := lw_g (lw_at lw_m4 179 rfl) rfl
theorem q1028 : (Jvm.Cond.instanceMethod ({ cls := "StatueRent$State", name := "be", desc := "(LStatueRent$State;)V" } : Jvm.MethodName)) ∈ lw_all := lw_g (lw_at lw_m4 188 rfl) rfl
theorem q1029 : (Jvm.Cond.selects "StatueRent$State" ({ cls := "StatueRent$State", name := "be", desc := "(LStatueRent$State;)V" } : Jvm.MethodName) ({ cls := "StatueRent$State", name := "be", desc := "(LStatueRent$State;)V" } : Jvm.MethodName)) ∈ lw_all := lw_g (lw_at lw_m4 189 rfl) rfl
theorem q1030 : (Jvm.Cond.code ({ cls := "StatueRent$State", name := "be", desc := "(LStatueRent$State;)V" } : Jvm.MethodName) prog_21_method_2_code (3 : Nat) (Option.none : Option Jvm.ClassFile.FieldType)) ∈ lw_all := lw_g (lw_at lw_m4 190 rfl) rfl
theorem q1031 : (Jvm.Cond.methodLink "StatueRent$State" (28 : Nat) ({ cls := "StatueRent$Stone", name := "be", desc := "(LStatueRent$Stone;)V" } : Jvm.MethodName)) ∈ lw_all := lw_g (lw_at lw_m4 191 rfl) rfl
theorem q1035 : (Jvm.Cond.methodLink "StatueRent$State" (32 : Nat) ({ cls := "java/lang/System", name := "arraycopy", desc := "(Ljava/lang/Object;ILjava/lang/Object;II)V" } : Jvm.MethodName)) ∈ lw_all := lw_g (lw_at lw_m4 195 rfl) rfl
theorem q1047 : (Jvm.Cond.instanceMethod ({ cls := "StatueRent$State", name := "whyMove", desc := "(LStatueRent$City;II)I" } : Jvm.MethodName)) ∈ lw_all := lw_g (lw_at lw_m4 207 rfl) rfl
theorem q1048 : (Jvm.Cond.selects "StatueRent$State" ({ cls := "StatueRent$State", name := "whyMove", desc := "(LStatueRent$City;II)I" } : Jvm.MethodName) ({ cls := "StatueRent$State", name := "whyMove", desc := "(LStatueRent$City;II)I" } : Jvm.MethodName)) ∈ lw_all := lw_g (lw_at lw_m4 208 rfl) rfl
theorem q1049 : (Jvm.Cond.code ({ cls := "StatueRent$State", name := "whyMove", desc := "(LStatueRent$City;II)I" } : Jvm.MethodName) prog_21_method_13_code (4 : Nat) (Option.some Jvm.ClassFile.FieldType.int)) ∈ lw_all := lw_g (lw_at lw_m4 209 rfl) rfl
theorem q1050 : (Jvm.Cond.methodLink "StatueRent$State" (106 : Nat) ({ cls := "StatueRent$State", name := "at", desc := "(LStatueRent$City;I)I" } : Jvm.MethodName)) ∈ lw_all := lw_g (lw_at lw_m4 210 rfl) rfl
theorem q1061 : (Jvm.Cond.instanceMethod ({ cls := "StatueRent$State", name := "whyClean", desc := "(I)I" } : Jvm.MethodName)) ∈ lw_all := lw_g (lw_at lw_m4 221 rfl) rfl
theorem q1062 : (Jvm.Cond.selects "StatueRent$State" ({ cls := "StatueRent$State", name := "whyClean", desc := "(I)I" } : Jvm.MethodName) ({ cls := "StatueRent$State", name := "whyClean", desc := "(I)I" } : Jvm.MethodName)) ∈ lw_all := lw_g (lw_at lw_m4 222 rfl) rfl
theorem q1063 : (Jvm.Cond.code ({ cls := "StatueRent$State", name := "whyClean", desc := "(I)I" } : Jvm.MethodName) prog_21_method_14_code (2 : Nat) (Option.some Jvm.ClassFile.FieldType.int)) ∈ lw_all := lw_g (lw_at lw_m4 223 rfl) rfl
theorem q1065 : (Jvm.Cond.instanceMethod ({ cls := "StatueRent$State", name := "clean", desc := "(I)V" } : Jvm.MethodName)) ∈ lw_all := lw_g (lw_at lw_m4 225 rfl) rfl
theorem q1066 : (Jvm.Cond.selects "StatueRent$State" ({ cls := "StatueRent$State", name := "clean", desc := "(I)V" } : Jvm.MethodName) ({ cls := "StatueRent$State", name := "clean", desc := "(I)V" } : Jvm.MethodName)) ∈ lw_all := lw_g (lw_at lw_m4 226 rfl) rfl
theorem q1067 : (Jvm.Cond.code ({ cls := "StatueRent$State", name := "clean", desc := "(I)V" } : Jvm.MethodName) prog_21_method_15_code (2 : Nat) (Option.none : Option Jvm.ClassFile.FieldType)) ∈ lw_all := lw_g (lw_at lw_m4 227 rfl) rfl
theorem q1073 : (Jvm.Cond.instanceMethod ({ cls := "StatueRent$State", name := "whyShow", desc := "(II)I" } : Jvm.MethodName)) ∈ lw_all := lw_g (lw_at lw_m4 233 rfl) rfl
theorem q1074 : (Jvm.Cond.selects "StatueRent$State" ({ cls := "StatueRent$State", name := "whyShow", desc := "(II)I" } : Jvm.MethodName) ({ cls := "StatueRent$State", name := "whyShow", desc := "(II)I" } : Jvm.MethodName)) ∈ lw_all := lw_g (lw_at lw_m4 234 rfl) rfl
theorem q1075 : (Jvm.Cond.code ({ cls := "StatueRent$State", name := "whyShow", desc := "(II)I" } : Jvm.MethodName) prog_21_method_16_code (3 : Nat) (Option.some Jvm.ClassFile.FieldType.int)) ∈ lw_all := lw_g (lw_at lw_m4 235 rfl) rfl
theorem q1077 : (Jvm.Cond.instanceMethod ({ cls := "StatueRent$State", name := "show", desc := "(II)V" } : Jvm.MethodName)) ∈ lw_all := lw_g (lw_at lw_m4 237 rfl) rfl
theorem q1078 : (Jvm.Cond.selects "StatueRent$State" ({ cls := "StatueRent$State", name := "show", desc := "(II)V" } : Jvm.MethodName) ({ cls := "StatueRent$State", name := "show", desc := "(II)V" } : Jvm.MethodName)) ∈ lw_all := lw_g (lw_at lw_m4 238 rfl) rfl
theorem q1079 : (Jvm.Cond.code ({ cls := "StatueRent$State", name := "show", desc := "(II)V" } : Jvm.MethodName) prog_21_method_17_code (3 : Nat) (Option.none : Option Jvm.ClassFile.FieldType)) ∈ lw_all := lw_g (lw_at lw_m4 239 rfl) rfl
theorem q1085 : (Jvm.Cond.instanceMethod ({ cls := "StatueRent$State", name := "whyLend", desc := "(III)I" } : Jvm.MethodName)) ∈ lw_all := lw_g (lw_at lw_m5 5 rfl) rfl
theorem q1086 : (Jvm.Cond.selects "StatueRent$State" ({ cls := "StatueRent$State", name := "whyLend", desc := "(III)I" } : Jvm.MethodName) ({ cls := "StatueRent$State", name := "whyLend", desc := "(III)I" } : Jvm.MethodName)) ∈ lw_all := lw_g (lw_at lw_m5 6 rfl) rfl
theorem q1087 : (Jvm.Cond.code ({ cls := "StatueRent$State", name := "whyLend", desc := "(III)I" } : Jvm.MethodName) prog_21_method_18_code (4 : Nat) (Option.some Jvm.ClassFile.FieldType.int)) ∈ lw_all := lw_g (lw_at lw_m5 7 rfl) rfl
theorem q1089 : (Jvm.Cond.instanceMethod ({ cls := "StatueRent$State", name := "lend", desc := "(III)V" } : Jvm.MethodName)) ∈ lw_all := lw_g (lw_at lw_m5 9 rfl) rfl
theorem q1090 : (Jvm.Cond.selects "StatueRent$State" ({ cls := "StatueRent$State", name := "lend", desc := "(III)V" } : Jvm.MethodName) ({ cls := "StatueRent$State", name := "lend", desc := "(III)V" } : Jvm.MethodName)) ∈ lw_all := lw_g (lw_at lw_m5 10 rfl) rfl
theorem q1091 : (Jvm.Cond.code ({ cls := "StatueRent$State", name := "lend", desc := "(III)V" } : Jvm.MethodName) prog_21_method_19_code (4 : Nat) (Option.none : Option Jvm.ClassFile.FieldType)) ∈ lw_all := lw_g (lw_at lw_m5 11 rfl) rfl
theorem q1097 : (Jvm.Cond.instanceMethod ({ cls := "StatueRent$State", name := "days", desc := "(LStatueRent$City;II)I" } : Jvm.MethodName)) ∈ lw_all := lw_g (lw_at lw_m5 17 rfl) rfl
theorem q1098 : (Jvm.Cond.selects "StatueRent$State" ({ cls := "StatueRent$State", name := "days", desc := "(LStatueRent$City;II)I" } : Jvm.MethodName) ({ cls := "StatueRent$State", name := "days", desc := "(LStatueRent$City;II)I" } : Jvm.MethodName)) ∈ lw_all := lw_g (lw_at lw_m5 18 rfl) rfl
theorem q1099 : (Jvm.Cond.code ({ cls := "StatueRent$State", name := "days", desc := "(LStatueRent$City;II)I" } : Jvm.MethodName) prog_21_method_12_code (5 : Nat) (Option.some Jvm.ClassFile.FieldType.int)) ∈ lw_all := lw_g (lw_at lw_m5 19 rfl) rfl
theorem q1100 : (Jvm.Cond.methodLink "StatueRent$State" (150 : Nat) ({ cls := "StatueRent$State", name := "dawn", desc := "(LStatueRent$City;I)I" } : Jvm.MethodName)) ∈ lw_all := lw_g (lw_at lw_m5 20 rfl) rfl
theorem q1101 : (Jvm.Cond.instanceMethod ({ cls := "StatueRent$State", name := "dawn", desc := "(LStatueRent$City;I)I" } : Jvm.MethodName)) ∈ lw_all := lw_g (lw_at lw_m5 21 rfl) rfl
theorem q1102 : (Jvm.Cond.selects "StatueRent$State" ({ cls := "StatueRent$State", name := "dawn", desc := "(LStatueRent$City;I)I" } : Jvm.MethodName) ({ cls := "StatueRent$State", name := "dawn", desc := "(LStatueRent$City;I)I" } : Jvm.MethodName)) ∈ lw_all := lw_g (lw_at lw_m5 22 rfl) rfl
theorem q1103 : (Jvm.Cond.code ({ cls := "StatueRent$State", name := "dawn", desc := "(LStatueRent$City;I)I" } : Jvm.MethodName) prog_21_method_8_code (6 : Nat) (Option.some Jvm.ClassFile.FieldType.int)) ∈ lw_all := lw_g (lw_at lw_m5 23 rfl) rfl
theorem q1104 : (Jvm.Cond.methodLink "StatueRent$State" (153 : Nat) ({ cls := "StatueRent$State", name := "goOn", desc := "(LStatueRent$City;)V" } : Jvm.MethodName)) ∈ lw_all := lw_g (lw_at lw_m5 24 rfl) rfl
theorem q1105 : (Jvm.Cond.instanceMethod ({ cls := "StatueRent$State", name := "goOn", desc := "(LStatueRent$City;)V" } : Jvm.MethodName)) ∈ lw_all := lw_g (lw_at lw_m5 25 rfl) rfl
theorem q1106 : (Jvm.Cond.selects "StatueRent$State" ({ cls := "StatueRent$State", name := "goOn", desc := "(LStatueRent$City;)V" } : Jvm.MethodName) ({ cls := "StatueRent$State", name := "goOn", desc := "(LStatueRent$City;)V" } : Jvm.MethodName)) ∈ lw_all := lw_g (lw_at lw_m5 26 rfl) rfl
theorem q1107 : (Jvm.Cond.code ({ cls := "StatueRent$State", name := "goOn", desc := "(LStatueRent$City;)V" } : Jvm.MethodName) prog_21_method_9_code (9 : Nat) (Option.none : Option Jvm.ClassFile.FieldType)) ∈ lw_all := lw_g (lw_at lw_m5 27 rfl) rfl
theorem q1108 : (Jvm.Cond.methodLink "StatueRent$State" (110 : Nat) ({ cls := "StatueRent$State", name := "draw", desc := "(I)I" } : Jvm.MethodName)) ∈ lw_all := lw_g (lw_at lw_m5 28 rfl) rfl
theorem q1109 : (Jvm.Cond.privateMethod ({ cls := "StatueRent$State", name := "draw", desc := "(I)I" } : Jvm.MethodName)) ∈ lw_tbl := lw_at lw_m5 29 rfl
theorem q1110 : (Jvm.Cond.instanceMethod ({ cls := "StatueRent$State", name := "draw", desc := "(I)I" } : Jvm.MethodName)) ∈ lw_all := lw_g (lw_at lw_m5 30 rfl) rfl
theorem q1111 : (Jvm.Cond.code ({ cls := "StatueRent$State", name := "draw", desc := "(I)I" } : Jvm.MethodName) prog_21_method_7_code (2 : Nat) (Option.some Jvm.ClassFile.FieldType.int)) ∈ lw_all := lw_g (lw_at lw_m5 31 rfl) rfl
theorem q1112 : (Jvm.Cond.constant "StatueRent$State" (92 : Nat) (1103515245 : Int32)) ∈ lw_all := lw_g (lw_at lw_m5 32 rfl) rfl
theorem q1113 : (Jvm.Cond.methodLink "StatueRent$State" (114 : Nat) ({ cls := "StatueRent$State", name := "chance", desc := "(LStatueRent$City;II)I" } : Jvm.MethodName)) ∈ lw_all := lw_g (lw_at lw_m5 33 rfl) rfl
theorem q1114 : (Jvm.Cond.methodLink "StatueRent$State" (118 : Nat) ({ cls := "StatueRent$State", name := "look", desc := "(LStatueRent$City;ILStatueRent$Stone;)V" } : Jvm.MethodName)) ∈ lw_all := lw_g (lw_at lw_m5 34 rfl) rfl
theorem q1115 : (Jvm.Cond.privateMethod ({ cls := "StatueRent$State", name := "look", desc := "(LStatueRent$City;ILStatueRent$Stone;)V" } : Jvm.MethodName)) ∈ lw_tbl := lw_at lw_m5 35 rfl
theorem q1116 : (Jvm.Cond.instanceMethod ({ cls := "StatueRent$State", name := "look", desc := "(LStatueRent$City;ILStatueRent$Stone;)V" } : Jvm.MethodName)) ∈ lw_all := lw_g (lw_at lw_m5 36 rfl) rfl
theorem q1117 : (Jvm.Cond.code ({ cls := "StatueRent$State", name := "look", desc := "(LStatueRent$City;ILStatueRent$Stone;)V" } : Jvm.MethodName) prog_21_method_10_code (4 : Nat) (Option.none : Option Jvm.ClassFile.FieldType)) ∈ lw_all := lw_g (lw_at lw_m5 37 rfl) rfl
theorem q1118 : (Jvm.Cond.methodLink "StatueRent$State" (139 : Nat) ({ cls := "java/lang/Math", name := "min", desc := "(II)I" } : Jvm.MethodName)) ∈ lw_all := lw_g (lw_at lw_m5 38 rfl) rfl
theorem q1121 : (Jvm.Cond.methodLink "StatueRent$State" (122 : Nat) ({ cls := "StatueRent$Stone", name := "pay", desc := "(I)I" } : Jvm.MethodName)) ∈ lw_all := lw_g (lw_at lw_m5 41 rfl) rfl
theorem q1126 : (Jvm.Cond.methodLinkNest "StatueRent$State" (125 : Nat) ({ cls := "StatueRent", name := "has", desc := "(II)Z" } : Jvm.MethodName) "StatueRent") ∈ lw_tbl := lw_at lw_m5 46 rfl
theorem q1127 : (Jvm.Cond.methodLink "StatueRent$State" (132 : Nat) ({ cls := "StatueRent$State", name := "tires", desc := "(IZ)V" } : Jvm.MethodName)) ∈ lw_all := lw_g (lw_at lw_m5 47 rfl) rfl
theorem q1128 : (Jvm.Cond.privateMethod ({ cls := "StatueRent$State", name := "tires", desc := "(IZ)V" } : Jvm.MethodName)) ∈ lw_tbl := lw_at lw_m5 48 rfl
theorem q1129 : (Jvm.Cond.instanceMethod ({ cls := "StatueRent$State", name := "tires", desc := "(IZ)V" } : Jvm.MethodName)) ∈ lw_all := lw_g (lw_at lw_m5 49 rfl) rfl
theorem q1130 : (Jvm.Cond.code ({ cls := "StatueRent$State", name := "tires", desc := "(IZ)V" } : Jvm.MethodName) prog_21_method_11_code (3 : Nat) (Option.none : Option Jvm.ClassFile.FieldType)) ∈ lw_all := lw_g (lw_at lw_m5 50 rfl) rfl
theorem q1131 : (Jvm.Cond.methodLink "StatueRent$State" (144 : Nat) ({ cls := "java/lang/Math", name := "max", desc := "(II)I" } : Jvm.MethodName)) ∈ lw_all := lw_g (lw_at lw_m5 51 rfl) rfl
theorem q2537 : (Jvm.Cond.castable "StatueRent$State" "java/lang/Object") ∈ lw_tbl := lw_at lw_m11 17 rfl
theorem in_X4 : ∀ w ∈ wsX40, w ∈ lw_all := lw_in wsX40 [464, 466, 468, 470, 472, 474, 476] (by decide +kernel) (by decide +kernel)
/-! StatueRent$Stone -/
set_option maxRecDepth 100000
def RX5 : String := "StatueRent$Stone"
def TX5 : u_T := fun k => match k with
  | 0 => ("StatueRent$Stone", "kind", "I", false)
  | 1 => ("StatueRent$Stone", "square", "I", false)
  | 2 => ("StatueRent$Stone", "purse", "I", false)
  | 3 => ("StatueRent$Stone", "owes", "I", false)
  | 4 => ("StatueRent$Stone", "glances", "I", false)
  | _ => ("StatueRent$Stone", "stained", "Z", false)
def tyX5 : Nat → FieldType := fun k => match k with
  | 0 => .int
  | 1 => .int
  | 2 => .int
  | 3 => .int
  | 4 => .int
  | _ => .boolean
abbrev wsX50 : List Cond := u_ws RX5 TX5 6
theorem nmX5 : ∀ a, a < 6 → ∀ b, b < 6 → a ≠ b → (TX5 a).2.1 ≠ (TX5 b).2.1 := by decide +kernel
theorem tyX5_ok : ∀ k, k < 6 → parseFieldDescriptor (TX5 k).2.2.1 = some (tyX5 k) := by decide +kernel
abbrev cX5_init : ByteArray := prog_22_method_1_code
def yX5_init : MethodName := ⟨RX5, "<init>", "()V"⟩
theorem dX5_init_0 : decode cX5_init 0 = .ok (.aload_n 0, 1) := by decide +kernel
theorem dX5_init_1 : decode cX5_init 1 = .ok (.invokespecial 3, 3) := by decide +kernel
theorem dX5_init_4 : decode cX5_init 4 = .ok (.return_, 1) := by decide +kernel
abbrev cX5_isGone : ByteArray := prog_22_method_3_code
def yX5_isGone : MethodName := ⟨RX5, "isGone", "()Z"⟩
def dkwX5_isGone_0 : List UInt8 := [42, 180, 0, 15, 2, 160, 0, 7, 4, 167, 0, 4, 3, 172]
abbrev dktX5_isGone_0 : List UInt8 := dkwX5_isGone_0 ++ []
theorem dksX5_isGone_0 : cX5_isGone.data.toList.drop 0 = dktX5_isGone_0 := by decide +kernel
theorem dX5_isGone_0 : decode cX5_isGone 0 = .ok (.aload_n 0, 1) := dk_42 (dk_at dksX5_isGone_0 0 rfl rfl)
theorem dX5_isGone_1 : decode cX5_isGone 1 = .ok (.getfield 15, 3) := dk_180 0 15 (dk_at dksX5_isGone_0 1 rfl rfl)
theorem dX5_isGone_4 : decode cX5_isGone 4 = .ok (.iconst (-1), 1) := dk_2 (dk_at dksX5_isGone_0 4 rfl rfl)
theorem dX5_isGone_5 : decode cX5_isGone 5 = .ok (.if_icmp .ne 7, 3) := dk_160 0 7 (dk_at dksX5_isGone_0 5 rfl rfl)
theorem dX5_isGone_8 : decode cX5_isGone 8 = .ok (.iconst 1, 1) := dk_4 (dk_at dksX5_isGone_0 8 rfl rfl)
theorem dX5_isGone_9 : decode cX5_isGone 9 = .ok (.goto 4, 3) := dk_167 0 4 (dk_at dksX5_isGone_0 9 rfl rfl)
theorem dX5_isGone_12 : decode cX5_isGone 12 = .ok (.iconst 0, 1) := dk_3 (dk_at dksX5_isGone_0 12 rfl rfl)
theorem dX5_isGone_13 : decode cX5_isGone 13 = .ok (.ireturn, 1) := dk_172 (dk_at dksX5_isGone_0 13 rfl rfl)
abbrev cX5_be : ByteArray := prog_22_method_2_code
def yX5_be : MethodName := ⟨RX5, "be", "(LStatueRent$Stone;)V"⟩
def dkwX5_be_2 : List UInt8 := [177]
abbrev dktX5_be_2 : List UInt8 := dkwX5_be_2 ++ []
def dkwX5_be_1 : List UInt8 := [42, 43, 180, 0, 21, 181, 0, 21, 42, 43, 180, 0, 24, 181, 0, 24, 42, 43, 180, 0, 27, 181, 0, 27]
abbrev dktX5_be_1 : List UInt8 := dkwX5_be_1 ++ dktX5_be_2
def dkwX5_be_0 : List UInt8 := [42, 43, 180, 0, 9, 181, 0, 9, 42, 43, 180, 0, 15, 181, 0, 15, 42, 43, 180, 0, 18, 181, 0, 18]
abbrev dktX5_be_0 : List UInt8 := dkwX5_be_0 ++ dktX5_be_1
theorem dksX5_be_0 : cX5_be.data.toList.drop 0 = dktX5_be_0 := by decide +kernel
theorem dksX5_be_1 : cX5_be.data.toList.drop 24 = dktX5_be_1 := dk_seg dksX5_be_0 24 rfl rfl
theorem dksX5_be_2 : cX5_be.data.toList.drop 48 = dktX5_be_2 := dk_seg dksX5_be_1 24 rfl rfl
theorem dX5_be_0 : decode cX5_be 0 = .ok (.aload_n 0, 1) := dk_42 (dk_at dksX5_be_0 0 rfl rfl)
theorem dX5_be_1 : decode cX5_be 1 = .ok (.aload_n 1, 1) := dk_43 (dk_at dksX5_be_0 1 rfl rfl)
theorem dX5_be_2 : decode cX5_be 2 = .ok (.getfield 9, 3) := dk_180 0 9 (dk_at dksX5_be_0 2 rfl rfl)
theorem dX5_be_5 : decode cX5_be 5 = .ok (.putfield 9, 3) := dk_181 0 9 (dk_at dksX5_be_0 5 rfl rfl)
theorem dX5_be_8 : decode cX5_be 8 = .ok (.aload_n 0, 1) := dk_42 (dk_at dksX5_be_0 8 rfl rfl)
theorem dX5_be_9 : decode cX5_be 9 = .ok (.aload_n 1, 1) := dk_43 (dk_at dksX5_be_0 9 rfl rfl)
theorem dX5_be_10 : decode cX5_be 10 = .ok (.getfield 15, 3) := dk_180 0 15 (dk_at dksX5_be_0 10 rfl rfl)
theorem dX5_be_13 : decode cX5_be 13 = .ok (.putfield 15, 3) := dk_181 0 15 (dk_at dksX5_be_0 13 rfl rfl)
theorem dX5_be_16 : decode cX5_be 16 = .ok (.aload_n 0, 1) := dk_42 (dk_at dksX5_be_0 16 rfl rfl)
theorem dX5_be_17 : decode cX5_be 17 = .ok (.aload_n 1, 1) := dk_43 (dk_at dksX5_be_0 17 rfl rfl)
theorem dX5_be_18 : decode cX5_be 18 = .ok (.getfield 18, 3) := dk_180 0 18 (dk_at dksX5_be_0 18 rfl rfl)
theorem dX5_be_21 : decode cX5_be 21 = .ok (.putfield 18, 3) := dk_181 0 18 (dk_at dksX5_be_0 21 rfl rfl)
theorem dX5_be_24 : decode cX5_be 24 = .ok (.aload_n 0, 1) := dk_42 (dk_at dksX5_be_1 0 rfl rfl)
theorem dX5_be_25 : decode cX5_be 25 = .ok (.aload_n 1, 1) := dk_43 (dk_at dksX5_be_1 1 rfl rfl)
theorem dX5_be_26 : decode cX5_be 26 = .ok (.getfield 21, 3) := dk_180 0 21 (dk_at dksX5_be_1 2 rfl rfl)
theorem dX5_be_29 : decode cX5_be 29 = .ok (.putfield 21, 3) := dk_181 0 21 (dk_at dksX5_be_1 5 rfl rfl)
theorem dX5_be_32 : decode cX5_be 32 = .ok (.aload_n 0, 1) := dk_42 (dk_at dksX5_be_1 8 rfl rfl)
theorem dX5_be_33 : decode cX5_be 33 = .ok (.aload_n 1, 1) := dk_43 (dk_at dksX5_be_1 9 rfl rfl)
theorem dX5_be_34 : decode cX5_be 34 = .ok (.getfield 24, 3) := dk_180 0 24 (dk_at dksX5_be_1 10 rfl rfl)
theorem dX5_be_37 : decode cX5_be 37 = .ok (.putfield 24, 3) := dk_181 0 24 (dk_at dksX5_be_1 13 rfl rfl)
theorem dX5_be_40 : decode cX5_be 40 = .ok (.aload_n 0, 1) := dk_42 (dk_at dksX5_be_1 16 rfl rfl)
theorem dX5_be_41 : decode cX5_be 41 = .ok (.aload_n 1, 1) := dk_43 (dk_at dksX5_be_1 17 rfl rfl)
theorem dX5_be_42 : decode cX5_be 42 = .ok (.getfield 27, 3) := dk_180 0 27 (dk_at dksX5_be_1 18 rfl rfl)
theorem dX5_be_45 : decode cX5_be 45 = .ok (.putfield 27, 3) := dk_181 0 27 (dk_at dksX5_be_1 21 rfl rfl)
theorem dX5_be_48 : decode cX5_be 48 = .ok (.return_, 1) := dk_177 (dk_at dksX5_be_2 0 rfl rfl)
abbrev cX5_pay : ByteArray := prog_22_method_4_code
def yX5_pay : MethodName := ⟨RX5, "pay", "(I)I"⟩
def dkwX5_pay_1 : List UInt8 := [180, 0, 21, 28, 100, 181, 0, 21, 42, 89, 180, 0, 18, 28, 100, 181, 0, 18, 28, 172]
abbrev dktX5_pay_1 : List UInt8 := dkwX5_pay_1 ++ []
def dkwX5_pay_0 : List UInt8 := [42, 89, 180, 0, 21, 27, 96, 181, 0, 21, 42, 180, 0, 21, 42, 180, 0, 18, 184, 0, 31, 61, 42, 89]
abbrev dktX5_pay_0 : List UInt8 := dkwX5_pay_0 ++ dktX5_pay_1
theorem dksX5_pay_0 : cX5_pay.data.toList.drop 0 = dktX5_pay_0 := by decide +kernel
theorem dksX5_pay_1 : cX5_pay.data.toList.drop 24 = dktX5_pay_1 := dk_seg dksX5_pay_0 24 rfl rfl
theorem dX5_pay_0 : decode cX5_pay 0 = .ok (.aload_n 0, 1) := dk_42 (dk_at dksX5_pay_0 0 rfl rfl)
theorem dX5_pay_1 : decode cX5_pay 1 = .ok (.dup, 1) := dk_89 (dk_at dksX5_pay_0 1 rfl rfl)
theorem dX5_pay_2 : decode cX5_pay 2 = .ok (.getfield 21, 3) := dk_180 0 21 (dk_at dksX5_pay_0 2 rfl rfl)
theorem dX5_pay_5 : decode cX5_pay 5 = .ok (.iload_n 1, 1) := dk_27 (dk_at dksX5_pay_0 5 rfl rfl)
theorem dX5_pay_6 : decode cX5_pay 6 = .ok (.iadd, 1) := dk_96 (dk_at dksX5_pay_0 6 rfl rfl)
theorem dX5_pay_7 : decode cX5_pay 7 = .ok (.putfield 21, 3) := dk_181 0 21 (dk_at dksX5_pay_0 7 rfl rfl)
theorem dX5_pay_10 : decode cX5_pay 10 = .ok (.aload_n 0, 1) := dk_42 (dk_at dksX5_pay_0 10 rfl rfl)
theorem dX5_pay_11 : decode cX5_pay 11 = .ok (.getfield 21, 3) := dk_180 0 21 (dk_at dksX5_pay_0 11 rfl rfl)
theorem dX5_pay_14 : decode cX5_pay 14 = .ok (.aload_n 0, 1) := dk_42 (dk_at dksX5_pay_0 14 rfl rfl)
theorem dX5_pay_15 : decode cX5_pay 15 = .ok (.getfield 18, 3) := dk_180 0 18 (dk_at dksX5_pay_0 15 rfl rfl)
theorem dX5_pay_18 : decode cX5_pay 18 = .ok (.invokestatic 31, 3) := dk_184 0 31 (dk_at dksX5_pay_0 18 rfl rfl)
theorem dX5_pay_21 : decode cX5_pay 21 = .ok (.istore_n 2, 1) := dk_61 (dk_at dksX5_pay_0 21 rfl rfl)
theorem dX5_pay_22 : decode cX5_pay 22 = .ok (.aload_n 0, 1) := dk_42 (dk_at dksX5_pay_0 22 rfl rfl)
theorem dX5_pay_23 : decode cX5_pay 23 = .ok (.dup, 1) := dk_89 (dk_at dksX5_pay_0 23 rfl rfl)
theorem dX5_pay_24 : decode cX5_pay 24 = .ok (.getfield 21, 3) := dk_180 0 21 (dk_at dksX5_pay_1 0 rfl rfl)
theorem dX5_pay_27 : decode cX5_pay 27 = .ok (.iload_n 2, 1) := dk_28 (dk_at dksX5_pay_1 3 rfl rfl)
theorem dX5_pay_28 : decode cX5_pay 28 = .ok (.isub, 1) := dk_100 (dk_at dksX5_pay_1 4 rfl rfl)
theorem dX5_pay_29 : decode cX5_pay 29 = .ok (.putfield 21, 3) := dk_181 0 21 (dk_at dksX5_pay_1 5 rfl rfl)
theorem dX5_pay_32 : decode cX5_pay 32 = .ok (.aload_n 0, 1) := dk_42 (dk_at dksX5_pay_1 8 rfl rfl)
theorem dX5_pay_33 : decode cX5_pay 33 = .ok (.dup, 1) := dk_89 (dk_at dksX5_pay_1 9 rfl rfl)
theorem dX5_pay_34 : decode cX5_pay 34 = .ok (.getfield 18, 3) := dk_180 0 18 (dk_at dksX5_pay_1 10 rfl rfl)
theorem dX5_pay_37 : decode cX5_pay 37 = .ok (.iload_n 2, 1) := dk_28 (dk_at dksX5_pay_1 13 rfl rfl)
theorem dX5_pay_38 : decode cX5_pay 38 = .ok (.isub, 1) := dk_100 (dk_at dksX5_pay_1 14 rfl rfl)
theorem dX5_pay_39 : decode cX5_pay 39 = .ok (.putfield 18, 3) := dk_181 0 18 (dk_at dksX5_pay_1 15 rfl rfl)
theorem dX5_pay_42 : decode cX5_pay 42 = .ok (.iload_n 2, 1) := dk_28 (dk_at dksX5_pay_1 18 rfl rfl)
theorem dX5_pay_43 : decode cX5_pay 43 = .ok (.ireturn, 1) := dk_172 (dk_at dksX5_pay_1 19 rfl rfl)
theorem q127 : (Jvm.Cond.initialized "StatueRent$Stone") ∈ lw_all := lw_g (lw_at lw_m1 7 rfl) rfl
theorem q404 : (Jvm.Cond.instantiable "StatueRent$Stone" (6 : Nat)) ∈ lw_all := lw_g (lw_at lw_m2 44 rfl) rfl
theorem q406 : (Jvm.Cond.instanceMethod ({ cls := "StatueRent$Stone", name := "<init>", desc := "()V" } : Jvm.MethodName)) ∈ lw_all := lw_g (lw_at lw_m2 46 rfl) rfl
theorem q407 : (Jvm.Cond.code ({ cls := "StatueRent$Stone", name := "<init>", desc := "()V" } : Jvm.MethodName) prog_22_method_1_code (1 : Nat) (Option.none : Option Jvm.ClassFile.FieldType)) ∈ lw_all := lw_g (lw_at lw_m2 47 rfl) rfl
theorem q408 : (Jvm.Cond.methodLink "StatueRent$Stone" (3 : Nat) ({ cls := "java/lang/Object", name := "<init>", desc := "()V" } : Jvm.MethodName)) ∈ lw_all := lw_g (lw_at lw_m2 48 rfl) rfl
theorem q409 : (Jvm.Cond.fieldLink "StatueRent$Stone" (9 : Nat) "StatueRent$Stone" "kind" "I") ∈ lw_all := lw_g (lw_at lw_m2 49 rfl) rfl
theorem q413 : (Jvm.Cond.fieldLink "StatueRent$Stone" (15 : Nat) "StatueRent$Stone" "square" "I") ∈ lw_all := lw_g (lw_at lw_m2 53 rfl) rfl
theorem q418 : (Jvm.Cond.fieldLink "StatueRent$Stone" (18 : Nat) "StatueRent$Stone" "purse" "I") ∈ lw_all := lw_g (lw_at lw_m2 58 rfl) rfl
theorem q422 : (Jvm.Cond.fieldLink "StatueRent$Stone" (21 : Nat) "StatueRent$Stone" "owes" "I") ∈ lw_all := lw_g (lw_at lw_m2 62 rfl) rfl
theorem q426 : (Jvm.Cond.fieldLink "StatueRent$Stone" (24 : Nat) "StatueRent$Stone" "glances" "I") ∈ lw_all := lw_g (lw_at lw_m2 66 rfl) rfl
theorem q430 : (Jvm.Cond.fieldLink "StatueRent$Stone" (27 : Nat) "StatueRent$Stone" "stained" "Z") ∈ lw_all := lw_g (lw_at lw_m2 70 rfl) rfl
theorem q434 : (Jvm.Cond.lays "StatueRent$Stone" "StatueRent$Stone" "kind" "I") ∈ lw_all := lw_g (lw_at lw_m2 74 rfl) rfl
theorem q435 : (Jvm.Cond.soleField "StatueRent$Stone" "kind") ∈ lw_all := lw_g (lw_at lw_m2 75 rfl) rfl
theorem q436 : (Jvm.Cond.lays "StatueRent$Stone" "StatueRent$Stone" "square" "I") ∈ lw_all := lw_g (lw_at lw_m2 76 rfl) rfl
theorem q437 : (Jvm.Cond.soleField "StatueRent$Stone" "square") ∈ lw_all := lw_g (lw_at lw_m2 77 rfl) rfl
theorem q438 : (Jvm.Cond.lays "StatueRent$Stone" "StatueRent$Stone" "purse" "I") ∈ lw_all := lw_g (lw_at lw_m2 78 rfl) rfl
theorem q439 : (Jvm.Cond.soleField "StatueRent$Stone" "purse") ∈ lw_all := lw_g (lw_at lw_m2 79 rfl) rfl
theorem q440 : (Jvm.Cond.lays "StatueRent$Stone" "StatueRent$Stone" "owes" "I") ∈ lw_all := lw_g (lw_at lw_m2 80 rfl) rfl
theorem q441 : (Jvm.Cond.soleField "StatueRent$Stone" "owes") ∈ lw_all := lw_g (lw_at lw_m2 81 rfl) rfl
theorem q442 : (Jvm.Cond.lays "StatueRent$Stone" "StatueRent$Stone" "glances" "I") ∈ lw_all := lw_g (lw_at lw_m2 82 rfl) rfl
theorem q443 : (Jvm.Cond.soleField "StatueRent$Stone" "glances") ∈ lw_all := lw_g (lw_at lw_m2 83 rfl) rfl
theorem q444 : (Jvm.Cond.lays "StatueRent$Stone" "StatueRent$Stone" "stained" "Z") ∈ lw_all := lw_g (lw_at lw_m2 84 rfl) rfl
theorem q445 : (Jvm.Cond.soleField "StatueRent$Stone" "stained") ∈ lw_all := lw_g (lw_at lw_m2 85 rfl) rfl
theorem q446 : (Jvm.Cond.superclass "StatueRent$Stone" "java/lang/Object") ∈ lw_all := lw_g (lw_at lw_m2 86 rfl) rfl
theorem q1020 : (Jvm.Cond.instanceMethod ({ cls := "StatueRent$Stone", name := "isGone", desc := "()Z" } : Jvm.MethodName)) ∈ lw_all := lw_g (lw_at lw_m4 180 rfl) rfl
theorem q1021 : (Jvm.Cond.selects "StatueRent$Stone" ({ cls := "StatueRent$Stone", name := "isGone", desc := "()Z" } : Jvm.MethodName) ({ cls := "StatueRent$Stone", name := "isGone", desc := "()Z" } : Jvm.MethodName)) ∈ lw_all := lw_g (lw_at lw_m4 181 rfl) rfl
theorem q1022 : (Jvm.Cond.code ({ cls := "StatueRent$Stone", name := "isGone", desc := "()Z" } : Jvm.MethodName) prog_22_method_3_code (1 : Nat) (Option.some Jvm.ClassFile.FieldType.boolean)) ∈ lw_all := lw_g (lw_at lw_m4 182 rfl) rfl
theorem q1032 : (Jvm.Cond.instanceMethod ({ cls := "StatueRent$Stone", name := "be", desc := "(LStatueRent$Stone;)V" } : Jvm.MethodName)) ∈ lw_all := lw_g (lw_at lw_m4 192 rfl) rfl
theorem q1033 : (Jvm.Cond.selects "StatueRent$Stone" ({ cls := "StatueRent$Stone", name := "be", desc := "(LStatueRent$Stone;)V" } : Jvm.MethodName) ({ cls := "StatueRent$Stone", name := "be", desc := "(LStatueRent$Stone;)V" } : Jvm.MethodName)) ∈ lw_all := lw_g (lw_at lw_m4 193 rfl) rfl
theorem q1034 : (Jvm.Cond.code ({ cls := "StatueRent$Stone", name := "be", desc := "(LStatueRent$Stone;)V" } : Jvm.MethodName) prog_22_method_2_code (2 : Nat) (Option.none : Option Jvm.ClassFile.FieldType)) ∈ lw_all := lw_g (lw_at lw_m4 194 rfl) rfl
theorem q1122 : (Jvm.Cond.instanceMethod ({ cls := "StatueRent$Stone", name := "pay", desc := "(I)I" } : Jvm.MethodName)) ∈ lw_all := lw_g (lw_at lw_m5 42 rfl) rfl
theorem q1123 : (Jvm.Cond.selects "StatueRent$Stone" ({ cls := "StatueRent$Stone", name := "pay", desc := "(I)I" } : Jvm.MethodName) ({ cls := "StatueRent$Stone", name := "pay", desc := "(I)I" } : Jvm.MethodName)) ∈ lw_all := lw_g (lw_at lw_m5 43 rfl) rfl
theorem q1124 : (Jvm.Cond.code ({ cls := "StatueRent$Stone", name := "pay", desc := "(I)I" } : Jvm.MethodName) prog_22_method_4_code (3 : Nat) (Option.some Jvm.ClassFile.FieldType.int)) ∈ lw_all := lw_g (lw_at lw_m5 44 rfl) rfl
theorem q1125 : (Jvm.Cond.methodLink "StatueRent$Stone" (31 : Nat) ({ cls := "java/lang/Math", name := "min", desc := "(II)I" } : Jvm.MethodName)) ∈ lw_all := lw_g (lw_at lw_m5 45 rfl) rfl
theorem q2538 : (Jvm.Cond.castable "StatueRent$Stone" "java/lang/Object") ∈ lw_tbl := lw_at lw_m11 18 rfl
theorem in_X5 : ∀ w ∈ wsX50, w ∈ lw_all := lw_in wsX50 [434, 436, 438, 440, 442, 444] (by decide +kernel) (by decide +kernel)
