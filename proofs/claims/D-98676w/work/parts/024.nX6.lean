/-! StatueRent$Reader -/
set_option maxRecDepth 100000
def RX6 : String := "StatueRent$Reader"
abbrev cX6_init : ByteArray := prog_18_method_1_code
def yX6_init : MethodName := ⟨RX6, "<init>", "(LStatueRent;I)V"⟩
def dkwX6_init_0 : List UInt8 := [42, 43, 181, 0, 3, 42, 183, 0, 9, 42, 28, 181, 0, 15, 177]
abbrev dktX6_init_0 : List UInt8 := dkwX6_init_0 ++ []
theorem dksX6_init_0 : cX6_init.data.toList.drop 0 = dktX6_init_0 := by decide +kernel
theorem dX6_init_0 : decode cX6_init 0 = .ok (.aload_n 0, 1) := dk_42 (dk_at dksX6_init_0 0 rfl rfl)
theorem dX6_init_1 : decode cX6_init 1 = .ok (.aload_n 1, 1) := dk_43 (dk_at dksX6_init_0 1 rfl rfl)
theorem dX6_init_2 : decode cX6_init 2 = .ok (.putfield 3, 3) := dk_181 0 3 (dk_at dksX6_init_0 2 rfl rfl)
theorem dX6_init_5 : decode cX6_init 5 = .ok (.aload_n 0, 1) := dk_42 (dk_at dksX6_init_0 5 rfl rfl)
theorem dX6_init_6 : decode cX6_init 6 = .ok (.invokespecial 9, 3) := dk_183 0 9 (dk_at dksX6_init_0 6 rfl rfl)
theorem dX6_init_9 : decode cX6_init 9 = .ok (.aload_n 0, 1) := dk_42 (dk_at dksX6_init_0 9 rfl rfl)
theorem dX6_init_10 : decode cX6_init 10 = .ok (.iload_n 2, 1) := dk_28 (dk_at dksX6_init_0 10 rfl rfl)
theorem dX6_init_11 : decode cX6_init 11 = .ok (.putfield 15, 3) := dk_181 0 15 (dk_at dksX6_init_0 11 rfl rfl)
theorem dX6_init_14 : decode cX6_init 14 = .ok (.return_, 1) := dk_177 (dk_at dksX6_init_0 14 rfl rfl)
abbrev cX6_begin : ByteArray := prog_18_method_2_code
def yX6_begin : MethodName := ⟨RX6, "begin", "()V"⟩
def dkwX6_begin_0 : List UInt8 := [42, 3, 181, 0, 19, 42, 182, 0, 22, 177]
abbrev dktX6_begin_0 : List UInt8 := dkwX6_begin_0 ++ []
theorem dksX6_begin_0 : cX6_begin.data.toList.drop 0 = dktX6_begin_0 := by decide +kernel
theorem dX6_begin_0 : decode cX6_begin 0 = .ok (.aload_n 0, 1) := dk_42 (dk_at dksX6_begin_0 0 rfl rfl)
theorem dX6_begin_1 : decode cX6_begin 1 = .ok (.iconst 0, 1) := dk_3 (dk_at dksX6_begin_0 1 rfl rfl)
theorem dX6_begin_2 : decode cX6_begin 2 = .ok (.putfield 19, 3) := dk_181 0 19 (dk_at dksX6_begin_0 2 rfl rfl)
theorem dX6_begin_5 : decode cX6_begin 5 = .ok (.aload_n 0, 1) := dk_42 (dk_at dksX6_begin_0 5 rfl rfl)
theorem dX6_begin_6 : decode cX6_begin 6 = .ok (.invokevirtual 22, 3) := dk_182 0 22 (dk_at dksX6_begin_0 6 rfl rfl)
theorem dX6_begin_9 : decode cX6_begin 9 = .ok (.return_, 1) := dk_177 (dk_at dksX6_begin_0 9 rfl rfl)
abbrev cX6_next : ByteArray := prog_18_method_6_code
def yX6_next : MethodName := ⟨RX6, "next", "()V"⟩
def dkwX6_next_7 : List UInt8 := [42, 27, 181, 0, 57, 42, 89, 180, 0, 19, 4, 96, 181, 0, 19, 177]
abbrev dktX6_next_7 : List UInt8 := dkwX6_next_7 ++ []
def dkwX6_next_6 : List UInt8 := [16, 41, 159, 0, 14, 27, 16, 60, 16, 62, 184, 0, 32, 153, 0, 7, 6, 167, 0, 4, 7, 181, 0, 43]
abbrev dktX6_next_6 : List UInt8 := dkwX6_next_6 ++ dktX6_next_7
def dkwX6_next_5 : List UInt8 := [182, 0, 46, 182, 0, 53, 167, 0, 56, 42, 27, 16, 59, 159, 0, 26, 27, 16, 40, 159, 0, 20, 27]
abbrev dktX6_next_5 : List UInt8 := dkwX6_next_5 ++ dktX6_next_6
def dkwX6_next_4 : List UInt8 := [167, 0, 84, 42, 27, 182, 0, 46, 154, 0, 11, 42, 27, 182, 0, 50, 153, 0, 15, 42, 42, 27]
abbrev dktX6_next_4 : List UInt8 := dkwX6_next_4 ++ dktX6_next_5
def dkwX6_next_3 : List UInt8 := [181, 0, 40, 42, 7, 181, 0, 43, 177, 42, 182, 0, 36, 60, 27, 156, 0, 11, 42, 3, 181, 0, 43]
abbrev dktX6_next_3 : List UInt8 := dkwX6_next_3 ++ dktX6_next_4
def dkwX6_next_2 : List UInt8 := [180, 0, 15, 164, 0, 28, 42, 180, 0, 19, 42, 180, 0, 15, 161, 0, 17, 42, 42, 180, 0, 15]
abbrev dktX6_next_2 : List UInt8 := dkwX6_next_2 ++ dktX6_next_3
def dkwX6_next_1 : List UInt8 := [96, 181, 0, 19, 167, 255, 228, 42, 42, 180, 0, 19, 181, 0, 40, 42, 180, 0, 3, 180, 0, 25, 42]
abbrev dktX6_next_1 : List UInt8 := dkwX6_next_1 ++ dktX6_next_2
def dkwX6_next_0 : List UInt8 := [42, 182, 0, 36, 16, 32, 159, 0, 12, 42, 182, 0, 36, 16, 10, 160, 0, 16, 42, 89, 180, 0, 19, 4]
abbrev dktX6_next_0 : List UInt8 := dkwX6_next_0 ++ dktX6_next_1
theorem dksX6_next_0 : cX6_next.data.toList.drop 0 = dktX6_next_0 := by decide +kernel
theorem dksX6_next_1 : cX6_next.data.toList.drop 24 = dktX6_next_1 := dk_seg dksX6_next_0 24 rfl rfl
theorem dksX6_next_2 : cX6_next.data.toList.drop 47 = dktX6_next_2 := dk_seg dksX6_next_1 23 rfl rfl
theorem dksX6_next_3 : cX6_next.data.toList.drop 69 = dktX6_next_3 := dk_seg dksX6_next_2 22 rfl rfl
theorem dksX6_next_4 : cX6_next.data.toList.drop 92 = dktX6_next_4 := dk_seg dksX6_next_3 23 rfl rfl
theorem dksX6_next_5 : cX6_next.data.toList.drop 114 = dktX6_next_5 := dk_seg dksX6_next_4 22 rfl rfl
theorem dksX6_next_6 : cX6_next.data.toList.drop 137 = dktX6_next_6 := dk_seg dksX6_next_5 23 rfl rfl
theorem dksX6_next_7 : cX6_next.data.toList.drop 161 = dktX6_next_7 := dk_seg dksX6_next_6 24 rfl rfl
theorem dX6_next_0 : decode cX6_next 0 = .ok (.aload_n 0, 1) := dk_42 (dk_at dksX6_next_0 0 rfl rfl)
theorem dX6_next_1 : decode cX6_next 1 = .ok (.invokevirtual 36, 3) := dk_182 0 36 (dk_at dksX6_next_0 1 rfl rfl)
theorem dX6_next_4 : decode cX6_next 4 = .ok (.bipush 32, 2) := dk_16 32 (dk_at dksX6_next_0 4 rfl rfl)
theorem dX6_next_6 : decode cX6_next 6 = .ok (.if_icmp .eq 12, 3) := dk_159 0 12 (dk_at dksX6_next_0 6 rfl rfl)
theorem dX6_next_9 : decode cX6_next 9 = .ok (.aload_n 0, 1) := dk_42 (dk_at dksX6_next_0 9 rfl rfl)
theorem dX6_next_10 : decode cX6_next 10 = .ok (.invokevirtual 36, 3) := dk_182 0 36 (dk_at dksX6_next_0 10 rfl rfl)
theorem dX6_next_13 : decode cX6_next 13 = .ok (.bipush 10, 2) := dk_16 10 (dk_at dksX6_next_0 13 rfl rfl)
theorem dX6_next_15 : decode cX6_next 15 = .ok (.if_icmp .ne 16, 3) := dk_160 0 16 (dk_at dksX6_next_0 15 rfl rfl)
theorem dX6_next_18 : decode cX6_next 18 = .ok (.aload_n 0, 1) := dk_42 (dk_at dksX6_next_0 18 rfl rfl)
theorem dX6_next_19 : decode cX6_next 19 = .ok (.dup, 1) := dk_89 (dk_at dksX6_next_0 19 rfl rfl)
theorem dX6_next_20 : decode cX6_next 20 = .ok (.getfield 19, 3) := dk_180 0 19 (dk_at dksX6_next_0 20 rfl rfl)
theorem dX6_next_23 : decode cX6_next 23 = .ok (.iconst 1, 1) := dk_4 (dk_at dksX6_next_0 23 rfl rfl)
theorem dX6_next_24 : decode cX6_next 24 = .ok (.iadd, 1) := dk_96 (dk_at dksX6_next_1 0 rfl rfl)
theorem dX6_next_25 : decode cX6_next 25 = .ok (.putfield 19, 3) := dk_181 0 19 (dk_at dksX6_next_1 1 rfl rfl)
theorem dX6_next_28 : decode cX6_next 28 = .ok (.goto (-28), 3) := dk_167 255 228 (dk_at dksX6_next_1 4 rfl rfl)
theorem dX6_next_31 : decode cX6_next 31 = .ok (.aload_n 0, 1) := dk_42 (dk_at dksX6_next_1 7 rfl rfl)
theorem dX6_next_32 : decode cX6_next 32 = .ok (.aload_n 0, 1) := dk_42 (dk_at dksX6_next_1 8 rfl rfl)
theorem dX6_next_33 : decode cX6_next 33 = .ok (.getfield 19, 3) := dk_180 0 19 (dk_at dksX6_next_1 9 rfl rfl)
theorem dX6_next_36 : decode cX6_next 36 = .ok (.putfield 40, 3) := dk_181 0 40 (dk_at dksX6_next_1 12 rfl rfl)
theorem dX6_next_39 : decode cX6_next 39 = .ok (.aload_n 0, 1) := dk_42 (dk_at dksX6_next_1 15 rfl rfl)
theorem dX6_next_40 : decode cX6_next 40 = .ok (.getfield 3, 3) := dk_180 0 3 (dk_at dksX6_next_1 16 rfl rfl)
theorem dX6_next_43 : decode cX6_next 43 = .ok (.getfield 25, 3) := dk_180 0 25 (dk_at dksX6_next_1 19 rfl rfl)
theorem dX6_next_46 : decode cX6_next 46 = .ok (.aload_n 0, 1) := dk_42 (dk_at dksX6_next_1 22 rfl rfl)
theorem dX6_next_47 : decode cX6_next 47 = .ok (.getfield 15, 3) := dk_180 0 15 (dk_at dksX6_next_2 0 rfl rfl)
theorem dX6_next_50 : decode cX6_next 50 = .ok (.if_icmp .le 28, 3) := dk_164 0 28 (dk_at dksX6_next_2 3 rfl rfl)
theorem dX6_next_53 : decode cX6_next 53 = .ok (.aload_n 0, 1) := dk_42 (dk_at dksX6_next_2 6 rfl rfl)
theorem dX6_next_54 : decode cX6_next 54 = .ok (.getfield 19, 3) := dk_180 0 19 (dk_at dksX6_next_2 7 rfl rfl)
theorem dX6_next_57 : decode cX6_next 57 = .ok (.aload_n 0, 1) := dk_42 (dk_at dksX6_next_2 10 rfl rfl)
theorem dX6_next_58 : decode cX6_next 58 = .ok (.getfield 15, 3) := dk_180 0 15 (dk_at dksX6_next_2 11 rfl rfl)
theorem dX6_next_61 : decode cX6_next 61 = .ok (.if_icmp .lt 17, 3) := dk_161 0 17 (dk_at dksX6_next_2 14 rfl rfl)
theorem dX6_next_64 : decode cX6_next 64 = .ok (.aload_n 0, 1) := dk_42 (dk_at dksX6_next_2 17 rfl rfl)
theorem dX6_next_65 : decode cX6_next 65 = .ok (.aload_n 0, 1) := dk_42 (dk_at dksX6_next_2 18 rfl rfl)
theorem dX6_next_66 : decode cX6_next 66 = .ok (.getfield 15, 3) := dk_180 0 15 (dk_at dksX6_next_2 19 rfl rfl)
theorem dX6_next_69 : decode cX6_next 69 = .ok (.putfield 40, 3) := dk_181 0 40 (dk_at dksX6_next_3 0 rfl rfl)
theorem dX6_next_72 : decode cX6_next 72 = .ok (.aload_n 0, 1) := dk_42 (dk_at dksX6_next_3 3 rfl rfl)
theorem dX6_next_73 : decode cX6_next 73 = .ok (.iconst 4, 1) := dk_7 (dk_at dksX6_next_3 4 rfl rfl)
theorem dX6_next_74 : decode cX6_next 74 = .ok (.putfield 43, 3) := dk_181 0 43 (dk_at dksX6_next_3 5 rfl rfl)
theorem dX6_next_77 : decode cX6_next 77 = .ok (.return_, 1) := dk_177 (dk_at dksX6_next_3 8 rfl rfl)
theorem dX6_next_78 : decode cX6_next 78 = .ok (.aload_n 0, 1) := dk_42 (dk_at dksX6_next_3 9 rfl rfl)
theorem dX6_next_79 : decode cX6_next 79 = .ok (.invokevirtual 36, 3) := dk_182 0 36 (dk_at dksX6_next_3 10 rfl rfl)
theorem dX6_next_82 : decode cX6_next 82 = .ok (.istore_n 1, 1) := dk_60 (dk_at dksX6_next_3 13 rfl rfl)
theorem dX6_next_83 : decode cX6_next 83 = .ok (.iload_n 1, 1) := dk_27 (dk_at dksX6_next_3 14 rfl rfl)
theorem dX6_next_84 : decode cX6_next 84 = .ok (.ifCond .ge 11, 3) := dk_156 0 11 (dk_at dksX6_next_3 15 rfl rfl)
theorem dX6_next_87 : decode cX6_next 87 = .ok (.aload_n 0, 1) := dk_42 (dk_at dksX6_next_3 18 rfl rfl)
theorem dX6_next_88 : decode cX6_next 88 = .ok (.iconst 0, 1) := dk_3 (dk_at dksX6_next_3 19 rfl rfl)
theorem dX6_next_89 : decode cX6_next 89 = .ok (.putfield 43, 3) := dk_181 0 43 (dk_at dksX6_next_3 20 rfl rfl)
theorem dX6_next_92 : decode cX6_next 92 = .ok (.goto 84, 3) := dk_167 0 84 (dk_at dksX6_next_4 0 rfl rfl)
theorem dX6_next_95 : decode cX6_next 95 = .ok (.aload_n 0, 1) := dk_42 (dk_at dksX6_next_4 3 rfl rfl)
theorem dX6_next_96 : decode cX6_next 96 = .ok (.iload_n 1, 1) := dk_27 (dk_at dksX6_next_4 4 rfl rfl)
theorem dX6_next_97 : decode cX6_next 97 = .ok (.invokevirtual 46, 3) := dk_182 0 46 (dk_at dksX6_next_4 5 rfl rfl)
theorem dX6_next_100 : decode cX6_next 100 = .ok (.ifCond .ne 11, 3) := dk_154 0 11 (dk_at dksX6_next_4 8 rfl rfl)
theorem dX6_next_103 : decode cX6_next 103 = .ok (.aload_n 0, 1) := dk_42 (dk_at dksX6_next_4 11 rfl rfl)
theorem dX6_next_104 : decode cX6_next 104 = .ok (.iload_n 1, 1) := dk_27 (dk_at dksX6_next_4 12 rfl rfl)
theorem dX6_next_105 : decode cX6_next 105 = .ok (.invokevirtual 50, 3) := dk_182 0 50 (dk_at dksX6_next_4 13 rfl rfl)
theorem dX6_next_108 : decode cX6_next 108 = .ok (.ifCond .eq 15, 3) := dk_153 0 15 (dk_at dksX6_next_4 16 rfl rfl)
theorem dX6_next_111 : decode cX6_next 111 = .ok (.aload_n 0, 1) := dk_42 (dk_at dksX6_next_4 19 rfl rfl)
theorem dX6_next_112 : decode cX6_next 112 = .ok (.aload_n 0, 1) := dk_42 (dk_at dksX6_next_4 20 rfl rfl)
theorem dX6_next_113 : decode cX6_next 113 = .ok (.iload_n 1, 1) := dk_27 (dk_at dksX6_next_4 21 rfl rfl)
theorem dX6_next_114 : decode cX6_next 114 = .ok (.invokevirtual 46, 3) := dk_182 0 46 (dk_at dksX6_next_5 0 rfl rfl)
theorem dX6_next_117 : decode cX6_next 117 = .ok (.invokevirtual 53, 3) := dk_182 0 53 (dk_at dksX6_next_5 3 rfl rfl)
theorem dX6_next_120 : decode cX6_next 120 = .ok (.goto 56, 3) := dk_167 0 56 (dk_at dksX6_next_5 6 rfl rfl)
theorem dX6_next_123 : decode cX6_next 123 = .ok (.aload_n 0, 1) := dk_42 (dk_at dksX6_next_5 9 rfl rfl)
theorem dX6_next_124 : decode cX6_next 124 = .ok (.iload_n 1, 1) := dk_27 (dk_at dksX6_next_5 10 rfl rfl)
theorem dX6_next_125 : decode cX6_next 125 = .ok (.bipush 59, 2) := dk_16 59 (dk_at dksX6_next_5 11 rfl rfl)
theorem dX6_next_127 : decode cX6_next 127 = .ok (.if_icmp .eq 26, 3) := dk_159 0 26 (dk_at dksX6_next_5 13 rfl rfl)
theorem dX6_next_130 : decode cX6_next 130 = .ok (.iload_n 1, 1) := dk_27 (dk_at dksX6_next_5 16 rfl rfl)
theorem dX6_next_131 : decode cX6_next 131 = .ok (.bipush 40, 2) := dk_16 40 (dk_at dksX6_next_5 17 rfl rfl)
theorem dX6_next_133 : decode cX6_next 133 = .ok (.if_icmp .eq 20, 3) := dk_159 0 20 (dk_at dksX6_next_5 19 rfl rfl)
theorem dX6_next_136 : decode cX6_next 136 = .ok (.iload_n 1, 1) := dk_27 (dk_at dksX6_next_5 22 rfl rfl)
theorem dX6_next_137 : decode cX6_next 137 = .ok (.bipush 41, 2) := dk_16 41 (dk_at dksX6_next_6 0 rfl rfl)
theorem dX6_next_139 : decode cX6_next 139 = .ok (.if_icmp .eq 14, 3) := dk_159 0 14 (dk_at dksX6_next_6 2 rfl rfl)
theorem dX6_next_142 : decode cX6_next 142 = .ok (.iload_n 1, 1) := dk_27 (dk_at dksX6_next_6 5 rfl rfl)
theorem dX6_next_143 : decode cX6_next 143 = .ok (.bipush 60, 2) := dk_16 60 (dk_at dksX6_next_6 6 rfl rfl)
theorem dX6_next_145 : decode cX6_next 145 = .ok (.bipush 62, 2) := dk_16 62 (dk_at dksX6_next_6 8 rfl rfl)
theorem dX6_next_147 : decode cX6_next 147 = .ok (.invokestatic 32, 3) := dk_184 0 32 (dk_at dksX6_next_6 10 rfl rfl)
theorem dX6_next_150 : decode cX6_next 150 = .ok (.ifCond .eq 7, 3) := dk_153 0 7 (dk_at dksX6_next_6 13 rfl rfl)
theorem dX6_next_153 : decode cX6_next 153 = .ok (.iconst 3, 1) := dk_6 (dk_at dksX6_next_6 16 rfl rfl)
theorem dX6_next_154 : decode cX6_next 154 = .ok (.goto 4, 3) := dk_167 0 4 (dk_at dksX6_next_6 17 rfl rfl)
theorem dX6_next_157 : decode cX6_next 157 = .ok (.iconst 4, 1) := dk_7 (dk_at dksX6_next_6 20 rfl rfl)
theorem dX6_next_158 : decode cX6_next 158 = .ok (.putfield 43, 3) := dk_181 0 43 (dk_at dksX6_next_6 21 rfl rfl)
theorem dX6_next_161 : decode cX6_next 161 = .ok (.aload_n 0, 1) := dk_42 (dk_at dksX6_next_7 0 rfl rfl)
theorem dX6_next_162 : decode cX6_next 162 = .ok (.iload_n 1, 1) := dk_27 (dk_at dksX6_next_7 1 rfl rfl)
theorem dX6_next_163 : decode cX6_next 163 = .ok (.putfield 57, 3) := dk_181 0 57 (dk_at dksX6_next_7 2 rfl rfl)
theorem dX6_next_166 : decode cX6_next 166 = .ok (.aload_n 0, 1) := dk_42 (dk_at dksX6_next_7 5 rfl rfl)
theorem dX6_next_167 : decode cX6_next 167 = .ok (.dup, 1) := dk_89 (dk_at dksX6_next_7 6 rfl rfl)
theorem dX6_next_168 : decode cX6_next 168 = .ok (.getfield 19, 3) := dk_180 0 19 (dk_at dksX6_next_7 7 rfl rfl)
theorem dX6_next_171 : decode cX6_next 171 = .ok (.iconst 1, 1) := dk_4 (dk_at dksX6_next_7 10 rfl rfl)
theorem dX6_next_172 : decode cX6_next 172 = .ok (.iadd, 1) := dk_96 (dk_at dksX6_next_7 11 rfl rfl)
theorem dX6_next_173 : decode cX6_next 173 = .ok (.putfield 19, 3) := dk_181 0 19 (dk_at dksX6_next_7 12 rfl rfl)
theorem dX6_next_176 : decode cX6_next 176 = .ok (.return_, 1) := dk_177 (dk_at dksX6_next_7 15 rfl rfl)
abbrev cX6_peek : ByteArray := prog_18_method_3_code
def yX6_peek : MethodName := ⟨RX6, "peek", "()I"⟩
def dkwX6_peek_1 : List UInt8 := [180, 0, 19, 51, 17, 0, 255, 126, 167, 0, 4, 2, 172]
abbrev dktX6_peek_1 : List UInt8 := dkwX6_peek_1 ++ []
def dkwX6_peek_0 : List UInt8 := [42, 180, 0, 19, 42, 180, 0, 3, 180, 0, 25, 162, 0, 22, 42, 180, 0, 3, 180, 0, 28, 42]
abbrev dktX6_peek_0 : List UInt8 := dkwX6_peek_0 ++ dktX6_peek_1
theorem dksX6_peek_0 : cX6_peek.data.toList.drop 0 = dktX6_peek_0 := by decide +kernel
theorem dksX6_peek_1 : cX6_peek.data.toList.drop 22 = dktX6_peek_1 := dk_seg dksX6_peek_0 22 rfl rfl
theorem dX6_peek_0 : decode cX6_peek 0 = .ok (.aload_n 0, 1) := dk_42 (dk_at dksX6_peek_0 0 rfl rfl)
theorem dX6_peek_1 : decode cX6_peek 1 = .ok (.getfield 19, 3) := dk_180 0 19 (dk_at dksX6_peek_0 1 rfl rfl)
theorem dX6_peek_4 : decode cX6_peek 4 = .ok (.aload_n 0, 1) := dk_42 (dk_at dksX6_peek_0 4 rfl rfl)
theorem dX6_peek_5 : decode cX6_peek 5 = .ok (.getfield 3, 3) := dk_180 0 3 (dk_at dksX6_peek_0 5 rfl rfl)
theorem dX6_peek_8 : decode cX6_peek 8 = .ok (.getfield 25, 3) := dk_180 0 25 (dk_at dksX6_peek_0 8 rfl rfl)
theorem dX6_peek_11 : decode cX6_peek 11 = .ok (.if_icmp .ge 22, 3) := dk_162 0 22 (dk_at dksX6_peek_0 11 rfl rfl)
theorem dX6_peek_14 : decode cX6_peek 14 = .ok (.aload_n 0, 1) := dk_42 (dk_at dksX6_peek_0 14 rfl rfl)
theorem dX6_peek_15 : decode cX6_peek 15 = .ok (.getfield 3, 3) := dk_180 0 3 (dk_at dksX6_peek_0 15 rfl rfl)
theorem dX6_peek_18 : decode cX6_peek 18 = .ok (.getfield 28, 3) := dk_180 0 28 (dk_at dksX6_peek_0 18 rfl rfl)
theorem dX6_peek_21 : decode cX6_peek 21 = .ok (.aload_n 0, 1) := dk_42 (dk_at dksX6_peek_0 21 rfl rfl)
theorem dX6_peek_22 : decode cX6_peek 22 = .ok (.getfield 19, 3) := dk_180 0 19 (dk_at dksX6_peek_1 0 rfl rfl)
theorem dX6_peek_25 : decode cX6_peek 25 = .ok (.baload, 1) := dk_51 (dk_at dksX6_peek_1 3 rfl rfl)
theorem dX6_peek_26 : decode cX6_peek 26 = .ok (.sipush 255, 3) := dk_17 0 255 (dk_at dksX6_peek_1 4 rfl rfl)
theorem dX6_peek_29 : decode cX6_peek 29 = .ok (.iand, 1) := dk_126 (dk_at dksX6_peek_1 7 rfl rfl)
theorem dX6_peek_30 : decode cX6_peek 30 = .ok (.goto 4, 3) := dk_167 0 4 (dk_at dksX6_peek_1 8 rfl rfl)
theorem dX6_peek_33 : decode cX6_peek 33 = .ok (.iconst (-1), 1) := dk_2 (dk_at dksX6_peek_1 11 rfl rfl)
theorem dX6_peek_34 : decode cX6_peek 34 = .ok (.ireturn, 1) := dk_172 (dk_at dksX6_peek_1 12 rfl rfl)
abbrev cX6_isLetter : ByteArray := prog_18_method_4_code
def yX6_isLetter : MethodName := ⟨RX6, "isLetter", "(I)Z"⟩
def dkwX6_isLetter_0 : List UInt8 := [27, 16, 97, 16, 122, 184, 0, 32, 172]
abbrev dktX6_isLetter_0 : List UInt8 := dkwX6_isLetter_0 ++ []
theorem dksX6_isLetter_0 : cX6_isLetter.data.toList.drop 0 = dktX6_isLetter_0 := by decide +kernel
theorem dX6_isLetter_0 : decode cX6_isLetter 0 = .ok (.iload_n 1, 1) := dk_27 (dk_at dksX6_isLetter_0 0 rfl rfl)
theorem dX6_isLetter_1 : decode cX6_isLetter 1 = .ok (.bipush 97, 2) := dk_16 97 (dk_at dksX6_isLetter_0 1 rfl rfl)
theorem dX6_isLetter_3 : decode cX6_isLetter 3 = .ok (.bipush 122, 2) := dk_16 122 (dk_at dksX6_isLetter_0 3 rfl rfl)
theorem dX6_isLetter_5 : decode cX6_isLetter 5 = .ok (.invokestatic 32, 3) := dk_184 0 32 (dk_at dksX6_isLetter_0 5 rfl rfl)
theorem dX6_isLetter_8 : decode cX6_isLetter 8 = .ok (.ireturn, 1) := dk_172 (dk_at dksX6_isLetter_0 8 rfl rfl)
abbrev cX6_isDigit : ByteArray := prog_18_method_5_code
def yX6_isDigit : MethodName := ⟨RX6, "isDigit", "(I)Z"⟩
def dkwX6_isDigit_0 : List UInt8 := [27, 16, 48, 16, 57, 184, 0, 32, 172]
abbrev dktX6_isDigit_0 : List UInt8 := dkwX6_isDigit_0 ++ []
theorem dksX6_isDigit_0 : cX6_isDigit.data.toList.drop 0 = dktX6_isDigit_0 := by decide +kernel
theorem dX6_isDigit_0 : decode cX6_isDigit 0 = .ok (.iload_n 1, 1) := dk_27 (dk_at dksX6_isDigit_0 0 rfl rfl)
theorem dX6_isDigit_1 : decode cX6_isDigit 1 = .ok (.bipush 48, 2) := dk_16 48 (dk_at dksX6_isDigit_0 1 rfl rfl)
theorem dX6_isDigit_3 : decode cX6_isDigit 3 = .ok (.bipush 57, 2) := dk_16 57 (dk_at dksX6_isDigit_0 3 rfl rfl)
theorem dX6_isDigit_5 : decode cX6_isDigit 5 = .ok (.invokestatic 32, 3) := dk_184 0 32 (dk_at dksX6_isDigit_0 5 rfl rfl)
theorem dX6_isDigit_8 : decode cX6_isDigit 8 = .ok (.ireturn, 1) := dk_172 (dk_at dksX6_isDigit_0 8 rfl rfl)
abbrev cX6_run : ByteArray := prog_18_method_7_code
def yX6_run : MethodName := ⟨RX6, "run", "(Z)V"⟩
def dkwX6_run_7 : List UInt8 := [164, 0, 7, 7, 167, 0, 12, 27, 153, 0, 7, 4, 167, 0, 4, 5, 181, 0, 43, 177]
abbrev dktX6_run_7 : List UInt8 := dkwX6_run_7 ++ []
def dkwX6_run_6 : List UInt8 := [181, 0, 64, 42, 28, 153, 0, 20, 42, 180, 0, 64, 27, 153, 0, 8, 16, 7, 167, 0, 4, 6]
abbrev dktX6_run_6 : List UInt8 := dkwX6_run_6 ++ dktX6_run_7
def dkwX6_run_5 : List UInt8 := [42, 89, 180, 0, 19, 4, 96, 181, 0, 19, 167, 255, 139, 42, 42, 180, 0, 19, 42, 180, 0, 40, 100]
abbrev dktX6_run_5 : List UInt8 := dkwX6_run_5 ++ dktX6_run_6
def dkwX6_run_4 : List UInt8 := [100, 6, 162, 0, 22, 42, 16, 10, 42, 180, 0, 57, 104, 42, 182, 0, 36, 96, 16, 48, 100, 181, 0, 57]
abbrev dktX6_run_4 : List UInt8 := dkwX6_run_4 ++ dktX6_run_5
def dkwX6_run_3 : List UInt8 := [42, 180, 0, 60, 16, 8, 121, 42, 182, 0, 36, 133, 129, 181, 0, 60, 42, 180, 0, 19, 42, 180, 0, 40]
abbrev dktX6_run_3 : List UInt8 := dkwX6_run_3 ++ dktX6_run_4
def dkwX6_run_2 : List UInt8 := [160, 0, 7, 4, 167, 0, 4, 3, 61, 42, 180, 0, 19, 42, 180, 0, 40, 100, 16, 7, 162, 0, 20, 42]
abbrev dktX6_run_2 : List UInt8 := dkwX6_run_2 ++ dktX6_run_3
def dkwX6_run_1 : List UInt8 := [42, 182, 0, 36, 182, 0, 50, 153, 0, 101, 28, 153, 0, 19, 42, 42, 182, 0, 36, 182, 0, 46, 27]
abbrev dktX6_run_1 : List UInt8 := dkwX6_run_1 ++ dktX6_run_2
def dkwX6_run_0 : List UInt8 := [4, 61, 42, 3, 181, 0, 57, 42, 9, 181, 0, 60, 42, 42, 182, 0, 36, 182, 0, 46, 154, 0, 14, 42]
abbrev dktX6_run_0 : List UInt8 := dkwX6_run_0 ++ dktX6_run_1
theorem dksX6_run_0 : cX6_run.data.toList.drop 0 = dktX6_run_0 := by decide +kernel
theorem dksX6_run_1 : cX6_run.data.toList.drop 24 = dktX6_run_1 := dk_seg dksX6_run_0 24 rfl rfl
theorem dksX6_run_2 : cX6_run.data.toList.drop 47 = dktX6_run_2 := dk_seg dksX6_run_1 23 rfl rfl
theorem dksX6_run_3 : cX6_run.data.toList.drop 71 = dktX6_run_3 := dk_seg dksX6_run_2 24 rfl rfl
theorem dksX6_run_4 : cX6_run.data.toList.drop 95 = dktX6_run_4 := dk_seg dksX6_run_3 24 rfl rfl
theorem dksX6_run_5 : cX6_run.data.toList.drop 119 = dktX6_run_5 := dk_seg dksX6_run_4 24 rfl rfl
theorem dksX6_run_6 : cX6_run.data.toList.drop 142 = dktX6_run_6 := dk_seg dksX6_run_5 23 rfl rfl
theorem dksX6_run_7 : cX6_run.data.toList.drop 164 = dktX6_run_7 := dk_seg dksX6_run_6 22 rfl rfl
theorem dX6_run_0 : decode cX6_run 0 = .ok (.iconst 1, 1) := dk_4 (dk_at dksX6_run_0 0 rfl rfl)
theorem dX6_run_1 : decode cX6_run 1 = .ok (.istore_n 2, 1) := dk_61 (dk_at dksX6_run_0 1 rfl rfl)
theorem dX6_run_2 : decode cX6_run 2 = .ok (.aload_n 0, 1) := dk_42 (dk_at dksX6_run_0 2 rfl rfl)
theorem dX6_run_3 : decode cX6_run 3 = .ok (.iconst 0, 1) := dk_3 (dk_at dksX6_run_0 3 rfl rfl)
theorem dX6_run_4 : decode cX6_run 4 = .ok (.putfield 57, 3) := dk_181 0 57 (dk_at dksX6_run_0 4 rfl rfl)
theorem dX6_run_7 : decode cX6_run 7 = .ok (.aload_n 0, 1) := dk_42 (dk_at dksX6_run_0 7 rfl rfl)
theorem dX6_run_8 : decode cX6_run 8 = .ok (.lconst 0, 1) := dk_9 (dk_at dksX6_run_0 8 rfl rfl)
theorem dX6_run_9 : decode cX6_run 9 = .ok (.putfield 60, 3) := dk_181 0 60 (dk_at dksX6_run_0 9 rfl rfl)
theorem dX6_run_12 : decode cX6_run 12 = .ok (.aload_n 0, 1) := dk_42 (dk_at dksX6_run_0 12 rfl rfl)
theorem dX6_run_13 : decode cX6_run 13 = .ok (.aload_n 0, 1) := dk_42 (dk_at dksX6_run_0 13 rfl rfl)
theorem dX6_run_14 : decode cX6_run 14 = .ok (.invokevirtual 36, 3) := dk_182 0 36 (dk_at dksX6_run_0 14 rfl rfl)
theorem dX6_run_17 : decode cX6_run 17 = .ok (.invokevirtual 46, 3) := dk_182 0 46 (dk_at dksX6_run_0 17 rfl rfl)
theorem dX6_run_20 : decode cX6_run 20 = .ok (.ifCond .ne 14, 3) := dk_154 0 14 (dk_at dksX6_run_0 20 rfl rfl)
theorem dX6_run_23 : decode cX6_run 23 = .ok (.aload_n 0, 1) := dk_42 (dk_at dksX6_run_0 23 rfl rfl)
theorem dX6_run_24 : decode cX6_run 24 = .ok (.aload_n 0, 1) := dk_42 (dk_at dksX6_run_1 0 rfl rfl)
theorem dX6_run_25 : decode cX6_run 25 = .ok (.invokevirtual 36, 3) := dk_182 0 36 (dk_at dksX6_run_1 1 rfl rfl)
theorem dX6_run_28 : decode cX6_run 28 = .ok (.invokevirtual 50, 3) := dk_182 0 50 (dk_at dksX6_run_1 4 rfl rfl)
theorem dX6_run_31 : decode cX6_run 31 = .ok (.ifCond .eq 101, 3) := dk_153 0 101 (dk_at dksX6_run_1 7 rfl rfl)
theorem dX6_run_34 : decode cX6_run 34 = .ok (.iload_n 2, 1) := dk_28 (dk_at dksX6_run_1 10 rfl rfl)
theorem dX6_run_35 : decode cX6_run 35 = .ok (.ifCond .eq 19, 3) := dk_153 0 19 (dk_at dksX6_run_1 11 rfl rfl)
theorem dX6_run_38 : decode cX6_run 38 = .ok (.aload_n 0, 1) := dk_42 (dk_at dksX6_run_1 14 rfl rfl)
theorem dX6_run_39 : decode cX6_run 39 = .ok (.aload_n 0, 1) := dk_42 (dk_at dksX6_run_1 15 rfl rfl)
theorem dX6_run_40 : decode cX6_run 40 = .ok (.invokevirtual 36, 3) := dk_182 0 36 (dk_at dksX6_run_1 16 rfl rfl)
theorem dX6_run_43 : decode cX6_run 43 = .ok (.invokevirtual 46, 3) := dk_182 0 46 (dk_at dksX6_run_1 19 rfl rfl)
theorem dX6_run_46 : decode cX6_run 46 = .ok (.iload_n 1, 1) := dk_27 (dk_at dksX6_run_1 22 rfl rfl)
theorem dX6_run_47 : decode cX6_run 47 = .ok (.if_icmp .ne 7, 3) := dk_160 0 7 (dk_at dksX6_run_2 0 rfl rfl)
theorem dX6_run_50 : decode cX6_run 50 = .ok (.iconst 1, 1) := dk_4 (dk_at dksX6_run_2 3 rfl rfl)
theorem dX6_run_51 : decode cX6_run 51 = .ok (.goto 4, 3) := dk_167 0 4 (dk_at dksX6_run_2 4 rfl rfl)
theorem dX6_run_54 : decode cX6_run 54 = .ok (.iconst 0, 1) := dk_3 (dk_at dksX6_run_2 7 rfl rfl)
theorem dX6_run_55 : decode cX6_run 55 = .ok (.istore_n 2, 1) := dk_61 (dk_at dksX6_run_2 8 rfl rfl)
theorem dX6_run_56 : decode cX6_run 56 = .ok (.aload_n 0, 1) := dk_42 (dk_at dksX6_run_2 9 rfl rfl)
theorem dX6_run_57 : decode cX6_run 57 = .ok (.getfield 19, 3) := dk_180 0 19 (dk_at dksX6_run_2 10 rfl rfl)
theorem dX6_run_60 : decode cX6_run 60 = .ok (.aload_n 0, 1) := dk_42 (dk_at dksX6_run_2 13 rfl rfl)
theorem dX6_run_61 : decode cX6_run 61 = .ok (.getfield 40, 3) := dk_180 0 40 (dk_at dksX6_run_2 14 rfl rfl)
theorem dX6_run_64 : decode cX6_run 64 = .ok (.isub, 1) := dk_100 (dk_at dksX6_run_2 17 rfl rfl)
theorem dX6_run_65 : decode cX6_run 65 = .ok (.bipush 7, 2) := dk_16 7 (dk_at dksX6_run_2 18 rfl rfl)
theorem dX6_run_67 : decode cX6_run 67 = .ok (.if_icmp .ge 20, 3) := dk_162 0 20 (dk_at dksX6_run_2 20 rfl rfl)
theorem dX6_run_70 : decode cX6_run 70 = .ok (.aload_n 0, 1) := dk_42 (dk_at dksX6_run_2 23 rfl rfl)
theorem dX6_run_71 : decode cX6_run 71 = .ok (.aload_n 0, 1) := dk_42 (dk_at dksX6_run_3 0 rfl rfl)
theorem dX6_run_72 : decode cX6_run 72 = .ok (.getfield 60, 3) := dk_180 0 60 (dk_at dksX6_run_3 1 rfl rfl)
theorem dX6_run_75 : decode cX6_run 75 = .ok (.bipush 8, 2) := dk_16 8 (dk_at dksX6_run_3 4 rfl rfl)
theorem dX6_run_77 : decode cX6_run 77 = .ok (.lshl, 1) := dk_121 (dk_at dksX6_run_3 6 rfl rfl)
theorem dX6_run_78 : decode cX6_run 78 = .ok (.aload_n 0, 1) := dk_42 (dk_at dksX6_run_3 7 rfl rfl)
theorem dX6_run_79 : decode cX6_run 79 = .ok (.invokevirtual 36, 3) := dk_182 0 36 (dk_at dksX6_run_3 8 rfl rfl)
theorem dX6_run_82 : decode cX6_run 82 = .ok (.i2l, 1) := dk_133 (dk_at dksX6_run_3 11 rfl rfl)
theorem dX6_run_83 : decode cX6_run 83 = .ok (.lor, 1) := dk_129 (dk_at dksX6_run_3 12 rfl rfl)
theorem dX6_run_84 : decode cX6_run 84 = .ok (.putfield 60, 3) := dk_181 0 60 (dk_at dksX6_run_3 13 rfl rfl)
theorem dX6_run_87 : decode cX6_run 87 = .ok (.aload_n 0, 1) := dk_42 (dk_at dksX6_run_3 16 rfl rfl)
theorem dX6_run_88 : decode cX6_run 88 = .ok (.getfield 19, 3) := dk_180 0 19 (dk_at dksX6_run_3 17 rfl rfl)
theorem dX6_run_91 : decode cX6_run 91 = .ok (.aload_n 0, 1) := dk_42 (dk_at dksX6_run_3 20 rfl rfl)
theorem dX6_run_92 : decode cX6_run 92 = .ok (.getfield 40, 3) := dk_180 0 40 (dk_at dksX6_run_3 21 rfl rfl)
theorem dX6_run_95 : decode cX6_run 95 = .ok (.isub, 1) := dk_100 (dk_at dksX6_run_4 0 rfl rfl)
theorem dX6_run_96 : decode cX6_run 96 = .ok (.iconst 3, 1) := dk_6 (dk_at dksX6_run_4 1 rfl rfl)
theorem dX6_run_97 : decode cX6_run 97 = .ok (.if_icmp .ge 22, 3) := dk_162 0 22 (dk_at dksX6_run_4 2 rfl rfl)
theorem dX6_run_100 : decode cX6_run 100 = .ok (.aload_n 0, 1) := dk_42 (dk_at dksX6_run_4 5 rfl rfl)
theorem dX6_run_101 : decode cX6_run 101 = .ok (.bipush 10, 2) := dk_16 10 (dk_at dksX6_run_4 6 rfl rfl)
theorem dX6_run_103 : decode cX6_run 103 = .ok (.aload_n 0, 1) := dk_42 (dk_at dksX6_run_4 8 rfl rfl)
theorem dX6_run_104 : decode cX6_run 104 = .ok (.getfield 57, 3) := dk_180 0 57 (dk_at dksX6_run_4 9 rfl rfl)
theorem dX6_run_107 : decode cX6_run 107 = .ok (.imul, 1) := dk_104 (dk_at dksX6_run_4 12 rfl rfl)
theorem dX6_run_108 : decode cX6_run 108 = .ok (.aload_n 0, 1) := dk_42 (dk_at dksX6_run_4 13 rfl rfl)
theorem dX6_run_109 : decode cX6_run 109 = .ok (.invokevirtual 36, 3) := dk_182 0 36 (dk_at dksX6_run_4 14 rfl rfl)
theorem dX6_run_112 : decode cX6_run 112 = .ok (.iadd, 1) := dk_96 (dk_at dksX6_run_4 17 rfl rfl)
theorem dX6_run_113 : decode cX6_run 113 = .ok (.bipush 48, 2) := dk_16 48 (dk_at dksX6_run_4 18 rfl rfl)
theorem dX6_run_115 : decode cX6_run 115 = .ok (.isub, 1) := dk_100 (dk_at dksX6_run_4 20 rfl rfl)
theorem dX6_run_116 : decode cX6_run 116 = .ok (.putfield 57, 3) := dk_181 0 57 (dk_at dksX6_run_4 21 rfl rfl)
theorem dX6_run_119 : decode cX6_run 119 = .ok (.aload_n 0, 1) := dk_42 (dk_at dksX6_run_5 0 rfl rfl)
theorem dX6_run_120 : decode cX6_run 120 = .ok (.dup, 1) := dk_89 (dk_at dksX6_run_5 1 rfl rfl)
theorem dX6_run_121 : decode cX6_run 121 = .ok (.getfield 19, 3) := dk_180 0 19 (dk_at dksX6_run_5 2 rfl rfl)
theorem dX6_run_124 : decode cX6_run 124 = .ok (.iconst 1, 1) := dk_4 (dk_at dksX6_run_5 5 rfl rfl)
theorem dX6_run_125 : decode cX6_run 125 = .ok (.iadd, 1) := dk_96 (dk_at dksX6_run_5 6 rfl rfl)
theorem dX6_run_126 : decode cX6_run 126 = .ok (.putfield 19, 3) := dk_181 0 19 (dk_at dksX6_run_5 7 rfl rfl)
theorem dX6_run_129 : decode cX6_run 129 = .ok (.goto (-117), 3) := dk_167 255 139 (dk_at dksX6_run_5 10 rfl rfl)
theorem dX6_run_132 : decode cX6_run 132 = .ok (.aload_n 0, 1) := dk_42 (dk_at dksX6_run_5 13 rfl rfl)
theorem dX6_run_133 : decode cX6_run 133 = .ok (.aload_n 0, 1) := dk_42 (dk_at dksX6_run_5 14 rfl rfl)
theorem dX6_run_134 : decode cX6_run 134 = .ok (.getfield 19, 3) := dk_180 0 19 (dk_at dksX6_run_5 15 rfl rfl)
theorem dX6_run_137 : decode cX6_run 137 = .ok (.aload_n 0, 1) := dk_42 (dk_at dksX6_run_5 18 rfl rfl)
theorem dX6_run_138 : decode cX6_run 138 = .ok (.getfield 40, 3) := dk_180 0 40 (dk_at dksX6_run_5 19 rfl rfl)
theorem dX6_run_141 : decode cX6_run 141 = .ok (.isub, 1) := dk_100 (dk_at dksX6_run_5 22 rfl rfl)
theorem dX6_run_142 : decode cX6_run 142 = .ok (.putfield 64, 3) := dk_181 0 64 (dk_at dksX6_run_6 0 rfl rfl)
theorem dX6_run_145 : decode cX6_run 145 = .ok (.aload_n 0, 1) := dk_42 (dk_at dksX6_run_6 3 rfl rfl)
theorem dX6_run_146 : decode cX6_run 146 = .ok (.iload_n 2, 1) := dk_28 (dk_at dksX6_run_6 4 rfl rfl)
theorem dX6_run_147 : decode cX6_run 147 = .ok (.ifCond .eq 20, 3) := dk_153 0 20 (dk_at dksX6_run_6 5 rfl rfl)
theorem dX6_run_150 : decode cX6_run 150 = .ok (.aload_n 0, 1) := dk_42 (dk_at dksX6_run_6 8 rfl rfl)
theorem dX6_run_151 : decode cX6_run 151 = .ok (.getfield 64, 3) := dk_180 0 64 (dk_at dksX6_run_6 9 rfl rfl)
theorem dX6_run_154 : decode cX6_run 154 = .ok (.iload_n 1, 1) := dk_27 (dk_at dksX6_run_6 12 rfl rfl)
theorem dX6_run_155 : decode cX6_run 155 = .ok (.ifCond .eq 8, 3) := dk_153 0 8 (dk_at dksX6_run_6 13 rfl rfl)
theorem dX6_run_158 : decode cX6_run 158 = .ok (.bipush 7, 2) := dk_16 7 (dk_at dksX6_run_6 16 rfl rfl)
theorem dX6_run_160 : decode cX6_run 160 = .ok (.goto 4, 3) := dk_167 0 4 (dk_at dksX6_run_6 18 rfl rfl)
theorem dX6_run_163 : decode cX6_run 163 = .ok (.iconst 3, 1) := dk_6 (dk_at dksX6_run_6 21 rfl rfl)
theorem dX6_run_164 : decode cX6_run 164 = .ok (.if_icmp .le 7, 3) := dk_164 0 7 (dk_at dksX6_run_7 0 rfl rfl)
theorem dX6_run_167 : decode cX6_run 167 = .ok (.iconst 4, 1) := dk_7 (dk_at dksX6_run_7 3 rfl rfl)
theorem dX6_run_168 : decode cX6_run 168 = .ok (.goto 12, 3) := dk_167 0 12 (dk_at dksX6_run_7 4 rfl rfl)
theorem dX6_run_171 : decode cX6_run 171 = .ok (.iload_n 1, 1) := dk_27 (dk_at dksX6_run_7 7 rfl rfl)
theorem dX6_run_172 : decode cX6_run 172 = .ok (.ifCond .eq 7, 3) := dk_153 0 7 (dk_at dksX6_run_7 8 rfl rfl)
theorem dX6_run_175 : decode cX6_run 175 = .ok (.iconst 1, 1) := dk_4 (dk_at dksX6_run_7 11 rfl rfl)
theorem dX6_run_176 : decode cX6_run 176 = .ok (.goto 4, 3) := dk_167 0 4 (dk_at dksX6_run_7 12 rfl rfl)
theorem dX6_run_179 : decode cX6_run 179 = .ok (.iconst 2, 1) := dk_5 (dk_at dksX6_run_7 15 rfl rfl)
theorem dX6_run_180 : decode cX6_run 180 = .ok (.putfield 43, 3) := dk_181 0 43 (dk_at dksX6_run_7 16 rfl rfl)
theorem dX6_run_183 : decode cX6_run 183 = .ok (.return_, 1) := dk_177 (dk_at dksX6_run_7 19 rfl rfl)
abbrev cX6_find : ByteArray := prog_18_method_10_code
def yX6_find : MethodName := ⟨RX6, "find", "([Ljava/lang/String;)I"⟩
def dkwX6_find_1 : List UInt8 := [167, 255, 235, 2, 172]
abbrev dktX6_find_1 : List UInt8 := dkwX6_find_1 ++ []
def dkwX6_find_0 : List UInt8 := [3, 61, 28, 43, 190, 162, 0, 21, 42, 43, 28, 50, 182, 0, 76, 153, 0, 5, 28, 172, 132, 2, 1]
abbrev dktX6_find_0 : List UInt8 := dkwX6_find_0 ++ dktX6_find_1
theorem dksX6_find_0 : cX6_find.data.toList.drop 0 = dktX6_find_0 := by decide +kernel
theorem dksX6_find_1 : cX6_find.data.toList.drop 23 = dktX6_find_1 := dk_seg dksX6_find_0 23 rfl rfl
theorem dX6_find_0 : decode cX6_find 0 = .ok (.iconst 0, 1) := dk_3 (dk_at dksX6_find_0 0 rfl rfl)
theorem dX6_find_1 : decode cX6_find 1 = .ok (.istore_n 2, 1) := dk_61 (dk_at dksX6_find_0 1 rfl rfl)
theorem dX6_find_2 : decode cX6_find 2 = .ok (.iload_n 2, 1) := dk_28 (dk_at dksX6_find_0 2 rfl rfl)
theorem dX6_find_3 : decode cX6_find 3 = .ok (.aload_n 1, 1) := dk_43 (dk_at dksX6_find_0 3 rfl rfl)
theorem dX6_find_4 : decode cX6_find 4 = .ok (.arraylength, 1) := dk_190 (dk_at dksX6_find_0 4 rfl rfl)
theorem dX6_find_5 : decode cX6_find 5 = .ok (.if_icmp .ge 21, 3) := dk_162 0 21 (dk_at dksX6_find_0 5 rfl rfl)
theorem dX6_find_8 : decode cX6_find 8 = .ok (.aload_n 0, 1) := dk_42 (dk_at dksX6_find_0 8 rfl rfl)
theorem dX6_find_9 : decode cX6_find 9 = .ok (.aload_n 1, 1) := dk_43 (dk_at dksX6_find_0 9 rfl rfl)
theorem dX6_find_10 : decode cX6_find 10 = .ok (.iload_n 2, 1) := dk_28 (dk_at dksX6_find_0 10 rfl rfl)
theorem dX6_find_11 : decode cX6_find 11 = .ok (.aaload, 1) := dk_50 (dk_at dksX6_find_0 11 rfl rfl)
theorem dX6_find_12 : decode cX6_find 12 = .ok (.invokevirtual 76, 3) := dk_182 0 76 (dk_at dksX6_find_0 12 rfl rfl)
theorem dX6_find_15 : decode cX6_find 15 = .ok (.ifCond .eq 5, 3) := dk_153 0 5 (dk_at dksX6_find_0 15 rfl rfl)
theorem dX6_find_18 : decode cX6_find 18 = .ok (.iload_n 2, 1) := dk_28 (dk_at dksX6_find_0 18 rfl rfl)
theorem dX6_find_19 : decode cX6_find 19 = .ok (.ireturn, 1) := dk_172 (dk_at dksX6_find_0 19 rfl rfl)
theorem dX6_find_20 : decode cX6_find 20 = .ok (.iinc 2 1, 3) := dk_132 2 1 (dk_at dksX6_find_0 20 rfl rfl)
theorem dX6_find_23 : decode cX6_find 23 = .ok (.goto (-21), 3) := dk_167 255 235 (dk_at dksX6_find_1 0 rfl rfl)
theorem dX6_find_26 : decode cX6_find 26 = .ok (.iconst (-1), 1) := dk_2 (dk_at dksX6_find_1 3 rfl rfl)
theorem dX6_find_27 : decode cX6_find 27 = .ok (.ireturn, 1) := dk_172 (dk_at dksX6_find_1 4 rfl rfl)
abbrev cX6_is : ByteArray := prog_18_method_8_code
def yX6_is : MethodName := ⟨RX6, "is", "(Ljava/lang/String;)Z"⟩
def dkwX6_is_2 : List UInt8 := [182, 0, 72, 159, 0, 5, 3, 172, 132, 2, 1, 167, 255, 221, 4, 172]
abbrev dktX6_is_2 : List UInt8 := dkwX6_is_2 ++ []
def dkwX6_is_1 : List UInt8 := [42, 180, 0, 64, 162, 0, 33, 42, 180, 0, 3, 180, 0, 28, 42, 180, 0, 40, 28, 96, 51, 43, 28]
abbrev dktX6_is_1 : List UInt8 := dkwX6_is_1 ++ dktX6_is_2
def dkwX6_is_0 : List UInt8 := [42, 180, 0, 43, 4, 160, 0, 14, 42, 180, 0, 64, 43, 182, 0, 67, 159, 0, 5, 3, 172, 3, 61, 28]
abbrev dktX6_is_0 : List UInt8 := dkwX6_is_0 ++ dktX6_is_1
theorem dksX6_is_0 : cX6_is.data.toList.drop 0 = dktX6_is_0 := by decide +kernel
theorem dksX6_is_1 : cX6_is.data.toList.drop 24 = dktX6_is_1 := dk_seg dksX6_is_0 24 rfl rfl
theorem dksX6_is_2 : cX6_is.data.toList.drop 47 = dktX6_is_2 := dk_seg dksX6_is_1 23 rfl rfl
theorem dX6_is_0 : decode cX6_is 0 = .ok (.aload_n 0, 1) := dk_42 (dk_at dksX6_is_0 0 rfl rfl)
theorem dX6_is_1 : decode cX6_is 1 = .ok (.getfield 43, 3) := dk_180 0 43 (dk_at dksX6_is_0 1 rfl rfl)
theorem dX6_is_4 : decode cX6_is 4 = .ok (.iconst 1, 1) := dk_4 (dk_at dksX6_is_0 4 rfl rfl)
theorem dX6_is_5 : decode cX6_is 5 = .ok (.if_icmp .ne 14, 3) := dk_160 0 14 (dk_at dksX6_is_0 5 rfl rfl)
theorem dX6_is_8 : decode cX6_is 8 = .ok (.aload_n 0, 1) := dk_42 (dk_at dksX6_is_0 8 rfl rfl)
theorem dX6_is_9 : decode cX6_is 9 = .ok (.getfield 64, 3) := dk_180 0 64 (dk_at dksX6_is_0 9 rfl rfl)
theorem dX6_is_12 : decode cX6_is 12 = .ok (.aload_n 1, 1) := dk_43 (dk_at dksX6_is_0 12 rfl rfl)
theorem dX6_is_13 : decode cX6_is 13 = .ok (.invokevirtual 67, 3) := dk_182 0 67 (dk_at dksX6_is_0 13 rfl rfl)
theorem dX6_is_16 : decode cX6_is 16 = .ok (.if_icmp .eq 5, 3) := dk_159 0 5 (dk_at dksX6_is_0 16 rfl rfl)
theorem dX6_is_19 : decode cX6_is 19 = .ok (.iconst 0, 1) := dk_3 (dk_at dksX6_is_0 19 rfl rfl)
theorem dX6_is_20 : decode cX6_is 20 = .ok (.ireturn, 1) := dk_172 (dk_at dksX6_is_0 20 rfl rfl)
theorem dX6_is_21 : decode cX6_is 21 = .ok (.iconst 0, 1) := dk_3 (dk_at dksX6_is_0 21 rfl rfl)
theorem dX6_is_22 : decode cX6_is 22 = .ok (.istore_n 2, 1) := dk_61 (dk_at dksX6_is_0 22 rfl rfl)
theorem dX6_is_23 : decode cX6_is 23 = .ok (.iload_n 2, 1) := dk_28 (dk_at dksX6_is_0 23 rfl rfl)
theorem dX6_is_24 : decode cX6_is 24 = .ok (.aload_n 0, 1) := dk_42 (dk_at dksX6_is_1 0 rfl rfl)
theorem dX6_is_25 : decode cX6_is 25 = .ok (.getfield 64, 3) := dk_180 0 64 (dk_at dksX6_is_1 1 rfl rfl)
theorem dX6_is_28 : decode cX6_is 28 = .ok (.if_icmp .ge 33, 3) := dk_162 0 33 (dk_at dksX6_is_1 4 rfl rfl)
theorem dX6_is_31 : decode cX6_is 31 = .ok (.aload_n 0, 1) := dk_42 (dk_at dksX6_is_1 7 rfl rfl)
theorem dX6_is_32 : decode cX6_is 32 = .ok (.getfield 3, 3) := dk_180 0 3 (dk_at dksX6_is_1 8 rfl rfl)
theorem dX6_is_35 : decode cX6_is 35 = .ok (.getfield 28, 3) := dk_180 0 28 (dk_at dksX6_is_1 11 rfl rfl)
theorem dX6_is_38 : decode cX6_is 38 = .ok (.aload_n 0, 1) := dk_42 (dk_at dksX6_is_1 14 rfl rfl)
theorem dX6_is_39 : decode cX6_is 39 = .ok (.getfield 40, 3) := dk_180 0 40 (dk_at dksX6_is_1 15 rfl rfl)
theorem dX6_is_42 : decode cX6_is 42 = .ok (.iload_n 2, 1) := dk_28 (dk_at dksX6_is_1 18 rfl rfl)
theorem dX6_is_43 : decode cX6_is 43 = .ok (.iadd, 1) := dk_96 (dk_at dksX6_is_1 19 rfl rfl)
theorem dX6_is_44 : decode cX6_is 44 = .ok (.baload, 1) := dk_51 (dk_at dksX6_is_1 20 rfl rfl)
theorem dX6_is_45 : decode cX6_is 45 = .ok (.aload_n 1, 1) := dk_43 (dk_at dksX6_is_1 21 rfl rfl)
theorem dX6_is_46 : decode cX6_is 46 = .ok (.iload_n 2, 1) := dk_28 (dk_at dksX6_is_1 22 rfl rfl)
theorem dX6_is_47 : decode cX6_is 47 = .ok (.invokevirtual 72, 3) := dk_182 0 72 (dk_at dksX6_is_2 0 rfl rfl)
theorem dX6_is_50 : decode cX6_is 50 = .ok (.if_icmp .eq 5, 3) := dk_159 0 5 (dk_at dksX6_is_2 3 rfl rfl)
theorem dX6_is_53 : decode cX6_is 53 = .ok (.iconst 0, 1) := dk_3 (dk_at dksX6_is_2 6 rfl rfl)
theorem dX6_is_54 : decode cX6_is 54 = .ok (.ireturn, 1) := dk_172 (dk_at dksX6_is_2 7 rfl rfl)
theorem dX6_is_55 : decode cX6_is 55 = .ok (.iinc 2 1, 3) := dk_132 2 1 (dk_at dksX6_is_2 8 rfl rfl)
theorem dX6_is_58 : decode cX6_is 58 = .ok (.goto (-35), 3) := dk_167 255 221 (dk_at dksX6_is_2 11 rfl rfl)
theorem dX6_is_61 : decode cX6_is 61 = .ok (.iconst 1, 1) := dk_4 (dk_at dksX6_is_2 14 rfl rfl)
theorem dX6_is_62 : decode cX6_is 62 = .ok (.ireturn, 1) := dk_172 (dk_at dksX6_is_2 15 rfl rfl)
abbrev cX6_must : ByteArray := prog_18_method_13_code
def yX6_must : MethodName := ⟨RX6, "must", "(ZI)V"⟩
def dkwX6_must_0 : List UInt8 := [27, 154, 0, 9, 42, 28, 182, 0, 103, 191, 177]
abbrev dktX6_must_0 : List UInt8 := dkwX6_must_0 ++ []
theorem dksX6_must_0 : cX6_must.data.toList.drop 0 = dktX6_must_0 := by decide +kernel
theorem dX6_must_0 : decode cX6_must 0 = .ok (.iload_n 1, 1) := dk_27 (dk_at dksX6_must_0 0 rfl rfl)
theorem dX6_must_1 : decode cX6_must 1 = .ok (.ifCond .ne 9, 3) := dk_154 0 9 (dk_at dksX6_must_0 1 rfl rfl)
theorem dX6_must_4 : decode cX6_must 4 = .ok (.aload_n 0, 1) := dk_42 (dk_at dksX6_must_0 4 rfl rfl)
theorem dX6_must_5 : decode cX6_must 5 = .ok (.iload_n 2, 1) := dk_28 (dk_at dksX6_must_0 5 rfl rfl)
theorem dX6_must_6 : decode cX6_must 6 = .ok (.invokevirtual 103, 3) := dk_182 0 103 (dk_at dksX6_must_0 6 rfl rfl)
theorem dX6_must_9 : decode cX6_must 9 = .ok (.athrow, 1) := dk_191 (dk_at dksX6_must_0 9 rfl rfl)
theorem dX6_must_10 : decode cX6_must 10 = .ok (.return_, 1) := dk_177 (dk_at dksX6_must_0 10 rfl rfl)
abbrev cX6_wrong : ByteArray := prog_18_method_12_code
def yX6_wrong : MethodName := ⟨RX6, "wrong", "(I)LStatueRent$Fault;"⟩
def dkwX6_wrong_1 : List UInt8 := [181, 0, 100, 42, 180, 0, 3, 180, 0, 91, 176]
abbrev dktX6_wrong_1 : List UInt8 := dkwX6_wrong_1 ++ []
def dkwX6_wrong_0 : List UInt8 := [42, 180, 0, 3, 180, 0, 91, 27, 181, 0, 95, 42, 180, 0, 3, 180, 0, 91, 42, 180, 0, 40]
abbrev dktX6_wrong_0 : List UInt8 := dkwX6_wrong_0 ++ dktX6_wrong_1
theorem dksX6_wrong_0 : cX6_wrong.data.toList.drop 0 = dktX6_wrong_0 := by decide +kernel
theorem dksX6_wrong_1 : cX6_wrong.data.toList.drop 22 = dktX6_wrong_1 := dk_seg dksX6_wrong_0 22 rfl rfl
theorem dX6_wrong_0 : decode cX6_wrong 0 = .ok (.aload_n 0, 1) := dk_42 (dk_at dksX6_wrong_0 0 rfl rfl)
theorem dX6_wrong_1 : decode cX6_wrong 1 = .ok (.getfield 3, 3) := dk_180 0 3 (dk_at dksX6_wrong_0 1 rfl rfl)
theorem dX6_wrong_4 : decode cX6_wrong 4 = .ok (.getfield 91, 3) := dk_180 0 91 (dk_at dksX6_wrong_0 4 rfl rfl)
theorem dX6_wrong_7 : decode cX6_wrong 7 = .ok (.iload_n 1, 1) := dk_27 (dk_at dksX6_wrong_0 7 rfl rfl)
theorem dX6_wrong_8 : decode cX6_wrong 8 = .ok (.putfield 95, 3) := dk_181 0 95 (dk_at dksX6_wrong_0 8 rfl rfl)
theorem dX6_wrong_11 : decode cX6_wrong 11 = .ok (.aload_n 0, 1) := dk_42 (dk_at dksX6_wrong_0 11 rfl rfl)
theorem dX6_wrong_12 : decode cX6_wrong 12 = .ok (.getfield 3, 3) := dk_180 0 3 (dk_at dksX6_wrong_0 12 rfl rfl)
theorem dX6_wrong_15 : decode cX6_wrong 15 = .ok (.getfield 91, 3) := dk_180 0 91 (dk_at dksX6_wrong_0 15 rfl rfl)
theorem dX6_wrong_18 : decode cX6_wrong 18 = .ok (.aload_n 0, 1) := dk_42 (dk_at dksX6_wrong_0 18 rfl rfl)
theorem dX6_wrong_19 : decode cX6_wrong 19 = .ok (.getfield 40, 3) := dk_180 0 40 (dk_at dksX6_wrong_0 19 rfl rfl)
theorem dX6_wrong_22 : decode cX6_wrong 22 = .ok (.putfield 100, 3) := dk_181 0 100 (dk_at dksX6_wrong_1 0 rfl rfl)
theorem dX6_wrong_25 : decode cX6_wrong 25 = .ok (.aload_n 0, 1) := dk_42 (dk_at dksX6_wrong_1 3 rfl rfl)
theorem dX6_wrong_26 : decode cX6_wrong 26 = .ok (.getfield 3, 3) := dk_180 0 3 (dk_at dksX6_wrong_1 4 rfl rfl)
theorem dX6_wrong_29 : decode cX6_wrong 29 = .ok (.getfield 91, 3) := dk_180 0 91 (dk_at dksX6_wrong_1 7 rfl rfl)
theorem dX6_wrong_32 : decode cX6_wrong 32 = .ok (.areturn, 1) := dk_176 (dk_at dksX6_wrong_1 10 rfl rfl)
abbrev cX6_isName : ByteArray := prog_18_method_11_code
def yX6_isName : MethodName := ⟨RX6, "isName", "()Z"⟩
def dkwX6_isName_1 : List UInt8 := [42, 180, 0, 3, 180, 0, 88, 182, 0, 84, 2, 160, 0, 7, 4, 167, 0, 4, 3, 172]
abbrev dktX6_isName_1 : List UInt8 := dkwX6_isName_1 ++ []
def dkwX6_isName_0 : List UInt8 := [42, 180, 0, 43, 4, 160, 0, 37, 42, 42, 180, 0, 3, 180, 0, 80, 182, 0, 84, 2, 160, 0, 22, 42]
abbrev dktX6_isName_0 : List UInt8 := dkwX6_isName_0 ++ dktX6_isName_1
theorem dksX6_isName_0 : cX6_isName.data.toList.drop 0 = dktX6_isName_0 := by decide +kernel
theorem dksX6_isName_1 : cX6_isName.data.toList.drop 24 = dktX6_isName_1 := dk_seg dksX6_isName_0 24 rfl rfl
theorem dX6_isName_0 : decode cX6_isName 0 = .ok (.aload_n 0, 1) := dk_42 (dk_at dksX6_isName_0 0 rfl rfl)
theorem dX6_isName_1 : decode cX6_isName 1 = .ok (.getfield 43, 3) := dk_180 0 43 (dk_at dksX6_isName_0 1 rfl rfl)
theorem dX6_isName_4 : decode cX6_isName 4 = .ok (.iconst 1, 1) := dk_4 (dk_at dksX6_isName_0 4 rfl rfl)
theorem dX6_isName_5 : decode cX6_isName 5 = .ok (.if_icmp .ne 37, 3) := dk_160 0 37 (dk_at dksX6_isName_0 5 rfl rfl)
theorem dX6_isName_8 : decode cX6_isName 8 = .ok (.aload_n 0, 1) := dk_42 (dk_at dksX6_isName_0 8 rfl rfl)
theorem dX6_isName_9 : decode cX6_isName 9 = .ok (.aload_n 0, 1) := dk_42 (dk_at dksX6_isName_0 9 rfl rfl)
theorem dX6_isName_10 : decode cX6_isName 10 = .ok (.getfield 3, 3) := dk_180 0 3 (dk_at dksX6_isName_0 10 rfl rfl)
theorem dX6_isName_13 : decode cX6_isName 13 = .ok (.getfield 80, 3) := dk_180 0 80 (dk_at dksX6_isName_0 13 rfl rfl)
theorem dX6_isName_16 : decode cX6_isName 16 = .ok (.invokevirtual 84, 3) := dk_182 0 84 (dk_at dksX6_isName_0 16 rfl rfl)
theorem dX6_isName_19 : decode cX6_isName 19 = .ok (.iconst (-1), 1) := dk_2 (dk_at dksX6_isName_0 19 rfl rfl)
theorem dX6_isName_20 : decode cX6_isName 20 = .ok (.if_icmp .ne 22, 3) := dk_160 0 22 (dk_at dksX6_isName_0 20 rfl rfl)
theorem dX6_isName_23 : decode cX6_isName 23 = .ok (.aload_n 0, 1) := dk_42 (dk_at dksX6_isName_0 23 rfl rfl)
theorem dX6_isName_24 : decode cX6_isName 24 = .ok (.aload_n 0, 1) := dk_42 (dk_at dksX6_isName_1 0 rfl rfl)
theorem dX6_isName_25 : decode cX6_isName 25 = .ok (.getfield 3, 3) := dk_180 0 3 (dk_at dksX6_isName_1 1 rfl rfl)
theorem dX6_isName_28 : decode cX6_isName 28 = .ok (.getfield 88, 3) := dk_180 0 88 (dk_at dksX6_isName_1 4 rfl rfl)
theorem dX6_isName_31 : decode cX6_isName 31 = .ok (.invokevirtual 84, 3) := dk_182 0 84 (dk_at dksX6_isName_1 7 rfl rfl)
theorem dX6_isName_34 : decode cX6_isName 34 = .ok (.iconst (-1), 1) := dk_2 (dk_at dksX6_isName_1 10 rfl rfl)
theorem dX6_isName_35 : decode cX6_isName 35 = .ok (.if_icmp .ne 7, 3) := dk_160 0 7 (dk_at dksX6_isName_1 11 rfl rfl)
theorem dX6_isName_38 : decode cX6_isName 38 = .ok (.iconst 1, 1) := dk_4 (dk_at dksX6_isName_1 14 rfl rfl)
theorem dX6_isName_39 : decode cX6_isName 39 = .ok (.goto 4, 3) := dk_167 0 4 (dk_at dksX6_isName_1 15 rfl rfl)
theorem dX6_isName_42 : decode cX6_isName 42 = .ok (.iconst 0, 1) := dk_3 (dk_at dksX6_isName_1 18 rfl rfl)
theorem dX6_isName_43 : decode cX6_isName 43 = .ok (.ireturn, 1) := dk_172 (dk_at dksX6_isName_1 19 rfl rfl)
abbrev cX6_of : ByteArray := prog_18_method_16_code
def yX6_of : MethodName := ⟨RX6, "of", "([JI)I"⟩
def dkwX6_of_1 : List UInt8 := [167, 255, 235, 2, 172]
abbrev dktX6_of_1 : List UInt8 := dkwX6_of_1 ++ []
def dkwX6_of_0 : List UInt8 := [3, 62, 29, 28, 162, 0, 22, 43, 29, 47, 42, 180, 0, 60, 148, 154, 0, 5, 29, 172, 132, 3, 1]
abbrev dktX6_of_0 : List UInt8 := dkwX6_of_0 ++ dktX6_of_1
theorem dksX6_of_0 : cX6_of.data.toList.drop 0 = dktX6_of_0 := by decide +kernel
theorem dksX6_of_1 : cX6_of.data.toList.drop 23 = dktX6_of_1 := dk_seg dksX6_of_0 23 rfl rfl
theorem dX6_of_0 : decode cX6_of 0 = .ok (.iconst 0, 1) := dk_3 (dk_at dksX6_of_0 0 rfl rfl)
theorem dX6_of_1 : decode cX6_of 1 = .ok (.istore_n 3, 1) := dk_62 (dk_at dksX6_of_0 1 rfl rfl)
theorem dX6_of_2 : decode cX6_of 2 = .ok (.iload_n 3, 1) := dk_29 (dk_at dksX6_of_0 2 rfl rfl)
theorem dX6_of_3 : decode cX6_of 3 = .ok (.iload_n 2, 1) := dk_28 (dk_at dksX6_of_0 3 rfl rfl)
theorem dX6_of_4 : decode cX6_of 4 = .ok (.if_icmp .ge 22, 3) := dk_162 0 22 (dk_at dksX6_of_0 4 rfl rfl)
theorem dX6_of_7 : decode cX6_of 7 = .ok (.aload_n 1, 1) := dk_43 (dk_at dksX6_of_0 7 rfl rfl)
theorem dX6_of_8 : decode cX6_of 8 = .ok (.iload_n 3, 1) := dk_29 (dk_at dksX6_of_0 8 rfl rfl)
theorem dX6_of_9 : decode cX6_of 9 = .ok (.laload, 1) := dk_47 (dk_at dksX6_of_0 9 rfl rfl)
theorem dX6_of_10 : decode cX6_of 10 = .ok (.aload_n 0, 1) := dk_42 (dk_at dksX6_of_0 10 rfl rfl)
theorem dX6_of_11 : decode cX6_of 11 = .ok (.getfield 60, 3) := dk_180 0 60 (dk_at dksX6_of_0 11 rfl rfl)
theorem dX6_of_14 : decode cX6_of 14 = .ok (.lcmp, 1) := dk_148 (dk_at dksX6_of_0 14 rfl rfl)
theorem dX6_of_15 : decode cX6_of 15 = .ok (.ifCond .ne 5, 3) := dk_154 0 5 (dk_at dksX6_of_0 15 rfl rfl)
theorem dX6_of_18 : decode cX6_of 18 = .ok (.iload_n 3, 1) := dk_29 (dk_at dksX6_of_0 18 rfl rfl)
theorem dX6_of_19 : decode cX6_of 19 = .ok (.ireturn, 1) := dk_172 (dk_at dksX6_of_0 19 rfl rfl)
theorem dX6_of_20 : decode cX6_of 20 = .ok (.iinc 3 1, 3) := dk_132 3 1 (dk_at dksX6_of_0 20 rfl rfl)
theorem dX6_of_23 : decode cX6_of 23 = .ok (.goto (-21), 3) := dk_167 255 235 (dk_at dksX6_of_1 0 rfl rfl)
theorem dX6_of_26 : decode cX6_of 26 = .ok (.iconst (-1), 1) := dk_2 (dk_at dksX6_of_1 3 rfl rfl)
theorem dX6_of_27 : decode cX6_of 27 = .ok (.ireturn, 1) := dk_172 (dk_at dksX6_of_1 4 rfl rfl)
abbrev cX6_number : ByteArray := prog_18_method_15_code
def yX6_number : MethodName := ⟨RX6, "number", "(II)I"⟩
def dkwX6_number_1 : List UInt8 := [28, 184, 0, 32, 5, 182, 0, 109, 42, 180, 0, 57, 62, 42, 182, 0, 22, 29, 172]
abbrev dktX6_number_1 : List UInt8 := dkwX6_number_1 ++ []
def dkwX6_number_0 : List UInt8 := [42, 42, 180, 0, 43, 5, 160, 0, 7, 4, 167, 0, 4, 3, 4, 182, 0, 109, 42, 42, 180, 0, 57, 27]
abbrev dktX6_number_0 : List UInt8 := dkwX6_number_0 ++ dktX6_number_1
theorem dksX6_number_0 : cX6_number.data.toList.drop 0 = dktX6_number_0 := by decide +kernel
theorem dksX6_number_1 : cX6_number.data.toList.drop 24 = dktX6_number_1 := dk_seg dksX6_number_0 24 rfl rfl
theorem dX6_number_0 : decode cX6_number 0 = .ok (.aload_n 0, 1) := dk_42 (dk_at dksX6_number_0 0 rfl rfl)
theorem dX6_number_1 : decode cX6_number 1 = .ok (.aload_n 0, 1) := dk_42 (dk_at dksX6_number_0 1 rfl rfl)
theorem dX6_number_2 : decode cX6_number 2 = .ok (.getfield 43, 3) := dk_180 0 43 (dk_at dksX6_number_0 2 rfl rfl)
theorem dX6_number_5 : decode cX6_number 5 = .ok (.iconst 2, 1) := dk_5 (dk_at dksX6_number_0 5 rfl rfl)
theorem dX6_number_6 : decode cX6_number 6 = .ok (.if_icmp .ne 7, 3) := dk_160 0 7 (dk_at dksX6_number_0 6 rfl rfl)
theorem dX6_number_9 : decode cX6_number 9 = .ok (.iconst 1, 1) := dk_4 (dk_at dksX6_number_0 9 rfl rfl)
theorem dX6_number_10 : decode cX6_number 10 = .ok (.goto 4, 3) := dk_167 0 4 (dk_at dksX6_number_0 10 rfl rfl)
theorem dX6_number_13 : decode cX6_number 13 = .ok (.iconst 0, 1) := dk_3 (dk_at dksX6_number_0 13 rfl rfl)
theorem dX6_number_14 : decode cX6_number 14 = .ok (.iconst 1, 1) := dk_4 (dk_at dksX6_number_0 14 rfl rfl)
theorem dX6_number_15 : decode cX6_number 15 = .ok (.invokevirtual 109, 3) := dk_182 0 109 (dk_at dksX6_number_0 15 rfl rfl)
theorem dX6_number_18 : decode cX6_number 18 = .ok (.aload_n 0, 1) := dk_42 (dk_at dksX6_number_0 18 rfl rfl)
theorem dX6_number_19 : decode cX6_number 19 = .ok (.aload_n 0, 1) := dk_42 (dk_at dksX6_number_0 19 rfl rfl)
theorem dX6_number_20 : decode cX6_number 20 = .ok (.getfield 57, 3) := dk_180 0 57 (dk_at dksX6_number_0 20 rfl rfl)
theorem dX6_number_23 : decode cX6_number 23 = .ok (.iload_n 1, 1) := dk_27 (dk_at dksX6_number_0 23 rfl rfl)
theorem dX6_number_24 : decode cX6_number 24 = .ok (.iload_n 2, 1) := dk_28 (dk_at dksX6_number_1 0 rfl rfl)
theorem dX6_number_25 : decode cX6_number 25 = .ok (.invokestatic 32, 3) := dk_184 0 32 (dk_at dksX6_number_1 1 rfl rfl)
theorem dX6_number_28 : decode cX6_number 28 = .ok (.iconst 2, 1) := dk_5 (dk_at dksX6_number_1 4 rfl rfl)
theorem dX6_number_29 : decode cX6_number 29 = .ok (.invokevirtual 109, 3) := dk_182 0 109 (dk_at dksX6_number_1 5 rfl rfl)
theorem dX6_number_32 : decode cX6_number 32 = .ok (.aload_n 0, 1) := dk_42 (dk_at dksX6_number_1 8 rfl rfl)
theorem dX6_number_33 : decode cX6_number 33 = .ok (.getfield 57, 3) := dk_180 0 57 (dk_at dksX6_number_1 9 rfl rfl)
theorem dX6_number_36 : decode cX6_number 36 = .ok (.istore_n 3, 1) := dk_62 (dk_at dksX6_number_1 12 rfl rfl)
theorem dX6_number_37 : decode cX6_number 37 = .ok (.aload_n 0, 1) := dk_42 (dk_at dksX6_number_1 13 rfl rfl)
theorem dX6_number_38 : decode cX6_number 38 = .ok (.invokevirtual 22, 3) := dk_182 0 22 (dk_at dksX6_number_1 14 rfl rfl)
theorem dX6_number_41 : decode cX6_number 41 = .ok (.iload_n 3, 1) := dk_29 (dk_at dksX6_number_1 17 rfl rfl)
theorem dX6_number_42 : decode cX6_number 42 = .ok (.ireturn, 1) := dk_172 (dk_at dksX6_number_1 18 rfl rfl)
abbrev cX6_known : ByteArray := prog_18_method_18_code
def yX6_known : MethodName := ⟨RX6, "known", "([JI)I"⟩
def dkwX6_known_0 : List UInt8 := [42, 43, 28, 182, 0, 121, 62, 42, 182, 0, 22, 29, 172]
abbrev dktX6_known_0 : List UInt8 := dkwX6_known_0 ++ []
theorem dksX6_known_0 : cX6_known.data.toList.drop 0 = dktX6_known_0 := by decide +kernel
theorem dX6_known_0 : decode cX6_known 0 = .ok (.aload_n 0, 1) := dk_42 (dk_at dksX6_known_0 0 rfl rfl)
theorem dX6_known_1 : decode cX6_known 1 = .ok (.aload_n 1, 1) := dk_43 (dk_at dksX6_known_0 1 rfl rfl)
theorem dX6_known_2 : decode cX6_known 2 = .ok (.iload_n 2, 1) := dk_28 (dk_at dksX6_known_0 2 rfl rfl)
theorem dX6_known_3 : decode cX6_known 3 = .ok (.invokevirtual 121, 3) := dk_182 0 121 (dk_at dksX6_known_0 3 rfl rfl)
theorem dX6_known_6 : decode cX6_known 6 = .ok (.istore_n 3, 1) := dk_62 (dk_at dksX6_known_0 6 rfl rfl)
theorem dX6_known_7 : decode cX6_known 7 = .ok (.aload_n 0, 1) := dk_42 (dk_at dksX6_known_0 7 rfl rfl)
theorem dX6_known_8 : decode cX6_known 8 = .ok (.invokevirtual 22, 3) := dk_182 0 22 (dk_at dksX6_known_0 8 rfl rfl)
theorem dX6_known_11 : decode cX6_known 11 = .ok (.iload_n 3, 1) := dk_29 (dk_at dksX6_known_0 11 rfl rfl)
theorem dX6_known_12 : decode cX6_known 12 = .ok (.ireturn, 1) := dk_172 (dk_at dksX6_known_0 12 rfl rfl)
abbrev cX6_look : ByteArray := prog_18_method_17_code
def yX6_look : MethodName := ⟨RX6, "look", "([JI)I"⟩
def dkwX6_look_1 : List UInt8 := [167, 0, 4, 3, 6, 182, 0, 109, 29, 172]
abbrev dktX6_look_1 : List UInt8 := dkwX6_look_1 ++ []
def dkwX6_look_0 : List UInt8 := [42, 42, 182, 0, 113, 4, 182, 0, 109, 42, 43, 28, 182, 0, 117, 62, 42, 29, 2, 159, 0, 7, 4]
abbrev dktX6_look_0 : List UInt8 := dkwX6_look_0 ++ dktX6_look_1
theorem dksX6_look_0 : cX6_look.data.toList.drop 0 = dktX6_look_0 := by decide +kernel
theorem dksX6_look_1 : cX6_look.data.toList.drop 23 = dktX6_look_1 := dk_seg dksX6_look_0 23 rfl rfl
theorem dX6_look_0 : decode cX6_look 0 = .ok (.aload_n 0, 1) := dk_42 (dk_at dksX6_look_0 0 rfl rfl)
theorem dX6_look_1 : decode cX6_look 1 = .ok (.aload_n 0, 1) := dk_42 (dk_at dksX6_look_0 1 rfl rfl)
theorem dX6_look_2 : decode cX6_look 2 = .ok (.invokevirtual 113, 3) := dk_182 0 113 (dk_at dksX6_look_0 2 rfl rfl)
theorem dX6_look_5 : decode cX6_look 5 = .ok (.iconst 1, 1) := dk_4 (dk_at dksX6_look_0 5 rfl rfl)
theorem dX6_look_6 : decode cX6_look 6 = .ok (.invokevirtual 109, 3) := dk_182 0 109 (dk_at dksX6_look_0 6 rfl rfl)
theorem dX6_look_9 : decode cX6_look 9 = .ok (.aload_n 0, 1) := dk_42 (dk_at dksX6_look_0 9 rfl rfl)
theorem dX6_look_10 : decode cX6_look 10 = .ok (.aload_n 1, 1) := dk_43 (dk_at dksX6_look_0 10 rfl rfl)
theorem dX6_look_11 : decode cX6_look 11 = .ok (.iload_n 2, 1) := dk_28 (dk_at dksX6_look_0 11 rfl rfl)
theorem dX6_look_12 : decode cX6_look 12 = .ok (.invokevirtual 117, 3) := dk_182 0 117 (dk_at dksX6_look_0 12 rfl rfl)
theorem dX6_look_15 : decode cX6_look 15 = .ok (.istore_n 3, 1) := dk_62 (dk_at dksX6_look_0 15 rfl rfl)
theorem dX6_look_16 : decode cX6_look 16 = .ok (.aload_n 0, 1) := dk_42 (dk_at dksX6_look_0 16 rfl rfl)
theorem dX6_look_17 : decode cX6_look 17 = .ok (.iload_n 3, 1) := dk_29 (dk_at dksX6_look_0 17 rfl rfl)
theorem dX6_look_18 : decode cX6_look 18 = .ok (.iconst (-1), 1) := dk_2 (dk_at dksX6_look_0 18 rfl rfl)
theorem dX6_look_19 : decode cX6_look 19 = .ok (.if_icmp .eq 7, 3) := dk_159 0 7 (dk_at dksX6_look_0 19 rfl rfl)
theorem dX6_look_22 : decode cX6_look 22 = .ok (.iconst 1, 1) := dk_4 (dk_at dksX6_look_0 22 rfl rfl)
theorem dX6_look_23 : decode cX6_look 23 = .ok (.goto 4, 3) := dk_167 0 4 (dk_at dksX6_look_1 0 rfl rfl)
theorem dX6_look_26 : decode cX6_look 26 = .ok (.iconst 0, 1) := dk_3 (dk_at dksX6_look_1 3 rfl rfl)
theorem dX6_look_27 : decode cX6_look 27 = .ok (.iconst 3, 1) := dk_6 (dk_at dksX6_look_1 4 rfl rfl)
theorem dX6_look_28 : decode cX6_look 28 = .ok (.invokevirtual 109, 3) := dk_182 0 109 (dk_at dksX6_look_1 5 rfl rfl)
theorem dX6_look_31 : decode cX6_look 31 = .ok (.iload_n 3, 1) := dk_29 (dk_at dksX6_look_1 8 rfl rfl)
theorem dX6_look_32 : decode cX6_look 32 = .ok (.ireturn, 1) := dk_172 (dk_at dksX6_look_1 9 rfl rfl)
abbrev cX6_sign : ByteArray := prog_18_method_14_code
def yX6_sign : MethodName := ⟨RX6, "sign", "(I)V"⟩
def dkwX6_sign_0 : List UInt8 := [42, 42, 27, 182, 0, 107, 4, 182, 0, 109, 42, 182, 0, 22, 177]
abbrev dktX6_sign_0 : List UInt8 := dkwX6_sign_0 ++ []
theorem dksX6_sign_0 : cX6_sign.data.toList.drop 0 = dktX6_sign_0 := by decide +kernel
theorem dX6_sign_0 : decode cX6_sign 0 = .ok (.aload_n 0, 1) := dk_42 (dk_at dksX6_sign_0 0 rfl rfl)
theorem dX6_sign_1 : decode cX6_sign 1 = .ok (.aload_n 0, 1) := dk_42 (dk_at dksX6_sign_0 1 rfl rfl)
theorem dX6_sign_2 : decode cX6_sign 2 = .ok (.iload_n 1, 1) := dk_27 (dk_at dksX6_sign_0 2 rfl rfl)
theorem dX6_sign_3 : decode cX6_sign 3 = .ok (.invokevirtual 107, 3) := dk_182 0 107 (dk_at dksX6_sign_0 3 rfl rfl)
theorem dX6_sign_6 : decode cX6_sign 6 = .ok (.iconst 1, 1) := dk_4 (dk_at dksX6_sign_0 6 rfl rfl)
theorem dX6_sign_7 : decode cX6_sign 7 = .ok (.invokevirtual 109, 3) := dk_182 0 109 (dk_at dksX6_sign_0 7 rfl rfl)
theorem dX6_sign_10 : decode cX6_sign 10 = .ok (.aload_n 0, 1) := dk_42 (dk_at dksX6_sign_0 10 rfl rfl)
theorem dX6_sign_11 : decode cX6_sign 11 = .ok (.invokevirtual 22, 3) := dk_182 0 22 (dk_at dksX6_sign_0 11 rfl rfl)
theorem dX6_sign_14 : decode cX6_sign 14 = .ok (.return_, 1) := dk_177 (dk_at dksX6_sign_0 14 rfl rfl)
abbrev cX6_is_2 : ByteArray := prog_18_method_9_code
def yX6_is_2 : MethodName := ⟨RX6, "is", "(I)Z"⟩
def dkwX6_is_2_0 : List UInt8 := [42, 180, 0, 43, 6, 160, 0, 15, 42, 180, 0, 57, 27, 160, 0, 7, 4, 167, 0, 4, 3, 172]
abbrev dktX6_is_2_0 : List UInt8 := dkwX6_is_2_0 ++ []
theorem dksX6_is_2_0 : cX6_is_2.data.toList.drop 0 = dktX6_is_2_0 := by decide +kernel
theorem dX6_is_2_0 : decode cX6_is_2 0 = .ok (.aload_n 0, 1) := dk_42 (dk_at dksX6_is_2_0 0 rfl rfl)
theorem dX6_is_2_1 : decode cX6_is_2 1 = .ok (.getfield 43, 3) := dk_180 0 43 (dk_at dksX6_is_2_0 1 rfl rfl)
theorem dX6_is_2_4 : decode cX6_is_2 4 = .ok (.iconst 3, 1) := dk_6 (dk_at dksX6_is_2_0 4 rfl rfl)
theorem dX6_is_2_5 : decode cX6_is_2 5 = .ok (.if_icmp .ne 15, 3) := dk_160 0 15 (dk_at dksX6_is_2_0 5 rfl rfl)
theorem dX6_is_2_8 : decode cX6_is_2 8 = .ok (.aload_n 0, 1) := dk_42 (dk_at dksX6_is_2_0 8 rfl rfl)
theorem dX6_is_2_9 : decode cX6_is_2 9 = .ok (.getfield 57, 3) := dk_180 0 57 (dk_at dksX6_is_2_0 9 rfl rfl)
theorem dX6_is_2_12 : decode cX6_is_2 12 = .ok (.iload_n 1, 1) := dk_27 (dk_at dksX6_is_2_0 12 rfl rfl)
theorem dX6_is_2_13 : decode cX6_is_2 13 = .ok (.if_icmp .ne 7, 3) := dk_160 0 7 (dk_at dksX6_is_2_0 13 rfl rfl)
theorem dX6_is_2_16 : decode cX6_is_2 16 = .ok (.iconst 1, 1) := dk_4 (dk_at dksX6_is_2_0 16 rfl rfl)
theorem dX6_is_2_17 : decode cX6_is_2 17 = .ok (.goto 4, 3) := dk_167 0 4 (dk_at dksX6_is_2_0 17 rfl rfl)
theorem dX6_is_2_20 : decode cX6_is_2 20 = .ok (.iconst 0, 1) := dk_3 (dk_at dksX6_is_2_0 20 rfl rfl)
theorem dX6_is_2_21 : decode cX6_is_2 21 = .ok (.ireturn, 1) := dk_172 (dk_at dksX6_is_2_0 21 rfl rfl)
theorem q128 : (Jvm.Cond.initialized "StatueRent$Reader") ∈ lw_all := lw_g (lw_at lw_m1 8 rfl) rfl
theorem q212 : (Jvm.Cond.fieldLink "StatueRent$Reader" (95 : Nat) "StatueRent$Fault" "kind" "I") ∈ lw_all := lw_g (lw_at lw_m1 92 rfl) rfl
theorem q214 : (Jvm.Cond.fieldLink "StatueRent$Reader" (100 : Nat) "StatueRent$Fault" "place" "I") ∈ lw_all := lw_g (lw_at lw_m1 94 rfl) rfl
theorem q485 : (Jvm.Cond.instanceMethod ({ cls := "StatueRent$Reader", name := "<init>", desc := "(LStatueRent;I)V" } : Jvm.MethodName)) ∈ lw_all := lw_g (lw_at lw_m2 125 rfl) rfl
theorem q486 : (Jvm.Cond.code ({ cls := "StatueRent$Reader", name := "<init>", desc := "(LStatueRent;I)V" } : Jvm.MethodName) prog_18_method_1_code (3 : Nat) (Option.none : Option Jvm.ClassFile.FieldType)) ∈ lw_all := lw_g (lw_at lw_m2 126 rfl) rfl
theorem q487 : (Jvm.Cond.methodLink "StatueRent$Reader" (9 : Nat) ({ cls := "java/lang/Object", name := "<init>", desc := "()V" } : Jvm.MethodName)) ∈ lw_all := lw_g (lw_at lw_m2 127 rfl) rfl
theorem q491 : (Jvm.Cond.fieldLink "StatueRent$Reader" (15 : Nat) "StatueRent$Reader" "most" "I") ∈ lw_all := lw_g (lw_at lw_m2 131 rfl) rfl
theorem q492 : (Jvm.Cond.fieldLink "StatueRent$Reader" (19 : Nat) "StatueRent$Reader" "p" "I") ∈ lw_all := lw_g (lw_at lw_m2 132 rfl) rfl
theorem q493 : (Jvm.Cond.fieldLink "StatueRent$Reader" (40 : Nat) "StatueRent$Reader" "at" "I") ∈ lw_all := lw_g (lw_at lw_m2 133 rfl) rfl
theorem q500 : (Jvm.Cond.fieldLink "StatueRent$Reader" (43 : Nat) "StatueRent$Reader" "token" "I") ∈ lw_all := lw_g (lw_at lw_m2 140 rfl) rfl
theorem q503 : (Jvm.Cond.fieldLink "StatueRent$Reader" (57 : Nat) "StatueRent$Reader" "value" "I") ∈ lw_all := lw_g (lw_at lw_m2 143 rfl) rfl
theorem q504 : (Jvm.Cond.fieldLink "StatueRent$Reader" (64 : Nat) "StatueRent$Reader" "many" "I") ∈ lw_all := lw_g (lw_at lw_m2 144 rfl) rfl
theorem q507 : (Jvm.Cond.fieldLink "StatueRent$Reader" (60 : Nat) "StatueRent$Reader" "name" "J") ∈ lw_all := lw_g (lw_at lw_m2 147 rfl) rfl
theorem q508 : (Jvm.Cond.fieldLink "StatueRent$Reader" (3 : Nat) "StatueRent$Reader" "this$0" "LStatueRent;") ∈ lw_all := lw_g (lw_at lw_m2 148 rfl) rfl
theorem q516 : (Jvm.Cond.soleField "StatueRent$Reader" "most") ∈ lw_all := lw_g (lw_at lw_m2 156 rfl) rfl
theorem q518 : (Jvm.Cond.soleField "StatueRent$Reader" "p") ∈ lw_all := lw_g (lw_at lw_m2 158 rfl) rfl
theorem q520 : (Jvm.Cond.soleField "StatueRent$Reader" "at") ∈ lw_all := lw_g (lw_at lw_m2 160 rfl) rfl
theorem q522 : (Jvm.Cond.soleField "StatueRent$Reader" "token") ∈ lw_all := lw_g (lw_at lw_m2 162 rfl) rfl
theorem q524 : (Jvm.Cond.soleField "StatueRent$Reader" "value") ∈ lw_all := lw_g (lw_at lw_m2 164 rfl) rfl
theorem q526 : (Jvm.Cond.soleField "StatueRent$Reader" "many") ∈ lw_all := lw_g (lw_at lw_m2 166 rfl) rfl
theorem q528 : (Jvm.Cond.soleField "StatueRent$Reader" "name") ∈ lw_all := lw_g (lw_at lw_m2 168 rfl) rfl
theorem q530 : (Jvm.Cond.soleField "StatueRent$Reader" "this$0") ∈ lw_all := lw_g (lw_at lw_m2 170 rfl) rfl
theorem q610 : (Jvm.Cond.fieldLinkNest "StatueRent$Reader" (28 : Nat) "StatueRent" "tape" "[B" "StatueRent") ∈ lw_tbl := lw_at lw_m3 10 rfl
theorem q612 : (Jvm.Cond.fieldLinkNest "StatueRent$Reader" (25 : Nat) "StatueRent" "size" "I" "StatueRent") ∈ lw_tbl := lw_at lw_m3 12 rfl
theorem q615 : (Jvm.Cond.fieldLinkNest "StatueRent$Reader" (91 : Nat) "StatueRent" "broken" "LStatueRent$Fault;" "StatueRent") ∈ lw_tbl := lw_at lw_m3 15 rfl
theorem q618 : (Jvm.Cond.fieldLinkNest "StatueRent$Reader" (80 : Nat) "StatueRent" "lines" "[Ljava/lang/String;" "StatueRent") ∈ lw_tbl := lw_at lw_m3 18 rfl
theorem q620 : (Jvm.Cond.fieldLinkNest "StatueRent$Reader" (88 : Nat) "StatueRent" "words" "[Ljava/lang/String;" "StatueRent") ∈ lw_tbl := lw_at lw_m3 20 rfl
theorem q769 : (Jvm.Cond.declares ({ cls := "StatueRent$Reader", name := "begin", desc := "()V" } : Jvm.MethodName)) ∈ lw_tbl := lw_at lw_m3 169 rfl
theorem q771 : (Jvm.Cond.instanceMethod ({ cls := "StatueRent$Reader", name := "begin", desc := "()V" } : Jvm.MethodName)) ∈ lw_all := lw_g (lw_at lw_m3 171 rfl) rfl
theorem q772 : (Jvm.Cond.code ({ cls := "StatueRent$Reader", name := "begin", desc := "()V" } : Jvm.MethodName) prog_18_method_2_code (1 : Nat) (Option.none : Option Jvm.ClassFile.FieldType)) ∈ lw_all := lw_g (lw_at lw_m3 172 rfl) rfl
theorem q773 : (Jvm.Cond.methodLink "StatueRent$Reader" (22 : Nat) ({ cls := "StatueRent$Reader", name := "next", desc := "()V" } : Jvm.MethodName)) ∈ lw_all := lw_g (lw_at lw_m3 173 rfl) rfl
theorem q774 : (Jvm.Cond.instanceMethod ({ cls := "StatueRent$Reader", name := "next", desc := "()V" } : Jvm.MethodName)) ∈ lw_all := lw_g (lw_at lw_m3 174 rfl) rfl
theorem q775 : (Jvm.Cond.sameMethod "StatueRent$Reader" "StatueRent$Reader" "next" "()V") ∈ lw_all := lw_g (lw_at lw_m3 175 rfl) rfl
theorem q779 : (Jvm.Cond.code ({ cls := "StatueRent$Reader", name := "next", desc := "()V" } : Jvm.MethodName) prog_18_method_6_code (2 : Nat) (Option.none : Option Jvm.ClassFile.FieldType)) ∈ lw_all := lw_g (lw_at lw_m3 179 rfl) rfl
theorem q780 : (Jvm.Cond.methodLink "StatueRent$Reader" (36 : Nat) ({ cls := "StatueRent$Reader", name := "peek", desc := "()I" } : Jvm.MethodName)) ∈ lw_all := lw_g (lw_at lw_m3 180 rfl) rfl
theorem q781 : (Jvm.Cond.privateMethod ({ cls := "StatueRent$Reader", name := "peek", desc := "()I" } : Jvm.MethodName)) ∈ lw_tbl := lw_at lw_m3 181 rfl
theorem q782 : (Jvm.Cond.instanceMethod ({ cls := "StatueRent$Reader", name := "peek", desc := "()I" } : Jvm.MethodName)) ∈ lw_all := lw_g (lw_at lw_m3 182 rfl) rfl
theorem q783 : (Jvm.Cond.code ({ cls := "StatueRent$Reader", name := "peek", desc := "()I" } : Jvm.MethodName) prog_18_method_3_code (1 : Nat) (Option.some Jvm.ClassFile.FieldType.int)) ∈ lw_all := lw_g (lw_at lw_m3 183 rfl) rfl
theorem q784 : (Jvm.Cond.methodLink "StatueRent$Reader" (46 : Nat) ({ cls := "StatueRent$Reader", name := "isLetter", desc := "(I)Z" } : Jvm.MethodName)) ∈ lw_all := lw_g (lw_at lw_m3 184 rfl) rfl
theorem q785 : (Jvm.Cond.privateMethod ({ cls := "StatueRent$Reader", name := "isLetter", desc := "(I)Z" } : Jvm.MethodName)) ∈ lw_tbl := lw_at lw_m3 185 rfl
theorem q786 : (Jvm.Cond.instanceMethod ({ cls := "StatueRent$Reader", name := "isLetter", desc := "(I)Z" } : Jvm.MethodName)) ∈ lw_all := lw_g (lw_at lw_m3 186 rfl) rfl
theorem q787 : (Jvm.Cond.code ({ cls := "StatueRent$Reader", name := "isLetter", desc := "(I)Z" } : Jvm.MethodName) prog_18_method_4_code (2 : Nat) (Option.some Jvm.ClassFile.FieldType.boolean)) ∈ lw_all := lw_g (lw_at lw_m3 187 rfl) rfl
theorem q788 : (Jvm.Cond.methodLinkNest "StatueRent$Reader" (32 : Nat) ({ cls := "StatueRent", name := "isIn", desc := "(III)Z" } : Jvm.MethodName) "StatueRent") ∈ lw_tbl := lw_at lw_m3 188 rfl
theorem q791 : (Jvm.Cond.methodLink "StatueRent$Reader" (50 : Nat) ({ cls := "StatueRent$Reader", name := "isDigit", desc := "(I)Z" } : Jvm.MethodName)) ∈ lw_all := lw_g (lw_at lw_m3 191 rfl) rfl
theorem q792 : (Jvm.Cond.privateMethod ({ cls := "StatueRent$Reader", name := "isDigit", desc := "(I)Z" } : Jvm.MethodName)) ∈ lw_tbl := lw_at lw_m3 192 rfl
theorem q793 : (Jvm.Cond.instanceMethod ({ cls := "StatueRent$Reader", name := "isDigit", desc := "(I)Z" } : Jvm.MethodName)) ∈ lw_all := lw_g (lw_at lw_m3 193 rfl) rfl
theorem q794 : (Jvm.Cond.code ({ cls := "StatueRent$Reader", name := "isDigit", desc := "(I)Z" } : Jvm.MethodName) prog_18_method_5_code (2 : Nat) (Option.some Jvm.ClassFile.FieldType.boolean)) ∈ lw_all := lw_g (lw_at lw_m3 194 rfl) rfl
theorem q795 : (Jvm.Cond.methodLink "StatueRent$Reader" (53 : Nat) ({ cls := "StatueRent$Reader", name := "run", desc := "(Z)V" } : Jvm.MethodName)) ∈ lw_all := lw_g (lw_at lw_m3 195 rfl) rfl
theorem q796 : (Jvm.Cond.privateMethod ({ cls := "StatueRent$Reader", name := "run", desc := "(Z)V" } : Jvm.MethodName)) ∈ lw_tbl := lw_at lw_m3 196 rfl
theorem q797 : (Jvm.Cond.instanceMethod ({ cls := "StatueRent$Reader", name := "run", desc := "(Z)V" } : Jvm.MethodName)) ∈ lw_all := lw_g (lw_at lw_m3 197 rfl) rfl
theorem q798 : (Jvm.Cond.code ({ cls := "StatueRent$Reader", name := "run", desc := "(Z)V" } : Jvm.MethodName) prog_18_method_7_code (3 : Nat) (Option.none : Option Jvm.ClassFile.FieldType)) ∈ lw_all := lw_g (lw_at lw_m3 198 rfl) rfl
theorem q801 : (Jvm.Cond.declares ({ cls := "StatueRent$Reader", name := "find", desc := "([Ljava/lang/String;)I" } : Jvm.MethodName)) ∈ lw_tbl := lw_at lw_m3 201 rfl
theorem q803 : (Jvm.Cond.instanceMethod ({ cls := "StatueRent$Reader", name := "find", desc := "([Ljava/lang/String;)I" } : Jvm.MethodName)) ∈ lw_all := lw_g (lw_at lw_m3 203 rfl) rfl
theorem q804 : (Jvm.Cond.code ({ cls := "StatueRent$Reader", name := "find", desc := "([Ljava/lang/String;)I" } : Jvm.MethodName) prog_18_method_10_code (3 : Nat) (Option.some Jvm.ClassFile.FieldType.int)) ∈ lw_all := lw_g (lw_at lw_m3 204 rfl) rfl
theorem q805 : (Jvm.Cond.methodLink "StatueRent$Reader" (76 : Nat) ({ cls := "StatueRent$Reader", name := "is", desc := "(Ljava/lang/String;)Z" } : Jvm.MethodName)) ∈ lw_all := lw_g (lw_at lw_m3 205 rfl) rfl
theorem q806 : (Jvm.Cond.instanceMethod ({ cls := "StatueRent$Reader", name := "is", desc := "(Ljava/lang/String;)Z" } : Jvm.MethodName)) ∈ lw_all := lw_g (lw_at lw_m3 206 rfl) rfl
theorem q807 : (Jvm.Cond.sameMethod "StatueRent$Reader" "StatueRent$Reader" "is" "(Ljava/lang/String;)Z") ∈ lw_all := lw_g (lw_at lw_m3 207 rfl) rfl
theorem q811 : (Jvm.Cond.code ({ cls := "StatueRent$Reader", name := "is", desc := "(Ljava/lang/String;)Z" } : Jvm.MethodName) prog_18_method_8_code (3 : Nat) (Option.some Jvm.ClassFile.FieldType.boolean)) ∈ lw_all := lw_g (lw_at lw_m3 211 rfl) rfl
theorem q812 : (Jvm.Cond.methodLink "StatueRent$Reader" (67 : Nat) ({ cls := "java/lang/String", name := "length", desc := "()I" } : Jvm.MethodName)) ∈ lw_all := lw_g (lw_at lw_m3 212 rfl) rfl
theorem q822 : (Jvm.Cond.methodLink "StatueRent$Reader" (72 : Nat) ({ cls := "java/lang/String", name := "charAt", desc := "(I)C" } : Jvm.MethodName)) ∈ lw_all := lw_g (lw_at lw_m3 222 rfl) rfl
theorem q862 : (Jvm.Cond.declares ({ cls := "StatueRent$Reader", name := "must", desc := "(ZI)V" } : Jvm.MethodName)) ∈ lw_tbl := lw_at lw_m4 22 rfl
theorem q864 : (Jvm.Cond.instanceMethod ({ cls := "StatueRent$Reader", name := "must", desc := "(ZI)V" } : Jvm.MethodName)) ∈ lw_all := lw_g (lw_at lw_m4 24 rfl) rfl
theorem q865 : (Jvm.Cond.code ({ cls := "StatueRent$Reader", name := "must", desc := "(ZI)V" } : Jvm.MethodName) prog_18_method_13_code (3 : Nat) (Option.none : Option Jvm.ClassFile.FieldType)) ∈ lw_all := lw_g (lw_at lw_m4 25 rfl) rfl
theorem q866 : (Jvm.Cond.methodLink "StatueRent$Reader" (103 : Nat) ({ cls := "StatueRent$Reader", name := "wrong", desc := "(I)LStatueRent$Fault;" } : Jvm.MethodName)) ∈ lw_all := lw_g (lw_at lw_m4 26 rfl) rfl
theorem q867 : (Jvm.Cond.instanceMethod ({ cls := "StatueRent$Reader", name := "wrong", desc := "(I)LStatueRent$Fault;" } : Jvm.MethodName)) ∈ lw_all := lw_g (lw_at lw_m4 27 rfl) rfl
theorem q868 : (Jvm.Cond.sameMethod "StatueRent$Reader" "StatueRent$Reader" "wrong" "(I)LStatueRent$Fault;") ∈ lw_all := lw_g (lw_at lw_m4 28 rfl) rfl
theorem q872 : (Jvm.Cond.code ({ cls := "StatueRent$Reader", name := "wrong", desc := "(I)LStatueRent$Fault;" } : Jvm.MethodName) prog_18_method_12_code (2 : Nat) (Option.some (Jvm.ClassFile.FieldType.object "StatueRent$Fault"))) ∈ lw_all := lw_g (lw_at lw_m4 32 rfl) rfl
theorem q879 : (Jvm.Cond.declares ({ cls := "StatueRent$Reader", name := "next", desc := "()V" } : Jvm.MethodName)) ∈ lw_tbl := lw_at lw_m4 39 rfl
theorem q891 : (Jvm.Cond.declares ({ cls := "StatueRent$Reader", name := "isName", desc := "()Z" } : Jvm.MethodName)) ∈ lw_tbl := lw_at lw_m4 51 rfl
theorem q893 : (Jvm.Cond.instanceMethod ({ cls := "StatueRent$Reader", name := "isName", desc := "()Z" } : Jvm.MethodName)) ∈ lw_all := lw_g (lw_at lw_m4 53 rfl) rfl
theorem q894 : (Jvm.Cond.code ({ cls := "StatueRent$Reader", name := "isName", desc := "()Z" } : Jvm.MethodName) prog_18_method_11_code (1 : Nat) (Option.some Jvm.ClassFile.FieldType.boolean)) ∈ lw_all := lw_g (lw_at lw_m4 54 rfl) rfl
theorem q895 : (Jvm.Cond.methodLink "StatueRent$Reader" (84 : Nat) ({ cls := "StatueRent$Reader", name := "find", desc := "([Ljava/lang/String;)I" } : Jvm.MethodName)) ∈ lw_all := lw_g (lw_at lw_m4 55 rfl) rfl
theorem q898 : (Jvm.Cond.declares ({ cls := "StatueRent$Reader", name := "of", desc := "([JI)I" } : Jvm.MethodName)) ∈ lw_tbl := lw_at lw_m4 58 rfl
theorem q900 : (Jvm.Cond.instanceMethod ({ cls := "StatueRent$Reader", name := "of", desc := "([JI)I" } : Jvm.MethodName)) ∈ lw_all := lw_g (lw_at lw_m4 60 rfl) rfl
theorem q901 : (Jvm.Cond.code ({ cls := "StatueRent$Reader", name := "of", desc := "([JI)I" } : Jvm.MethodName) prog_18_method_16_code (4 : Nat) (Option.some Jvm.ClassFile.FieldType.int)) ∈ lw_all := lw_g (lw_at lw_m4 61 rfl) rfl
theorem q904 : (Jvm.Cond.declares ({ cls := "StatueRent$Reader", name := "number", desc := "(II)I" } : Jvm.MethodName)) ∈ lw_tbl := lw_at lw_m4 64 rfl
theorem q906 : (Jvm.Cond.instanceMethod ({ cls := "StatueRent$Reader", name := "number", desc := "(II)I" } : Jvm.MethodName)) ∈ lw_all := lw_g (lw_at lw_m4 66 rfl) rfl
theorem q907 : (Jvm.Cond.code ({ cls := "StatueRent$Reader", name := "number", desc := "(II)I" } : Jvm.MethodName) prog_18_method_15_code (4 : Nat) (Option.some Jvm.ClassFile.FieldType.int)) ∈ lw_all := lw_g (lw_at lw_m4 67 rfl) rfl
theorem q908 : (Jvm.Cond.methodLink "StatueRent$Reader" (109 : Nat) ({ cls := "StatueRent$Reader", name := "must", desc := "(ZI)V" } : Jvm.MethodName)) ∈ lw_all := lw_g (lw_at lw_m4 68 rfl) rfl
theorem q911 : (Jvm.Cond.declares ({ cls := "StatueRent$Reader", name := "known", desc := "([JI)I" } : Jvm.MethodName)) ∈ lw_tbl := lw_at lw_m4 71 rfl
theorem q913 : (Jvm.Cond.instanceMethod ({ cls := "StatueRent$Reader", name := "known", desc := "([JI)I" } : Jvm.MethodName)) ∈ lw_all := lw_g (lw_at lw_m4 73 rfl) rfl
theorem q914 : (Jvm.Cond.code ({ cls := "StatueRent$Reader", name := "known", desc := "([JI)I" } : Jvm.MethodName) prog_18_method_18_code (4 : Nat) (Option.some Jvm.ClassFile.FieldType.int)) ∈ lw_all := lw_g (lw_at lw_m4 74 rfl) rfl
theorem q915 : (Jvm.Cond.methodLink "StatueRent$Reader" (121 : Nat) ({ cls := "StatueRent$Reader", name := "look", desc := "([JI)I" } : Jvm.MethodName)) ∈ lw_all := lw_g (lw_at lw_m4 75 rfl) rfl
theorem q916 : (Jvm.Cond.instanceMethod ({ cls := "StatueRent$Reader", name := "look", desc := "([JI)I" } : Jvm.MethodName)) ∈ lw_all := lw_g (lw_at lw_m4 76 rfl) rfl
theorem q917 : (Jvm.Cond.sameMethod "StatueRent$Reader" "StatueRent$Reader" "look" "([JI)I") ∈ lw_all := lw_g (lw_at lw_m4 77 rfl) rfl
theorem q921 : (Jvm.Cond.code ({ cls := "StatueRent$Reader", name := "look", desc := "([JI)I" } : Jvm.MethodName) prog_18_method_17_code (4 : Nat) (Option.some Jvm.ClassFile.FieldType.int)) ∈ lw_all := lw_g (lw_at lw_m4 81 rfl) rfl
theorem q922 : (Jvm.Cond.methodLink "StatueRent$Reader" (113 : Nat) ({ cls := "StatueRent$Reader", name := "isName", desc := "()Z" } : Jvm.MethodName)) ∈ lw_all := lw_g (lw_at lw_m4 82 rfl) rfl
theorem q923 : (Jvm.Cond.methodLink "StatueRent$Reader" (117 : Nat) ({ cls := "StatueRent$Reader", name := "of", desc := "([JI)I" } : Jvm.MethodName)) ∈ lw_all := lw_g (lw_at lw_m4 83 rfl) rfl
theorem q926 : (Jvm.Cond.declares ({ cls := "StatueRent$Reader", name := "look", desc := "([JI)I" } : Jvm.MethodName)) ∈ lw_tbl := lw_at lw_m4 86 rfl
theorem q941 : (Jvm.Cond.declares ({ cls := "StatueRent$Reader", name := "sign", desc := "(I)V" } : Jvm.MethodName)) ∈ lw_tbl := lw_at lw_m4 101 rfl
theorem q943 : (Jvm.Cond.instanceMethod ({ cls := "StatueRent$Reader", name := "sign", desc := "(I)V" } : Jvm.MethodName)) ∈ lw_all := lw_g (lw_at lw_m4 103 rfl) rfl
theorem q944 : (Jvm.Cond.code ({ cls := "StatueRent$Reader", name := "sign", desc := "(I)V" } : Jvm.MethodName) prog_18_method_14_code (2 : Nat) (Option.none : Option Jvm.ClassFile.FieldType)) ∈ lw_all := lw_g (lw_at lw_m4 104 rfl) rfl
theorem q945 : (Jvm.Cond.methodLink "StatueRent$Reader" (107 : Nat) ({ cls := "StatueRent$Reader", name := "is", desc := "(I)Z" } : Jvm.MethodName)) ∈ lw_all := lw_g (lw_at lw_m4 105 rfl) rfl
theorem q946 : (Jvm.Cond.instanceMethod ({ cls := "StatueRent$Reader", name := "is", desc := "(I)Z" } : Jvm.MethodName)) ∈ lw_all := lw_g (lw_at lw_m4 106 rfl) rfl
theorem q947 : (Jvm.Cond.sameMethod "StatueRent$Reader" "StatueRent$Reader" "is" "(I)Z") ∈ lw_all := lw_g (lw_at lw_m4 107 rfl) rfl
theorem q951 : (Jvm.Cond.code ({ cls := "StatueRent$Reader", name := "is", desc := "(I)Z" } : Jvm.MethodName) prog_18_method_9_code (2 : Nat) (Option.some Jvm.ClassFile.FieldType.boolean)) ∈ lw_all := lw_g (lw_at lw_m4 111 rfl) rfl
theorem q1378 : (Jvm.Cond.declares ({ cls := "StatueRent$Reader", name := "is", desc := "(Ljava/lang/String;)Z" } : Jvm.MethodName)) ∈ lw_tbl := lw_at lw_m6 58 rfl
theorem q1544 : (Jvm.Cond.declares ({ cls := "StatueRent$Reader", name := "is", desc := "(I)Z" } : Jvm.MethodName)) ∈ lw_tbl := lw_at lw_m6 224 rfl
theorem q2514 : (Jvm.Cond.sameMethod "StatueRent$Reader" "StatueRent$Reader" "peek" "()I") ∈ lw_all := lw_g (lw_at lw_m10 234 rfl) rfl
theorem q2515 : (Jvm.Cond.sameMethod "StatueRent$Reader" "StatueRent$Reader" "isLetter" "(I)Z") ∈ lw_all := lw_g (lw_at lw_m10 235 rfl) rfl
theorem q2516 : (Jvm.Cond.sameMethod "StatueRent$Reader" "StatueRent$Reader" "isDigit" "(I)Z") ∈ lw_all := lw_g (lw_at lw_m10 236 rfl) rfl
theorem q2517 : (Jvm.Cond.sameMethod "StatueRent$Reader" "StatueRent$Reader" "run" "(Z)V") ∈ lw_all := lw_g (lw_at lw_m10 237 rfl) rfl
theorem q2518 : (Jvm.Cond.sameMethod "StatueRent$Reader" "StatueRent$Reader" "find" "([Ljava/lang/String;)I") ∈ lw_all := lw_g (lw_at lw_m10 238 rfl) rfl
theorem q2522 : (Jvm.Cond.sameMethod "StatueRent$Reader" "StatueRent$Reader" "must" "(ZI)V") ∈ lw_all := lw_g (lw_at lw_m11 2 rfl) rfl
theorem q2526 : (Jvm.Cond.sameMethod "StatueRent$Reader" "StatueRent$Reader" "isName" "()Z") ∈ lw_all := lw_g (lw_at lw_m11 6 rfl) rfl
theorem q2530 : (Jvm.Cond.sameMethod "StatueRent$Reader" "StatueRent$Reader" "of" "([JI)I") ∈ lw_all := lw_g (lw_at lw_m11 10 rfl) rfl
/-! StatueRent$CityReader -/
set_option maxRecDepth 100000
def RX7 : String := "StatueRent$CityReader"
def TX7 : u_T := fun k => match k with
  | 0 => ("StatueRent$Reader", "most", "I", true)
  | 1 => ("StatueRent$Reader", "p", "I", false)
  | 2 => ("StatueRent$Reader", "at", "I", false)
  | 3 => ("StatueRent$Reader", "token", "I", false)
  | 4 => ("StatueRent$Reader", "value", "I", false)
  | 5 => ("StatueRent$Reader", "many", "I", false)
  | 6 => ("StatueRent$Reader", "name", "J", false)
  | 7 => ("StatueRent$Reader", "this$0", "LStatueRent;", true)
  | 8 => ("StatueRent$CityReader", "x", "LStatueRent$City;", false)
  | 9 => ("StatueRent$CityReader", "hasArrears", "Z", false)
  | _ => ("StatueRent$CityReader", "this$0", "LStatueRent;", true)
def tyX7 : Nat → FieldType := fun k => match k with
  | 0 => .int
  | 1 => .int
  | 2 => .int
  | 3 => .int
  | 4 => .int
  | 5 => .int
  | 6 => .long
  | 7 => .object "StatueRent"
  | 8 => .object "StatueRent$City"
  | 9 => .boolean
  | _ => .object "StatueRent"
abbrev wsX70 : List Cond := u_ws RX7 TX7 11
-- two fields of one name: no nmX7
theorem tyX7_ok : ∀ k, k < 11 → parseFieldDescriptor (TX7 k).2.2.1 = some (tyX7 k) := by decide +kernel
abbrev cX7_init : ByteArray := prog_5_method_1_code
def yX7_init : MethodName := ⟨RX7, "<init>", "(LStatueRent;)V"⟩
def dkwX7_init_0 : List UInt8 := [42, 43, 181, 0, 3, 42, 43, 17, 3, 132, 183, 0, 9, 177]
abbrev dktX7_init_0 : List UInt8 := dkwX7_init_0 ++ []
theorem dksX7_init_0 : cX7_init.data.toList.drop 0 = dktX7_init_0 := by decide +kernel
theorem dX7_init_0 : decode cX7_init 0 = .ok (.aload_n 0, 1) := dk_42 (dk_at dksX7_init_0 0 rfl rfl)
theorem dX7_init_1 : decode cX7_init 1 = .ok (.aload_n 1, 1) := dk_43 (dk_at dksX7_init_0 1 rfl rfl)
theorem dX7_init_2 : decode cX7_init 2 = .ok (.putfield 3, 3) := dk_181 0 3 (dk_at dksX7_init_0 2 rfl rfl)
theorem dX7_init_5 : decode cX7_init 5 = .ok (.aload_n 0, 1) := dk_42 (dk_at dksX7_init_0 5 rfl rfl)
theorem dX7_init_6 : decode cX7_init 6 = .ok (.aload_n 1, 1) := dk_43 (dk_at dksX7_init_0 6 rfl rfl)
theorem dX7_init_7 : decode cX7_init 7 = .ok (.sipush 900, 3) := dk_17 3 132 (dk_at dksX7_init_0 7 rfl rfl)
theorem dX7_init_10 : decode cX7_init 10 = .ok (.invokespecial 9, 3) := dk_183 0 9 (dk_at dksX7_init_0 10 rfl rfl)
theorem dX7_init_13 : decode cX7_init 13 = .ok (.return_, 1) := dk_177 (dk_at dksX7_init_0 13 rfl rfl)
abbrev cX7_read : ByteArray := prog_5_method_2_code
def yX7_read : MethodName := ⟨RX7, "read", "(LStatueRent$City;)I"⟩
def dkwX7_read_4 : List UInt8 := [16, 59, 182, 0, 54, 132, 2, 1, 167, 255, 171, 28, 172]
abbrev dktX7_read_4 : List UInt8 := dkwX7_read_4 ++ []
def dkwX7_read_3 : List UInt8 := [182, 0, 39, 42, 42, 29, 182, 0, 43, 7, 182, 0, 39, 42, 182, 0, 47, 42, 29, 182, 0, 50, 42]
abbrev dktX7_read_3 : List UInt8 := dkwX7_read_3 ++ dktX7_read_4
def dkwX7_read_2 : List UInt8 := [182, 0, 39, 42, 29, 16, 6, 160, 0, 10, 42, 180, 0, 19, 154, 0, 7, 4, 167, 0, 4, 3, 6]
abbrev dktX7_read_2 : List UInt8 := dkwX7_read_2 ++ dktX7_read_3
def dkwX7_read_1 : List UInt8 := [42, 180, 0, 3, 180, 0, 31, 182, 0, 35, 62, 42, 29, 2, 159, 0, 7, 4, 167, 0, 4, 3, 4]
abbrev dktX7_read_1 : List UInt8 := dkwX7_read_1 ++ dktX7_read_2
def dkwX7_read_0 : List UInt8 := [42, 43, 181, 0, 15, 42, 3, 181, 0, 19, 3, 61, 42, 182, 0, 23, 42, 180, 0, 27, 153, 0, 84, 42]
abbrev dktX7_read_0 : List UInt8 := dkwX7_read_0 ++ dktX7_read_1
theorem dksX7_read_0 : cX7_read.data.toList.drop 0 = dktX7_read_0 := by decide +kernel
theorem dksX7_read_1 : cX7_read.data.toList.drop 24 = dktX7_read_1 := dk_seg dksX7_read_0 24 rfl rfl
theorem dksX7_read_2 : cX7_read.data.toList.drop 47 = dktX7_read_2 := dk_seg dksX7_read_1 23 rfl rfl
theorem dksX7_read_3 : cX7_read.data.toList.drop 70 = dktX7_read_3 := dk_seg dksX7_read_2 23 rfl rfl
theorem dksX7_read_4 : cX7_read.data.toList.drop 93 = dktX7_read_4 := dk_seg dksX7_read_3 23 rfl rfl
theorem dX7_read_0 : decode cX7_read 0 = .ok (.aload_n 0, 1) := dk_42 (dk_at dksX7_read_0 0 rfl rfl)
theorem dX7_read_1 : decode cX7_read 1 = .ok (.aload_n 1, 1) := dk_43 (dk_at dksX7_read_0 1 rfl rfl)
theorem dX7_read_2 : decode cX7_read 2 = .ok (.putfield 15, 3) := dk_181 0 15 (dk_at dksX7_read_0 2 rfl rfl)
theorem dX7_read_5 : decode cX7_read 5 = .ok (.aload_n 0, 1) := dk_42 (dk_at dksX7_read_0 5 rfl rfl)
theorem dX7_read_6 : decode cX7_read 6 = .ok (.iconst 0, 1) := dk_3 (dk_at dksX7_read_0 6 rfl rfl)
theorem dX7_read_7 : decode cX7_read 7 = .ok (.putfield 19, 3) := dk_181 0 19 (dk_at dksX7_read_0 7 rfl rfl)
theorem dX7_read_10 : decode cX7_read 10 = .ok (.iconst 0, 1) := dk_3 (dk_at dksX7_read_0 10 rfl rfl)
theorem dX7_read_11 : decode cX7_read 11 = .ok (.istore_n 2, 1) := dk_61 (dk_at dksX7_read_0 11 rfl rfl)
theorem dX7_read_12 : decode cX7_read 12 = .ok (.aload_n 0, 1) := dk_42 (dk_at dksX7_read_0 12 rfl rfl)
theorem dX7_read_13 : decode cX7_read 13 = .ok (.invokevirtual 23, 3) := dk_182 0 23 (dk_at dksX7_read_0 13 rfl rfl)
theorem dX7_read_16 : decode cX7_read 16 = .ok (.aload_n 0, 1) := dk_42 (dk_at dksX7_read_0 16 rfl rfl)
theorem dX7_read_17 : decode cX7_read 17 = .ok (.getfield 27, 3) := dk_180 0 27 (dk_at dksX7_read_0 17 rfl rfl)
theorem dX7_read_20 : decode cX7_read 20 = .ok (.ifCond .eq 84, 3) := dk_153 0 84 (dk_at dksX7_read_0 20 rfl rfl)
theorem dX7_read_23 : decode cX7_read 23 = .ok (.aload_n 0, 1) := dk_42 (dk_at dksX7_read_0 23 rfl rfl)
theorem dX7_read_24 : decode cX7_read 24 = .ok (.aload_n 0, 1) := dk_42 (dk_at dksX7_read_1 0 rfl rfl)
theorem dX7_read_25 : decode cX7_read 25 = .ok (.getfield 3, 3) := dk_180 0 3 (dk_at dksX7_read_1 1 rfl rfl)
theorem dX7_read_28 : decode cX7_read 28 = .ok (.getfield 31, 3) := dk_180 0 31 (dk_at dksX7_read_1 4 rfl rfl)
theorem dX7_read_31 : decode cX7_read 31 = .ok (.invokevirtual 35, 3) := dk_182 0 35 (dk_at dksX7_read_1 7 rfl rfl)
theorem dX7_read_34 : decode cX7_read 34 = .ok (.istore_n 3, 1) := dk_62 (dk_at dksX7_read_1 10 rfl rfl)
theorem dX7_read_35 : decode cX7_read 35 = .ok (.aload_n 0, 1) := dk_42 (dk_at dksX7_read_1 11 rfl rfl)
theorem dX7_read_36 : decode cX7_read 36 = .ok (.iload_n 3, 1) := dk_29 (dk_at dksX7_read_1 12 rfl rfl)
theorem dX7_read_37 : decode cX7_read 37 = .ok (.iconst (-1), 1) := dk_2 (dk_at dksX7_read_1 13 rfl rfl)
theorem dX7_read_38 : decode cX7_read 38 = .ok (.if_icmp .eq 7, 3) := dk_159 0 7 (dk_at dksX7_read_1 14 rfl rfl)
theorem dX7_read_41 : decode cX7_read 41 = .ok (.iconst 1, 1) := dk_4 (dk_at dksX7_read_1 17 rfl rfl)
theorem dX7_read_42 : decode cX7_read 42 = .ok (.goto 4, 3) := dk_167 0 4 (dk_at dksX7_read_1 18 rfl rfl)
theorem dX7_read_45 : decode cX7_read 45 = .ok (.iconst 0, 1) := dk_3 (dk_at dksX7_read_1 21 rfl rfl)
theorem dX7_read_46 : decode cX7_read 46 = .ok (.iconst 1, 1) := dk_4 (dk_at dksX7_read_1 22 rfl rfl)
theorem dX7_read_47 : decode cX7_read 47 = .ok (.invokevirtual 39, 3) := dk_182 0 39 (dk_at dksX7_read_2 0 rfl rfl)
theorem dX7_read_50 : decode cX7_read 50 = .ok (.aload_n 0, 1) := dk_42 (dk_at dksX7_read_2 3 rfl rfl)
theorem dX7_read_51 : decode cX7_read 51 = .ok (.iload_n 3, 1) := dk_29 (dk_at dksX7_read_2 4 rfl rfl)
theorem dX7_read_52 : decode cX7_read 52 = .ok (.bipush 6, 2) := dk_16 6 (dk_at dksX7_read_2 5 rfl rfl)
theorem dX7_read_54 : decode cX7_read 54 = .ok (.if_icmp .ne 10, 3) := dk_160 0 10 (dk_at dksX7_read_2 7 rfl rfl)
theorem dX7_read_57 : decode cX7_read 57 = .ok (.aload_n 0, 1) := dk_42 (dk_at dksX7_read_2 10 rfl rfl)
theorem dX7_read_58 : decode cX7_read 58 = .ok (.getfield 19, 3) := dk_180 0 19 (dk_at dksX7_read_2 11 rfl rfl)
theorem dX7_read_61 : decode cX7_read 61 = .ok (.ifCond .ne 7, 3) := dk_154 0 7 (dk_at dksX7_read_2 14 rfl rfl)
theorem dX7_read_64 : decode cX7_read 64 = .ok (.iconst 1, 1) := dk_4 (dk_at dksX7_read_2 17 rfl rfl)
theorem dX7_read_65 : decode cX7_read 65 = .ok (.goto 4, 3) := dk_167 0 4 (dk_at dksX7_read_2 18 rfl rfl)
theorem dX7_read_68 : decode cX7_read 68 = .ok (.iconst 0, 1) := dk_3 (dk_at dksX7_read_2 21 rfl rfl)
theorem dX7_read_69 : decode cX7_read 69 = .ok (.iconst 3, 1) := dk_6 (dk_at dksX7_read_2 22 rfl rfl)
theorem dX7_read_70 : decode cX7_read 70 = .ok (.invokevirtual 39, 3) := dk_182 0 39 (dk_at dksX7_read_3 0 rfl rfl)
theorem dX7_read_73 : decode cX7_read 73 = .ok (.aload_n 0, 1) := dk_42 (dk_at dksX7_read_3 3 rfl rfl)
theorem dX7_read_74 : decode cX7_read 74 = .ok (.aload_n 0, 1) := dk_42 (dk_at dksX7_read_3 4 rfl rfl)
theorem dX7_read_75 : decode cX7_read 75 = .ok (.iload_n 3, 1) := dk_29 (dk_at dksX7_read_3 5 rfl rfl)
theorem dX7_read_76 : decode cX7_read 76 = .ok (.invokevirtual 43, 3) := dk_182 0 43 (dk_at dksX7_read_3 6 rfl rfl)
theorem dX7_read_79 : decode cX7_read 79 = .ok (.iconst 4, 1) := dk_7 (dk_at dksX7_read_3 9 rfl rfl)
theorem dX7_read_80 : decode cX7_read 80 = .ok (.invokevirtual 39, 3) := dk_182 0 39 (dk_at dksX7_read_3 10 rfl rfl)
theorem dX7_read_83 : decode cX7_read 83 = .ok (.aload_n 0, 1) := dk_42 (dk_at dksX7_read_3 13 rfl rfl)
theorem dX7_read_84 : decode cX7_read 84 = .ok (.invokevirtual 47, 3) := dk_182 0 47 (dk_at dksX7_read_3 14 rfl rfl)
theorem dX7_read_87 : decode cX7_read 87 = .ok (.aload_n 0, 1) := dk_42 (dk_at dksX7_read_3 17 rfl rfl)
theorem dX7_read_88 : decode cX7_read 88 = .ok (.iload_n 3, 1) := dk_29 (dk_at dksX7_read_3 18 rfl rfl)
theorem dX7_read_89 : decode cX7_read 89 = .ok (.invokevirtual 50, 3) := dk_182 0 50 (dk_at dksX7_read_3 19 rfl rfl)
theorem dX7_read_92 : decode cX7_read 92 = .ok (.aload_n 0, 1) := dk_42 (dk_at dksX7_read_3 22 rfl rfl)
theorem dX7_read_93 : decode cX7_read 93 = .ok (.bipush 59, 2) := dk_16 59 (dk_at dksX7_read_4 0 rfl rfl)
theorem dX7_read_95 : decode cX7_read 95 = .ok (.invokevirtual 54, 3) := dk_182 0 54 (dk_at dksX7_read_4 2 rfl rfl)
theorem dX7_read_98 : decode cX7_read 98 = .ok (.iinc 2 1, 3) := dk_132 2 1 (dk_at dksX7_read_4 5 rfl rfl)
theorem dX7_read_101 : decode cX7_read 101 = .ok (.goto (-85), 3) := dk_167 255 171 (dk_at dksX7_read_4 8 rfl rfl)
theorem dX7_read_104 : decode cX7_read 104 = .ok (.iload_n 2, 1) := dk_28 (dk_at dksX7_read_4 11 rfl rfl)
theorem dX7_read_105 : decode cX7_read 105 = .ok (.ireturn, 1) := dk_172 (dk_at dksX7_read_4 12 rfl rfl)
abbrev cX7_isRoom : ByteArray := prog_5_method_3_code
def yX7_isRoom : MethodName := ⟨RX7, "isRoom", "(I)Z"⟩
def dkwX7_isRoom_6 : List UInt8 := [172]
abbrev dktX7_isRoom_6 : List UInt8 := dkwX7_isRoom_6 ++ []
def dkwX7_isRoom_5 : List UInt8 := [167, 0, 4, 3, 172, 42, 180, 0, 15, 180, 0, 71, 16, 8, 162, 0, 7, 4, 167, 0, 4, 3, 172, 4]
abbrev dktX7_isRoom_5 : List UInt8 := dkwX7_isRoom_5 ++ dktX7_isRoom_6
def dkwX7_isRoom_4 : List UInt8 := [162, 0, 7, 4, 167, 0, 4, 3, 172, 42, 180, 0, 15, 180, 0, 68, 16, 8, 162, 0, 7, 4]
abbrev dktX7_isRoom_4 : List UInt8 := dkwX7_isRoom_4 ++ dktX7_isRoom_5
def dkwX7_isRoom_3 : List UInt8 := [180, 0, 62, 16, 16, 162, 0, 7, 4, 167, 0, 4, 3, 172, 42, 180, 0, 15, 180, 0, 65, 8]
abbrev dktX7_isRoom_3 : List UInt8 := dkwX7_isRoom_3 ++ dktX7_isRoom_4
def dkwX7_isRoom_2 : List UInt8 := [42, 180, 0, 15, 180, 0, 57, 16, 8, 162, 0, 7, 4, 167, 0, 4, 3, 172, 42, 180, 0, 15]
abbrev dktX7_isRoom_2 : List UInt8 := dkwX7_isRoom_2 ++ dktX7_isRoom_3
def dkwX7_isRoom_1 : List UInt8 := [170, 0, 0, 0, 0, 0, 124, 0, 0, 0, 0, 0, 0, 0, 4, 0, 0, 0, 35, 0, 0, 0, 53, 0, 0, 0, 71, 0, 0, 0, 88, 0, 0, 0, 106]
abbrev dktX7_isRoom_1 : List UInt8 := dkwX7_isRoom_1 ++ dktX7_isRoom_2
def dkwX7_isRoom_0 : List UInt8 := [27]
abbrev dktX7_isRoom_0 : List UInt8 := dkwX7_isRoom_0 ++ dktX7_isRoom_1
theorem dksX7_isRoom_0 : cX7_isRoom.data.toList.drop 0 = dktX7_isRoom_0 := by decide +kernel
theorem dksX7_isRoom_1 : cX7_isRoom.data.toList.drop 1 = dktX7_isRoom_1 := dk_seg dksX7_isRoom_0 1 rfl rfl
theorem dksX7_isRoom_2 : cX7_isRoom.data.toList.drop 36 = dktX7_isRoom_2 := dk_seg dksX7_isRoom_1 35 rfl rfl
theorem dksX7_isRoom_3 : cX7_isRoom.data.toList.drop 58 = dktX7_isRoom_3 := dk_seg dksX7_isRoom_2 22 rfl rfl
theorem dksX7_isRoom_4 : cX7_isRoom.data.toList.drop 80 = dktX7_isRoom_4 := dk_seg dksX7_isRoom_3 22 rfl rfl
theorem dksX7_isRoom_5 : cX7_isRoom.data.toList.drop 102 = dktX7_isRoom_5 := dk_seg dksX7_isRoom_4 22 rfl rfl
theorem dksX7_isRoom_6 : cX7_isRoom.data.toList.drop 126 = dktX7_isRoom_6 := dk_seg dksX7_isRoom_5 24 rfl rfl
theorem dX7_isRoom_0 : decode cX7_isRoom 0 = .ok (.iload_n 1, 1) := dk_27 (dk_at dksX7_isRoom_0 0 rfl rfl)
theorem dX7_isRoom_1 : decode cX7_isRoom 1 = .ok (.tableswitch 124 0 4 #[35, 53, 71, 88, 106], 35) := by decide +kernel
theorem dX7_isRoom_36 : decode cX7_isRoom 36 = .ok (.aload_n 0, 1) := dk_42 (dk_at dksX7_isRoom_2 0 rfl rfl)
theorem dX7_isRoom_37 : decode cX7_isRoom 37 = .ok (.getfield 15, 3) := dk_180 0 15 (dk_at dksX7_isRoom_2 1 rfl rfl)
theorem dX7_isRoom_40 : decode cX7_isRoom 40 = .ok (.getfield 57, 3) := dk_180 0 57 (dk_at dksX7_isRoom_2 4 rfl rfl)
theorem dX7_isRoom_43 : decode cX7_isRoom 43 = .ok (.bipush 8, 2) := dk_16 8 (dk_at dksX7_isRoom_2 7 rfl rfl)
theorem dX7_isRoom_45 : decode cX7_isRoom 45 = .ok (.if_icmp .ge 7, 3) := dk_162 0 7 (dk_at dksX7_isRoom_2 9 rfl rfl)
theorem dX7_isRoom_48 : decode cX7_isRoom 48 = .ok (.iconst 1, 1) := dk_4 (dk_at dksX7_isRoom_2 12 rfl rfl)
theorem dX7_isRoom_49 : decode cX7_isRoom 49 = .ok (.goto 4, 3) := dk_167 0 4 (dk_at dksX7_isRoom_2 13 rfl rfl)
theorem dX7_isRoom_52 : decode cX7_isRoom 52 = .ok (.iconst 0, 1) := dk_3 (dk_at dksX7_isRoom_2 16 rfl rfl)
theorem dX7_isRoom_53 : decode cX7_isRoom 53 = .ok (.ireturn, 1) := dk_172 (dk_at dksX7_isRoom_2 17 rfl rfl)
theorem dX7_isRoom_54 : decode cX7_isRoom 54 = .ok (.aload_n 0, 1) := dk_42 (dk_at dksX7_isRoom_2 18 rfl rfl)
theorem dX7_isRoom_55 : decode cX7_isRoom 55 = .ok (.getfield 15, 3) := dk_180 0 15 (dk_at dksX7_isRoom_2 19 rfl rfl)
theorem dX7_isRoom_58 : decode cX7_isRoom 58 = .ok (.getfield 62, 3) := dk_180 0 62 (dk_at dksX7_isRoom_3 0 rfl rfl)
theorem dX7_isRoom_61 : decode cX7_isRoom 61 = .ok (.bipush 16, 2) := dk_16 16 (dk_at dksX7_isRoom_3 3 rfl rfl)
theorem dX7_isRoom_63 : decode cX7_isRoom 63 = .ok (.if_icmp .ge 7, 3) := dk_162 0 7 (dk_at dksX7_isRoom_3 5 rfl rfl)
theorem dX7_isRoom_66 : decode cX7_isRoom 66 = .ok (.iconst 1, 1) := dk_4 (dk_at dksX7_isRoom_3 8 rfl rfl)
theorem dX7_isRoom_67 : decode cX7_isRoom 67 = .ok (.goto 4, 3) := dk_167 0 4 (dk_at dksX7_isRoom_3 9 rfl rfl)
theorem dX7_isRoom_70 : decode cX7_isRoom 70 = .ok (.iconst 0, 1) := dk_3 (dk_at dksX7_isRoom_3 12 rfl rfl)
theorem dX7_isRoom_71 : decode cX7_isRoom 71 = .ok (.ireturn, 1) := dk_172 (dk_at dksX7_isRoom_3 13 rfl rfl)
theorem dX7_isRoom_72 : decode cX7_isRoom 72 = .ok (.aload_n 0, 1) := dk_42 (dk_at dksX7_isRoom_3 14 rfl rfl)
theorem dX7_isRoom_73 : decode cX7_isRoom 73 = .ok (.getfield 15, 3) := dk_180 0 15 (dk_at dksX7_isRoom_3 15 rfl rfl)
theorem dX7_isRoom_76 : decode cX7_isRoom 76 = .ok (.getfield 65, 3) := dk_180 0 65 (dk_at dksX7_isRoom_3 18 rfl rfl)
theorem dX7_isRoom_79 : decode cX7_isRoom 79 = .ok (.iconst 5, 1) := dk_8 (dk_at dksX7_isRoom_3 21 rfl rfl)
theorem dX7_isRoom_80 : decode cX7_isRoom 80 = .ok (.if_icmp .ge 7, 3) := dk_162 0 7 (dk_at dksX7_isRoom_4 0 rfl rfl)
theorem dX7_isRoom_83 : decode cX7_isRoom 83 = .ok (.iconst 1, 1) := dk_4 (dk_at dksX7_isRoom_4 3 rfl rfl)
theorem dX7_isRoom_84 : decode cX7_isRoom 84 = .ok (.goto 4, 3) := dk_167 0 4 (dk_at dksX7_isRoom_4 4 rfl rfl)
theorem dX7_isRoom_87 : decode cX7_isRoom 87 = .ok (.iconst 0, 1) := dk_3 (dk_at dksX7_isRoom_4 7 rfl rfl)
theorem dX7_isRoom_88 : decode cX7_isRoom 88 = .ok (.ireturn, 1) := dk_172 (dk_at dksX7_isRoom_4 8 rfl rfl)
theorem dX7_isRoom_89 : decode cX7_isRoom 89 = .ok (.aload_n 0, 1) := dk_42 (dk_at dksX7_isRoom_4 9 rfl rfl)
theorem dX7_isRoom_90 : decode cX7_isRoom 90 = .ok (.getfield 15, 3) := dk_180 0 15 (dk_at dksX7_isRoom_4 10 rfl rfl)
theorem dX7_isRoom_93 : decode cX7_isRoom 93 = .ok (.getfield 68, 3) := dk_180 0 68 (dk_at dksX7_isRoom_4 13 rfl rfl)
theorem dX7_isRoom_96 : decode cX7_isRoom 96 = .ok (.bipush 8, 2) := dk_16 8 (dk_at dksX7_isRoom_4 16 rfl rfl)
theorem dX7_isRoom_98 : decode cX7_isRoom 98 = .ok (.if_icmp .ge 7, 3) := dk_162 0 7 (dk_at dksX7_isRoom_4 18 rfl rfl)
theorem dX7_isRoom_101 : decode cX7_isRoom 101 = .ok (.iconst 1, 1) := dk_4 (dk_at dksX7_isRoom_4 21 rfl rfl)
theorem dX7_isRoom_102 : decode cX7_isRoom 102 = .ok (.goto 4, 3) := dk_167 0 4 (dk_at dksX7_isRoom_5 0 rfl rfl)
theorem dX7_isRoom_105 : decode cX7_isRoom 105 = .ok (.iconst 0, 1) := dk_3 (dk_at dksX7_isRoom_5 3 rfl rfl)
theorem dX7_isRoom_106 : decode cX7_isRoom 106 = .ok (.ireturn, 1) := dk_172 (dk_at dksX7_isRoom_5 4 rfl rfl)
theorem dX7_isRoom_107 : decode cX7_isRoom 107 = .ok (.aload_n 0, 1) := dk_42 (dk_at dksX7_isRoom_5 5 rfl rfl)
theorem dX7_isRoom_108 : decode cX7_isRoom 108 = .ok (.getfield 15, 3) := dk_180 0 15 (dk_at dksX7_isRoom_5 6 rfl rfl)
theorem dX7_isRoom_111 : decode cX7_isRoom 111 = .ok (.getfield 71, 3) := dk_180 0 71 (dk_at dksX7_isRoom_5 9 rfl rfl)
theorem dX7_isRoom_114 : decode cX7_isRoom 114 = .ok (.bipush 8, 2) := dk_16 8 (dk_at dksX7_isRoom_5 12 rfl rfl)
theorem dX7_isRoom_116 : decode cX7_isRoom 116 = .ok (.if_icmp .ge 7, 3) := dk_162 0 7 (dk_at dksX7_isRoom_5 14 rfl rfl)
theorem dX7_isRoom_119 : decode cX7_isRoom 119 = .ok (.iconst 1, 1) := dk_4 (dk_at dksX7_isRoom_5 17 rfl rfl)
theorem dX7_isRoom_120 : decode cX7_isRoom 120 = .ok (.goto 4, 3) := dk_167 0 4 (dk_at dksX7_isRoom_5 18 rfl rfl)
theorem dX7_isRoom_123 : decode cX7_isRoom 123 = .ok (.iconst 0, 1) := dk_3 (dk_at dksX7_isRoom_5 21 rfl rfl)
theorem dX7_isRoom_124 : decode cX7_isRoom 124 = .ok (.ireturn, 1) := dk_172 (dk_at dksX7_isRoom_5 22 rfl rfl)
theorem dX7_isRoom_125 : decode cX7_isRoom 125 = .ok (.iconst 1, 1) := dk_4 (dk_at dksX7_isRoom_5 23 rfl rfl)
theorem dX7_isRoom_126 : decode cX7_isRoom 126 = .ok (.ireturn, 1) := dk_172 (dk_at dksX7_isRoom_6 0 rfl rfl)
abbrev cX7_line : ByteArray := prog_5_method_5_code
def yX7_line : MethodName := ⟨RX7, "line", "(I)V"⟩
def dkwX7_line_16 : List UInt8 := [181, 0, 19, 42, 180, 0, 15, 42, 4, 16, 9, 182, 0, 107, 181, 0, 136, 177]
abbrev dktX7_line_16 : List UInt8 := dkwX7_line_16 ++ []
def dkwX7_line_15 : List UInt8 := [29, 42, 3, 16, 12, 182, 0, 107, 79, 42, 180, 0, 15, 180, 0, 129, 29, 4, 84, 167, 0, 22, 42, 4]
abbrev dktX7_line_15 : List UInt8 := dkwX7_line_15 ++ dktX7_line_16
def dkwX7_line_14 : List UInt8 := [51, 154, 0, 7, 4, 167, 0, 4, 3, 6, 182, 0, 39, 42, 182, 0, 47, 42, 180, 0, 15, 180, 0, 133]
abbrev dktX7_line_14 : List UInt8 := dkwX7_line_14 ++ dktX7_line_15
def dkwX7_line_13 : List UInt8 := [180, 0, 86, 42, 180, 0, 15, 180, 0, 65, 182, 0, 114, 96, 62, 42, 42, 180, 0, 15, 180, 0, 129, 29]
abbrev dktX7_line_13 : List UInt8 := dkwX7_line_13 ++ dktX7_line_14
def dkwX7_line_12 : List UInt8 := [180, 0, 92, 42, 180, 0, 15, 180, 0, 71, 182, 0, 111, 61, 8, 28, 104, 42, 42, 180, 0, 15]
abbrev dktX7_line_12 : List UInt8 := dkwX7_line_12 ++ dktX7_line_13
def dkwX7_line_11 : List UInt8 := [167, 0, 133, 42, 182, 0, 123, 167, 0, 126, 42, 182, 0, 126, 167, 0, 119, 42, 42, 180, 0, 15]
abbrev dktX7_line_11 : List UInt8 := dkwX7_line_11 ++ dktX7_line_12
def dkwX7_line_10 : List UInt8 := [180, 0, 15, 180, 0, 65, 42, 182, 0, 99, 80, 42, 180, 0, 15, 89, 180, 0, 65, 4, 96, 181, 0, 65]
abbrev dktX7_line_10 : List UInt8 := dkwX7_line_10 ++ dktX7_line_11
def dkwX7_line_9 : List UInt8 := [180, 0, 15, 89, 180, 0, 62, 4, 96, 181, 0, 62, 167, 0, 168, 42, 180, 0, 15, 180, 0, 86, 42]
abbrev dktX7_line_9 : List UInt8 := dkwX7_line_9 ++ dktX7_line_10
def dkwX7_line_8 : List UInt8 := [92, 46, 4, 29, 120, 128, 79, 42, 180, 0, 15, 180, 0, 117, 29, 92, 46, 4, 28, 120, 128, 79, 42]
abbrev dktX7_line_8 : List UInt8 := dkwX7_line_8 ++ dktX7_line_9
def dkwX7_line_7 : List UInt8 := [154, 0, 7, 4, 167, 0, 4, 3, 6, 182, 0, 39, 42, 182, 0, 47, 42, 180, 0, 15, 180, 0, 117, 28]
abbrev dktX7_line_7 : List UInt8 := dkwX7_line_7 ++ dktX7_line_8
def dkwX7_line_6 : List UInt8 := [182, 0, 114, 62, 42, 28, 29, 159, 0, 23, 42, 180, 0, 15, 180, 0, 117, 28, 46, 29, 184, 0, 119]
abbrev dktX7_line_6 : List UInt8 := dkwX7_line_6 ++ dktX7_line_7
def dkwX7_line_5 : List UInt8 := [180, 0, 57, 182, 0, 111, 61, 42, 42, 180, 0, 15, 180, 0, 78, 42, 180, 0, 15, 180, 0, 57]
abbrev dktX7_line_5 : List UInt8 := dkwX7_line_5 ++ dktX7_line_6
def dkwX7_line_4 : List UInt8 := [180, 0, 57, 4, 96, 181, 0, 57, 167, 1, 31, 42, 42, 180, 0, 15, 180, 0, 78, 42, 180, 0, 15]
abbrev dktX7_line_4 : List UInt8 := dkwX7_line_4 ++ dktX7_line_5
def dkwX7_line_3 : List UInt8 := [180, 0, 103, 42, 180, 0, 15, 180, 0, 57, 42, 3, 16, 99, 182, 0, 107, 79, 42, 180, 0, 15, 89]
abbrev dktX7_line_3 : List UInt8 := dkwX7_line_3 ++ dktX7_line_4
def dkwX7_line_2 : List UInt8 := [42, 180, 0, 15, 180, 0, 78, 42, 180, 0, 15, 180, 0, 57, 42, 182, 0, 99, 80, 42, 180, 0, 15]
abbrev dktX7_line_2 : List UInt8 := dkwX7_line_2 ++ dktX7_line_3
def dkwX7_line_1 : List UInt8 := [170, 0, 0, 0, 0, 1, 105, 0, 0, 0, 0, 0, 0, 0, 5, 0, 0, 0, 39, 0, 0, 0, 96, 0, 0, 0, 215, 0, 0, 0, 250, 0, 0, 1, 1, 0, 0, 1, 8]
abbrev dktX7_line_1 : List UInt8 := dkwX7_line_1 ++ dktX7_line_2
def dkwX7_line_0 : List UInt8 := [27]
abbrev dktX7_line_0 : List UInt8 := dkwX7_line_0 ++ dktX7_line_1
theorem dksX7_line_0 : cX7_line.data.toList.drop 0 = dktX7_line_0 := by decide +kernel
theorem dksX7_line_1 : cX7_line.data.toList.drop 1 = dktX7_line_1 := dk_seg dksX7_line_0 1 rfl rfl
theorem dksX7_line_2 : cX7_line.data.toList.drop 40 = dktX7_line_2 := dk_seg dksX7_line_1 39 rfl rfl
theorem dksX7_line_3 : cX7_line.data.toList.drop 63 = dktX7_line_3 := dk_seg dksX7_line_2 23 rfl rfl
theorem dksX7_line_4 : cX7_line.data.toList.drop 86 = dktX7_line_4 := dk_seg dksX7_line_3 23 rfl rfl
theorem dksX7_line_5 : cX7_line.data.toList.drop 109 = dktX7_line_5 := dk_seg dksX7_line_4 23 rfl rfl
theorem dksX7_line_6 : cX7_line.data.toList.drop 131 = dktX7_line_6 := dk_seg dksX7_line_5 22 rfl rfl
theorem dksX7_line_7 : cX7_line.data.toList.drop 154 = dktX7_line_7 := dk_seg dksX7_line_6 23 rfl rfl
theorem dksX7_line_8 : cX7_line.data.toList.drop 178 = dktX7_line_8 := dk_seg dksX7_line_7 24 rfl rfl
theorem dksX7_line_9 : cX7_line.data.toList.drop 201 = dktX7_line_9 := dk_seg dksX7_line_8 23 rfl rfl
theorem dksX7_line_10 : cX7_line.data.toList.drop 224 = dktX7_line_10 := dk_seg dksX7_line_9 23 rfl rfl
theorem dksX7_line_11 : cX7_line.data.toList.drop 248 = dktX7_line_11 := dk_seg dksX7_line_10 24 rfl rfl
theorem dksX7_line_12 : cX7_line.data.toList.drop 270 = dktX7_line_12 := dk_seg dksX7_line_11 22 rfl rfl
theorem dksX7_line_13 : cX7_line.data.toList.drop 292 = dktX7_line_13 := dk_seg dksX7_line_12 22 rfl rfl
theorem dksX7_line_14 : cX7_line.data.toList.drop 316 = dktX7_line_14 := dk_seg dksX7_line_13 24 rfl rfl
theorem dksX7_line_15 : cX7_line.data.toList.drop 340 = dktX7_line_15 := dk_seg dksX7_line_14 24 rfl rfl
theorem dksX7_line_16 : cX7_line.data.toList.drop 364 = dktX7_line_16 := dk_seg dksX7_line_15 24 rfl rfl
theorem dX7_line_0 : decode cX7_line 0 = .ok (.iload_n 1, 1) := dk_27 (dk_at dksX7_line_0 0 rfl rfl)
theorem dX7_line_1 : decode cX7_line 1 = .ok (.tableswitch 361 0 5 #[39, 96, 215, 250, 257, 264], 39) := by decide +kernel
theorem dX7_line_40 : decode cX7_line 40 = .ok (.aload_n 0, 1) := dk_42 (dk_at dksX7_line_2 0 rfl rfl)
theorem dX7_line_41 : decode cX7_line 41 = .ok (.getfield 15, 3) := dk_180 0 15 (dk_at dksX7_line_2 1 rfl rfl)
theorem dX7_line_44 : decode cX7_line 44 = .ok (.getfield 78, 3) := dk_180 0 78 (dk_at dksX7_line_2 4 rfl rfl)
theorem dX7_line_47 : decode cX7_line 47 = .ok (.aload_n 0, 1) := dk_42 (dk_at dksX7_line_2 7 rfl rfl)
theorem dX7_line_48 : decode cX7_line 48 = .ok (.getfield 15, 3) := dk_180 0 15 (dk_at dksX7_line_2 8 rfl rfl)
theorem dX7_line_51 : decode cX7_line 51 = .ok (.getfield 57, 3) := dk_180 0 57 (dk_at dksX7_line_2 11 rfl rfl)
theorem dX7_line_54 : decode cX7_line 54 = .ok (.aload_n 0, 1) := dk_42 (dk_at dksX7_line_2 14 rfl rfl)
theorem dX7_line_55 : decode cX7_line 55 = .ok (.invokevirtual 99, 3) := dk_182 0 99 (dk_at dksX7_line_2 15 rfl rfl)
theorem dX7_line_58 : decode cX7_line 58 = .ok (.lastore, 1) := dk_80 (dk_at dksX7_line_2 18 rfl rfl)
theorem dX7_line_59 : decode cX7_line 59 = .ok (.aload_n 0, 1) := dk_42 (dk_at dksX7_line_2 19 rfl rfl)
theorem dX7_line_60 : decode cX7_line 60 = .ok (.getfield 15, 3) := dk_180 0 15 (dk_at dksX7_line_2 20 rfl rfl)
theorem dX7_line_63 : decode cX7_line 63 = .ok (.getfield 103, 3) := dk_180 0 103 (dk_at dksX7_line_3 0 rfl rfl)
theorem dX7_line_66 : decode cX7_line 66 = .ok (.aload_n 0, 1) := dk_42 (dk_at dksX7_line_3 3 rfl rfl)
theorem dX7_line_67 : decode cX7_line 67 = .ok (.getfield 15, 3) := dk_180 0 15 (dk_at dksX7_line_3 4 rfl rfl)
theorem dX7_line_70 : decode cX7_line 70 = .ok (.getfield 57, 3) := dk_180 0 57 (dk_at dksX7_line_3 7 rfl rfl)
theorem dX7_line_73 : decode cX7_line 73 = .ok (.aload_n 0, 1) := dk_42 (dk_at dksX7_line_3 10 rfl rfl)
theorem dX7_line_74 : decode cX7_line 74 = .ok (.iconst 0, 1) := dk_3 (dk_at dksX7_line_3 11 rfl rfl)
theorem dX7_line_75 : decode cX7_line 75 = .ok (.bipush 99, 2) := dk_16 99 (dk_at dksX7_line_3 12 rfl rfl)
theorem dX7_line_77 : decode cX7_line 77 = .ok (.invokevirtual 107, 3) := dk_182 0 107 (dk_at dksX7_line_3 14 rfl rfl)
theorem dX7_line_80 : decode cX7_line 80 = .ok (.iastore, 1) := dk_79 (dk_at dksX7_line_3 17 rfl rfl)
theorem dX7_line_81 : decode cX7_line 81 = .ok (.aload_n 0, 1) := dk_42 (dk_at dksX7_line_3 18 rfl rfl)
theorem dX7_line_82 : decode cX7_line 82 = .ok (.getfield 15, 3) := dk_180 0 15 (dk_at dksX7_line_3 19 rfl rfl)
theorem dX7_line_85 : decode cX7_line 85 = .ok (.dup, 1) := dk_89 (dk_at dksX7_line_3 22 rfl rfl)
theorem dX7_line_86 : decode cX7_line 86 = .ok (.getfield 57, 3) := dk_180 0 57 (dk_at dksX7_line_4 0 rfl rfl)
theorem dX7_line_89 : decode cX7_line 89 = .ok (.iconst 1, 1) := dk_4 (dk_at dksX7_line_4 3 rfl rfl)
theorem dX7_line_90 : decode cX7_line 90 = .ok (.iadd, 1) := dk_96 (dk_at dksX7_line_4 4 rfl rfl)
theorem dX7_line_91 : decode cX7_line 91 = .ok (.putfield 57, 3) := dk_181 0 57 (dk_at dksX7_line_4 5 rfl rfl)
theorem dX7_line_94 : decode cX7_line 94 = .ok (.goto 287, 3) := dk_167 1 31 (dk_at dksX7_line_4 8 rfl rfl)
theorem dX7_line_97 : decode cX7_line 97 = .ok (.aload_n 0, 1) := dk_42 (dk_at dksX7_line_4 11 rfl rfl)
theorem dX7_line_98 : decode cX7_line 98 = .ok (.aload_n 0, 1) := dk_42 (dk_at dksX7_line_4 12 rfl rfl)
theorem dX7_line_99 : decode cX7_line 99 = .ok (.getfield 15, 3) := dk_180 0 15 (dk_at dksX7_line_4 13 rfl rfl)
theorem dX7_line_102 : decode cX7_line 102 = .ok (.getfield 78, 3) := dk_180 0 78 (dk_at dksX7_line_4 16 rfl rfl)
theorem dX7_line_105 : decode cX7_line 105 = .ok (.aload_n 0, 1) := dk_42 (dk_at dksX7_line_4 19 rfl rfl)
theorem dX7_line_106 : decode cX7_line 106 = .ok (.getfield 15, 3) := dk_180 0 15 (dk_at dksX7_line_4 20 rfl rfl)
theorem dX7_line_109 : decode cX7_line 109 = .ok (.getfield 57, 3) := dk_180 0 57 (dk_at dksX7_line_5 0 rfl rfl)
theorem dX7_line_112 : decode cX7_line 112 = .ok (.invokevirtual 111, 3) := dk_182 0 111 (dk_at dksX7_line_5 3 rfl rfl)
theorem dX7_line_115 : decode cX7_line 115 = .ok (.istore_n 2, 1) := dk_61 (dk_at dksX7_line_5 6 rfl rfl)
theorem dX7_line_116 : decode cX7_line 116 = .ok (.aload_n 0, 1) := dk_42 (dk_at dksX7_line_5 7 rfl rfl)
theorem dX7_line_117 : decode cX7_line 117 = .ok (.aload_n 0, 1) := dk_42 (dk_at dksX7_line_5 8 rfl rfl)
theorem dX7_line_118 : decode cX7_line 118 = .ok (.getfield 15, 3) := dk_180 0 15 (dk_at dksX7_line_5 9 rfl rfl)
theorem dX7_line_121 : decode cX7_line 121 = .ok (.getfield 78, 3) := dk_180 0 78 (dk_at dksX7_line_5 12 rfl rfl)
theorem dX7_line_124 : decode cX7_line 124 = .ok (.aload_n 0, 1) := dk_42 (dk_at dksX7_line_5 15 rfl rfl)
theorem dX7_line_125 : decode cX7_line 125 = .ok (.getfield 15, 3) := dk_180 0 15 (dk_at dksX7_line_5 16 rfl rfl)
theorem dX7_line_128 : decode cX7_line 128 = .ok (.getfield 57, 3) := dk_180 0 57 (dk_at dksX7_line_5 19 rfl rfl)
theorem dX7_line_131 : decode cX7_line 131 = .ok (.invokevirtual 114, 3) := dk_182 0 114 (dk_at dksX7_line_6 0 rfl rfl)
theorem dX7_line_134 : decode cX7_line 134 = .ok (.istore_n 3, 1) := dk_62 (dk_at dksX7_line_6 3 rfl rfl)
theorem dX7_line_135 : decode cX7_line 135 = .ok (.aload_n 0, 1) := dk_42 (dk_at dksX7_line_6 4 rfl rfl)
theorem dX7_line_136 : decode cX7_line 136 = .ok (.iload_n 2, 1) := dk_28 (dk_at dksX7_line_6 5 rfl rfl)
theorem dX7_line_137 : decode cX7_line 137 = .ok (.iload_n 3, 1) := dk_29 (dk_at dksX7_line_6 6 rfl rfl)
theorem dX7_line_138 : decode cX7_line 138 = .ok (.if_icmp .eq 23, 3) := dk_159 0 23 (dk_at dksX7_line_6 7 rfl rfl)
theorem dX7_line_141 : decode cX7_line 141 = .ok (.aload_n 0, 1) := dk_42 (dk_at dksX7_line_6 10 rfl rfl)
theorem dX7_line_142 : decode cX7_line 142 = .ok (.getfield 15, 3) := dk_180 0 15 (dk_at dksX7_line_6 11 rfl rfl)
theorem dX7_line_145 : decode cX7_line 145 = .ok (.getfield 117, 3) := dk_180 0 117 (dk_at dksX7_line_6 14 rfl rfl)
theorem dX7_line_148 : decode cX7_line 148 = .ok (.iload_n 2, 1) := dk_28 (dk_at dksX7_line_6 17 rfl rfl)
theorem dX7_line_149 : decode cX7_line 149 = .ok (.iaload, 1) := dk_46 (dk_at dksX7_line_6 18 rfl rfl)
theorem dX7_line_150 : decode cX7_line 150 = .ok (.iload_n 3, 1) := dk_29 (dk_at dksX7_line_6 19 rfl rfl)
theorem dX7_line_151 : decode cX7_line 151 = .ok (.invokestatic 119, 3) := dk_184 0 119 (dk_at dksX7_line_6 20 rfl rfl)
theorem dX7_line_154 : decode cX7_line 154 = .ok (.ifCond .ne 7, 3) := dk_154 0 7 (dk_at dksX7_line_7 0 rfl rfl)
theorem dX7_line_157 : decode cX7_line 157 = .ok (.iconst 1, 1) := dk_4 (dk_at dksX7_line_7 3 rfl rfl)
theorem dX7_line_158 : decode cX7_line 158 = .ok (.goto 4, 3) := dk_167 0 4 (dk_at dksX7_line_7 4 rfl rfl)
theorem dX7_line_161 : decode cX7_line 161 = .ok (.iconst 0, 1) := dk_3 (dk_at dksX7_line_7 7 rfl rfl)
theorem dX7_line_162 : decode cX7_line 162 = .ok (.iconst 3, 1) := dk_6 (dk_at dksX7_line_7 8 rfl rfl)
theorem dX7_line_163 : decode cX7_line 163 = .ok (.invokevirtual 39, 3) := dk_182 0 39 (dk_at dksX7_line_7 9 rfl rfl)
theorem dX7_line_166 : decode cX7_line 166 = .ok (.aload_n 0, 1) := dk_42 (dk_at dksX7_line_7 12 rfl rfl)
theorem dX7_line_167 : decode cX7_line 167 = .ok (.invokevirtual 47, 3) := dk_182 0 47 (dk_at dksX7_line_7 13 rfl rfl)
theorem dX7_line_170 : decode cX7_line 170 = .ok (.aload_n 0, 1) := dk_42 (dk_at dksX7_line_7 16 rfl rfl)
theorem dX7_line_171 : decode cX7_line 171 = .ok (.getfield 15, 3) := dk_180 0 15 (dk_at dksX7_line_7 17 rfl rfl)
theorem dX7_line_174 : decode cX7_line 174 = .ok (.getfield 117, 3) := dk_180 0 117 (dk_at dksX7_line_7 20 rfl rfl)
theorem dX7_line_177 : decode cX7_line 177 = .ok (.iload_n 2, 1) := dk_28 (dk_at dksX7_line_7 23 rfl rfl)
theorem dX7_line_178 : decode cX7_line 178 = .ok (.dup2, 1) := dk_92 (dk_at dksX7_line_8 0 rfl rfl)
theorem dX7_line_179 : decode cX7_line 179 = .ok (.iaload, 1) := dk_46 (dk_at dksX7_line_8 1 rfl rfl)
theorem dX7_line_180 : decode cX7_line 180 = .ok (.iconst 1, 1) := dk_4 (dk_at dksX7_line_8 2 rfl rfl)
theorem dX7_line_181 : decode cX7_line 181 = .ok (.iload_n 3, 1) := dk_29 (dk_at dksX7_line_8 3 rfl rfl)
theorem dX7_line_182 : decode cX7_line 182 = .ok (.ishl, 1) := dk_120 (dk_at dksX7_line_8 4 rfl rfl)
theorem dX7_line_183 : decode cX7_line 183 = .ok (.ior, 1) := dk_128 (dk_at dksX7_line_8 5 rfl rfl)
theorem dX7_line_184 : decode cX7_line 184 = .ok (.iastore, 1) := dk_79 (dk_at dksX7_line_8 6 rfl rfl)
theorem dX7_line_185 : decode cX7_line 185 = .ok (.aload_n 0, 1) := dk_42 (dk_at dksX7_line_8 7 rfl rfl)
theorem dX7_line_186 : decode cX7_line 186 = .ok (.getfield 15, 3) := dk_180 0 15 (dk_at dksX7_line_8 8 rfl rfl)
theorem dX7_line_189 : decode cX7_line 189 = .ok (.getfield 117, 3) := dk_180 0 117 (dk_at dksX7_line_8 11 rfl rfl)
theorem dX7_line_192 : decode cX7_line 192 = .ok (.iload_n 3, 1) := dk_29 (dk_at dksX7_line_8 14 rfl rfl)
theorem dX7_line_193 : decode cX7_line 193 = .ok (.dup2, 1) := dk_92 (dk_at dksX7_line_8 15 rfl rfl)
theorem dX7_line_194 : decode cX7_line 194 = .ok (.iaload, 1) := dk_46 (dk_at dksX7_line_8 16 rfl rfl)
theorem dX7_line_195 : decode cX7_line 195 = .ok (.iconst 1, 1) := dk_4 (dk_at dksX7_line_8 17 rfl rfl)
theorem dX7_line_196 : decode cX7_line 196 = .ok (.iload_n 2, 1) := dk_28 (dk_at dksX7_line_8 18 rfl rfl)
theorem dX7_line_197 : decode cX7_line 197 = .ok (.ishl, 1) := dk_120 (dk_at dksX7_line_8 19 rfl rfl)
theorem dX7_line_198 : decode cX7_line 198 = .ok (.ior, 1) := dk_128 (dk_at dksX7_line_8 20 rfl rfl)
theorem dX7_line_199 : decode cX7_line 199 = .ok (.iastore, 1) := dk_79 (dk_at dksX7_line_8 21 rfl rfl)
theorem dX7_line_200 : decode cX7_line 200 = .ok (.aload_n 0, 1) := dk_42 (dk_at dksX7_line_8 22 rfl rfl)
theorem dX7_line_201 : decode cX7_line 201 = .ok (.getfield 15, 3) := dk_180 0 15 (dk_at dksX7_line_9 0 rfl rfl)
theorem dX7_line_204 : decode cX7_line 204 = .ok (.dup, 1) := dk_89 (dk_at dksX7_line_9 3 rfl rfl)
theorem dX7_line_205 : decode cX7_line 205 = .ok (.getfield 62, 3) := dk_180 0 62 (dk_at dksX7_line_9 4 rfl rfl)
theorem dX7_line_208 : decode cX7_line 208 = .ok (.iconst 1, 1) := dk_4 (dk_at dksX7_line_9 7 rfl rfl)
theorem dX7_line_209 : decode cX7_line 209 = .ok (.iadd, 1) := dk_96 (dk_at dksX7_line_9 8 rfl rfl)
theorem dX7_line_210 : decode cX7_line 210 = .ok (.putfield 62, 3) := dk_181 0 62 (dk_at dksX7_line_9 9 rfl rfl)
theorem dX7_line_213 : decode cX7_line 213 = .ok (.goto 168, 3) := dk_167 0 168 (dk_at dksX7_line_9 12 rfl rfl)
theorem dX7_line_216 : decode cX7_line 216 = .ok (.aload_n 0, 1) := dk_42 (dk_at dksX7_line_9 15 rfl rfl)
theorem dX7_line_217 : decode cX7_line 217 = .ok (.getfield 15, 3) := dk_180 0 15 (dk_at dksX7_line_9 16 rfl rfl)
theorem dX7_line_220 : decode cX7_line 220 = .ok (.getfield 86, 3) := dk_180 0 86 (dk_at dksX7_line_9 19 rfl rfl)
theorem dX7_line_223 : decode cX7_line 223 = .ok (.aload_n 0, 1) := dk_42 (dk_at dksX7_line_9 22 rfl rfl)
theorem dX7_line_224 : decode cX7_line 224 = .ok (.getfield 15, 3) := dk_180 0 15 (dk_at dksX7_line_10 0 rfl rfl)
theorem dX7_line_227 : decode cX7_line 227 = .ok (.getfield 65, 3) := dk_180 0 65 (dk_at dksX7_line_10 3 rfl rfl)
theorem dX7_line_230 : decode cX7_line 230 = .ok (.aload_n 0, 1) := dk_42 (dk_at dksX7_line_10 6 rfl rfl)
theorem dX7_line_231 : decode cX7_line 231 = .ok (.invokevirtual 99, 3) := dk_182 0 99 (dk_at dksX7_line_10 7 rfl rfl)
theorem dX7_line_234 : decode cX7_line 234 = .ok (.lastore, 1) := dk_80 (dk_at dksX7_line_10 10 rfl rfl)
theorem dX7_line_235 : decode cX7_line 235 = .ok (.aload_n 0, 1) := dk_42 (dk_at dksX7_line_10 11 rfl rfl)
theorem dX7_line_236 : decode cX7_line 236 = .ok (.getfield 15, 3) := dk_180 0 15 (dk_at dksX7_line_10 12 rfl rfl)
theorem dX7_line_239 : decode cX7_line 239 = .ok (.dup, 1) := dk_89 (dk_at dksX7_line_10 15 rfl rfl)
theorem dX7_line_240 : decode cX7_line 240 = .ok (.getfield 65, 3) := dk_180 0 65 (dk_at dksX7_line_10 16 rfl rfl)
theorem dX7_line_243 : decode cX7_line 243 = .ok (.iconst 1, 1) := dk_4 (dk_at dksX7_line_10 19 rfl rfl)
theorem dX7_line_244 : decode cX7_line 244 = .ok (.iadd, 1) := dk_96 (dk_at dksX7_line_10 20 rfl rfl)
theorem dX7_line_245 : decode cX7_line 245 = .ok (.putfield 65, 3) := dk_181 0 65 (dk_at dksX7_line_10 21 rfl rfl)
theorem dX7_line_248 : decode cX7_line 248 = .ok (.goto 133, 3) := dk_167 0 133 (dk_at dksX7_line_11 0 rfl rfl)
theorem dX7_line_251 : decode cX7_line 251 = .ok (.aload_n 0, 1) := dk_42 (dk_at dksX7_line_11 3 rfl rfl)
theorem dX7_line_252 : decode cX7_line 252 = .ok (.invokevirtual 123, 3) := dk_182 0 123 (dk_at dksX7_line_11 4 rfl rfl)
theorem dX7_line_255 : decode cX7_line 255 = .ok (.goto 126, 3) := dk_167 0 126 (dk_at dksX7_line_11 7 rfl rfl)
theorem dX7_line_258 : decode cX7_line 258 = .ok (.aload_n 0, 1) := dk_42 (dk_at dksX7_line_11 10 rfl rfl)
theorem dX7_line_259 : decode cX7_line 259 = .ok (.invokevirtual 126, 3) := dk_182 0 126 (dk_at dksX7_line_11 11 rfl rfl)
theorem dX7_line_262 : decode cX7_line 262 = .ok (.goto 119, 3) := dk_167 0 119 (dk_at dksX7_line_11 14 rfl rfl)
theorem dX7_line_265 : decode cX7_line 265 = .ok (.aload_n 0, 1) := dk_42 (dk_at dksX7_line_11 17 rfl rfl)
theorem dX7_line_266 : decode cX7_line 266 = .ok (.aload_n 0, 1) := dk_42 (dk_at dksX7_line_11 18 rfl rfl)
theorem dX7_line_267 : decode cX7_line 267 = .ok (.getfield 15, 3) := dk_180 0 15 (dk_at dksX7_line_11 19 rfl rfl)
theorem dX7_line_270 : decode cX7_line 270 = .ok (.getfield 92, 3) := dk_180 0 92 (dk_at dksX7_line_12 0 rfl rfl)
theorem dX7_line_273 : decode cX7_line 273 = .ok (.aload_n 0, 1) := dk_42 (dk_at dksX7_line_12 3 rfl rfl)
theorem dX7_line_274 : decode cX7_line 274 = .ok (.getfield 15, 3) := dk_180 0 15 (dk_at dksX7_line_12 4 rfl rfl)
theorem dX7_line_277 : decode cX7_line 277 = .ok (.getfield 71, 3) := dk_180 0 71 (dk_at dksX7_line_12 7 rfl rfl)
theorem dX7_line_280 : decode cX7_line 280 = .ok (.invokevirtual 111, 3) := dk_182 0 111 (dk_at dksX7_line_12 10 rfl rfl)
theorem dX7_line_283 : decode cX7_line 283 = .ok (.istore_n 2, 1) := dk_61 (dk_at dksX7_line_12 13 rfl rfl)
theorem dX7_line_284 : decode cX7_line 284 = .ok (.iconst 5, 1) := dk_8 (dk_at dksX7_line_12 14 rfl rfl)
theorem dX7_line_285 : decode cX7_line 285 = .ok (.iload_n 2, 1) := dk_28 (dk_at dksX7_line_12 15 rfl rfl)
theorem dX7_line_286 : decode cX7_line 286 = .ok (.imul, 1) := dk_104 (dk_at dksX7_line_12 16 rfl rfl)
theorem dX7_line_287 : decode cX7_line 287 = .ok (.aload_n 0, 1) := dk_42 (dk_at dksX7_line_12 17 rfl rfl)
theorem dX7_line_288 : decode cX7_line 288 = .ok (.aload_n 0, 1) := dk_42 (dk_at dksX7_line_12 18 rfl rfl)
theorem dX7_line_289 : decode cX7_line 289 = .ok (.getfield 15, 3) := dk_180 0 15 (dk_at dksX7_line_12 19 rfl rfl)
theorem dX7_line_292 : decode cX7_line 292 = .ok (.getfield 86, 3) := dk_180 0 86 (dk_at dksX7_line_13 0 rfl rfl)
theorem dX7_line_295 : decode cX7_line 295 = .ok (.aload_n 0, 1) := dk_42 (dk_at dksX7_line_13 3 rfl rfl)
theorem dX7_line_296 : decode cX7_line 296 = .ok (.getfield 15, 3) := dk_180 0 15 (dk_at dksX7_line_13 4 rfl rfl)
theorem dX7_line_299 : decode cX7_line 299 = .ok (.getfield 65, 3) := dk_180 0 65 (dk_at dksX7_line_13 7 rfl rfl)
theorem dX7_line_302 : decode cX7_line 302 = .ok (.invokevirtual 114, 3) := dk_182 0 114 (dk_at dksX7_line_13 10 rfl rfl)
theorem dX7_line_305 : decode cX7_line 305 = .ok (.iadd, 1) := dk_96 (dk_at dksX7_line_13 13 rfl rfl)
theorem dX7_line_306 : decode cX7_line 306 = .ok (.istore_n 3, 1) := dk_62 (dk_at dksX7_line_13 14 rfl rfl)
theorem dX7_line_307 : decode cX7_line 307 = .ok (.aload_n 0, 1) := dk_42 (dk_at dksX7_line_13 15 rfl rfl)
theorem dX7_line_308 : decode cX7_line 308 = .ok (.aload_n 0, 1) := dk_42 (dk_at dksX7_line_13 16 rfl rfl)
theorem dX7_line_309 : decode cX7_line 309 = .ok (.getfield 15, 3) := dk_180 0 15 (dk_at dksX7_line_13 17 rfl rfl)
theorem dX7_line_312 : decode cX7_line 312 = .ok (.getfield 129, 3) := dk_180 0 129 (dk_at dksX7_line_13 20 rfl rfl)
theorem dX7_line_315 : decode cX7_line 315 = .ok (.iload_n 3, 1) := dk_29 (dk_at dksX7_line_13 23 rfl rfl)
theorem dX7_line_316 : decode cX7_line 316 = .ok (.baload, 1) := dk_51 (dk_at dksX7_line_14 0 rfl rfl)
theorem dX7_line_317 : decode cX7_line 317 = .ok (.ifCond .ne 7, 3) := dk_154 0 7 (dk_at dksX7_line_14 1 rfl rfl)
theorem dX7_line_320 : decode cX7_line 320 = .ok (.iconst 1, 1) := dk_4 (dk_at dksX7_line_14 4 rfl rfl)
theorem dX7_line_321 : decode cX7_line 321 = .ok (.goto 4, 3) := dk_167 0 4 (dk_at dksX7_line_14 5 rfl rfl)
theorem dX7_line_324 : decode cX7_line 324 = .ok (.iconst 0, 1) := dk_3 (dk_at dksX7_line_14 8 rfl rfl)
theorem dX7_line_325 : decode cX7_line 325 = .ok (.iconst 3, 1) := dk_6 (dk_at dksX7_line_14 9 rfl rfl)
theorem dX7_line_326 : decode cX7_line 326 = .ok (.invokevirtual 39, 3) := dk_182 0 39 (dk_at dksX7_line_14 10 rfl rfl)
theorem dX7_line_329 : decode cX7_line 329 = .ok (.aload_n 0, 1) := dk_42 (dk_at dksX7_line_14 13 rfl rfl)
theorem dX7_line_330 : decode cX7_line 330 = .ok (.invokevirtual 47, 3) := dk_182 0 47 (dk_at dksX7_line_14 14 rfl rfl)
theorem dX7_line_333 : decode cX7_line 333 = .ok (.aload_n 0, 1) := dk_42 (dk_at dksX7_line_14 17 rfl rfl)
theorem dX7_line_334 : decode cX7_line 334 = .ok (.getfield 15, 3) := dk_180 0 15 (dk_at dksX7_line_14 18 rfl rfl)
theorem dX7_line_337 : decode cX7_line 337 = .ok (.getfield 133, 3) := dk_180 0 133 (dk_at dksX7_line_14 21 rfl rfl)
theorem dX7_line_340 : decode cX7_line 340 = .ok (.iload_n 3, 1) := dk_29 (dk_at dksX7_line_15 0 rfl rfl)
theorem dX7_line_341 : decode cX7_line 341 = .ok (.aload_n 0, 1) := dk_42 (dk_at dksX7_line_15 1 rfl rfl)
theorem dX7_line_342 : decode cX7_line 342 = .ok (.iconst 0, 1) := dk_3 (dk_at dksX7_line_15 2 rfl rfl)
theorem dX7_line_343 : decode cX7_line 343 = .ok (.bipush 12, 2) := dk_16 12 (dk_at dksX7_line_15 3 rfl rfl)
theorem dX7_line_345 : decode cX7_line 345 = .ok (.invokevirtual 107, 3) := dk_182 0 107 (dk_at dksX7_line_15 5 rfl rfl)
theorem dX7_line_348 : decode cX7_line 348 = .ok (.iastore, 1) := dk_79 (dk_at dksX7_line_15 8 rfl rfl)
theorem dX7_line_349 : decode cX7_line 349 = .ok (.aload_n 0, 1) := dk_42 (dk_at dksX7_line_15 9 rfl rfl)
theorem dX7_line_350 : decode cX7_line 350 = .ok (.getfield 15, 3) := dk_180 0 15 (dk_at dksX7_line_15 10 rfl rfl)
theorem dX7_line_353 : decode cX7_line 353 = .ok (.getfield 129, 3) := dk_180 0 129 (dk_at dksX7_line_15 13 rfl rfl)
theorem dX7_line_356 : decode cX7_line 356 = .ok (.iload_n 3, 1) := dk_29 (dk_at dksX7_line_15 16 rfl rfl)
theorem dX7_line_357 : decode cX7_line 357 = .ok (.iconst 1, 1) := dk_4 (dk_at dksX7_line_15 17 rfl rfl)
theorem dX7_line_358 : decode cX7_line 358 = .ok (.bastore, 1) := dk_84 (dk_at dksX7_line_15 18 rfl rfl)
theorem dX7_line_359 : decode cX7_line 359 = .ok (.goto 22, 3) := dk_167 0 22 (dk_at dksX7_line_15 19 rfl rfl)
theorem dX7_line_362 : decode cX7_line 362 = .ok (.aload_n 0, 1) := dk_42 (dk_at dksX7_line_15 22 rfl rfl)
theorem dX7_line_363 : decode cX7_line 363 = .ok (.iconst 1, 1) := dk_4 (dk_at dksX7_line_15 23 rfl rfl)
theorem dX7_line_364 : decode cX7_line 364 = .ok (.putfield 19, 3) := dk_181 0 19 (dk_at dksX7_line_16 0 rfl rfl)
theorem dX7_line_367 : decode cX7_line 367 = .ok (.aload_n 0, 1) := dk_42 (dk_at dksX7_line_16 3 rfl rfl)
theorem dX7_line_368 : decode cX7_line 368 = .ok (.getfield 15, 3) := dk_180 0 15 (dk_at dksX7_line_16 4 rfl rfl)
theorem dX7_line_371 : decode cX7_line 371 = .ok (.aload_n 0, 1) := dk_42 (dk_at dksX7_line_16 7 rfl rfl)
theorem dX7_line_372 : decode cX7_line 372 = .ok (.iconst 1, 1) := dk_4 (dk_at dksX7_line_16 8 rfl rfl)
theorem dX7_line_373 : decode cX7_line 373 = .ok (.bipush 9, 2) := dk_16 9 (dk_at dksX7_line_16 9 rfl rfl)
theorem dX7_line_375 : decode cX7_line 375 = .ok (.invokevirtual 107, 3) := dk_182 0 107 (dk_at dksX7_line_16 11 rfl rfl)
theorem dX7_line_378 : decode cX7_line 378 = .ok (.putfield 136, 3) := dk_181 0 136 (dk_at dksX7_line_16 14 rfl rfl)
theorem dX7_line_381 : decode cX7_line 381 = .ok (.return_, 1) := dk_177 (dk_at dksX7_line_16 17 rfl rfl)
abbrev cX7_fresh : ByteArray := prog_5_method_4_code
def yX7_fresh : MethodName := ⟨RX7, "fresh", "()J"⟩
def dkwX7_fresh_5 : List UInt8 := [42, 182, 0, 47, 31, 173]
abbrev dktX7_fresh_5 : List UInt8 := dkwX7_fresh_5 ++ []
def dkwX7_fresh_4 : List UInt8 := [180, 0, 71, 182, 0, 82, 2, 160, 0, 7, 4, 167, 0, 4, 3, 6, 182, 0, 39, 42, 180, 0, 95, 64]
abbrev dktX7_fresh_4 : List UInt8 := dkwX7_fresh_4 ++ dktX7_fresh_5
def dkwX7_fresh_3 : List UInt8 := [180, 0, 68, 182, 0, 82, 2, 160, 0, 29, 42, 42, 180, 0, 15, 180, 0, 92, 42, 180, 0, 15]
abbrev dktX7_fresh_3 : List UInt8 := dkwX7_fresh_3 ++ dktX7_fresh_4
def dkwX7_fresh_2 : List UInt8 := [180, 0, 65, 182, 0, 82, 2, 160, 0, 51, 42, 42, 180, 0, 15, 180, 0, 89, 42, 180, 0, 15]
abbrev dktX7_fresh_2 : List UInt8 := dkwX7_fresh_2 ++ dktX7_fresh_3
def dkwX7_fresh_1 : List UInt8 := [180, 0, 57, 182, 0, 82, 2, 160, 0, 73, 42, 42, 180, 0, 15, 180, 0, 86, 42, 180, 0, 15]
abbrev dktX7_fresh_1 : List UInt8 := dkwX7_fresh_1 ++ dktX7_fresh_2
def dkwX7_fresh_0 : List UInt8 := [42, 42, 182, 0, 74, 4, 182, 0, 39, 42, 42, 42, 180, 0, 15, 180, 0, 78, 42, 180, 0, 15]
abbrev dktX7_fresh_0 : List UInt8 := dkwX7_fresh_0 ++ dktX7_fresh_1
theorem dksX7_fresh_0 : cX7_fresh.data.toList.drop 0 = dktX7_fresh_0 := by decide +kernel
theorem dksX7_fresh_1 : cX7_fresh.data.toList.drop 22 = dktX7_fresh_1 := dk_seg dksX7_fresh_0 22 rfl rfl
theorem dksX7_fresh_2 : cX7_fresh.data.toList.drop 44 = dktX7_fresh_2 := dk_seg dksX7_fresh_1 22 rfl rfl
theorem dksX7_fresh_3 : cX7_fresh.data.toList.drop 66 = dktX7_fresh_3 := dk_seg dksX7_fresh_2 22 rfl rfl
theorem dksX7_fresh_4 : cX7_fresh.data.toList.drop 88 = dktX7_fresh_4 := dk_seg dksX7_fresh_3 22 rfl rfl
theorem dksX7_fresh_5 : cX7_fresh.data.toList.drop 112 = dktX7_fresh_5 := dk_seg dksX7_fresh_4 24 rfl rfl
theorem dX7_fresh_0 : decode cX7_fresh 0 = .ok (.aload_n 0, 1) := dk_42 (dk_at dksX7_fresh_0 0 rfl rfl)
theorem dX7_fresh_1 : decode cX7_fresh 1 = .ok (.aload_n 0, 1) := dk_42 (dk_at dksX7_fresh_0 1 rfl rfl)
theorem dX7_fresh_2 : decode cX7_fresh 2 = .ok (.invokevirtual 74, 3) := dk_182 0 74 (dk_at dksX7_fresh_0 2 rfl rfl)
theorem dX7_fresh_5 : decode cX7_fresh 5 = .ok (.iconst 1, 1) := dk_4 (dk_at dksX7_fresh_0 5 rfl rfl)
theorem dX7_fresh_6 : decode cX7_fresh 6 = .ok (.invokevirtual 39, 3) := dk_182 0 39 (dk_at dksX7_fresh_0 6 rfl rfl)
theorem dX7_fresh_9 : decode cX7_fresh 9 = .ok (.aload_n 0, 1) := dk_42 (dk_at dksX7_fresh_0 9 rfl rfl)
theorem dX7_fresh_10 : decode cX7_fresh 10 = .ok (.aload_n 0, 1) := dk_42 (dk_at dksX7_fresh_0 10 rfl rfl)
theorem dX7_fresh_11 : decode cX7_fresh 11 = .ok (.aload_n 0, 1) := dk_42 (dk_at dksX7_fresh_0 11 rfl rfl)
theorem dX7_fresh_12 : decode cX7_fresh 12 = .ok (.getfield 15, 3) := dk_180 0 15 (dk_at dksX7_fresh_0 12 rfl rfl)
theorem dX7_fresh_15 : decode cX7_fresh 15 = .ok (.getfield 78, 3) := dk_180 0 78 (dk_at dksX7_fresh_0 15 rfl rfl)
theorem dX7_fresh_18 : decode cX7_fresh 18 = .ok (.aload_n 0, 1) := dk_42 (dk_at dksX7_fresh_0 18 rfl rfl)
theorem dX7_fresh_19 : decode cX7_fresh 19 = .ok (.getfield 15, 3) := dk_180 0 15 (dk_at dksX7_fresh_0 19 rfl rfl)
theorem dX7_fresh_22 : decode cX7_fresh 22 = .ok (.getfield 57, 3) := dk_180 0 57 (dk_at dksX7_fresh_1 0 rfl rfl)
theorem dX7_fresh_25 : decode cX7_fresh 25 = .ok (.invokevirtual 82, 3) := dk_182 0 82 (dk_at dksX7_fresh_1 3 rfl rfl)
theorem dX7_fresh_28 : decode cX7_fresh 28 = .ok (.iconst (-1), 1) := dk_2 (dk_at dksX7_fresh_1 6 rfl rfl)
theorem dX7_fresh_29 : decode cX7_fresh 29 = .ok (.if_icmp .ne 73, 3) := dk_160 0 73 (dk_at dksX7_fresh_1 7 rfl rfl)
theorem dX7_fresh_32 : decode cX7_fresh 32 = .ok (.aload_n 0, 1) := dk_42 (dk_at dksX7_fresh_1 10 rfl rfl)
theorem dX7_fresh_33 : decode cX7_fresh 33 = .ok (.aload_n 0, 1) := dk_42 (dk_at dksX7_fresh_1 11 rfl rfl)
theorem dX7_fresh_34 : decode cX7_fresh 34 = .ok (.getfield 15, 3) := dk_180 0 15 (dk_at dksX7_fresh_1 12 rfl rfl)
theorem dX7_fresh_37 : decode cX7_fresh 37 = .ok (.getfield 86, 3) := dk_180 0 86 (dk_at dksX7_fresh_1 15 rfl rfl)
theorem dX7_fresh_40 : decode cX7_fresh 40 = .ok (.aload_n 0, 1) := dk_42 (dk_at dksX7_fresh_1 18 rfl rfl)
theorem dX7_fresh_41 : decode cX7_fresh 41 = .ok (.getfield 15, 3) := dk_180 0 15 (dk_at dksX7_fresh_1 19 rfl rfl)
theorem dX7_fresh_44 : decode cX7_fresh 44 = .ok (.getfield 65, 3) := dk_180 0 65 (dk_at dksX7_fresh_2 0 rfl rfl)
theorem dX7_fresh_47 : decode cX7_fresh 47 = .ok (.invokevirtual 82, 3) := dk_182 0 82 (dk_at dksX7_fresh_2 3 rfl rfl)
theorem dX7_fresh_50 : decode cX7_fresh 50 = .ok (.iconst (-1), 1) := dk_2 (dk_at dksX7_fresh_2 6 rfl rfl)
theorem dX7_fresh_51 : decode cX7_fresh 51 = .ok (.if_icmp .ne 51, 3) := dk_160 0 51 (dk_at dksX7_fresh_2 7 rfl rfl)
theorem dX7_fresh_54 : decode cX7_fresh 54 = .ok (.aload_n 0, 1) := dk_42 (dk_at dksX7_fresh_2 10 rfl rfl)
theorem dX7_fresh_55 : decode cX7_fresh 55 = .ok (.aload_n 0, 1) := dk_42 (dk_at dksX7_fresh_2 11 rfl rfl)
theorem dX7_fresh_56 : decode cX7_fresh 56 = .ok (.getfield 15, 3) := dk_180 0 15 (dk_at dksX7_fresh_2 12 rfl rfl)
theorem dX7_fresh_59 : decode cX7_fresh 59 = .ok (.getfield 89, 3) := dk_180 0 89 (dk_at dksX7_fresh_2 15 rfl rfl)
theorem dX7_fresh_62 : decode cX7_fresh 62 = .ok (.aload_n 0, 1) := dk_42 (dk_at dksX7_fresh_2 18 rfl rfl)
theorem dX7_fresh_63 : decode cX7_fresh 63 = .ok (.getfield 15, 3) := dk_180 0 15 (dk_at dksX7_fresh_2 19 rfl rfl)
theorem dX7_fresh_66 : decode cX7_fresh 66 = .ok (.getfield 68, 3) := dk_180 0 68 (dk_at dksX7_fresh_3 0 rfl rfl)
theorem dX7_fresh_69 : decode cX7_fresh 69 = .ok (.invokevirtual 82, 3) := dk_182 0 82 (dk_at dksX7_fresh_3 3 rfl rfl)
theorem dX7_fresh_72 : decode cX7_fresh 72 = .ok (.iconst (-1), 1) := dk_2 (dk_at dksX7_fresh_3 6 rfl rfl)
theorem dX7_fresh_73 : decode cX7_fresh 73 = .ok (.if_icmp .ne 29, 3) := dk_160 0 29 (dk_at dksX7_fresh_3 7 rfl rfl)
theorem dX7_fresh_76 : decode cX7_fresh 76 = .ok (.aload_n 0, 1) := dk_42 (dk_at dksX7_fresh_3 10 rfl rfl)
theorem dX7_fresh_77 : decode cX7_fresh 77 = .ok (.aload_n 0, 1) := dk_42 (dk_at dksX7_fresh_3 11 rfl rfl)
theorem dX7_fresh_78 : decode cX7_fresh 78 = .ok (.getfield 15, 3) := dk_180 0 15 (dk_at dksX7_fresh_3 12 rfl rfl)
theorem dX7_fresh_81 : decode cX7_fresh 81 = .ok (.getfield 92, 3) := dk_180 0 92 (dk_at dksX7_fresh_3 15 rfl rfl)
theorem dX7_fresh_84 : decode cX7_fresh 84 = .ok (.aload_n 0, 1) := dk_42 (dk_at dksX7_fresh_3 18 rfl rfl)
theorem dX7_fresh_85 : decode cX7_fresh 85 = .ok (.getfield 15, 3) := dk_180 0 15 (dk_at dksX7_fresh_3 19 rfl rfl)
theorem dX7_fresh_88 : decode cX7_fresh 88 = .ok (.getfield 71, 3) := dk_180 0 71 (dk_at dksX7_fresh_4 0 rfl rfl)
theorem dX7_fresh_91 : decode cX7_fresh 91 = .ok (.invokevirtual 82, 3) := dk_182 0 82 (dk_at dksX7_fresh_4 3 rfl rfl)
theorem dX7_fresh_94 : decode cX7_fresh 94 = .ok (.iconst (-1), 1) := dk_2 (dk_at dksX7_fresh_4 6 rfl rfl)
theorem dX7_fresh_95 : decode cX7_fresh 95 = .ok (.if_icmp .ne 7, 3) := dk_160 0 7 (dk_at dksX7_fresh_4 7 rfl rfl)
theorem dX7_fresh_98 : decode cX7_fresh 98 = .ok (.iconst 1, 1) := dk_4 (dk_at dksX7_fresh_4 10 rfl rfl)
theorem dX7_fresh_99 : decode cX7_fresh 99 = .ok (.goto 4, 3) := dk_167 0 4 (dk_at dksX7_fresh_4 11 rfl rfl)
theorem dX7_fresh_102 : decode cX7_fresh 102 = .ok (.iconst 0, 1) := dk_3 (dk_at dksX7_fresh_4 14 rfl rfl)
theorem dX7_fresh_103 : decode cX7_fresh 103 = .ok (.iconst 3, 1) := dk_6 (dk_at dksX7_fresh_4 15 rfl rfl)
theorem dX7_fresh_104 : decode cX7_fresh 104 = .ok (.invokevirtual 39, 3) := dk_182 0 39 (dk_at dksX7_fresh_4 16 rfl rfl)
theorem dX7_fresh_107 : decode cX7_fresh 107 = .ok (.aload_n 0, 1) := dk_42 (dk_at dksX7_fresh_4 19 rfl rfl)
theorem dX7_fresh_108 : decode cX7_fresh 108 = .ok (.getfield 95, 3) := dk_180 0 95 (dk_at dksX7_fresh_4 20 rfl rfl)
theorem dX7_fresh_111 : decode cX7_fresh 111 = .ok (.lstore_n 1, 1) := dk_64 (dk_at dksX7_fresh_4 23 rfl rfl)
theorem dX7_fresh_112 : decode cX7_fresh 112 = .ok (.aload_n 0, 1) := dk_42 (dk_at dksX7_fresh_5 0 rfl rfl)
theorem dX7_fresh_113 : decode cX7_fresh 113 = .ok (.invokevirtual 47, 3) := dk_182 0 47 (dk_at dksX7_fresh_5 1 rfl rfl)
theorem dX7_fresh_116 : decode cX7_fresh 116 = .ok (.lload_n 1, 1) := dk_31 (dk_at dksX7_fresh_5 4 rfl rfl)
theorem dX7_fresh_117 : decode cX7_fresh 117 = .ok (.lreturn, 1) := dk_173 (dk_at dksX7_fresh_5 5 rfl rfl)
abbrev cX7_statue : ByteArray := prog_5_method_6_code
def yX7_statue : MethodName := ⟨RX7, "statue", "()V"⟩
def dkwX7_statue_7 : List UInt8 := [181, 0, 68, 177]
abbrev dktX7_statue_7 : List UInt8 := dkwX7_statue_7 ++ []
def dkwX7_statue_6 : List UInt8 := [180, 0, 148, 27, 42, 3, 16, 99, 182, 0, 107, 79, 42, 180, 0, 15, 89, 180, 0, 68, 4, 96]
abbrev dktX7_statue_6 : List UInt8 := dkwX7_statue_6 ++ dktX7_statue_7
def dkwX7_statue_5 : List UInt8 := [79, 42, 180, 0, 15, 180, 0, 145, 27, 42, 3, 17, 3, 231, 182, 0, 107, 79, 42, 180, 0, 15]
abbrev dktX7_statue_5 : List UInt8 := dkwX7_statue_5 ++ dktX7_statue_6
def dkwX7_statue_4 : List UInt8 := [3, 6, 182, 0, 39, 132, 3, 1, 167, 255, 225, 42, 182, 0, 47, 42, 180, 0, 15, 180, 0, 142, 27, 28]
abbrev dktX7_statue_4 : List UInt8 := dkwX7_statue_4 ++ dktX7_statue_5
def dkwX7_statue_3 : List UInt8 := [62, 29, 27, 162, 0, 32, 42, 42, 180, 0, 15, 180, 0, 142, 29, 46, 28, 159, 0, 7, 4, 167, 0, 4]
abbrev dktX7_statue_3 : List UInt8 := dkwX7_statue_3 ++ dktX7_statue_4
def dkwX7_statue_2 : List UInt8 := [182, 0, 111, 79, 42, 42, 180, 0, 15, 180, 0, 78, 42, 180, 0, 15, 180, 0, 57, 182, 0, 114, 61, 3]
abbrev dktX7_statue_2 : List UInt8 := dkwX7_statue_2 ++ dktX7_statue_3
def dkwX7_statue_1 : List UInt8 := [180, 0, 15, 180, 0, 139, 27, 42, 42, 180, 0, 15, 180, 0, 86, 42, 180, 0, 15, 180, 0, 65]
abbrev dktX7_statue_1 : List UInt8 := dkwX7_statue_1 ++ dktX7_statue_2
def dkwX7_statue_0 : List UInt8 := [42, 180, 0, 15, 180, 0, 68, 60, 42, 180, 0, 15, 180, 0, 89, 27, 42, 182, 0, 99, 80, 42]
abbrev dktX7_statue_0 : List UInt8 := dkwX7_statue_0 ++ dktX7_statue_1
theorem dksX7_statue_0 : cX7_statue.data.toList.drop 0 = dktX7_statue_0 := by decide +kernel
theorem dksX7_statue_1 : cX7_statue.data.toList.drop 22 = dktX7_statue_1 := dk_seg dksX7_statue_0 22 rfl rfl
theorem dksX7_statue_2 : cX7_statue.data.toList.drop 44 = dktX7_statue_2 := dk_seg dksX7_statue_1 22 rfl rfl
theorem dksX7_statue_3 : cX7_statue.data.toList.drop 68 = dktX7_statue_3 := dk_seg dksX7_statue_2 24 rfl rfl
theorem dksX7_statue_4 : cX7_statue.data.toList.drop 92 = dktX7_statue_4 := dk_seg dksX7_statue_3 24 rfl rfl
theorem dksX7_statue_5 : cX7_statue.data.toList.drop 116 = dktX7_statue_5 := dk_seg dksX7_statue_4 24 rfl rfl
theorem dksX7_statue_6 : cX7_statue.data.toList.drop 138 = dktX7_statue_6 := dk_seg dksX7_statue_5 22 rfl rfl
theorem dksX7_statue_7 : cX7_statue.data.toList.drop 160 = dktX7_statue_7 := dk_seg dksX7_statue_6 22 rfl rfl
theorem dX7_statue_0 : decode cX7_statue 0 = .ok (.aload_n 0, 1) := dk_42 (dk_at dksX7_statue_0 0 rfl rfl)
theorem dX7_statue_1 : decode cX7_statue 1 = .ok (.getfield 15, 3) := dk_180 0 15 (dk_at dksX7_statue_0 1 rfl rfl)
theorem dX7_statue_4 : decode cX7_statue 4 = .ok (.getfield 68, 3) := dk_180 0 68 (dk_at dksX7_statue_0 4 rfl rfl)
theorem dX7_statue_7 : decode cX7_statue 7 = .ok (.istore_n 1, 1) := dk_60 (dk_at dksX7_statue_0 7 rfl rfl)
theorem dX7_statue_8 : decode cX7_statue 8 = .ok (.aload_n 0, 1) := dk_42 (dk_at dksX7_statue_0 8 rfl rfl)
theorem dX7_statue_9 : decode cX7_statue 9 = .ok (.getfield 15, 3) := dk_180 0 15 (dk_at dksX7_statue_0 9 rfl rfl)
theorem dX7_statue_12 : decode cX7_statue 12 = .ok (.getfield 89, 3) := dk_180 0 89 (dk_at dksX7_statue_0 12 rfl rfl)
theorem dX7_statue_15 : decode cX7_statue 15 = .ok (.iload_n 1, 1) := dk_27 (dk_at dksX7_statue_0 15 rfl rfl)
theorem dX7_statue_16 : decode cX7_statue 16 = .ok (.aload_n 0, 1) := dk_42 (dk_at dksX7_statue_0 16 rfl rfl)
theorem dX7_statue_17 : decode cX7_statue 17 = .ok (.invokevirtual 99, 3) := dk_182 0 99 (dk_at dksX7_statue_0 17 rfl rfl)
theorem dX7_statue_20 : decode cX7_statue 20 = .ok (.lastore, 1) := dk_80 (dk_at dksX7_statue_0 20 rfl rfl)
theorem dX7_statue_21 : decode cX7_statue 21 = .ok (.aload_n 0, 1) := dk_42 (dk_at dksX7_statue_0 21 rfl rfl)
theorem dX7_statue_22 : decode cX7_statue 22 = .ok (.getfield 15, 3) := dk_180 0 15 (dk_at dksX7_statue_1 0 rfl rfl)
theorem dX7_statue_25 : decode cX7_statue 25 = .ok (.getfield 139, 3) := dk_180 0 139 (dk_at dksX7_statue_1 3 rfl rfl)
theorem dX7_statue_28 : decode cX7_statue 28 = .ok (.iload_n 1, 1) := dk_27 (dk_at dksX7_statue_1 6 rfl rfl)
theorem dX7_statue_29 : decode cX7_statue 29 = .ok (.aload_n 0, 1) := dk_42 (dk_at dksX7_statue_1 7 rfl rfl)
theorem dX7_statue_30 : decode cX7_statue 30 = .ok (.aload_n 0, 1) := dk_42 (dk_at dksX7_statue_1 8 rfl rfl)
theorem dX7_statue_31 : decode cX7_statue 31 = .ok (.getfield 15, 3) := dk_180 0 15 (dk_at dksX7_statue_1 9 rfl rfl)
theorem dX7_statue_34 : decode cX7_statue 34 = .ok (.getfield 86, 3) := dk_180 0 86 (dk_at dksX7_statue_1 12 rfl rfl)
theorem dX7_statue_37 : decode cX7_statue 37 = .ok (.aload_n 0, 1) := dk_42 (dk_at dksX7_statue_1 15 rfl rfl)
theorem dX7_statue_38 : decode cX7_statue 38 = .ok (.getfield 15, 3) := dk_180 0 15 (dk_at dksX7_statue_1 16 rfl rfl)
theorem dX7_statue_41 : decode cX7_statue 41 = .ok (.getfield 65, 3) := dk_180 0 65 (dk_at dksX7_statue_1 19 rfl rfl)
theorem dX7_statue_44 : decode cX7_statue 44 = .ok (.invokevirtual 111, 3) := dk_182 0 111 (dk_at dksX7_statue_2 0 rfl rfl)
theorem dX7_statue_47 : decode cX7_statue 47 = .ok (.iastore, 1) := dk_79 (dk_at dksX7_statue_2 3 rfl rfl)
theorem dX7_statue_48 : decode cX7_statue 48 = .ok (.aload_n 0, 1) := dk_42 (dk_at dksX7_statue_2 4 rfl rfl)
theorem dX7_statue_49 : decode cX7_statue 49 = .ok (.aload_n 0, 1) := dk_42 (dk_at dksX7_statue_2 5 rfl rfl)
theorem dX7_statue_50 : decode cX7_statue 50 = .ok (.getfield 15, 3) := dk_180 0 15 (dk_at dksX7_statue_2 6 rfl rfl)
theorem dX7_statue_53 : decode cX7_statue 53 = .ok (.getfield 78, 3) := dk_180 0 78 (dk_at dksX7_statue_2 9 rfl rfl)
theorem dX7_statue_56 : decode cX7_statue 56 = .ok (.aload_n 0, 1) := dk_42 (dk_at dksX7_statue_2 12 rfl rfl)
theorem dX7_statue_57 : decode cX7_statue 57 = .ok (.getfield 15, 3) := dk_180 0 15 (dk_at dksX7_statue_2 13 rfl rfl)
theorem dX7_statue_60 : decode cX7_statue 60 = .ok (.getfield 57, 3) := dk_180 0 57 (dk_at dksX7_statue_2 16 rfl rfl)
theorem dX7_statue_63 : decode cX7_statue 63 = .ok (.invokevirtual 114, 3) := dk_182 0 114 (dk_at dksX7_statue_2 19 rfl rfl)
theorem dX7_statue_66 : decode cX7_statue 66 = .ok (.istore_n 2, 1) := dk_61 (dk_at dksX7_statue_2 22 rfl rfl)
theorem dX7_statue_67 : decode cX7_statue 67 = .ok (.iconst 0, 1) := dk_3 (dk_at dksX7_statue_2 23 rfl rfl)
theorem dX7_statue_68 : decode cX7_statue 68 = .ok (.istore_n 3, 1) := dk_62 (dk_at dksX7_statue_3 0 rfl rfl)
theorem dX7_statue_69 : decode cX7_statue 69 = .ok (.iload_n 3, 1) := dk_29 (dk_at dksX7_statue_3 1 rfl rfl)
theorem dX7_statue_70 : decode cX7_statue 70 = .ok (.iload_n 1, 1) := dk_27 (dk_at dksX7_statue_3 2 rfl rfl)
theorem dX7_statue_71 : decode cX7_statue 71 = .ok (.if_icmp .ge 32, 3) := dk_162 0 32 (dk_at dksX7_statue_3 3 rfl rfl)
theorem dX7_statue_74 : decode cX7_statue 74 = .ok (.aload_n 0, 1) := dk_42 (dk_at dksX7_statue_3 6 rfl rfl)
theorem dX7_statue_75 : decode cX7_statue 75 = .ok (.aload_n 0, 1) := dk_42 (dk_at dksX7_statue_3 7 rfl rfl)
theorem dX7_statue_76 : decode cX7_statue 76 = .ok (.getfield 15, 3) := dk_180 0 15 (dk_at dksX7_statue_3 8 rfl rfl)
theorem dX7_statue_79 : decode cX7_statue 79 = .ok (.getfield 142, 3) := dk_180 0 142 (dk_at dksX7_statue_3 11 rfl rfl)
theorem dX7_statue_82 : decode cX7_statue 82 = .ok (.iload_n 3, 1) := dk_29 (dk_at dksX7_statue_3 14 rfl rfl)
theorem dX7_statue_83 : decode cX7_statue 83 = .ok (.iaload, 1) := dk_46 (dk_at dksX7_statue_3 15 rfl rfl)
theorem dX7_statue_84 : decode cX7_statue 84 = .ok (.iload_n 2, 1) := dk_28 (dk_at dksX7_statue_3 16 rfl rfl)
theorem dX7_statue_85 : decode cX7_statue 85 = .ok (.if_icmp .eq 7, 3) := dk_159 0 7 (dk_at dksX7_statue_3 17 rfl rfl)
theorem dX7_statue_88 : decode cX7_statue 88 = .ok (.iconst 1, 1) := dk_4 (dk_at dksX7_statue_3 20 rfl rfl)
theorem dX7_statue_89 : decode cX7_statue 89 = .ok (.goto 4, 3) := dk_167 0 4 (dk_at dksX7_statue_3 21 rfl rfl)
theorem dX7_statue_92 : decode cX7_statue 92 = .ok (.iconst 0, 1) := dk_3 (dk_at dksX7_statue_4 0 rfl rfl)
theorem dX7_statue_93 : decode cX7_statue 93 = .ok (.iconst 3, 1) := dk_6 (dk_at dksX7_statue_4 1 rfl rfl)
theorem dX7_statue_94 : decode cX7_statue 94 = .ok (.invokevirtual 39, 3) := dk_182 0 39 (dk_at dksX7_statue_4 2 rfl rfl)
theorem dX7_statue_97 : decode cX7_statue 97 = .ok (.iinc 3 1, 3) := dk_132 3 1 (dk_at dksX7_statue_4 5 rfl rfl)
theorem dX7_statue_100 : decode cX7_statue 100 = .ok (.goto (-31), 3) := dk_167 255 225 (dk_at dksX7_statue_4 8 rfl rfl)
theorem dX7_statue_103 : decode cX7_statue 103 = .ok (.aload_n 0, 1) := dk_42 (dk_at dksX7_statue_4 11 rfl rfl)
theorem dX7_statue_104 : decode cX7_statue 104 = .ok (.invokevirtual 47, 3) := dk_182 0 47 (dk_at dksX7_statue_4 12 rfl rfl)
theorem dX7_statue_107 : decode cX7_statue 107 = .ok (.aload_n 0, 1) := dk_42 (dk_at dksX7_statue_4 15 rfl rfl)
theorem dX7_statue_108 : decode cX7_statue 108 = .ok (.getfield 15, 3) := dk_180 0 15 (dk_at dksX7_statue_4 16 rfl rfl)
theorem dX7_statue_111 : decode cX7_statue 111 = .ok (.getfield 142, 3) := dk_180 0 142 (dk_at dksX7_statue_4 19 rfl rfl)
theorem dX7_statue_114 : decode cX7_statue 114 = .ok (.iload_n 1, 1) := dk_27 (dk_at dksX7_statue_4 22 rfl rfl)
theorem dX7_statue_115 : decode cX7_statue 115 = .ok (.iload_n 2, 1) := dk_28 (dk_at dksX7_statue_4 23 rfl rfl)
theorem dX7_statue_116 : decode cX7_statue 116 = .ok (.iastore, 1) := dk_79 (dk_at dksX7_statue_5 0 rfl rfl)
theorem dX7_statue_117 : decode cX7_statue 117 = .ok (.aload_n 0, 1) := dk_42 (dk_at dksX7_statue_5 1 rfl rfl)
theorem dX7_statue_118 : decode cX7_statue 118 = .ok (.getfield 15, 3) := dk_180 0 15 (dk_at dksX7_statue_5 2 rfl rfl)
theorem dX7_statue_121 : decode cX7_statue 121 = .ok (.getfield 145, 3) := dk_180 0 145 (dk_at dksX7_statue_5 5 rfl rfl)
theorem dX7_statue_124 : decode cX7_statue 124 = .ok (.iload_n 1, 1) := dk_27 (dk_at dksX7_statue_5 8 rfl rfl)
theorem dX7_statue_125 : decode cX7_statue 125 = .ok (.aload_n 0, 1) := dk_42 (dk_at dksX7_statue_5 9 rfl rfl)
theorem dX7_statue_126 : decode cX7_statue 126 = .ok (.iconst 0, 1) := dk_3 (dk_at dksX7_statue_5 10 rfl rfl)
theorem dX7_statue_127 : decode cX7_statue 127 = .ok (.sipush 999, 3) := dk_17 3 231 (dk_at dksX7_statue_5 11 rfl rfl)
theorem dX7_statue_130 : decode cX7_statue 130 = .ok (.invokevirtual 107, 3) := dk_182 0 107 (dk_at dksX7_statue_5 14 rfl rfl)
theorem dX7_statue_133 : decode cX7_statue 133 = .ok (.iastore, 1) := dk_79 (dk_at dksX7_statue_5 17 rfl rfl)
theorem dX7_statue_134 : decode cX7_statue 134 = .ok (.aload_n 0, 1) := dk_42 (dk_at dksX7_statue_5 18 rfl rfl)
theorem dX7_statue_135 : decode cX7_statue 135 = .ok (.getfield 15, 3) := dk_180 0 15 (dk_at dksX7_statue_5 19 rfl rfl)
theorem dX7_statue_138 : decode cX7_statue 138 = .ok (.getfield 148, 3) := dk_180 0 148 (dk_at dksX7_statue_6 0 rfl rfl)
theorem dX7_statue_141 : decode cX7_statue 141 = .ok (.iload_n 1, 1) := dk_27 (dk_at dksX7_statue_6 3 rfl rfl)
theorem dX7_statue_142 : decode cX7_statue 142 = .ok (.aload_n 0, 1) := dk_42 (dk_at dksX7_statue_6 4 rfl rfl)
theorem dX7_statue_143 : decode cX7_statue 143 = .ok (.iconst 0, 1) := dk_3 (dk_at dksX7_statue_6 5 rfl rfl)
theorem dX7_statue_144 : decode cX7_statue 144 = .ok (.bipush 99, 2) := dk_16 99 (dk_at dksX7_statue_6 6 rfl rfl)
theorem dX7_statue_146 : decode cX7_statue 146 = .ok (.invokevirtual 107, 3) := dk_182 0 107 (dk_at dksX7_statue_6 8 rfl rfl)
theorem dX7_statue_149 : decode cX7_statue 149 = .ok (.iastore, 1) := dk_79 (dk_at dksX7_statue_6 11 rfl rfl)
theorem dX7_statue_150 : decode cX7_statue 150 = .ok (.aload_n 0, 1) := dk_42 (dk_at dksX7_statue_6 12 rfl rfl)
theorem dX7_statue_151 : decode cX7_statue 151 = .ok (.getfield 15, 3) := dk_180 0 15 (dk_at dksX7_statue_6 13 rfl rfl)
theorem dX7_statue_154 : decode cX7_statue 154 = .ok (.dup, 1) := dk_89 (dk_at dksX7_statue_6 16 rfl rfl)
theorem dX7_statue_155 : decode cX7_statue 155 = .ok (.getfield 68, 3) := dk_180 0 68 (dk_at dksX7_statue_6 17 rfl rfl)
theorem dX7_statue_158 : decode cX7_statue 158 = .ok (.iconst 1, 1) := dk_4 (dk_at dksX7_statue_6 20 rfl rfl)
theorem dX7_statue_159 : decode cX7_statue 159 = .ok (.iadd, 1) := dk_96 (dk_at dksX7_statue_6 21 rfl rfl)
theorem dX7_statue_160 : decode cX7_statue 160 = .ok (.putfield 68, 3) := dk_181 0 68 (dk_at dksX7_statue_7 0 rfl rfl)
theorem dX7_statue_163 : decode cX7_statue 163 = .ok (.return_, 1) := dk_177 (dk_at dksX7_statue_7 3 rfl rfl)
abbrev cX7_walker : ByteArray := prog_5_method_7_code
def yX7_walker : MethodName := ⟨RX7, "walker", "()V"⟩
def dkwX7_walker_5 : List UInt8 := [96, 181, 0, 71, 177]
abbrev dktX7_walker_5 : List UInt8 := dkwX7_walker_5 ++ []
def dkwX7_walker_4 : List UInt8 := [180, 0, 15, 180, 0, 160, 27, 42, 3, 16, 9, 182, 0, 107, 79, 42, 180, 0, 15, 89, 180, 0, 71, 4]
abbrev dktX7_walker_4 : List UInt8 := dkwX7_walker_4 ++ dktX7_walker_5
def dkwX7_walker_3 : List UInt8 := [180, 0, 57, 182, 0, 111, 79, 42, 180, 0, 15, 180, 0, 157, 27, 42, 4, 16, 7, 182, 0, 107, 79, 42]
abbrev dktX7_walker_3 : List UInt8 := dkwX7_walker_3 ++ dktX7_walker_4
def dkwX7_walker_2 : List UInt8 := [182, 0, 111, 79, 42, 180, 0, 15, 180, 0, 154, 27, 42, 42, 180, 0, 15, 180, 0, 78, 42, 180, 0, 15]
abbrev dktX7_walker_2 : List UInt8 := dkwX7_walker_2 ++ dktX7_walker_3
def dkwX7_walker_1 : List UInt8 := [180, 0, 15, 180, 0, 151, 27, 42, 42, 180, 0, 15, 180, 0, 78, 42, 180, 0, 15, 180, 0, 57]
abbrev dktX7_walker_1 : List UInt8 := dkwX7_walker_1 ++ dktX7_walker_2
def dkwX7_walker_0 : List UInt8 := [42, 180, 0, 15, 180, 0, 71, 60, 42, 180, 0, 15, 180, 0, 92, 27, 42, 182, 0, 99, 80, 42]
abbrev dktX7_walker_0 : List UInt8 := dkwX7_walker_0 ++ dktX7_walker_1
theorem dksX7_walker_0 : cX7_walker.data.toList.drop 0 = dktX7_walker_0 := by decide +kernel
theorem dksX7_walker_1 : cX7_walker.data.toList.drop 22 = dktX7_walker_1 := dk_seg dksX7_walker_0 22 rfl rfl
theorem dksX7_walker_2 : cX7_walker.data.toList.drop 44 = dktX7_walker_2 := dk_seg dksX7_walker_1 22 rfl rfl
theorem dksX7_walker_3 : cX7_walker.data.toList.drop 68 = dktX7_walker_3 := dk_seg dksX7_walker_2 24 rfl rfl
theorem dksX7_walker_4 : cX7_walker.data.toList.drop 92 = dktX7_walker_4 := dk_seg dksX7_walker_3 24 rfl rfl
theorem dksX7_walker_5 : cX7_walker.data.toList.drop 116 = dktX7_walker_5 := dk_seg dksX7_walker_4 24 rfl rfl
theorem dX7_walker_0 : decode cX7_walker 0 = .ok (.aload_n 0, 1) := dk_42 (dk_at dksX7_walker_0 0 rfl rfl)
theorem dX7_walker_1 : decode cX7_walker 1 = .ok (.getfield 15, 3) := dk_180 0 15 (dk_at dksX7_walker_0 1 rfl rfl)
theorem dX7_walker_4 : decode cX7_walker 4 = .ok (.getfield 71, 3) := dk_180 0 71 (dk_at dksX7_walker_0 4 rfl rfl)
theorem dX7_walker_7 : decode cX7_walker 7 = .ok (.istore_n 1, 1) := dk_60 (dk_at dksX7_walker_0 7 rfl rfl)
theorem dX7_walker_8 : decode cX7_walker 8 = .ok (.aload_n 0, 1) := dk_42 (dk_at dksX7_walker_0 8 rfl rfl)
theorem dX7_walker_9 : decode cX7_walker 9 = .ok (.getfield 15, 3) := dk_180 0 15 (dk_at dksX7_walker_0 9 rfl rfl)
theorem dX7_walker_12 : decode cX7_walker 12 = .ok (.getfield 92, 3) := dk_180 0 92 (dk_at dksX7_walker_0 12 rfl rfl)
theorem dX7_walker_15 : decode cX7_walker 15 = .ok (.iload_n 1, 1) := dk_27 (dk_at dksX7_walker_0 15 rfl rfl)
theorem dX7_walker_16 : decode cX7_walker 16 = .ok (.aload_n 0, 1) := dk_42 (dk_at dksX7_walker_0 16 rfl rfl)
theorem dX7_walker_17 : decode cX7_walker 17 = .ok (.invokevirtual 99, 3) := dk_182 0 99 (dk_at dksX7_walker_0 17 rfl rfl)
theorem dX7_walker_20 : decode cX7_walker 20 = .ok (.lastore, 1) := dk_80 (dk_at dksX7_walker_0 20 rfl rfl)
theorem dX7_walker_21 : decode cX7_walker 21 = .ok (.aload_n 0, 1) := dk_42 (dk_at dksX7_walker_0 21 rfl rfl)
theorem dX7_walker_22 : decode cX7_walker 22 = .ok (.getfield 15, 3) := dk_180 0 15 (dk_at dksX7_walker_1 0 rfl rfl)
theorem dX7_walker_25 : decode cX7_walker 25 = .ok (.getfield 151, 3) := dk_180 0 151 (dk_at dksX7_walker_1 3 rfl rfl)
theorem dX7_walker_28 : decode cX7_walker 28 = .ok (.iload_n 1, 1) := dk_27 (dk_at dksX7_walker_1 6 rfl rfl)
theorem dX7_walker_29 : decode cX7_walker 29 = .ok (.aload_n 0, 1) := dk_42 (dk_at dksX7_walker_1 7 rfl rfl)
theorem dX7_walker_30 : decode cX7_walker 30 = .ok (.aload_n 0, 1) := dk_42 (dk_at dksX7_walker_1 8 rfl rfl)
theorem dX7_walker_31 : decode cX7_walker 31 = .ok (.getfield 15, 3) := dk_180 0 15 (dk_at dksX7_walker_1 9 rfl rfl)
theorem dX7_walker_34 : decode cX7_walker 34 = .ok (.getfield 78, 3) := dk_180 0 78 (dk_at dksX7_walker_1 12 rfl rfl)
theorem dX7_walker_37 : decode cX7_walker 37 = .ok (.aload_n 0, 1) := dk_42 (dk_at dksX7_walker_1 15 rfl rfl)
theorem dX7_walker_38 : decode cX7_walker 38 = .ok (.getfield 15, 3) := dk_180 0 15 (dk_at dksX7_walker_1 16 rfl rfl)
theorem dX7_walker_41 : decode cX7_walker 41 = .ok (.getfield 57, 3) := dk_180 0 57 (dk_at dksX7_walker_1 19 rfl rfl)
theorem dX7_walker_44 : decode cX7_walker 44 = .ok (.invokevirtual 111, 3) := dk_182 0 111 (dk_at dksX7_walker_2 0 rfl rfl)
theorem dX7_walker_47 : decode cX7_walker 47 = .ok (.iastore, 1) := dk_79 (dk_at dksX7_walker_2 3 rfl rfl)
theorem dX7_walker_48 : decode cX7_walker 48 = .ok (.aload_n 0, 1) := dk_42 (dk_at dksX7_walker_2 4 rfl rfl)
theorem dX7_walker_49 : decode cX7_walker 49 = .ok (.getfield 15, 3) := dk_180 0 15 (dk_at dksX7_walker_2 5 rfl rfl)
theorem dX7_walker_52 : decode cX7_walker 52 = .ok (.getfield 154, 3) := dk_180 0 154 (dk_at dksX7_walker_2 8 rfl rfl)
theorem dX7_walker_55 : decode cX7_walker 55 = .ok (.iload_n 1, 1) := dk_27 (dk_at dksX7_walker_2 11 rfl rfl)
theorem dX7_walker_56 : decode cX7_walker 56 = .ok (.aload_n 0, 1) := dk_42 (dk_at dksX7_walker_2 12 rfl rfl)
theorem dX7_walker_57 : decode cX7_walker 57 = .ok (.aload_n 0, 1) := dk_42 (dk_at dksX7_walker_2 13 rfl rfl)
theorem dX7_walker_58 : decode cX7_walker 58 = .ok (.getfield 15, 3) := dk_180 0 15 (dk_at dksX7_walker_2 14 rfl rfl)
theorem dX7_walker_61 : decode cX7_walker 61 = .ok (.getfield 78, 3) := dk_180 0 78 (dk_at dksX7_walker_2 17 rfl rfl)
theorem dX7_walker_64 : decode cX7_walker 64 = .ok (.aload_n 0, 1) := dk_42 (dk_at dksX7_walker_2 20 rfl rfl)
theorem dX7_walker_65 : decode cX7_walker 65 = .ok (.getfield 15, 3) := dk_180 0 15 (dk_at dksX7_walker_2 21 rfl rfl)
theorem dX7_walker_68 : decode cX7_walker 68 = .ok (.getfield 57, 3) := dk_180 0 57 (dk_at dksX7_walker_3 0 rfl rfl)
theorem dX7_walker_71 : decode cX7_walker 71 = .ok (.invokevirtual 111, 3) := dk_182 0 111 (dk_at dksX7_walker_3 3 rfl rfl)
theorem dX7_walker_74 : decode cX7_walker 74 = .ok (.iastore, 1) := dk_79 (dk_at dksX7_walker_3 6 rfl rfl)
theorem dX7_walker_75 : decode cX7_walker 75 = .ok (.aload_n 0, 1) := dk_42 (dk_at dksX7_walker_3 7 rfl rfl)
theorem dX7_walker_76 : decode cX7_walker 76 = .ok (.getfield 15, 3) := dk_180 0 15 (dk_at dksX7_walker_3 8 rfl rfl)
theorem dX7_walker_79 : decode cX7_walker 79 = .ok (.getfield 157, 3) := dk_180 0 157 (dk_at dksX7_walker_3 11 rfl rfl)
theorem dX7_walker_82 : decode cX7_walker 82 = .ok (.iload_n 1, 1) := dk_27 (dk_at dksX7_walker_3 14 rfl rfl)
theorem dX7_walker_83 : decode cX7_walker 83 = .ok (.aload_n 0, 1) := dk_42 (dk_at dksX7_walker_3 15 rfl rfl)
theorem dX7_walker_84 : decode cX7_walker 84 = .ok (.iconst 1, 1) := dk_4 (dk_at dksX7_walker_3 16 rfl rfl)
theorem dX7_walker_85 : decode cX7_walker 85 = .ok (.bipush 7, 2) := dk_16 7 (dk_at dksX7_walker_3 17 rfl rfl)
theorem dX7_walker_87 : decode cX7_walker 87 = .ok (.invokevirtual 107, 3) := dk_182 0 107 (dk_at dksX7_walker_3 19 rfl rfl)
theorem dX7_walker_90 : decode cX7_walker 90 = .ok (.iastore, 1) := dk_79 (dk_at dksX7_walker_3 22 rfl rfl)
theorem dX7_walker_91 : decode cX7_walker 91 = .ok (.aload_n 0, 1) := dk_42 (dk_at dksX7_walker_3 23 rfl rfl)
theorem dX7_walker_92 : decode cX7_walker 92 = .ok (.getfield 15, 3) := dk_180 0 15 (dk_at dksX7_walker_4 0 rfl rfl)
theorem dX7_walker_95 : decode cX7_walker 95 = .ok (.getfield 160, 3) := dk_180 0 160 (dk_at dksX7_walker_4 3 rfl rfl)
theorem dX7_walker_98 : decode cX7_walker 98 = .ok (.iload_n 1, 1) := dk_27 (dk_at dksX7_walker_4 6 rfl rfl)
theorem dX7_walker_99 : decode cX7_walker 99 = .ok (.aload_n 0, 1) := dk_42 (dk_at dksX7_walker_4 7 rfl rfl)
theorem dX7_walker_100 : decode cX7_walker 100 = .ok (.iconst 0, 1) := dk_3 (dk_at dksX7_walker_4 8 rfl rfl)
theorem dX7_walker_101 : decode cX7_walker 101 = .ok (.bipush 9, 2) := dk_16 9 (dk_at dksX7_walker_4 9 rfl rfl)
theorem dX7_walker_103 : decode cX7_walker 103 = .ok (.invokevirtual 107, 3) := dk_182 0 107 (dk_at dksX7_walker_4 11 rfl rfl)
theorem dX7_walker_106 : decode cX7_walker 106 = .ok (.iastore, 1) := dk_79 (dk_at dksX7_walker_4 14 rfl rfl)
theorem dX7_walker_107 : decode cX7_walker 107 = .ok (.aload_n 0, 1) := dk_42 (dk_at dksX7_walker_4 15 rfl rfl)
theorem dX7_walker_108 : decode cX7_walker 108 = .ok (.getfield 15, 3) := dk_180 0 15 (dk_at dksX7_walker_4 16 rfl rfl)
theorem dX7_walker_111 : decode cX7_walker 111 = .ok (.dup, 1) := dk_89 (dk_at dksX7_walker_4 19 rfl rfl)
theorem dX7_walker_112 : decode cX7_walker 112 = .ok (.getfield 71, 3) := dk_180 0 71 (dk_at dksX7_walker_4 20 rfl rfl)
theorem dX7_walker_115 : decode cX7_walker 115 = .ok (.iconst 1, 1) := dk_4 (dk_at dksX7_walker_4 23 rfl rfl)
theorem dX7_walker_116 : decode cX7_walker 116 = .ok (.iadd, 1) := dk_96 (dk_at dksX7_walker_5 0 rfl rfl)
theorem dX7_walker_117 : decode cX7_walker 117 = .ok (.putfield 71, 3) := dk_181 0 71 (dk_at dksX7_walker_5 1 rfl rfl)
theorem dX7_walker_120 : decode cX7_walker 120 = .ok (.return_, 1) := dk_177 (dk_at dksX7_walker_5 4 rfl rfl)
theorem q129 : (Jvm.Cond.initialized "StatueRent$CityReader") ∈ lw_all := lw_g (lw_at lw_m1 9 rfl) rfl
theorem q269 : (Jvm.Cond.fieldLinkNest "StatueRent$CityReader" (78 : Nat) "StatueRent$City" "squareNames" "[J" "StatueRent") ∈ lw_tbl := lw_at lw_m1 149 rfl
theorem q274 : (Jvm.Cond.fieldLinkNest "StatueRent$CityReader" (86 : Nat) "StatueRent$City" "kindNames" "[J" "StatueRent") ∈ lw_tbl := lw_at lw_m1 154 rfl
theorem q278 : (Jvm.Cond.fieldLinkNest "StatueRent$CityReader" (89 : Nat) "StatueRent$City" "statueNames" "[J" "StatueRent") ∈ lw_tbl := lw_at lw_m1 158 rfl
theorem q281 : (Jvm.Cond.fieldLinkNest "StatueRent$CityReader" (92 : Nat) "StatueRent$City" "walkerNames" "[J" "StatueRent") ∈ lw_tbl := lw_at lw_m1 161 rfl
theorem q283 : (Jvm.Cond.fieldLinkNest "StatueRent$CityReader" (103 : Nat) "StatueRent$City" "rent" "[I" "StatueRent") ∈ lw_tbl := lw_at lw_m1 163 rfl
theorem q287 : (Jvm.Cond.fieldLinkNest "StatueRent$CityReader" (117 : Nat) "StatueRent$City" "next" "[I" "StatueRent") ∈ lw_tbl := lw_at lw_m1 167 rfl
theorem q291 : (Jvm.Cond.fieldLinkNest "StatueRent$CityReader" (139 : Nat) "StatueRent$City" "kind" "[I" "StatueRent") ∈ lw_tbl := lw_at lw_m1 171 rfl
theorem q294 : (Jvm.Cond.fieldLinkNest "StatueRent$CityReader" (142 : Nat) "StatueRent$City" "square" "[I" "StatueRent") ∈ lw_tbl := lw_at lw_m1 174 rfl
theorem q297 : (Jvm.Cond.fieldLinkNest "StatueRent$CityReader" (145 : Nat) "StatueRent$City" "purse" "[I" "StatueRent") ∈ lw_tbl := lw_at lw_m1 177 rfl
theorem q299 : (Jvm.Cond.fieldLinkNest "StatueRent$CityReader" (148 : Nat) "StatueRent$City" "bribe" "[I" "StatueRent") ∈ lw_tbl := lw_at lw_m1 179 rfl
theorem q302 : (Jvm.Cond.fieldLinkNest "StatueRent$CityReader" (151 : Nat) "StatueRent$City" "from" "[I" "StatueRent") ∈ lw_tbl := lw_at lw_m1 182 rfl
theorem q305 : (Jvm.Cond.fieldLinkNest "StatueRent$CityReader" (154 : Nat) "StatueRent$City" "to" "[I" "StatueRent") ∈ lw_tbl := lw_at lw_m1 185 rfl
theorem q308 : (Jvm.Cond.fieldLinkNest "StatueRent$CityReader" (157 : Nat) "StatueRent$City" "every" "[I" "StatueRent") ∈ lw_tbl := lw_at lw_m1 188 rfl
theorem q312 : (Jvm.Cond.fieldLinkNest "StatueRent$CityReader" (160 : Nat) "StatueRent$City" "worth" "[I" "StatueRent") ∈ lw_tbl := lw_at lw_m1 192 rfl
theorem q316 : (Jvm.Cond.fieldLinkNest "StatueRent$CityReader" (133 : Nat) "StatueRent$City" "likes" "[I" "StatueRent") ∈ lw_tbl := lw_at lw_m1 196 rfl
theorem q321 : (Jvm.Cond.fieldLinkNest "StatueRent$CityReader" (129 : Nat) "StatueRent$City" "told" "[Z" "StatueRent") ∈ lw_tbl := lw_at lw_m1 201 rfl
theorem q323 : (Jvm.Cond.fieldLinkNest "StatueRent$CityReader" (57 : Nat) "StatueRent$City" "squares" "I" "StatueRent") ∈ lw_tbl := lw_at lw_m1 203 rfl
theorem q327 : (Jvm.Cond.fieldLinkNest "StatueRent$CityReader" (62 : Nat) "StatueRent$City" "paths" "I" "StatueRent") ∈ lw_tbl := lw_at lw_m1 207 rfl
theorem q329 : (Jvm.Cond.fieldLinkNest "StatueRent$CityReader" (65 : Nat) "StatueRent$City" "kinds" "I" "StatueRent") ∈ lw_tbl := lw_at lw_m1 209 rfl
theorem q336 : (Jvm.Cond.fieldLinkNest "StatueRent$CityReader" (68 : Nat) "StatueRent$City" "statues" "I" "StatueRent") ∈ lw_tbl := lw_at lw_m1 216 rfl
theorem q339 : (Jvm.Cond.fieldLinkNest "StatueRent$CityReader" (71 : Nat) "StatueRent$City" "walkers" "I" "StatueRent") ∈ lw_tbl := lw_at lw_m1 219 rfl
theorem q343 : (Jvm.Cond.fieldLinkNest "StatueRent$CityReader" (136 : Nat) "StatueRent$City" "arrears" "I" "StatueRent") ∈ lw_tbl := lw_at lw_m1 223 rfl
theorem q480 : (Jvm.Cond.instantiable "StatueRent$CityReader" (11 : Nat)) ∈ lw_all := lw_g (lw_at lw_m2 120 rfl) rfl
theorem q482 : (Jvm.Cond.instanceMethod ({ cls := "StatueRent$CityReader", name := "<init>", desc := "(LStatueRent;)V" } : Jvm.MethodName)) ∈ lw_all := lw_g (lw_at lw_m2 122 rfl) rfl
theorem q483 : (Jvm.Cond.code ({ cls := "StatueRent$CityReader", name := "<init>", desc := "(LStatueRent;)V" } : Jvm.MethodName) prog_5_method_1_code (2 : Nat) (Option.none : Option Jvm.ClassFile.FieldType)) ∈ lw_all := lw_g (lw_at lw_m2 123 rfl) rfl
theorem q484 : (Jvm.Cond.methodLink "StatueRent$CityReader" (9 : Nat) ({ cls := "StatueRent$Reader", name := "<init>", desc := "(LStatueRent;I)V" } : Jvm.MethodName)) ∈ lw_all := lw_g (lw_at lw_m2 124 rfl) rfl
theorem q488 : (Jvm.Cond.fieldLink "StatueRent$CityReader" (15 : Nat) "StatueRent$CityReader" "x" "LStatueRent$City;") ∈ lw_all := lw_g (lw_at lw_m2 128 rfl) rfl
theorem q489 : (Jvm.Cond.fieldLink "StatueRent$CityReader" (19 : Nat) "StatueRent$CityReader" "hasArrears" "Z") ∈ lw_all := lw_g (lw_at lw_m2 129 rfl) rfl
theorem q490 : (Jvm.Cond.fieldLink "StatueRent$CityReader" (3 : Nat) "StatueRent$CityReader" "this$0" "LStatueRent;") ∈ lw_all := lw_g (lw_at lw_m2 130 rfl) rfl
theorem q496 : (Jvm.Cond.fieldLink "StatueRent$CityReader" (27 : Nat) "StatueRent$CityReader" "token" "I") ∈ lw_all := lw_g (lw_at lw_m2 136 rfl) rfl
theorem q497 : (Jvm.Cond.sameField "StatueRent$CityReader" "StatueRent$Reader" "token" "I") ∈ lw_all := lw_g (lw_at lw_m2 137 rfl) rfl
theorem q505 : (Jvm.Cond.fieldLink "StatueRent$CityReader" (95 : Nat) "StatueRent$CityReader" "name" "J") ∈ lw_all := lw_g (lw_at lw_m2 145 rfl) rfl
theorem q506 : (Jvm.Cond.sameField "StatueRent$CityReader" "StatueRent$Reader" "name" "J") ∈ lw_all := lw_g (lw_at lw_m2 146 rfl) rfl
theorem q509 : (Jvm.Cond.lays "StatueRent$CityReader" "StatueRent$CityReader" "x" "LStatueRent$City;") ∈ lw_all := lw_g (lw_at lw_m2 149 rfl) rfl
theorem q510 : (Jvm.Cond.soleField "StatueRent$CityReader" "x") ∈ lw_all := lw_g (lw_at lw_m2 150 rfl) rfl
theorem q511 : (Jvm.Cond.lays "StatueRent$CityReader" "StatueRent$CityReader" "hasArrears" "Z") ∈ lw_all := lw_g (lw_at lw_m2 151 rfl) rfl
theorem q512 : (Jvm.Cond.soleField "StatueRent$CityReader" "hasArrears") ∈ lw_all := lw_g (lw_at lw_m2 152 rfl) rfl
theorem q513 : (Jvm.Cond.laysFinal "StatueRent$CityReader" "StatueRent$CityReader" "this$0" "LStatueRent;") ∈ lw_all := lw_g (lw_at lw_m2 153 rfl) rfl
theorem q514 : (Jvm.Cond.soleField "StatueRent$CityReader" "this$0") ∈ lw_all := lw_g (lw_at lw_m2 154 rfl) rfl
theorem q515 : (Jvm.Cond.laysFinal "StatueRent$CityReader" "StatueRent$Reader" "most" "I") ∈ lw_all := lw_g (lw_at lw_m2 155 rfl) rfl
theorem q517 : (Jvm.Cond.lays "StatueRent$CityReader" "StatueRent$Reader" "p" "I") ∈ lw_all := lw_g (lw_at lw_m2 157 rfl) rfl
theorem q519 : (Jvm.Cond.lays "StatueRent$CityReader" "StatueRent$Reader" "at" "I") ∈ lw_all := lw_g (lw_at lw_m2 159 rfl) rfl
theorem q521 : (Jvm.Cond.lays "StatueRent$CityReader" "StatueRent$Reader" "token" "I") ∈ lw_all := lw_g (lw_at lw_m2 161 rfl) rfl
theorem q523 : (Jvm.Cond.lays "StatueRent$CityReader" "StatueRent$Reader" "value" "I") ∈ lw_all := lw_g (lw_at lw_m2 163 rfl) rfl
theorem q525 : (Jvm.Cond.lays "StatueRent$CityReader" "StatueRent$Reader" "many" "I") ∈ lw_all := lw_g (lw_at lw_m2 165 rfl) rfl
theorem q527 : (Jvm.Cond.lays "StatueRent$CityReader" "StatueRent$Reader" "name" "J") ∈ lw_all := lw_g (lw_at lw_m2 167 rfl) rfl
theorem q529 : (Jvm.Cond.laysFinal "StatueRent$CityReader" "StatueRent$Reader" "this$0" "LStatueRent;") ∈ lw_all := lw_g (lw_at lw_m2 169 rfl) rfl
theorem q531 : (Jvm.Cond.superclass "StatueRent$CityReader" "StatueRent$Reader") ∈ lw_all := lw_g (lw_at lw_m2 171 rfl) rfl
theorem q617 : (Jvm.Cond.fieldLinkNest "StatueRent$CityReader" (31 : Nat) "StatueRent" "lines" "[Ljava/lang/String;" "StatueRent") ∈ lw_tbl := lw_at lw_m3 17 rfl
theorem q764 : (Jvm.Cond.instanceMethod ({ cls := "StatueRent$CityReader", name := "read", desc := "(LStatueRent$City;)I" } : Jvm.MethodName)) ∈ lw_all := lw_g (lw_at lw_m3 164 rfl) rfl
theorem q765 : (Jvm.Cond.selects "StatueRent$CityReader" ({ cls := "StatueRent$CityReader", name := "read", desc := "(LStatueRent$City;)I" } : Jvm.MethodName) ({ cls := "StatueRent$CityReader", name := "read", desc := "(LStatueRent$City;)I" } : Jvm.MethodName)) ∈ lw_all := lw_g (lw_at lw_m3 165 rfl) rfl
theorem q766 : (Jvm.Cond.code ({ cls := "StatueRent$CityReader", name := "read", desc := "(LStatueRent$City;)I" } : Jvm.MethodName) prog_5_method_2_code (4 : Nat) (Option.some Jvm.ClassFile.FieldType.int)) ∈ lw_all := lw_g (lw_at lw_m3 166 rfl) rfl
theorem q767 : (Jvm.Cond.methodLink "StatueRent$CityReader" (23 : Nat) ({ cls := "StatueRent$CityReader", name := "begin", desc := "()V" } : Jvm.MethodName)) ∈ lw_all := lw_g (lw_at lw_m3 167 rfl) rfl
theorem q768 : (Jvm.Cond.sameMethod "StatueRent$CityReader" "StatueRent$Reader" "begin" "()V") ∈ lw_all := lw_g (lw_at lw_m3 168 rfl) rfl
theorem q770 : (Jvm.Cond.selects "StatueRent$CityReader" ({ cls := "StatueRent$CityReader", name := "begin", desc := "()V" } : Jvm.MethodName) ({ cls := "StatueRent$Reader", name := "begin", desc := "()V" } : Jvm.MethodName)) ∈ lw_all := lw_g (lw_at lw_m3 170 rfl) rfl
theorem q776 : (Jvm.Cond.selects "StatueRent$CityReader" ({ cls := "StatueRent$Reader", name := "next", desc := "()V" } : Jvm.MethodName) ({ cls := "StatueRent$Reader", name := "next", desc := "()V" } : Jvm.MethodName)) ∈ lw_all := lw_g (lw_at lw_m3 176 rfl) rfl
theorem q799 : (Jvm.Cond.methodLink "StatueRent$CityReader" (35 : Nat) ({ cls := "StatueRent$CityReader", name := "find", desc := "([Ljava/lang/String;)I" } : Jvm.MethodName)) ∈ lw_all := lw_g (lw_at lw_m3 199 rfl) rfl
theorem q800 : (Jvm.Cond.sameMethod "StatueRent$CityReader" "StatueRent$Reader" "find" "([Ljava/lang/String;)I") ∈ lw_all := lw_g (lw_at lw_m3 200 rfl) rfl
theorem q802 : (Jvm.Cond.selects "StatueRent$CityReader" ({ cls := "StatueRent$CityReader", name := "find", desc := "([Ljava/lang/String;)I" } : Jvm.MethodName) ({ cls := "StatueRent$Reader", name := "find", desc := "([Ljava/lang/String;)I" } : Jvm.MethodName)) ∈ lw_all := lw_g (lw_at lw_m3 202 rfl) rfl
theorem q808 : (Jvm.Cond.selects "StatueRent$CityReader" ({ cls := "StatueRent$Reader", name := "is", desc := "(Ljava/lang/String;)Z" } : Jvm.MethodName) ({ cls := "StatueRent$Reader", name := "is", desc := "(Ljava/lang/String;)Z" } : Jvm.MethodName)) ∈ lw_all := lw_g (lw_at lw_m3 208 rfl) rfl
theorem q860 : (Jvm.Cond.methodLink "StatueRent$CityReader" (39 : Nat) ({ cls := "StatueRent$CityReader", name := "must", desc := "(ZI)V" } : Jvm.MethodName)) ∈ lw_all := lw_g (lw_at lw_m4 20 rfl) rfl
theorem q861 : (Jvm.Cond.sameMethod "StatueRent$CityReader" "StatueRent$Reader" "must" "(ZI)V") ∈ lw_all := lw_g (lw_at lw_m4 21 rfl) rfl
theorem q863 : (Jvm.Cond.selects "StatueRent$CityReader" ({ cls := "StatueRent$CityReader", name := "must", desc := "(ZI)V" } : Jvm.MethodName) ({ cls := "StatueRent$Reader", name := "must", desc := "(ZI)V" } : Jvm.MethodName)) ∈ lw_all := lw_g (lw_at lw_m4 23 rfl) rfl
theorem q869 : (Jvm.Cond.selects "StatueRent$CityReader" ({ cls := "StatueRent$Reader", name := "wrong", desc := "(I)LStatueRent$Fault;" } : Jvm.MethodName) ({ cls := "StatueRent$Reader", name := "wrong", desc := "(I)LStatueRent$Fault;" } : Jvm.MethodName)) ∈ lw_all := lw_g (lw_at lw_m4 29 rfl) rfl
theorem q873 : (Jvm.Cond.methodLink "StatueRent$CityReader" (43 : Nat) ({ cls := "StatueRent$CityReader", name := "isRoom", desc := "(I)Z" } : Jvm.MethodName)) ∈ lw_all := lw_g (lw_at lw_m4 33 rfl) rfl
theorem q874 : (Jvm.Cond.privateMethod ({ cls := "StatueRent$CityReader", name := "isRoom", desc := "(I)Z" } : Jvm.MethodName)) ∈ lw_tbl := lw_at lw_m4 34 rfl
theorem q875 : (Jvm.Cond.instanceMethod ({ cls := "StatueRent$CityReader", name := "isRoom", desc := "(I)Z" } : Jvm.MethodName)) ∈ lw_all := lw_g (lw_at lw_m4 35 rfl) rfl
theorem q876 : (Jvm.Cond.code ({ cls := "StatueRent$CityReader", name := "isRoom", desc := "(I)Z" } : Jvm.MethodName) prog_5_method_3_code (2 : Nat) (Option.some Jvm.ClassFile.FieldType.boolean)) ∈ lw_all := lw_g (lw_at lw_m4 36 rfl) rfl
theorem q877 : (Jvm.Cond.methodLink "StatueRent$CityReader" (47 : Nat) ({ cls := "StatueRent$CityReader", name := "next", desc := "()V" } : Jvm.MethodName)) ∈ lw_all := lw_g (lw_at lw_m4 37 rfl) rfl
theorem q878 : (Jvm.Cond.sameMethod "StatueRent$CityReader" "StatueRent$Reader" "next" "()V") ∈ lw_all := lw_g (lw_at lw_m4 38 rfl) rfl
theorem q880 : (Jvm.Cond.selects "StatueRent$CityReader" ({ cls := "StatueRent$CityReader", name := "next", desc := "()V" } : Jvm.MethodName) ({ cls := "StatueRent$Reader", name := "next", desc := "()V" } : Jvm.MethodName)) ∈ lw_all := lw_g (lw_at lw_m4 40 rfl) rfl
theorem q881 : (Jvm.Cond.methodLink "StatueRent$CityReader" (50 : Nat) ({ cls := "StatueRent$CityReader", name := "line", desc := "(I)V" } : Jvm.MethodName)) ∈ lw_all := lw_g (lw_at lw_m4 41 rfl) rfl
theorem q882 : (Jvm.Cond.privateMethod ({ cls := "StatueRent$CityReader", name := "line", desc := "(I)V" } : Jvm.MethodName)) ∈ lw_tbl := lw_at lw_m4 42 rfl
theorem q883 : (Jvm.Cond.instanceMethod ({ cls := "StatueRent$CityReader", name := "line", desc := "(I)V" } : Jvm.MethodName)) ∈ lw_all := lw_g (lw_at lw_m4 43 rfl) rfl
theorem q884 : (Jvm.Cond.code ({ cls := "StatueRent$CityReader", name := "line", desc := "(I)V" } : Jvm.MethodName) prog_5_method_5_code (4 : Nat) (Option.none : Option Jvm.ClassFile.FieldType)) ∈ lw_all := lw_g (lw_at lw_m4 44 rfl) rfl
theorem q885 : (Jvm.Cond.methodLink "StatueRent$CityReader" (99 : Nat) ({ cls := "StatueRent$CityReader", name := "fresh", desc := "()J" } : Jvm.MethodName)) ∈ lw_all := lw_g (lw_at lw_m4 45 rfl) rfl
theorem q886 : (Jvm.Cond.privateMethod ({ cls := "StatueRent$CityReader", name := "fresh", desc := "()J" } : Jvm.MethodName)) ∈ lw_tbl := lw_at lw_m4 46 rfl
theorem q887 : (Jvm.Cond.instanceMethod ({ cls := "StatueRent$CityReader", name := "fresh", desc := "()J" } : Jvm.MethodName)) ∈ lw_all := lw_g (lw_at lw_m4 47 rfl) rfl
theorem q888 : (Jvm.Cond.code ({ cls := "StatueRent$CityReader", name := "fresh", desc := "()J" } : Jvm.MethodName) prog_5_method_4_code (3 : Nat) (Option.some Jvm.ClassFile.FieldType.long)) ∈ lw_all := lw_g (lw_at lw_m4 48 rfl) rfl
theorem q889 : (Jvm.Cond.methodLink "StatueRent$CityReader" (74 : Nat) ({ cls := "StatueRent$CityReader", name := "isName", desc := "()Z" } : Jvm.MethodName)) ∈ lw_all := lw_g (lw_at lw_m4 49 rfl) rfl
theorem q890 : (Jvm.Cond.sameMethod "StatueRent$CityReader" "StatueRent$Reader" "isName" "()Z") ∈ lw_all := lw_g (lw_at lw_m4 50 rfl) rfl
theorem q892 : (Jvm.Cond.selects "StatueRent$CityReader" ({ cls := "StatueRent$CityReader", name := "isName", desc := "()Z" } : Jvm.MethodName) ({ cls := "StatueRent$Reader", name := "isName", desc := "()Z" } : Jvm.MethodName)) ∈ lw_all := lw_g (lw_at lw_m4 52 rfl) rfl
theorem q896 : (Jvm.Cond.methodLink "StatueRent$CityReader" (82 : Nat) ({ cls := "StatueRent$CityReader", name := "of", desc := "([JI)I" } : Jvm.MethodName)) ∈ lw_all := lw_g (lw_at lw_m4 56 rfl) rfl
theorem q897 : (Jvm.Cond.sameMethod "StatueRent$CityReader" "StatueRent$Reader" "of" "([JI)I") ∈ lw_all := lw_g (lw_at lw_m4 57 rfl) rfl
theorem q899 : (Jvm.Cond.selects "StatueRent$CityReader" ({ cls := "StatueRent$CityReader", name := "of", desc := "([JI)I" } : Jvm.MethodName) ({ cls := "StatueRent$Reader", name := "of", desc := "([JI)I" } : Jvm.MethodName)) ∈ lw_all := lw_g (lw_at lw_m4 59 rfl) rfl
theorem q902 : (Jvm.Cond.methodLink "StatueRent$CityReader" (107 : Nat) ({ cls := "StatueRent$CityReader", name := "number", desc := "(II)I" } : Jvm.MethodName)) ∈ lw_all := lw_g (lw_at lw_m4 62 rfl) rfl
theorem q903 : (Jvm.Cond.sameMethod "StatueRent$CityReader" "StatueRent$Reader" "number" "(II)I") ∈ lw_all := lw_g (lw_at lw_m4 63 rfl) rfl
theorem q905 : (Jvm.Cond.selects "StatueRent$CityReader" ({ cls := "StatueRent$CityReader", name := "number", desc := "(II)I" } : Jvm.MethodName) ({ cls := "StatueRent$Reader", name := "number", desc := "(II)I" } : Jvm.MethodName)) ∈ lw_all := lw_g (lw_at lw_m4 65 rfl) rfl
theorem q909 : (Jvm.Cond.methodLink "StatueRent$CityReader" (111 : Nat) ({ cls := "StatueRent$CityReader", name := "known", desc := "([JI)I" } : Jvm.MethodName)) ∈ lw_all := lw_g (lw_at lw_m4 69 rfl) rfl
theorem q910 : (Jvm.Cond.sameMethod "StatueRent$CityReader" "StatueRent$Reader" "known" "([JI)I") ∈ lw_all := lw_g (lw_at lw_m4 70 rfl) rfl
theorem q912 : (Jvm.Cond.selects "StatueRent$CityReader" ({ cls := "StatueRent$CityReader", name := "known", desc := "([JI)I" } : Jvm.MethodName) ({ cls := "StatueRent$Reader", name := "known", desc := "([JI)I" } : Jvm.MethodName)) ∈ lw_all := lw_g (lw_at lw_m4 72 rfl) rfl
theorem q918 : (Jvm.Cond.selects "StatueRent$CityReader" ({ cls := "StatueRent$Reader", name := "look", desc := "([JI)I" } : Jvm.MethodName) ({ cls := "StatueRent$Reader", name := "look", desc := "([JI)I" } : Jvm.MethodName)) ∈ lw_all := lw_g (lw_at lw_m4 78 rfl) rfl
theorem q924 : (Jvm.Cond.methodLink "StatueRent$CityReader" (114 : Nat) ({ cls := "StatueRent$CityReader", name := "look", desc := "([JI)I" } : Jvm.MethodName)) ∈ lw_all := lw_g (lw_at lw_m4 84 rfl) rfl
theorem q925 : (Jvm.Cond.sameMethod "StatueRent$CityReader" "StatueRent$Reader" "look" "([JI)I") ∈ lw_all := lw_g (lw_at lw_m4 85 rfl) rfl
theorem q927 : (Jvm.Cond.selects "StatueRent$CityReader" ({ cls := "StatueRent$CityReader", name := "look", desc := "([JI)I" } : Jvm.MethodName) ({ cls := "StatueRent$Reader", name := "look", desc := "([JI)I" } : Jvm.MethodName)) ∈ lw_all := lw_g (lw_at lw_m4 87 rfl) rfl
theorem q928 : (Jvm.Cond.methodLinkNest "StatueRent$CityReader" (119 : Nat) ({ cls := "StatueRent", name := "has", desc := "(II)Z" } : Jvm.MethodName) "StatueRent") ∈ lw_tbl := lw_at lw_m4 88 rfl
theorem q931 : (Jvm.Cond.methodLink "StatueRent$CityReader" (123 : Nat) ({ cls := "StatueRent$CityReader", name := "statue", desc := "()V" } : Jvm.MethodName)) ∈ lw_all := lw_g (lw_at lw_m4 91 rfl) rfl
theorem q932 : (Jvm.Cond.privateMethod ({ cls := "StatueRent$CityReader", name := "statue", desc := "()V" } : Jvm.MethodName)) ∈ lw_tbl := lw_at lw_m4 92 rfl
theorem q933 : (Jvm.Cond.instanceMethod ({ cls := "StatueRent$CityReader", name := "statue", desc := "()V" } : Jvm.MethodName)) ∈ lw_all := lw_g (lw_at lw_m4 93 rfl) rfl
theorem q934 : (Jvm.Cond.code ({ cls := "StatueRent$CityReader", name := "statue", desc := "()V" } : Jvm.MethodName) prog_5_method_6_code (4 : Nat) (Option.none : Option Jvm.ClassFile.FieldType)) ∈ lw_all := lw_g (lw_at lw_m4 94 rfl) rfl
theorem q935 : (Jvm.Cond.methodLink "StatueRent$CityReader" (126 : Nat) ({ cls := "StatueRent$CityReader", name := "walker", desc := "()V" } : Jvm.MethodName)) ∈ lw_all := lw_g (lw_at lw_m4 95 rfl) rfl
theorem q936 : (Jvm.Cond.privateMethod ({ cls := "StatueRent$CityReader", name := "walker", desc := "()V" } : Jvm.MethodName)) ∈ lw_tbl := lw_at lw_m4 96 rfl
theorem q937 : (Jvm.Cond.instanceMethod ({ cls := "StatueRent$CityReader", name := "walker", desc := "()V" } : Jvm.MethodName)) ∈ lw_all := lw_g (lw_at lw_m4 97 rfl) rfl
theorem q938 : (Jvm.Cond.code ({ cls := "StatueRent$CityReader", name := "walker", desc := "()V" } : Jvm.MethodName) prog_5_method_7_code (2 : Nat) (Option.none : Option Jvm.ClassFile.FieldType)) ∈ lw_all := lw_g (lw_at lw_m4 98 rfl) rfl
theorem q939 : (Jvm.Cond.methodLink "StatueRent$CityReader" (54 : Nat) ({ cls := "StatueRent$CityReader", name := "sign", desc := "(I)V" } : Jvm.MethodName)) ∈ lw_all := lw_g (lw_at lw_m4 99 rfl) rfl
theorem q940 : (Jvm.Cond.sameMethod "StatueRent$CityReader" "StatueRent$Reader" "sign" "(I)V") ∈ lw_all := lw_g (lw_at lw_m4 100 rfl) rfl
theorem q942 : (Jvm.Cond.selects "StatueRent$CityReader" ({ cls := "StatueRent$CityReader", name := "sign", desc := "(I)V" } : Jvm.MethodName) ({ cls := "StatueRent$Reader", name := "sign", desc := "(I)V" } : Jvm.MethodName)) ∈ lw_all := lw_g (lw_at lw_m4 102 rfl) rfl
theorem q948 : (Jvm.Cond.selects "StatueRent$CityReader" ({ cls := "StatueRent$Reader", name := "is", desc := "(I)Z" } : Jvm.MethodName) ({ cls := "StatueRent$Reader", name := "is", desc := "(I)Z" } : Jvm.MethodName)) ∈ lw_all := lw_g (lw_at lw_m4 108 rfl) rfl
theorem q2519 : (Jvm.Cond.selects "StatueRent$CityReader" ({ cls := "StatueRent$Reader", name := "find", desc := "([Ljava/lang/String;)I" } : Jvm.MethodName) ({ cls := "StatueRent$Reader", name := "find", desc := "([Ljava/lang/String;)I" } : Jvm.MethodName)) ∈ lw_all := lw_g (lw_at lw_m10 239 rfl) rfl
theorem q2523 : (Jvm.Cond.selects "StatueRent$CityReader" ({ cls := "StatueRent$Reader", name := "must", desc := "(ZI)V" } : Jvm.MethodName) ({ cls := "StatueRent$Reader", name := "must", desc := "(ZI)V" } : Jvm.MethodName)) ∈ lw_all := lw_g (lw_at lw_m11 3 rfl) rfl
theorem q2527 : (Jvm.Cond.selects "StatueRent$CityReader" ({ cls := "StatueRent$Reader", name := "isName", desc := "()Z" } : Jvm.MethodName) ({ cls := "StatueRent$Reader", name := "isName", desc := "()Z" } : Jvm.MethodName)) ∈ lw_all := lw_g (lw_at lw_m11 7 rfl) rfl
theorem q2531 : (Jvm.Cond.selects "StatueRent$CityReader" ({ cls := "StatueRent$Reader", name := "of", desc := "([JI)I" } : Jvm.MethodName) ({ cls := "StatueRent$Reader", name := "of", desc := "([JI)I" } : Jvm.MethodName)) ∈ lw_all := lw_g (lw_at lw_m11 11 rfl) rfl
theorem q2539 : (Jvm.Cond.castable "StatueRent$CityReader" "java/lang/Object") ∈ lw_tbl := lw_at lw_m11 19 rfl
theorem in_X7 : ∀ w ∈ wsX70, w ∈ lw_all := lw_in wsX70 [515, 517, 519, 521, 523, 525, 527, 529, 509, 511, 513] (by decide +kernel) (by decide +kernel)
/-! StatueRent$LogReader -/
set_option maxRecDepth 100000
def RX8 : String := "StatueRent$LogReader"
def TX8 : u_T := fun k => match k with
  | 0 => ("StatueRent$Reader", "most", "I", true)
  | 1 => ("StatueRent$Reader", "p", "I", false)
  | 2 => ("StatueRent$Reader", "at", "I", false)
  | 3 => ("StatueRent$Reader", "token", "I", false)
  | 4 => ("StatueRent$Reader", "value", "I", false)
  | 5 => ("StatueRent$Reader", "many", "I", false)
  | 6 => ("StatueRent$Reader", "name", "J", false)
  | 7 => ("StatueRent$Reader", "this$0", "LStatueRent;", true)
  | 8 => ("StatueRent$LogReader", "row", "[LStatueRent$Line;", true)
  | 9 => ("StatueRent$LogReader", "n", "I", false)
  | _ => ("StatueRent$LogReader", "this$0", "LStatueRent;", true)
def tyX8 : Nat → FieldType := fun k => match k with
  | 0 => .int
  | 1 => .int
  | 2 => .int
  | 3 => .int
  | 4 => .int
  | 5 => .int
  | 6 => .long
  | 7 => .object "StatueRent"
  | 8 => .array (.object "StatueRent$Line")
  | 9 => .int
  | _ => .object "StatueRent"
abbrev wsX80 : List Cond := u_ws RX8 TX8 11
-- two fields of one name: no nmX8
theorem tyX8_ok : ∀ k, k < 11 → parseFieldDescriptor (TX8 k).2.2.1 = some (tyX8 k) := by decide +kernel
abbrev cX8_init : ByteArray := prog_14_method_1_code
def yX8_init : MethodName := ⟨RX8, "<init>", "(LStatueRent;)V"⟩
def dkwX8_init_0 : List UInt8 := [42, 43, 181, 0, 3, 42, 43, 17, 1, 144, 183, 0, 9, 42, 16, 40, 189, 0, 15, 181, 0, 17, 177]
abbrev dktX8_init_0 : List UInt8 := dkwX8_init_0 ++ []
theorem dksX8_init_0 : cX8_init.data.toList.drop 0 = dktX8_init_0 := by decide +kernel
theorem dX8_init_0 : decode cX8_init 0 = .ok (.aload_n 0, 1) := dk_42 (dk_at dksX8_init_0 0 rfl rfl)
theorem dX8_init_1 : decode cX8_init 1 = .ok (.aload_n 1, 1) := dk_43 (dk_at dksX8_init_0 1 rfl rfl)
theorem dX8_init_2 : decode cX8_init 2 = .ok (.putfield 3, 3) := dk_181 0 3 (dk_at dksX8_init_0 2 rfl rfl)
theorem dX8_init_5 : decode cX8_init 5 = .ok (.aload_n 0, 1) := dk_42 (dk_at dksX8_init_0 5 rfl rfl)
theorem dX8_init_6 : decode cX8_init 6 = .ok (.aload_n 1, 1) := dk_43 (dk_at dksX8_init_0 6 rfl rfl)
theorem dX8_init_7 : decode cX8_init 7 = .ok (.sipush 400, 3) := dk_17 1 144 (dk_at dksX8_init_0 7 rfl rfl)
theorem dX8_init_10 : decode cX8_init 10 = .ok (.invokespecial 9, 3) := dk_183 0 9 (dk_at dksX8_init_0 10 rfl rfl)
theorem dX8_init_13 : decode cX8_init 13 = .ok (.aload_n 0, 1) := dk_42 (dk_at dksX8_init_0 13 rfl rfl)
theorem dX8_init_14 : decode cX8_init 14 = .ok (.bipush 40, 2) := dk_16 40 (dk_at dksX8_init_0 14 rfl rfl)
theorem dX8_init_16 : decode cX8_init 16 = .ok (.anewarray 15, 3) := dk_189 0 15 (dk_at dksX8_init_0 16 rfl rfl)
theorem dX8_init_19 : decode cX8_init 19 = .ok (.putfield 17, 3) := dk_181 0 17 (dk_at dksX8_init_0 19 rfl rfl)
theorem dX8_init_22 : decode cX8_init 22 = .ok (.return_, 1) := dk_177 (dk_at dksX8_init_0 22 rfl rfl)
abbrev cX8_read : ByteArray := prog_14_method_2_code
def yX8_read : MethodName := ⟨RX8, "read", "()V"⟩
def dkwX8_read_2 : List UInt8 := [167, 255, 218, 177]
abbrev dktX8_read_2 : List UInt8 := dkwX8_read_2 ++ []
def dkwX8_read_1 : List UInt8 := [182, 0, 36, 42, 180, 0, 17, 42, 180, 0, 21, 43, 83, 42, 89, 180, 0, 21, 4, 96, 181, 0, 21]
abbrev dktX8_read_1 : List UInt8 := dkwX8_read_1 ++ dktX8_read_2
def dkwX8_read_0 : List UInt8 := [42, 3, 181, 0, 21, 42, 182, 0, 25, 42, 180, 0, 29, 153, 0, 37, 42, 182, 0, 32, 76, 42, 16, 59]
abbrev dktX8_read_0 : List UInt8 := dkwX8_read_0 ++ dktX8_read_1
theorem dksX8_read_0 : cX8_read.data.toList.drop 0 = dktX8_read_0 := by decide +kernel
theorem dksX8_read_1 : cX8_read.data.toList.drop 24 = dktX8_read_1 := dk_seg dksX8_read_0 24 rfl rfl
theorem dksX8_read_2 : cX8_read.data.toList.drop 47 = dktX8_read_2 := dk_seg dksX8_read_1 23 rfl rfl
theorem dX8_read_0 : decode cX8_read 0 = .ok (.aload_n 0, 1) := dk_42 (dk_at dksX8_read_0 0 rfl rfl)
theorem dX8_read_1 : decode cX8_read 1 = .ok (.iconst 0, 1) := dk_3 (dk_at dksX8_read_0 1 rfl rfl)
theorem dX8_read_2 : decode cX8_read 2 = .ok (.putfield 21, 3) := dk_181 0 21 (dk_at dksX8_read_0 2 rfl rfl)
theorem dX8_read_5 : decode cX8_read 5 = .ok (.aload_n 0, 1) := dk_42 (dk_at dksX8_read_0 5 rfl rfl)
theorem dX8_read_6 : decode cX8_read 6 = .ok (.invokevirtual 25, 3) := dk_182 0 25 (dk_at dksX8_read_0 6 rfl rfl)
theorem dX8_read_9 : decode cX8_read 9 = .ok (.aload_n 0, 1) := dk_42 (dk_at dksX8_read_0 9 rfl rfl)
theorem dX8_read_10 : decode cX8_read 10 = .ok (.getfield 29, 3) := dk_180 0 29 (dk_at dksX8_read_0 10 rfl rfl)
theorem dX8_read_13 : decode cX8_read 13 = .ok (.ifCond .eq 37, 3) := dk_153 0 37 (dk_at dksX8_read_0 13 rfl rfl)
theorem dX8_read_16 : decode cX8_read 16 = .ok (.aload_n 0, 1) := dk_42 (dk_at dksX8_read_0 16 rfl rfl)
theorem dX8_read_17 : decode cX8_read 17 = .ok (.invokevirtual 32, 3) := dk_182 0 32 (dk_at dksX8_read_0 17 rfl rfl)
theorem dX8_read_20 : decode cX8_read 20 = .ok (.astore_n 1, 1) := dk_76 (dk_at dksX8_read_0 20 rfl rfl)
theorem dX8_read_21 : decode cX8_read 21 = .ok (.aload_n 0, 1) := dk_42 (dk_at dksX8_read_0 21 rfl rfl)
theorem dX8_read_22 : decode cX8_read 22 = .ok (.bipush 59, 2) := dk_16 59 (dk_at dksX8_read_0 22 rfl rfl)
theorem dX8_read_24 : decode cX8_read 24 = .ok (.invokevirtual 36, 3) := dk_182 0 36 (dk_at dksX8_read_1 0 rfl rfl)
theorem dX8_read_27 : decode cX8_read 27 = .ok (.aload_n 0, 1) := dk_42 (dk_at dksX8_read_1 3 rfl rfl)
theorem dX8_read_28 : decode cX8_read 28 = .ok (.getfield 17, 3) := dk_180 0 17 (dk_at dksX8_read_1 4 rfl rfl)
theorem dX8_read_31 : decode cX8_read 31 = .ok (.aload_n 0, 1) := dk_42 (dk_at dksX8_read_1 7 rfl rfl)
theorem dX8_read_32 : decode cX8_read 32 = .ok (.getfield 21, 3) := dk_180 0 21 (dk_at dksX8_read_1 8 rfl rfl)
theorem dX8_read_35 : decode cX8_read 35 = .ok (.aload_n 1, 1) := dk_43 (dk_at dksX8_read_1 11 rfl rfl)
theorem dX8_read_36 : decode cX8_read 36 = .ok (.aastore, 1) := dk_83 (dk_at dksX8_read_1 12 rfl rfl)
theorem dX8_read_37 : decode cX8_read 37 = .ok (.aload_n 0, 1) := dk_42 (dk_at dksX8_read_1 13 rfl rfl)
theorem dX8_read_38 : decode cX8_read 38 = .ok (.dup, 1) := dk_89 (dk_at dksX8_read_1 14 rfl rfl)
theorem dX8_read_39 : decode cX8_read 39 = .ok (.getfield 21, 3) := dk_180 0 21 (dk_at dksX8_read_1 15 rfl rfl)
theorem dX8_read_42 : decode cX8_read 42 = .ok (.iconst 1, 1) := dk_4 (dk_at dksX8_read_1 18 rfl rfl)
theorem dX8_read_43 : decode cX8_read 43 = .ok (.iadd, 1) := dk_96 (dk_at dksX8_read_1 19 rfl rfl)
theorem dX8_read_44 : decode cX8_read 44 = .ok (.putfield 21, 3) := dk_181 0 21 (dk_at dksX8_read_1 20 rfl rfl)
theorem dX8_read_47 : decode cX8_read 47 = .ok (.goto (-38), 3) := dk_167 255 218 (dk_at dksX8_read_2 0 rfl rfl)
theorem dX8_read_50 : decode cX8_read 50 = .ok (.return_, 1) := dk_177 (dk_at dksX8_read_2 3 rfl rfl)
abbrev cX8_line : ByteArray := prog_14_method_3_code
def yX8_line : MethodName := ⟨RX8, "line", "()LStatueRent$Line;"⟩
def dkwX8_line_11 : List UInt8 := [182, 0, 55, 183, 0, 114, 176]
abbrev dktX8_line_11 : List UInt8 := dkwX8_line_11 ++ []
def dkwX8_line_10 : List UInt8 := [180, 0, 3, 180, 0, 61, 180, 0, 71, 182, 0, 88, 61, 187, 0, 112, 89, 27, 28, 42, 4, 16, 99]
abbrev dktX8_line_10 : List UInt8 := dkwX8_line_10 ++ dktX8_line_11
def dkwX8_line_9 : List UInt8 := [182, 0, 42, 4, 182, 0, 46, 42, 182, 0, 50, 42, 42, 180, 0, 3, 180, 0, 61, 180, 0, 65, 42]
abbrev dktX8_line_9 : List UInt8 := dkwX8_line_9 ++ dktX8_line_10
def dkwX8_line_8 : List UInt8 := [180, 0, 103, 42, 180, 0, 3, 180, 0, 61, 180, 0, 106, 182, 0, 88, 183, 0, 109, 176, 42, 42, 18, 110]
abbrev dktX8_line_8 : List UInt8 := dkwX8_line_8 ++ dktX8_line_9
def dkwX8_line_7 : List UInt8 := [182, 0, 42, 153, 0, 40, 42, 182, 0, 50, 187, 0, 101, 89, 27, 42, 42, 180, 0, 3, 180, 0, 61]
abbrev dktX8_line_7 : List UInt8 := dkwX8_line_7 ++ dktX8_line_8
def dkwX8_line_6 : List UInt8 := [18, 94, 182, 0, 42, 153, 0, 16, 42, 182, 0, 50, 187, 0, 96, 89, 27, 183, 0, 98, 176, 42, 18, 99]
abbrev dktX8_line_6 : List UInt8 := dkwX8_line_6 ++ dktX8_line_7
def dkwX8_line_5 : List UInt8 := [180, 0, 61, 180, 0, 82, 42, 180, 0, 3, 180, 0, 61, 180, 0, 85, 182, 0, 88, 183, 0, 91, 176, 42]
abbrev dktX8_line_5 : List UInt8 := dkwX8_line_5 ++ dktX8_line_6
def dkwX8_line_4 : List UInt8 := [18, 78, 182, 0, 42, 153, 0, 40, 42, 182, 0, 50, 187, 0, 80, 89, 27, 42, 42, 180, 0, 3]
abbrev dktX8_line_4 : List UInt8 := dkwX8_line_4 ++ dktX8_line_5
def dkwX8_line_3 : List UInt8 := [42, 42, 180, 0, 21, 16, 40, 162, 0, 7, 4, 167, 0, 4, 3, 7, 182, 0, 46, 42, 182, 0, 50, 42]
abbrev dktX8_line_3 : List UInt8 := dkwX8_line_3 ++ dktX8_line_4
def dkwX8_line_2 : List UInt8 := [42, 180, 0, 3, 180, 0, 61, 180, 0, 65, 42, 180, 0, 3, 180, 0, 61, 180, 0, 71, 182, 0, 74, 60]
abbrev dktX8_line_2 : List UInt8 := dkwX8_line_2 ++ dktX8_line_3
def dkwX8_line_1 : List UInt8 := [7, 182, 0, 46, 42, 182, 0, 50, 187, 0, 53, 89, 42, 4, 16, 60, 182, 0, 55, 183, 0, 59, 176, 42]
abbrev dktX8_line_1 : List UInt8 := dkwX8_line_1 ++ dktX8_line_2
def dkwX8_line_0 : List UInt8 := [42, 18, 40, 182, 0, 42, 153, 0, 41, 42, 42, 180, 0, 21, 16, 40, 162, 0, 7, 4, 167, 0, 4, 3]
abbrev dktX8_line_0 : List UInt8 := dkwX8_line_0 ++ dktX8_line_1
theorem dksX8_line_0 : cX8_line.data.toList.drop 0 = dktX8_line_0 := by decide +kernel
theorem dksX8_line_1 : cX8_line.data.toList.drop 24 = dktX8_line_1 := dk_seg dksX8_line_0 24 rfl rfl
theorem dksX8_line_2 : cX8_line.data.toList.drop 48 = dktX8_line_2 := dk_seg dksX8_line_1 24 rfl rfl
theorem dksX8_line_3 : cX8_line.data.toList.drop 72 = dktX8_line_3 := dk_seg dksX8_line_2 24 rfl rfl
theorem dksX8_line_4 : cX8_line.data.toList.drop 96 = dktX8_line_4 := dk_seg dksX8_line_3 24 rfl rfl
theorem dksX8_line_5 : cX8_line.data.toList.drop 118 = dktX8_line_5 := dk_seg dksX8_line_4 22 rfl rfl
theorem dksX8_line_6 : cX8_line.data.toList.drop 142 = dktX8_line_6 := dk_seg dksX8_line_5 24 rfl rfl
theorem dksX8_line_7 : cX8_line.data.toList.drop 166 = dktX8_line_7 := dk_seg dksX8_line_6 24 rfl rfl
theorem dksX8_line_8 : cX8_line.data.toList.drop 189 = dktX8_line_8 := dk_seg dksX8_line_7 23 rfl rfl
theorem dksX8_line_9 : cX8_line.data.toList.drop 213 = dktX8_line_9 := dk_seg dksX8_line_8 24 rfl rfl
theorem dksX8_line_10 : cX8_line.data.toList.drop 236 = dktX8_line_10 := dk_seg dksX8_line_9 23 rfl rfl
theorem dksX8_line_11 : cX8_line.data.toList.drop 259 = dktX8_line_11 := dk_seg dksX8_line_10 23 rfl rfl
theorem dX8_line_0 : decode cX8_line 0 = .ok (.aload_n 0, 1) := dk_42 (dk_at dksX8_line_0 0 rfl rfl)
theorem dX8_line_1 : decode cX8_line 1 = .ok (.ldc 40, 2) := dk_18 40 (dk_at dksX8_line_0 1 rfl rfl)
theorem dX8_line_3 : decode cX8_line 3 = .ok (.invokevirtual 42, 3) := dk_182 0 42 (dk_at dksX8_line_0 3 rfl rfl)
theorem dX8_line_6 : decode cX8_line 6 = .ok (.ifCond .eq 41, 3) := dk_153 0 41 (dk_at dksX8_line_0 6 rfl rfl)
theorem dX8_line_9 : decode cX8_line 9 = .ok (.aload_n 0, 1) := dk_42 (dk_at dksX8_line_0 9 rfl rfl)
theorem dX8_line_10 : decode cX8_line 10 = .ok (.aload_n 0, 1) := dk_42 (dk_at dksX8_line_0 10 rfl rfl)
theorem dX8_line_11 : decode cX8_line 11 = .ok (.getfield 21, 3) := dk_180 0 21 (dk_at dksX8_line_0 11 rfl rfl)
theorem dX8_line_14 : decode cX8_line 14 = .ok (.bipush 40, 2) := dk_16 40 (dk_at dksX8_line_0 14 rfl rfl)
theorem dX8_line_16 : decode cX8_line 16 = .ok (.if_icmp .ge 7, 3) := dk_162 0 7 (dk_at dksX8_line_0 16 rfl rfl)
theorem dX8_line_19 : decode cX8_line 19 = .ok (.iconst 1, 1) := dk_4 (dk_at dksX8_line_0 19 rfl rfl)
theorem dX8_line_20 : decode cX8_line 20 = .ok (.goto 4, 3) := dk_167 0 4 (dk_at dksX8_line_0 20 rfl rfl)
theorem dX8_line_23 : decode cX8_line 23 = .ok (.iconst 0, 1) := dk_3 (dk_at dksX8_line_0 23 rfl rfl)
theorem dX8_line_24 : decode cX8_line 24 = .ok (.iconst 4, 1) := dk_7 (dk_at dksX8_line_1 0 rfl rfl)
theorem dX8_line_25 : decode cX8_line 25 = .ok (.invokevirtual 46, 3) := dk_182 0 46 (dk_at dksX8_line_1 1 rfl rfl)
theorem dX8_line_28 : decode cX8_line 28 = .ok (.aload_n 0, 1) := dk_42 (dk_at dksX8_line_1 4 rfl rfl)
theorem dX8_line_29 : decode cX8_line 29 = .ok (.invokevirtual 50, 3) := dk_182 0 50 (dk_at dksX8_line_1 5 rfl rfl)
theorem dX8_line_32 : decode cX8_line 32 = .ok (.new 53, 3) := dk_187 0 53 (dk_at dksX8_line_1 8 rfl rfl)
theorem dX8_line_35 : decode cX8_line 35 = .ok (.dup, 1) := dk_89 (dk_at dksX8_line_1 11 rfl rfl)
theorem dX8_line_36 : decode cX8_line 36 = .ok (.aload_n 0, 1) := dk_42 (dk_at dksX8_line_1 12 rfl rfl)
theorem dX8_line_37 : decode cX8_line 37 = .ok (.iconst 1, 1) := dk_4 (dk_at dksX8_line_1 13 rfl rfl)
theorem dX8_line_38 : decode cX8_line 38 = .ok (.bipush 60, 2) := dk_16 60 (dk_at dksX8_line_1 14 rfl rfl)
theorem dX8_line_40 : decode cX8_line 40 = .ok (.invokevirtual 55, 3) := dk_182 0 55 (dk_at dksX8_line_1 16 rfl rfl)
theorem dX8_line_43 : decode cX8_line 43 = .ok (.invokespecial 59, 3) := dk_183 0 59 (dk_at dksX8_line_1 19 rfl rfl)
theorem dX8_line_46 : decode cX8_line 46 = .ok (.areturn, 1) := dk_176 (dk_at dksX8_line_1 22 rfl rfl)
theorem dX8_line_47 : decode cX8_line 47 = .ok (.aload_n 0, 1) := dk_42 (dk_at dksX8_line_1 23 rfl rfl)
theorem dX8_line_48 : decode cX8_line 48 = .ok (.aload_n 0, 1) := dk_42 (dk_at dksX8_line_2 0 rfl rfl)
theorem dX8_line_49 : decode cX8_line 49 = .ok (.getfield 3, 3) := dk_180 0 3 (dk_at dksX8_line_2 1 rfl rfl)
theorem dX8_line_52 : decode cX8_line 52 = .ok (.getfield 61, 3) := dk_180 0 61 (dk_at dksX8_line_2 4 rfl rfl)
theorem dX8_line_55 : decode cX8_line 55 = .ok (.getfield 65, 3) := dk_180 0 65 (dk_at dksX8_line_2 7 rfl rfl)
theorem dX8_line_58 : decode cX8_line 58 = .ok (.aload_n 0, 1) := dk_42 (dk_at dksX8_line_2 10 rfl rfl)
theorem dX8_line_59 : decode cX8_line 59 = .ok (.getfield 3, 3) := dk_180 0 3 (dk_at dksX8_line_2 11 rfl rfl)
theorem dX8_line_62 : decode cX8_line 62 = .ok (.getfield 61, 3) := dk_180 0 61 (dk_at dksX8_line_2 14 rfl rfl)
theorem dX8_line_65 : decode cX8_line 65 = .ok (.getfield 71, 3) := dk_180 0 71 (dk_at dksX8_line_2 17 rfl rfl)
theorem dX8_line_68 : decode cX8_line 68 = .ok (.invokevirtual 74, 3) := dk_182 0 74 (dk_at dksX8_line_2 20 rfl rfl)
theorem dX8_line_71 : decode cX8_line 71 = .ok (.istore_n 1, 1) := dk_60 (dk_at dksX8_line_2 23 rfl rfl)
theorem dX8_line_72 : decode cX8_line 72 = .ok (.aload_n 0, 1) := dk_42 (dk_at dksX8_line_3 0 rfl rfl)
theorem dX8_line_73 : decode cX8_line 73 = .ok (.aload_n 0, 1) := dk_42 (dk_at dksX8_line_3 1 rfl rfl)
theorem dX8_line_74 : decode cX8_line 74 = .ok (.getfield 21, 3) := dk_180 0 21 (dk_at dksX8_line_3 2 rfl rfl)
theorem dX8_line_77 : decode cX8_line 77 = .ok (.bipush 40, 2) := dk_16 40 (dk_at dksX8_line_3 5 rfl rfl)
theorem dX8_line_79 : decode cX8_line 79 = .ok (.if_icmp .ge 7, 3) := dk_162 0 7 (dk_at dksX8_line_3 7 rfl rfl)
theorem dX8_line_82 : decode cX8_line 82 = .ok (.iconst 1, 1) := dk_4 (dk_at dksX8_line_3 10 rfl rfl)
theorem dX8_line_83 : decode cX8_line 83 = .ok (.goto 4, 3) := dk_167 0 4 (dk_at dksX8_line_3 11 rfl rfl)
theorem dX8_line_86 : decode cX8_line 86 = .ok (.iconst 0, 1) := dk_3 (dk_at dksX8_line_3 14 rfl rfl)
theorem dX8_line_87 : decode cX8_line 87 = .ok (.iconst 4, 1) := dk_7 (dk_at dksX8_line_3 15 rfl rfl)
theorem dX8_line_88 : decode cX8_line 88 = .ok (.invokevirtual 46, 3) := dk_182 0 46 (dk_at dksX8_line_3 16 rfl rfl)
theorem dX8_line_91 : decode cX8_line 91 = .ok (.aload_n 0, 1) := dk_42 (dk_at dksX8_line_3 19 rfl rfl)
theorem dX8_line_92 : decode cX8_line 92 = .ok (.invokevirtual 50, 3) := dk_182 0 50 (dk_at dksX8_line_3 20 rfl rfl)
theorem dX8_line_95 : decode cX8_line 95 = .ok (.aload_n 0, 1) := dk_42 (dk_at dksX8_line_3 23 rfl rfl)
theorem dX8_line_96 : decode cX8_line 96 = .ok (.ldc 78, 2) := dk_18 78 (dk_at dksX8_line_4 0 rfl rfl)
theorem dX8_line_98 : decode cX8_line 98 = .ok (.invokevirtual 42, 3) := dk_182 0 42 (dk_at dksX8_line_4 2 rfl rfl)
theorem dX8_line_101 : decode cX8_line 101 = .ok (.ifCond .eq 40, 3) := dk_153 0 40 (dk_at dksX8_line_4 5 rfl rfl)
theorem dX8_line_104 : decode cX8_line 104 = .ok (.aload_n 0, 1) := dk_42 (dk_at dksX8_line_4 8 rfl rfl)
theorem dX8_line_105 : decode cX8_line 105 = .ok (.invokevirtual 50, 3) := dk_182 0 50 (dk_at dksX8_line_4 9 rfl rfl)
theorem dX8_line_108 : decode cX8_line 108 = .ok (.new 80, 3) := dk_187 0 80 (dk_at dksX8_line_4 12 rfl rfl)
theorem dX8_line_111 : decode cX8_line 111 = .ok (.dup, 1) := dk_89 (dk_at dksX8_line_4 15 rfl rfl)
theorem dX8_line_112 : decode cX8_line 112 = .ok (.iload_n 1, 1) := dk_27 (dk_at dksX8_line_4 16 rfl rfl)
theorem dX8_line_113 : decode cX8_line 113 = .ok (.aload_n 0, 1) := dk_42 (dk_at dksX8_line_4 17 rfl rfl)
theorem dX8_line_114 : decode cX8_line 114 = .ok (.aload_n 0, 1) := dk_42 (dk_at dksX8_line_4 18 rfl rfl)
theorem dX8_line_115 : decode cX8_line 115 = .ok (.getfield 3, 3) := dk_180 0 3 (dk_at dksX8_line_4 19 rfl rfl)
theorem dX8_line_118 : decode cX8_line 118 = .ok (.getfield 61, 3) := dk_180 0 61 (dk_at dksX8_line_5 0 rfl rfl)
theorem dX8_line_121 : decode cX8_line 121 = .ok (.getfield 82, 3) := dk_180 0 82 (dk_at dksX8_line_5 3 rfl rfl)
theorem dX8_line_124 : decode cX8_line 124 = .ok (.aload_n 0, 1) := dk_42 (dk_at dksX8_line_5 6 rfl rfl)
theorem dX8_line_125 : decode cX8_line 125 = .ok (.getfield 3, 3) := dk_180 0 3 (dk_at dksX8_line_5 7 rfl rfl)
theorem dX8_line_128 : decode cX8_line 128 = .ok (.getfield 61, 3) := dk_180 0 61 (dk_at dksX8_line_5 10 rfl rfl)
theorem dX8_line_131 : decode cX8_line 131 = .ok (.getfield 85, 3) := dk_180 0 85 (dk_at dksX8_line_5 13 rfl rfl)
theorem dX8_line_134 : decode cX8_line 134 = .ok (.invokevirtual 88, 3) := dk_182 0 88 (dk_at dksX8_line_5 16 rfl rfl)
theorem dX8_line_137 : decode cX8_line 137 = .ok (.invokespecial 91, 3) := dk_183 0 91 (dk_at dksX8_line_5 19 rfl rfl)
theorem dX8_line_140 : decode cX8_line 140 = .ok (.areturn, 1) := dk_176 (dk_at dksX8_line_5 22 rfl rfl)
theorem dX8_line_141 : decode cX8_line 141 = .ok (.aload_n 0, 1) := dk_42 (dk_at dksX8_line_5 23 rfl rfl)
theorem dX8_line_142 : decode cX8_line 142 = .ok (.ldc 94, 2) := dk_18 94 (dk_at dksX8_line_6 0 rfl rfl)
theorem dX8_line_144 : decode cX8_line 144 = .ok (.invokevirtual 42, 3) := dk_182 0 42 (dk_at dksX8_line_6 2 rfl rfl)
theorem dX8_line_147 : decode cX8_line 147 = .ok (.ifCond .eq 16, 3) := dk_153 0 16 (dk_at dksX8_line_6 5 rfl rfl)
theorem dX8_line_150 : decode cX8_line 150 = .ok (.aload_n 0, 1) := dk_42 (dk_at dksX8_line_6 8 rfl rfl)
theorem dX8_line_151 : decode cX8_line 151 = .ok (.invokevirtual 50, 3) := dk_182 0 50 (dk_at dksX8_line_6 9 rfl rfl)
theorem dX8_line_154 : decode cX8_line 154 = .ok (.new 96, 3) := dk_187 0 96 (dk_at dksX8_line_6 12 rfl rfl)
theorem dX8_line_157 : decode cX8_line 157 = .ok (.dup, 1) := dk_89 (dk_at dksX8_line_6 15 rfl rfl)
theorem dX8_line_158 : decode cX8_line 158 = .ok (.iload_n 1, 1) := dk_27 (dk_at dksX8_line_6 16 rfl rfl)
theorem dX8_line_159 : decode cX8_line 159 = .ok (.invokespecial 98, 3) := dk_183 0 98 (dk_at dksX8_line_6 17 rfl rfl)
theorem dX8_line_162 : decode cX8_line 162 = .ok (.areturn, 1) := dk_176 (dk_at dksX8_line_6 20 rfl rfl)
theorem dX8_line_163 : decode cX8_line 163 = .ok (.aload_n 0, 1) := dk_42 (dk_at dksX8_line_6 21 rfl rfl)
theorem dX8_line_164 : decode cX8_line 164 = .ok (.ldc 99, 2) := dk_18 99 (dk_at dksX8_line_6 22 rfl rfl)
theorem dX8_line_166 : decode cX8_line 166 = .ok (.invokevirtual 42, 3) := dk_182 0 42 (dk_at dksX8_line_7 0 rfl rfl)
theorem dX8_line_169 : decode cX8_line 169 = .ok (.ifCond .eq 40, 3) := dk_153 0 40 (dk_at dksX8_line_7 3 rfl rfl)
theorem dX8_line_172 : decode cX8_line 172 = .ok (.aload_n 0, 1) := dk_42 (dk_at dksX8_line_7 6 rfl rfl)
theorem dX8_line_173 : decode cX8_line 173 = .ok (.invokevirtual 50, 3) := dk_182 0 50 (dk_at dksX8_line_7 7 rfl rfl)
theorem dX8_line_176 : decode cX8_line 176 = .ok (.new 101, 3) := dk_187 0 101 (dk_at dksX8_line_7 10 rfl rfl)
theorem dX8_line_179 : decode cX8_line 179 = .ok (.dup, 1) := dk_89 (dk_at dksX8_line_7 13 rfl rfl)
theorem dX8_line_180 : decode cX8_line 180 = .ok (.iload_n 1, 1) := dk_27 (dk_at dksX8_line_7 14 rfl rfl)
theorem dX8_line_181 : decode cX8_line 181 = .ok (.aload_n 0, 1) := dk_42 (dk_at dksX8_line_7 15 rfl rfl)
theorem dX8_line_182 : decode cX8_line 182 = .ok (.aload_n 0, 1) := dk_42 (dk_at dksX8_line_7 16 rfl rfl)
theorem dX8_line_183 : decode cX8_line 183 = .ok (.getfield 3, 3) := dk_180 0 3 (dk_at dksX8_line_7 17 rfl rfl)
theorem dX8_line_186 : decode cX8_line 186 = .ok (.getfield 61, 3) := dk_180 0 61 (dk_at dksX8_line_7 20 rfl rfl)
theorem dX8_line_189 : decode cX8_line 189 = .ok (.getfield 103, 3) := dk_180 0 103 (dk_at dksX8_line_8 0 rfl rfl)
theorem dX8_line_192 : decode cX8_line 192 = .ok (.aload_n 0, 1) := dk_42 (dk_at dksX8_line_8 3 rfl rfl)
theorem dX8_line_193 : decode cX8_line 193 = .ok (.getfield 3, 3) := dk_180 0 3 (dk_at dksX8_line_8 4 rfl rfl)
theorem dX8_line_196 : decode cX8_line 196 = .ok (.getfield 61, 3) := dk_180 0 61 (dk_at dksX8_line_8 7 rfl rfl)
theorem dX8_line_199 : decode cX8_line 199 = .ok (.getfield 106, 3) := dk_180 0 106 (dk_at dksX8_line_8 10 rfl rfl)
theorem dX8_line_202 : decode cX8_line 202 = .ok (.invokevirtual 88, 3) := dk_182 0 88 (dk_at dksX8_line_8 13 rfl rfl)
theorem dX8_line_205 : decode cX8_line 205 = .ok (.invokespecial 109, 3) := dk_183 0 109 (dk_at dksX8_line_8 16 rfl rfl)
theorem dX8_line_208 : decode cX8_line 208 = .ok (.areturn, 1) := dk_176 (dk_at dksX8_line_8 19 rfl rfl)
theorem dX8_line_209 : decode cX8_line 209 = .ok (.aload_n 0, 1) := dk_42 (dk_at dksX8_line_8 20 rfl rfl)
theorem dX8_line_210 : decode cX8_line 210 = .ok (.aload_n 0, 1) := dk_42 (dk_at dksX8_line_8 21 rfl rfl)
theorem dX8_line_211 : decode cX8_line 211 = .ok (.ldc 110, 2) := dk_18 110 (dk_at dksX8_line_8 22 rfl rfl)
theorem dX8_line_213 : decode cX8_line 213 = .ok (.invokevirtual 42, 3) := dk_182 0 42 (dk_at dksX8_line_9 0 rfl rfl)
theorem dX8_line_216 : decode cX8_line 216 = .ok (.iconst 1, 1) := dk_4 (dk_at dksX8_line_9 3 rfl rfl)
theorem dX8_line_217 : decode cX8_line 217 = .ok (.invokevirtual 46, 3) := dk_182 0 46 (dk_at dksX8_line_9 4 rfl rfl)
theorem dX8_line_220 : decode cX8_line 220 = .ok (.aload_n 0, 1) := dk_42 (dk_at dksX8_line_9 7 rfl rfl)
theorem dX8_line_221 : decode cX8_line 221 = .ok (.invokevirtual 50, 3) := dk_182 0 50 (dk_at dksX8_line_9 8 rfl rfl)
theorem dX8_line_224 : decode cX8_line 224 = .ok (.aload_n 0, 1) := dk_42 (dk_at dksX8_line_9 11 rfl rfl)
theorem dX8_line_225 : decode cX8_line 225 = .ok (.aload_n 0, 1) := dk_42 (dk_at dksX8_line_9 12 rfl rfl)
theorem dX8_line_226 : decode cX8_line 226 = .ok (.getfield 3, 3) := dk_180 0 3 (dk_at dksX8_line_9 13 rfl rfl)
theorem dX8_line_229 : decode cX8_line 229 = .ok (.getfield 61, 3) := dk_180 0 61 (dk_at dksX8_line_9 16 rfl rfl)
theorem dX8_line_232 : decode cX8_line 232 = .ok (.getfield 65, 3) := dk_180 0 65 (dk_at dksX8_line_9 19 rfl rfl)
theorem dX8_line_235 : decode cX8_line 235 = .ok (.aload_n 0, 1) := dk_42 (dk_at dksX8_line_9 22 rfl rfl)
theorem dX8_line_236 : decode cX8_line 236 = .ok (.getfield 3, 3) := dk_180 0 3 (dk_at dksX8_line_10 0 rfl rfl)
theorem dX8_line_239 : decode cX8_line 239 = .ok (.getfield 61, 3) := dk_180 0 61 (dk_at dksX8_line_10 3 rfl rfl)
theorem dX8_line_242 : decode cX8_line 242 = .ok (.getfield 71, 3) := dk_180 0 71 (dk_at dksX8_line_10 6 rfl rfl)
theorem dX8_line_245 : decode cX8_line 245 = .ok (.invokevirtual 88, 3) := dk_182 0 88 (dk_at dksX8_line_10 9 rfl rfl)
theorem dX8_line_248 : decode cX8_line 248 = .ok (.istore_n 2, 1) := dk_61 (dk_at dksX8_line_10 12 rfl rfl)
theorem dX8_line_249 : decode cX8_line 249 = .ok (.new 112, 3) := dk_187 0 112 (dk_at dksX8_line_10 13 rfl rfl)
theorem dX8_line_252 : decode cX8_line 252 = .ok (.dup, 1) := dk_89 (dk_at dksX8_line_10 16 rfl rfl)
theorem dX8_line_253 : decode cX8_line 253 = .ok (.iload_n 1, 1) := dk_27 (dk_at dksX8_line_10 17 rfl rfl)
theorem dX8_line_254 : decode cX8_line 254 = .ok (.iload_n 2, 1) := dk_28 (dk_at dksX8_line_10 18 rfl rfl)
theorem dX8_line_255 : decode cX8_line 255 = .ok (.aload_n 0, 1) := dk_42 (dk_at dksX8_line_10 19 rfl rfl)
theorem dX8_line_256 : decode cX8_line 256 = .ok (.iconst 1, 1) := dk_4 (dk_at dksX8_line_10 20 rfl rfl)
theorem dX8_line_257 : decode cX8_line 257 = .ok (.bipush 99, 2) := dk_16 99 (dk_at dksX8_line_10 21 rfl rfl)
theorem dX8_line_259 : decode cX8_line 259 = .ok (.invokevirtual 55, 3) := dk_182 0 55 (dk_at dksX8_line_11 0 rfl rfl)
theorem dX8_line_262 : decode cX8_line 262 = .ok (.invokespecial 114, 3) := dk_183 0 114 (dk_at dksX8_line_11 3 rfl rfl)
theorem dX8_line_265 : decode cX8_line 265 = .ok (.areturn, 1) := dk_176 (dk_at dksX8_line_11 6 rfl rfl)
theorem q130 : (Jvm.Cond.initialized "StatueRent$LogReader") ∈ lw_all := lw_g (lw_at lw_m1 10 rfl) rfl
theorem q268 : (Jvm.Cond.fieldLinkNest "StatueRent$LogReader" (82 : Nat) "StatueRent$City" "squareNames" "[J" "StatueRent") ∈ lw_tbl := lw_at lw_m1 148 rfl
theorem q273 : (Jvm.Cond.fieldLinkNest "StatueRent$LogReader" (103 : Nat) "StatueRent$City" "kindNames" "[J" "StatueRent") ∈ lw_tbl := lw_at lw_m1 153 rfl
theorem q277 : (Jvm.Cond.fieldLinkNest "StatueRent$LogReader" (65 : Nat) "StatueRent$City" "statueNames" "[J" "StatueRent") ∈ lw_tbl := lw_at lw_m1 157 rfl
theorem q324 : (Jvm.Cond.fieldLinkNest "StatueRent$LogReader" (85 : Nat) "StatueRent$City" "squares" "I" "StatueRent") ∈ lw_tbl := lw_at lw_m1 204 rfl
theorem q330 : (Jvm.Cond.fieldLinkNest "StatueRent$LogReader" (106 : Nat) "StatueRent$City" "kinds" "I" "StatueRent") ∈ lw_tbl := lw_at lw_m1 210 rfl
theorem q335 : (Jvm.Cond.fieldLinkNest "StatueRent$LogReader" (71 : Nat) "StatueRent$City" "statues" "I" "StatueRent") ∈ lw_tbl := lw_at lw_m1 215 rfl
theorem q494 : (Jvm.Cond.fieldLink "StatueRent$LogReader" (29 : Nat) "StatueRent$LogReader" "token" "I") ∈ lw_all := lw_g (lw_at lw_m2 134 rfl) rfl
theorem q495 : (Jvm.Cond.sameField "StatueRent$LogReader" "StatueRent$Reader" "token" "I") ∈ lw_all := lw_g (lw_at lw_m2 135 rfl) rfl
theorem q533 : (Jvm.Cond.instantiable "StatueRent$LogReader" (11 : Nat)) ∈ lw_all := lw_g (lw_at lw_m2 173 rfl) rfl
theorem q535 : (Jvm.Cond.instanceMethod ({ cls := "StatueRent$LogReader", name := "<init>", desc := "(LStatueRent;)V" } : Jvm.MethodName)) ∈ lw_all := lw_g (lw_at lw_m2 175 rfl) rfl
theorem q536 : (Jvm.Cond.code ({ cls := "StatueRent$LogReader", name := "<init>", desc := "(LStatueRent;)V" } : Jvm.MethodName) prog_14_method_1_code (2 : Nat) (Option.none : Option Jvm.ClassFile.FieldType)) ∈ lw_all := lw_g (lw_at lw_m2 176 rfl) rfl
theorem q537 : (Jvm.Cond.methodLink "StatueRent$LogReader" (9 : Nat) ({ cls := "StatueRent$Reader", name := "<init>", desc := "(LStatueRent;I)V" } : Jvm.MethodName)) ∈ lw_all := lw_g (lw_at lw_m2 177 rfl) rfl
theorem q538 : (Jvm.Cond.classLink "StatueRent$LogReader" (15 : Nat) "StatueRent$Line") ∈ lw_all := lw_g (lw_at lw_m2 178 rfl) rfl
theorem q540 : (Jvm.Cond.fieldLink "StatueRent$LogReader" (17 : Nat) "StatueRent$LogReader" "row" "[LStatueRent$Line;") ∈ lw_all := lw_g (lw_at lw_m2 180 rfl) rfl
theorem q542 : (Jvm.Cond.fieldLink "StatueRent$LogReader" (21 : Nat) "StatueRent$LogReader" "n" "I") ∈ lw_all := lw_g (lw_at lw_m2 182 rfl) rfl
theorem q544 : (Jvm.Cond.fieldLink "StatueRent$LogReader" (3 : Nat) "StatueRent$LogReader" "this$0" "LStatueRent;") ∈ lw_all := lw_g (lw_at lw_m2 184 rfl) rfl
theorem q545 : (Jvm.Cond.laysFinal "StatueRent$LogReader" "StatueRent$LogReader" "row" "[LStatueRent$Line;") ∈ lw_all := lw_g (lw_at lw_m2 185 rfl) rfl
theorem q546 : (Jvm.Cond.soleField "StatueRent$LogReader" "row") ∈ lw_all := lw_g (lw_at lw_m2 186 rfl) rfl
theorem q547 : (Jvm.Cond.lays "StatueRent$LogReader" "StatueRent$LogReader" "n" "I") ∈ lw_all := lw_g (lw_at lw_m2 187 rfl) rfl
theorem q548 : (Jvm.Cond.soleField "StatueRent$LogReader" "n") ∈ lw_all := lw_g (lw_at lw_m2 188 rfl) rfl
theorem q549 : (Jvm.Cond.laysFinal "StatueRent$LogReader" "StatueRent$LogReader" "this$0" "LStatueRent;") ∈ lw_all := lw_g (lw_at lw_m2 189 rfl) rfl
theorem q550 : (Jvm.Cond.soleField "StatueRent$LogReader" "this$0") ∈ lw_all := lw_g (lw_at lw_m2 190 rfl) rfl
theorem q551 : (Jvm.Cond.laysFinal "StatueRent$LogReader" "StatueRent$Reader" "most" "I") ∈ lw_all := lw_g (lw_at lw_m2 191 rfl) rfl
theorem q552 : (Jvm.Cond.lays "StatueRent$LogReader" "StatueRent$Reader" "p" "I") ∈ lw_all := lw_g (lw_at lw_m2 192 rfl) rfl
theorem q553 : (Jvm.Cond.lays "StatueRent$LogReader" "StatueRent$Reader" "at" "I") ∈ lw_all := lw_g (lw_at lw_m2 193 rfl) rfl
theorem q554 : (Jvm.Cond.lays "StatueRent$LogReader" "StatueRent$Reader" "token" "I") ∈ lw_all := lw_g (lw_at lw_m2 194 rfl) rfl
theorem q555 : (Jvm.Cond.lays "StatueRent$LogReader" "StatueRent$Reader" "value" "I") ∈ lw_all := lw_g (lw_at lw_m2 195 rfl) rfl
theorem q556 : (Jvm.Cond.lays "StatueRent$LogReader" "StatueRent$Reader" "many" "I") ∈ lw_all := lw_g (lw_at lw_m2 196 rfl) rfl
theorem q557 : (Jvm.Cond.lays "StatueRent$LogReader" "StatueRent$Reader" "name" "J") ∈ lw_all := lw_g (lw_at lw_m2 197 rfl) rfl
theorem q558 : (Jvm.Cond.laysFinal "StatueRent$LogReader" "StatueRent$Reader" "this$0" "LStatueRent;") ∈ lw_all := lw_g (lw_at lw_m2 198 rfl) rfl
theorem q559 : (Jvm.Cond.superclass "StatueRent$LogReader" "StatueRent$Reader") ∈ lw_all := lw_g (lw_at lw_m2 199 rfl) rfl
theorem q622 : (Jvm.Cond.fieldLinkNest "StatueRent$LogReader" (61 : Nat) "StatueRent" "city" "LStatueRent$City;" "StatueRent") ∈ lw_tbl := lw_at lw_m3 22 rfl
theorem q777 : (Jvm.Cond.selects "StatueRent$LogReader" ({ cls := "StatueRent$Reader", name := "next", desc := "()V" } : Jvm.MethodName) ({ cls := "StatueRent$Reader", name := "next", desc := "()V" } : Jvm.MethodName)) ∈ lw_all := lw_g (lw_at lw_m3 177 rfl) rfl
theorem q809 : (Jvm.Cond.selects "StatueRent$LogReader" ({ cls := "StatueRent$Reader", name := "is", desc := "(Ljava/lang/String;)Z" } : Jvm.MethodName) ({ cls := "StatueRent$Reader", name := "is", desc := "(Ljava/lang/String;)Z" } : Jvm.MethodName)) ∈ lw_all := lw_g (lw_at lw_m3 209 rfl) rfl
theorem q870 : (Jvm.Cond.selects "StatueRent$LogReader" ({ cls := "StatueRent$Reader", name := "wrong", desc := "(I)LStatueRent$Fault;" } : Jvm.MethodName) ({ cls := "StatueRent$Reader", name := "wrong", desc := "(I)LStatueRent$Fault;" } : Jvm.MethodName)) ∈ lw_all := lw_g (lw_at lw_m4 30 rfl) rfl
theorem q919 : (Jvm.Cond.selects "StatueRent$LogReader" ({ cls := "StatueRent$Reader", name := "look", desc := "([JI)I" } : Jvm.MethodName) ({ cls := "StatueRent$Reader", name := "look", desc := "([JI)I" } : Jvm.MethodName)) ∈ lw_all := lw_g (lw_at lw_m4 79 rfl) rfl
theorem q949 : (Jvm.Cond.selects "StatueRent$LogReader" ({ cls := "StatueRent$Reader", name := "is", desc := "(I)Z" } : Jvm.MethodName) ({ cls := "StatueRent$Reader", name := "is", desc := "(I)Z" } : Jvm.MethodName)) ∈ lw_all := lw_g (lw_at lw_m4 109 rfl) rfl
theorem q1365 : (Jvm.Cond.instanceMethod ({ cls := "StatueRent$LogReader", name := "read", desc := "()V" } : Jvm.MethodName)) ∈ lw_all := lw_g (lw_at lw_m6 45 rfl) rfl
theorem q1366 : (Jvm.Cond.selects "StatueRent$LogReader" ({ cls := "StatueRent$LogReader", name := "read", desc := "()V" } : Jvm.MethodName) ({ cls := "StatueRent$LogReader", name := "read", desc := "()V" } : Jvm.MethodName)) ∈ lw_all := lw_g (lw_at lw_m6 46 rfl) rfl
theorem q1367 : (Jvm.Cond.code ({ cls := "StatueRent$LogReader", name := "read", desc := "()V" } : Jvm.MethodName) prog_14_method_2_code (2 : Nat) (Option.none : Option Jvm.ClassFile.FieldType)) ∈ lw_all := lw_g (lw_at lw_m6 47 rfl) rfl
theorem q1368 : (Jvm.Cond.methodLink "StatueRent$LogReader" (25 : Nat) ({ cls := "StatueRent$LogReader", name := "begin", desc := "()V" } : Jvm.MethodName)) ∈ lw_all := lw_g (lw_at lw_m6 48 rfl) rfl
theorem q1369 : (Jvm.Cond.sameMethod "StatueRent$LogReader" "StatueRent$Reader" "begin" "()V") ∈ lw_all := lw_g (lw_at lw_m6 49 rfl) rfl
theorem q1370 : (Jvm.Cond.selects "StatueRent$LogReader" ({ cls := "StatueRent$LogReader", name := "begin", desc := "()V" } : Jvm.MethodName) ({ cls := "StatueRent$Reader", name := "begin", desc := "()V" } : Jvm.MethodName)) ∈ lw_all := lw_g (lw_at lw_m6 50 rfl) rfl
theorem q1371 : (Jvm.Cond.methodLink "StatueRent$LogReader" (32 : Nat) ({ cls := "StatueRent$LogReader", name := "line", desc := "()LStatueRent$Line;" } : Jvm.MethodName)) ∈ lw_all := lw_g (lw_at lw_m6 51 rfl) rfl
theorem q1372 : (Jvm.Cond.privateMethod ({ cls := "StatueRent$LogReader", name := "line", desc := "()LStatueRent$Line;" } : Jvm.MethodName)) ∈ lw_tbl := lw_at lw_m6 52 rfl
theorem q1373 : (Jvm.Cond.instanceMethod ({ cls := "StatueRent$LogReader", name := "line", desc := "()LStatueRent$Line;" } : Jvm.MethodName)) ∈ lw_all := lw_g (lw_at lw_m6 53 rfl) rfl
theorem q1374 : (Jvm.Cond.code ({ cls := "StatueRent$LogReader", name := "line", desc := "()LStatueRent$Line;" } : Jvm.MethodName) prog_14_method_3_code (3 : Nat) (Option.some (Jvm.ClassFile.FieldType.object "StatueRent$Line"))) ∈ lw_all := lw_g (lw_at lw_m6 54 rfl) rfl
theorem q1375 : (Jvm.Cond.stringRef "StatueRent$LogReader" (40 : Nat) "day") ∈ lw_tbl := lw_at lw_m6 55 rfl
theorem q1376 : (Jvm.Cond.methodLink "StatueRent$LogReader" (42 : Nat) ({ cls := "StatueRent$LogReader", name := "is", desc := "(Ljava/lang/String;)Z" } : Jvm.MethodName)) ∈ lw_all := lw_g (lw_at lw_m6 56 rfl) rfl
theorem q1377 : (Jvm.Cond.sameMethod "StatueRent$LogReader" "StatueRent$Reader" "is" "(Ljava/lang/String;)Z") ∈ lw_all := lw_g (lw_at lw_m6 57 rfl) rfl
theorem q1379 : (Jvm.Cond.selects "StatueRent$LogReader" ({ cls := "StatueRent$LogReader", name := "is", desc := "(Ljava/lang/String;)Z" } : Jvm.MethodName) ({ cls := "StatueRent$Reader", name := "is", desc := "(Ljava/lang/String;)Z" } : Jvm.MethodName)) ∈ lw_all := lw_g (lw_at lw_m6 59 rfl) rfl
theorem q1380 : (Jvm.Cond.methodLink "StatueRent$LogReader" (46 : Nat) ({ cls := "StatueRent$LogReader", name := "must", desc := "(ZI)V" } : Jvm.MethodName)) ∈ lw_all := lw_g (lw_at lw_m6 60 rfl) rfl
theorem q1381 : (Jvm.Cond.sameMethod "StatueRent$LogReader" "StatueRent$Reader" "must" "(ZI)V") ∈ lw_all := lw_g (lw_at lw_m6 61 rfl) rfl
theorem q1382 : (Jvm.Cond.selects "StatueRent$LogReader" ({ cls := "StatueRent$LogReader", name := "must", desc := "(ZI)V" } : Jvm.MethodName) ({ cls := "StatueRent$Reader", name := "must", desc := "(ZI)V" } : Jvm.MethodName)) ∈ lw_all := lw_g (lw_at lw_m6 62 rfl) rfl
theorem q1383 : (Jvm.Cond.methodLink "StatueRent$LogReader" (50 : Nat) ({ cls := "StatueRent$LogReader", name := "next", desc := "()V" } : Jvm.MethodName)) ∈ lw_all := lw_g (lw_at lw_m6 63 rfl) rfl
theorem q1384 : (Jvm.Cond.sameMethod "StatueRent$LogReader" "StatueRent$Reader" "next" "()V") ∈ lw_all := lw_g (lw_at lw_m6 64 rfl) rfl
theorem q1385 : (Jvm.Cond.selects "StatueRent$LogReader" ({ cls := "StatueRent$LogReader", name := "next", desc := "()V" } : Jvm.MethodName) ({ cls := "StatueRent$Reader", name := "next", desc := "()V" } : Jvm.MethodName)) ∈ lw_all := lw_g (lw_at lw_m6 65 rfl) rfl
theorem q1386 : (Jvm.Cond.classLink "StatueRent$LogReader" (53 : Nat) "StatueRent$Days") ∈ lw_all := lw_g (lw_at lw_m6 66 rfl) rfl
theorem q1388 : (Jvm.Cond.methodLink "StatueRent$LogReader" (55 : Nat) ({ cls := "StatueRent$LogReader", name := "number", desc := "(II)I" } : Jvm.MethodName)) ∈ lw_all := lw_g (lw_at lw_m6 68 rfl) rfl
theorem q1389 : (Jvm.Cond.sameMethod "StatueRent$LogReader" "StatueRent$Reader" "number" "(II)I") ∈ lw_all := lw_g (lw_at lw_m6 69 rfl) rfl
theorem q1390 : (Jvm.Cond.selects "StatueRent$LogReader" ({ cls := "StatueRent$LogReader", name := "number", desc := "(II)I" } : Jvm.MethodName) ({ cls := "StatueRent$Reader", name := "number", desc := "(II)I" } : Jvm.MethodName)) ∈ lw_all := lw_g (lw_at lw_m6 70 rfl) rfl
theorem q1391 : (Jvm.Cond.methodLink "StatueRent$LogReader" (59 : Nat) ({ cls := "StatueRent$Days", name := "<init>", desc := "(I)V" } : Jvm.MethodName)) ∈ lw_all := lw_g (lw_at lw_m6 71 rfl) rfl
theorem q1402 : (Jvm.Cond.methodLink "StatueRent$LogReader" (74 : Nat) ({ cls := "StatueRent$LogReader", name := "look", desc := "([JI)I" } : Jvm.MethodName)) ∈ lw_all := lw_g (lw_at lw_m6 82 rfl) rfl
theorem q1403 : (Jvm.Cond.sameMethod "StatueRent$LogReader" "StatueRent$Reader" "look" "([JI)I") ∈ lw_all := lw_g (lw_at lw_m6 83 rfl) rfl
theorem q1404 : (Jvm.Cond.selects "StatueRent$LogReader" ({ cls := "StatueRent$LogReader", name := "look", desc := "([JI)I" } : Jvm.MethodName) ({ cls := "StatueRent$Reader", name := "look", desc := "([JI)I" } : Jvm.MethodName)) ∈ lw_all := lw_g (lw_at lw_m6 84 rfl) rfl
theorem q1405 : (Jvm.Cond.stringRef "StatueRent$LogReader" (78 : Nat) "moves") ∈ lw_tbl := lw_at lw_m6 85 rfl
theorem q1406 : (Jvm.Cond.classLink "StatueRent$LogReader" (80 : Nat) "StatueRent$Moves") ∈ lw_all := lw_g (lw_at lw_m6 86 rfl) rfl
theorem q1408 : (Jvm.Cond.methodLink "StatueRent$LogReader" (88 : Nat) ({ cls := "StatueRent$LogReader", name := "known", desc := "([JI)I" } : Jvm.MethodName)) ∈ lw_all := lw_g (lw_at lw_m6 88 rfl) rfl
theorem q1409 : (Jvm.Cond.sameMethod "StatueRent$LogReader" "StatueRent$Reader" "known" "([JI)I") ∈ lw_all := lw_g (lw_at lw_m6 89 rfl) rfl
theorem q1410 : (Jvm.Cond.selects "StatueRent$LogReader" ({ cls := "StatueRent$LogReader", name := "known", desc := "([JI)I" } : Jvm.MethodName) ({ cls := "StatueRent$Reader", name := "known", desc := "([JI)I" } : Jvm.MethodName)) ∈ lw_all := lw_g (lw_at lw_m6 90 rfl) rfl
theorem q1411 : (Jvm.Cond.methodLink "StatueRent$LogReader" (91 : Nat) ({ cls := "StatueRent$Moves", name := "<init>", desc := "(II)V" } : Jvm.MethodName)) ∈ lw_all := lw_g (lw_at lw_m6 91 rfl) rfl
theorem q1422 : (Jvm.Cond.stringRef "StatueRent$LogReader" (94 : Nat) "cleans") ∈ lw_tbl := lw_at lw_m6 102 rfl
theorem q1423 : (Jvm.Cond.classLink "StatueRent$LogReader" (96 : Nat) "StatueRent$Cleans") ∈ lw_all := lw_g (lw_at lw_m6 103 rfl) rfl
theorem q1425 : (Jvm.Cond.methodLink "StatueRent$LogReader" (98 : Nat) ({ cls := "StatueRent$Cleans", name := "<init>", desc := "(I)V" } : Jvm.MethodName)) ∈ lw_all := lw_g (lw_at lw_m6 105 rfl) rfl
theorem q1433 : (Jvm.Cond.stringRef "StatueRent$LogReader" (99 : Nat) "shows") ∈ lw_tbl := lw_at lw_m6 113 rfl
theorem q1434 : (Jvm.Cond.classLink "StatueRent$LogReader" (101 : Nat) "StatueRent$Shows") ∈ lw_all := lw_g (lw_at lw_m6 114 rfl) rfl
theorem q1436 : (Jvm.Cond.methodLink "StatueRent$LogReader" (109 : Nat) ({ cls := "StatueRent$Shows", name := "<init>", desc := "(II)V" } : Jvm.MethodName)) ∈ lw_all := lw_g (lw_at lw_m6 116 rfl) rfl
theorem q1447 : (Jvm.Cond.stringRef "StatueRent$LogReader" (110 : Nat) "lends") ∈ lw_tbl := lw_at lw_m6 127 rfl
theorem q1448 : (Jvm.Cond.classLink "StatueRent$LogReader" (112 : Nat) "StatueRent$Lends") ∈ lw_all := lw_g (lw_at lw_m6 128 rfl) rfl
theorem q1450 : (Jvm.Cond.methodLink "StatueRent$LogReader" (114 : Nat) ({ cls := "StatueRent$Lends", name := "<init>", desc := "(III)V" } : Jvm.MethodName)) ∈ lw_all := lw_g (lw_at lw_m6 130 rfl) rfl
theorem q1464 : (Jvm.Cond.methodLink "StatueRent$LogReader" (36 : Nat) ({ cls := "StatueRent$LogReader", name := "sign", desc := "(I)V" } : Jvm.MethodName)) ∈ lw_all := lw_g (lw_at lw_m6 144 rfl) rfl
theorem q1465 : (Jvm.Cond.sameMethod "StatueRent$LogReader" "StatueRent$Reader" "sign" "(I)V") ∈ lw_all := lw_g (lw_at lw_m6 145 rfl) rfl
theorem q1466 : (Jvm.Cond.selects "StatueRent$LogReader" ({ cls := "StatueRent$LogReader", name := "sign", desc := "(I)V" } : Jvm.MethodName) ({ cls := "StatueRent$Reader", name := "sign", desc := "(I)V" } : Jvm.MethodName)) ∈ lw_all := lw_g (lw_at lw_m6 146 rfl) rfl
theorem q2520 : (Jvm.Cond.selects "StatueRent$LogReader" ({ cls := "StatueRent$Reader", name := "find", desc := "([Ljava/lang/String;)I" } : Jvm.MethodName) ({ cls := "StatueRent$Reader", name := "find", desc := "([Ljava/lang/String;)I" } : Jvm.MethodName)) ∈ lw_all := lw_g (lw_at lw_m11 0 rfl) rfl
theorem q2524 : (Jvm.Cond.selects "StatueRent$LogReader" ({ cls := "StatueRent$Reader", name := "must", desc := "(ZI)V" } : Jvm.MethodName) ({ cls := "StatueRent$Reader", name := "must", desc := "(ZI)V" } : Jvm.MethodName)) ∈ lw_all := lw_g (lw_at lw_m11 4 rfl) rfl
theorem q2528 : (Jvm.Cond.selects "StatueRent$LogReader" ({ cls := "StatueRent$Reader", name := "isName", desc := "()Z" } : Jvm.MethodName) ({ cls := "StatueRent$Reader", name := "isName", desc := "()Z" } : Jvm.MethodName)) ∈ lw_all := lw_g (lw_at lw_m11 8 rfl) rfl
theorem q2532 : (Jvm.Cond.selects "StatueRent$LogReader" ({ cls := "StatueRent$Reader", name := "of", desc := "([JI)I" } : Jvm.MethodName) ({ cls := "StatueRent$Reader", name := "of", desc := "([JI)I" } : Jvm.MethodName)) ∈ lw_all := lw_g (lw_at lw_m11 12 rfl) rfl
theorem q2540 : (Jvm.Cond.castable "StatueRent$LogReader" "java/lang/Object") ∈ lw_tbl := lw_at lw_m11 20 rfl
theorem in_X8 : ∀ w ∈ wsX80, w ∈ lw_all := lw_in wsX80 [551, 552, 553, 554, 555, 556, 557, 558, 545, 547, 549] (by decide +kernel) (by decide +kernel)
/-! StatueRent$SentenceReader -/
set_option maxRecDepth 100000
def RX9 : String := "StatueRent$SentenceReader"
def TX9 : u_T := fun k => match k with
  | 0 => ("StatueRent$Reader", "most", "I", true)
  | 1 => ("StatueRent$Reader", "p", "I", false)
  | 2 => ("StatueRent$Reader", "at", "I", false)
  | 3 => ("StatueRent$Reader", "token", "I", false)
  | 4 => ("StatueRent$Reader", "value", "I", false)
  | 5 => ("StatueRent$Reader", "many", "I", false)
  | 6 => ("StatueRent$Reader", "name", "J", false)
  | 7 => ("StatueRent$Reader", "this$0", "LStatueRent;", true)
  | 8 => ("StatueRent$SentenceReader", "marks", "[Ljava/lang/String;", true)
  | 9 => ("StatueRent$SentenceReader", "counts", "[Ljava/lang/String;", true)
  | 10 => ("StatueRent$SentenceReader", "ones", "I", false)
  | _ => ("StatueRent$SentenceReader", "this$0", "LStatueRent;", true)
def tyX9 : Nat → FieldType := fun k => match k with
  | 0 => .int
  | 1 => .int
  | 2 => .int
  | 3 => .int
  | 4 => .int
  | 5 => .int
  | 6 => .long
  | 7 => .object "StatueRent"
  | 8 => .array (.object "java/lang/String")
  | 9 => .array (.object "java/lang/String")
  | 10 => .int
  | _ => .object "StatueRent"
abbrev wsX90 : List Cond := u_ws RX9 TX9 12
-- two fields of one name: no nmX9
theorem tyX9_ok : ∀ k, k < 12 → parseFieldDescriptor (TX9 k).2.2.1 = some (tyX9 k) := by decide +kernel
abbrev cX9_init : ByteArray := prog_19_method_1_code
def yX9_init : MethodName := ⟨RX9, "<init>", "(LStatueRent;)V"⟩
def dkwX9_init_3 : List UInt8 := [181, 0, 39, 177]
abbrev dktX9_init_3 : List UInt8 := dkwX9_init_3 ++ []
def dkwX9_init_2 : List UInt8 := [189, 0, 15, 89, 3, 18, 31, 83, 89, 4, 18, 33, 83, 89, 5, 18, 35, 83, 89, 6, 18, 37, 83]
abbrev dktX9_init_2 : List UInt8 := dkwX9_init_2 ++ dktX9_init_3
def dkwX9_init_1 : List UInt8 := [4, 18, 19, 83, 89, 5, 18, 21, 83, 89, 6, 18, 23, 83, 89, 7, 18, 25, 83, 181, 0, 27, 42, 7]
abbrev dktX9_init_1 : List UInt8 := dkwX9_init_1 ++ dktX9_init_2
def dkwX9_init_0 : List UInt8 := [42, 43, 181, 0, 3, 42, 43, 17, 0, 200, 183, 0, 9, 42, 8, 189, 0, 15, 89, 3, 18, 17, 83, 89]
abbrev dktX9_init_0 : List UInt8 := dkwX9_init_0 ++ dktX9_init_1
theorem dksX9_init_0 : cX9_init.data.toList.drop 0 = dktX9_init_0 := by decide +kernel
theorem dksX9_init_1 : cX9_init.data.toList.drop 24 = dktX9_init_1 := dk_seg dksX9_init_0 24 rfl rfl
theorem dksX9_init_2 : cX9_init.data.toList.drop 48 = dktX9_init_2 := dk_seg dksX9_init_1 24 rfl rfl
theorem dksX9_init_3 : cX9_init.data.toList.drop 71 = dktX9_init_3 := dk_seg dksX9_init_2 23 rfl rfl
theorem dX9_init_0 : decode cX9_init 0 = .ok (.aload_n 0, 1) := dk_42 (dk_at dksX9_init_0 0 rfl rfl)
theorem dX9_init_1 : decode cX9_init 1 = .ok (.aload_n 1, 1) := dk_43 (dk_at dksX9_init_0 1 rfl rfl)
theorem dX9_init_2 : decode cX9_init 2 = .ok (.putfield 3, 3) := dk_181 0 3 (dk_at dksX9_init_0 2 rfl rfl)
theorem dX9_init_5 : decode cX9_init 5 = .ok (.aload_n 0, 1) := dk_42 (dk_at dksX9_init_0 5 rfl rfl)
theorem dX9_init_6 : decode cX9_init 6 = .ok (.aload_n 1, 1) := dk_43 (dk_at dksX9_init_0 6 rfl rfl)
theorem dX9_init_7 : decode cX9_init 7 = .ok (.sipush 200, 3) := dk_17 0 200 (dk_at dksX9_init_0 7 rfl rfl)
theorem dX9_init_10 : decode cX9_init 10 = .ok (.invokespecial 9, 3) := dk_183 0 9 (dk_at dksX9_init_0 10 rfl rfl)
theorem dX9_init_13 : decode cX9_init 13 = .ok (.aload_n 0, 1) := dk_42 (dk_at dksX9_init_0 13 rfl rfl)
theorem dX9_init_14 : decode cX9_init 14 = .ok (.iconst 5, 1) := dk_8 (dk_at dksX9_init_0 14 rfl rfl)
theorem dX9_init_15 : decode cX9_init 15 = .ok (.anewarray 15, 3) := dk_189 0 15 (dk_at dksX9_init_0 15 rfl rfl)
theorem dX9_init_18 : decode cX9_init 18 = .ok (.dup, 1) := dk_89 (dk_at dksX9_init_0 18 rfl rfl)
theorem dX9_init_19 : decode cX9_init 19 = .ok (.iconst 0, 1) := dk_3 (dk_at dksX9_init_0 19 rfl rfl)
theorem dX9_init_20 : decode cX9_init 20 = .ok (.ldc 17, 2) := dk_18 17 (dk_at dksX9_init_0 20 rfl rfl)
theorem dX9_init_22 : decode cX9_init 22 = .ok (.aastore, 1) := dk_83 (dk_at dksX9_init_0 22 rfl rfl)
theorem dX9_init_23 : decode cX9_init 23 = .ok (.dup, 1) := dk_89 (dk_at dksX9_init_0 23 rfl rfl)
theorem dX9_init_24 : decode cX9_init 24 = .ok (.iconst 1, 1) := dk_4 (dk_at dksX9_init_1 0 rfl rfl)
theorem dX9_init_25 : decode cX9_init 25 = .ok (.ldc 19, 2) := dk_18 19 (dk_at dksX9_init_1 1 rfl rfl)
theorem dX9_init_27 : decode cX9_init 27 = .ok (.aastore, 1) := dk_83 (dk_at dksX9_init_1 3 rfl rfl)
theorem dX9_init_28 : decode cX9_init 28 = .ok (.dup, 1) := dk_89 (dk_at dksX9_init_1 4 rfl rfl)
theorem dX9_init_29 : decode cX9_init 29 = .ok (.iconst 2, 1) := dk_5 (dk_at dksX9_init_1 5 rfl rfl)
theorem dX9_init_30 : decode cX9_init 30 = .ok (.ldc 21, 2) := dk_18 21 (dk_at dksX9_init_1 6 rfl rfl)
theorem dX9_init_32 : decode cX9_init 32 = .ok (.aastore, 1) := dk_83 (dk_at dksX9_init_1 8 rfl rfl)
theorem dX9_init_33 : decode cX9_init 33 = .ok (.dup, 1) := dk_89 (dk_at dksX9_init_1 9 rfl rfl)
theorem dX9_init_34 : decode cX9_init 34 = .ok (.iconst 3, 1) := dk_6 (dk_at dksX9_init_1 10 rfl rfl)
theorem dX9_init_35 : decode cX9_init 35 = .ok (.ldc 23, 2) := dk_18 23 (dk_at dksX9_init_1 11 rfl rfl)
theorem dX9_init_37 : decode cX9_init 37 = .ok (.aastore, 1) := dk_83 (dk_at dksX9_init_1 13 rfl rfl)
theorem dX9_init_38 : decode cX9_init 38 = .ok (.dup, 1) := dk_89 (dk_at dksX9_init_1 14 rfl rfl)
theorem dX9_init_39 : decode cX9_init 39 = .ok (.iconst 4, 1) := dk_7 (dk_at dksX9_init_1 15 rfl rfl)
theorem dX9_init_40 : decode cX9_init 40 = .ok (.ldc 25, 2) := dk_18 25 (dk_at dksX9_init_1 16 rfl rfl)
theorem dX9_init_42 : decode cX9_init 42 = .ok (.aastore, 1) := dk_83 (dk_at dksX9_init_1 18 rfl rfl)
theorem dX9_init_43 : decode cX9_init 43 = .ok (.putfield 27, 3) := dk_181 0 27 (dk_at dksX9_init_1 19 rfl rfl)
theorem dX9_init_46 : decode cX9_init 46 = .ok (.aload_n 0, 1) := dk_42 (dk_at dksX9_init_1 22 rfl rfl)
theorem dX9_init_47 : decode cX9_init 47 = .ok (.iconst 4, 1) := dk_7 (dk_at dksX9_init_1 23 rfl rfl)
theorem dX9_init_48 : decode cX9_init 48 = .ok (.anewarray 15, 3) := dk_189 0 15 (dk_at dksX9_init_2 0 rfl rfl)
theorem dX9_init_51 : decode cX9_init 51 = .ok (.dup, 1) := dk_89 (dk_at dksX9_init_2 3 rfl rfl)
theorem dX9_init_52 : decode cX9_init 52 = .ok (.iconst 0, 1) := dk_3 (dk_at dksX9_init_2 4 rfl rfl)
theorem dX9_init_53 : decode cX9_init 53 = .ok (.ldc 31, 2) := dk_18 31 (dk_at dksX9_init_2 5 rfl rfl)
theorem dX9_init_55 : decode cX9_init 55 = .ok (.aastore, 1) := dk_83 (dk_at dksX9_init_2 7 rfl rfl)
theorem dX9_init_56 : decode cX9_init 56 = .ok (.dup, 1) := dk_89 (dk_at dksX9_init_2 8 rfl rfl)
theorem dX9_init_57 : decode cX9_init 57 = .ok (.iconst 1, 1) := dk_4 (dk_at dksX9_init_2 9 rfl rfl)
theorem dX9_init_58 : decode cX9_init 58 = .ok (.ldc 33, 2) := dk_18 33 (dk_at dksX9_init_2 10 rfl rfl)
theorem dX9_init_60 : decode cX9_init 60 = .ok (.aastore, 1) := dk_83 (dk_at dksX9_init_2 12 rfl rfl)
theorem dX9_init_61 : decode cX9_init 61 = .ok (.dup, 1) := dk_89 (dk_at dksX9_init_2 13 rfl rfl)
theorem dX9_init_62 : decode cX9_init 62 = .ok (.iconst 2, 1) := dk_5 (dk_at dksX9_init_2 14 rfl rfl)
theorem dX9_init_63 : decode cX9_init 63 = .ok (.ldc 35, 2) := dk_18 35 (dk_at dksX9_init_2 15 rfl rfl)
theorem dX9_init_65 : decode cX9_init 65 = .ok (.aastore, 1) := dk_83 (dk_at dksX9_init_2 17 rfl rfl)
theorem dX9_init_66 : decode cX9_init 66 = .ok (.dup, 1) := dk_89 (dk_at dksX9_init_2 18 rfl rfl)
theorem dX9_init_67 : decode cX9_init 67 = .ok (.iconst 3, 1) := dk_6 (dk_at dksX9_init_2 19 rfl rfl)
theorem dX9_init_68 : decode cX9_init 68 = .ok (.ldc 37, 2) := dk_18 37 (dk_at dksX9_init_2 20 rfl rfl)
theorem dX9_init_70 : decode cX9_init 70 = .ok (.aastore, 1) := dk_83 (dk_at dksX9_init_2 22 rfl rfl)
theorem dX9_init_71 : decode cX9_init 71 = .ok (.putfield 39, 3) := dk_181 0 39 (dk_at dksX9_init_3 0 rfl rfl)
theorem dX9_init_74 : decode cX9_init 74 = .ok (.return_, 1) := dk_177 (dk_at dksX9_init_3 3 rfl rfl)
abbrev cX9_read : ByteArray := prog_19_method_2_code
def yX9_read : MethodName := ⟨RX9, "read", "()LStatueRent$Cond;"⟩
def dkwX9_read_1 : List UInt8 := [167, 0, 4, 3, 4, 182, 0, 57, 43, 176]
abbrev dktX9_read_1 : List UInt8 := dkwX9_read_1 ++ []
def dkwX9_read_0 : List UInt8 := [42, 3, 181, 0, 42, 42, 182, 0, 46, 42, 4, 182, 0, 50, 76, 42, 42, 180, 0, 54, 154, 0, 7, 4]
abbrev dktX9_read_0 : List UInt8 := dkwX9_read_0 ++ dktX9_read_1
theorem dksX9_read_0 : cX9_read.data.toList.drop 0 = dktX9_read_0 := by decide +kernel
theorem dksX9_read_1 : cX9_read.data.toList.drop 24 = dktX9_read_1 := dk_seg dksX9_read_0 24 rfl rfl
theorem dX9_read_0 : decode cX9_read 0 = .ok (.aload_n 0, 1) := dk_42 (dk_at dksX9_read_0 0 rfl rfl)
theorem dX9_read_1 : decode cX9_read 1 = .ok (.iconst 0, 1) := dk_3 (dk_at dksX9_read_0 1 rfl rfl)
theorem dX9_read_2 : decode cX9_read 2 = .ok (.putfield 42, 3) := dk_181 0 42 (dk_at dksX9_read_0 2 rfl rfl)
theorem dX9_read_5 : decode cX9_read 5 = .ok (.aload_n 0, 1) := dk_42 (dk_at dksX9_read_0 5 rfl rfl)
theorem dX9_read_6 : decode cX9_read 6 = .ok (.invokevirtual 46, 3) := dk_182 0 46 (dk_at dksX9_read_0 6 rfl rfl)
theorem dX9_read_9 : decode cX9_read 9 = .ok (.aload_n 0, 1) := dk_42 (dk_at dksX9_read_0 9 rfl rfl)
theorem dX9_read_10 : decode cX9_read 10 = .ok (.iconst 1, 1) := dk_4 (dk_at dksX9_read_0 10 rfl rfl)
theorem dX9_read_11 : decode cX9_read 11 = .ok (.invokevirtual 50, 3) := dk_182 0 50 (dk_at dksX9_read_0 11 rfl rfl)
theorem dX9_read_14 : decode cX9_read 14 = .ok (.astore_n 1, 1) := dk_76 (dk_at dksX9_read_0 14 rfl rfl)
theorem dX9_read_15 : decode cX9_read 15 = .ok (.aload_n 0, 1) := dk_42 (dk_at dksX9_read_0 15 rfl rfl)
theorem dX9_read_16 : decode cX9_read 16 = .ok (.aload_n 0, 1) := dk_42 (dk_at dksX9_read_0 16 rfl rfl)
theorem dX9_read_17 : decode cX9_read 17 = .ok (.getfield 54, 3) := dk_180 0 54 (dk_at dksX9_read_0 17 rfl rfl)
theorem dX9_read_20 : decode cX9_read 20 = .ok (.ifCond .ne 7, 3) := dk_154 0 7 (dk_at dksX9_read_0 20 rfl rfl)
theorem dX9_read_23 : decode cX9_read 23 = .ok (.iconst 1, 1) := dk_4 (dk_at dksX9_read_0 23 rfl rfl)
theorem dX9_read_24 : decode cX9_read 24 = .ok (.goto 4, 3) := dk_167 0 4 (dk_at dksX9_read_1 0 rfl rfl)
theorem dX9_read_27 : decode cX9_read 27 = .ok (.iconst 0, 1) := dk_3 (dk_at dksX9_read_1 3 rfl rfl)
theorem dX9_read_28 : decode cX9_read 28 = .ok (.iconst 1, 1) := dk_4 (dk_at dksX9_read_1 4 rfl rfl)
theorem dX9_read_29 : decode cX9_read 29 = .ok (.invokevirtual 57, 3) := dk_182 0 57 (dk_at dksX9_read_1 5 rfl rfl)
theorem dX9_read_32 : decode cX9_read 32 = .ok (.aload_n 1, 1) := dk_43 (dk_at dksX9_read_1 8 rfl rfl)
theorem dX9_read_33 : decode cX9_read 33 = .ok (.areturn, 1) := dk_176 (dk_at dksX9_read_1 9 rfl rfl)
abbrev cX9_any : ByteArray := prog_19_method_3_code
def yX9_any : MethodName := ⟨RX9, "any", "(I)LStatueRent$Cond;"⟩
def dkwX9_any_1 : List UInt8 := [42, 27, 182, 0, 61, 183, 0, 75, 77, 167, 255, 229, 44, 176]
abbrev dktX9_any_1 : List UInt8 := dkwX9_any_1 ++ []
def dkwX9_any_0 : List UInt8 := [42, 27, 182, 0, 61, 77, 42, 18, 64, 182, 0, 66, 153, 0, 24, 42, 182, 0, 70, 187, 0, 73, 89, 44]
abbrev dktX9_any_0 : List UInt8 := dkwX9_any_0 ++ dktX9_any_1
theorem dksX9_any_0 : cX9_any.data.toList.drop 0 = dktX9_any_0 := by decide +kernel
theorem dksX9_any_1 : cX9_any.data.toList.drop 24 = dktX9_any_1 := dk_seg dksX9_any_0 24 rfl rfl
theorem dX9_any_0 : decode cX9_any 0 = .ok (.aload_n 0, 1) := dk_42 (dk_at dksX9_any_0 0 rfl rfl)
theorem dX9_any_1 : decode cX9_any 1 = .ok (.iload_n 1, 1) := dk_27 (dk_at dksX9_any_0 1 rfl rfl)
theorem dX9_any_2 : decode cX9_any 2 = .ok (.invokevirtual 61, 3) := dk_182 0 61 (dk_at dksX9_any_0 2 rfl rfl)
theorem dX9_any_5 : decode cX9_any 5 = .ok (.astore_n 2, 1) := dk_77 (dk_at dksX9_any_0 5 rfl rfl)
theorem dX9_any_6 : decode cX9_any 6 = .ok (.aload_n 0, 1) := dk_42 (dk_at dksX9_any_0 6 rfl rfl)
theorem dX9_any_7 : decode cX9_any 7 = .ok (.ldc 64, 2) := dk_18 64 (dk_at dksX9_any_0 7 rfl rfl)
theorem dX9_any_9 : decode cX9_any 9 = .ok (.invokevirtual 66, 3) := dk_182 0 66 (dk_at dksX9_any_0 9 rfl rfl)
theorem dX9_any_12 : decode cX9_any 12 = .ok (.ifCond .eq 24, 3) := dk_153 0 24 (dk_at dksX9_any_0 12 rfl rfl)
theorem dX9_any_15 : decode cX9_any 15 = .ok (.aload_n 0, 1) := dk_42 (dk_at dksX9_any_0 15 rfl rfl)
theorem dX9_any_16 : decode cX9_any 16 = .ok (.invokevirtual 70, 3) := dk_182 0 70 (dk_at dksX9_any_0 16 rfl rfl)
theorem dX9_any_19 : decode cX9_any 19 = .ok (.new 73, 3) := dk_187 0 73 (dk_at dksX9_any_0 19 rfl rfl)
theorem dX9_any_22 : decode cX9_any 22 = .ok (.dup, 1) := dk_89 (dk_at dksX9_any_0 22 rfl rfl)
theorem dX9_any_23 : decode cX9_any 23 = .ok (.aload_n 2, 1) := dk_44 (dk_at dksX9_any_0 23 rfl rfl)
theorem dX9_any_24 : decode cX9_any 24 = .ok (.aload_n 0, 1) := dk_42 (dk_at dksX9_any_1 0 rfl rfl)
theorem dX9_any_25 : decode cX9_any 25 = .ok (.iload_n 1, 1) := dk_27 (dk_at dksX9_any_1 1 rfl rfl)
theorem dX9_any_26 : decode cX9_any 26 = .ok (.invokevirtual 61, 3) := dk_182 0 61 (dk_at dksX9_any_1 2 rfl rfl)
theorem dX9_any_29 : decode cX9_any 29 = .ok (.invokespecial 75, 3) := dk_183 0 75 (dk_at dksX9_any_1 5 rfl rfl)
theorem dX9_any_32 : decode cX9_any 32 = .ok (.astore_n 2, 1) := dk_77 (dk_at dksX9_any_1 8 rfl rfl)
theorem dX9_any_33 : decode cX9_any 33 = .ok (.goto (-27), 3) := dk_167 255 229 (dk_at dksX9_any_1 9 rfl rfl)
theorem dX9_any_36 : decode cX9_any 36 = .ok (.aload_n 2, 1) := dk_44 (dk_at dksX9_any_1 12 rfl rfl)
theorem dX9_any_37 : decode cX9_any 37 = .ok (.areturn, 1) := dk_176 (dk_at dksX9_any_1 13 rfl rfl)
abbrev cX9_both : ByteArray := prog_19_method_4_code
def yX9_both : MethodName := ⟨RX9, "both", "(I)LStatueRent$Cond;"⟩
def dkwX9_both_1 : List UInt8 := [42, 27, 182, 0, 78, 183, 0, 85, 77, 167, 255, 229, 44, 176]
abbrev dktX9_both_1 : List UInt8 := dkwX9_both_1 ++ []
def dkwX9_both_0 : List UInt8 := [42, 27, 182, 0, 78, 77, 42, 18, 81, 182, 0, 66, 153, 0, 24, 42, 182, 0, 70, 187, 0, 83, 89, 44]
abbrev dktX9_both_0 : List UInt8 := dkwX9_both_0 ++ dktX9_both_1
theorem dksX9_both_0 : cX9_both.data.toList.drop 0 = dktX9_both_0 := by decide +kernel
theorem dksX9_both_1 : cX9_both.data.toList.drop 24 = dktX9_both_1 := dk_seg dksX9_both_0 24 rfl rfl
theorem dX9_both_0 : decode cX9_both 0 = .ok (.aload_n 0, 1) := dk_42 (dk_at dksX9_both_0 0 rfl rfl)
theorem dX9_both_1 : decode cX9_both 1 = .ok (.iload_n 1, 1) := dk_27 (dk_at dksX9_both_0 1 rfl rfl)
theorem dX9_both_2 : decode cX9_both 2 = .ok (.invokevirtual 78, 3) := dk_182 0 78 (dk_at dksX9_both_0 2 rfl rfl)
theorem dX9_both_5 : decode cX9_both 5 = .ok (.astore_n 2, 1) := dk_77 (dk_at dksX9_both_0 5 rfl rfl)
theorem dX9_both_6 : decode cX9_both 6 = .ok (.aload_n 0, 1) := dk_42 (dk_at dksX9_both_0 6 rfl rfl)
theorem dX9_both_7 : decode cX9_both 7 = .ok (.ldc 81, 2) := dk_18 81 (dk_at dksX9_both_0 7 rfl rfl)
theorem dX9_both_9 : decode cX9_both 9 = .ok (.invokevirtual 66, 3) := dk_182 0 66 (dk_at dksX9_both_0 9 rfl rfl)
theorem dX9_both_12 : decode cX9_both 12 = .ok (.ifCond .eq 24, 3) := dk_153 0 24 (dk_at dksX9_both_0 12 rfl rfl)
theorem dX9_both_15 : decode cX9_both 15 = .ok (.aload_n 0, 1) := dk_42 (dk_at dksX9_both_0 15 rfl rfl)
theorem dX9_both_16 : decode cX9_both 16 = .ok (.invokevirtual 70, 3) := dk_182 0 70 (dk_at dksX9_both_0 16 rfl rfl)
theorem dX9_both_19 : decode cX9_both 19 = .ok (.new 83, 3) := dk_187 0 83 (dk_at dksX9_both_0 19 rfl rfl)
theorem dX9_both_22 : decode cX9_both 22 = .ok (.dup, 1) := dk_89 (dk_at dksX9_both_0 22 rfl rfl)
theorem dX9_both_23 : decode cX9_both 23 = .ok (.aload_n 2, 1) := dk_44 (dk_at dksX9_both_0 23 rfl rfl)
theorem dX9_both_24 : decode cX9_both 24 = .ok (.aload_n 0, 1) := dk_42 (dk_at dksX9_both_1 0 rfl rfl)
theorem dX9_both_25 : decode cX9_both 25 = .ok (.iload_n 1, 1) := dk_27 (dk_at dksX9_both_1 1 rfl rfl)
theorem dX9_both_26 : decode cX9_both 26 = .ok (.invokevirtual 78, 3) := dk_182 0 78 (dk_at dksX9_both_1 2 rfl rfl)
theorem dX9_both_29 : decode cX9_both 29 = .ok (.invokespecial 85, 3) := dk_183 0 85 (dk_at dksX9_both_1 5 rfl rfl)
theorem dX9_both_32 : decode cX9_both 32 = .ok (.astore_n 2, 1) := dk_77 (dk_at dksX9_both_1 8 rfl rfl)
theorem dX9_both_33 : decode cX9_both 33 = .ok (.goto (-27), 3) := dk_167 255 229 (dk_at dksX9_both_1 9 rfl rfl)
theorem dX9_both_36 : decode cX9_both 36 = .ok (.aload_n 2, 1) := dk_44 (dk_at dksX9_both_1 12 rfl rfl)
theorem dX9_both_37 : decode cX9_both 37 = .ok (.areturn, 1) := dk_176 (dk_at dksX9_both_1 13 rfl rfl)
abbrev cX9_single : ByteArray := prog_19_method_5_code
def yX9_single : MethodName := ⟨RX9, "single", "(I)LStatueRent$Cond;"⟩
def dkwX9_single_13 : List UInt8 := [187, 0, 135, 89, 21, 5, 21, 6, 21, 7, 183, 0, 137, 176]
abbrev dktX9_single_13 : List UInt8 := dkwX9_single_13 ++ []
def dkwX9_single_12 : List UInt8 := [5, 160, 0, 7, 4, 167, 0, 4, 3, 4, 182, 0, 57, 42, 180, 0, 132, 54, 7, 42, 182, 0, 70]
abbrev dktX9_single_12 : List UInt8 := dkwX9_single_12 ++ dktX9_single_13
def dkwX9_single_11 : List UInt8 := [4, 167, 0, 4, 3, 4, 182, 0, 57, 42, 180, 0, 132, 54, 6, 42, 182, 0, 70, 42, 42, 180, 0, 54]
abbrev dktX9_single_11 : List UInt8 := dkwX9_single_11 ++ dktX9_single_12
def dkwX9_single_10 : List UInt8 := [182, 0, 88, 154, 0, 21, 42, 16, 61, 182, 0, 88, 154, 0, 12, 42, 16, 62, 182, 0, 88, 153, 0, 7]
abbrev dktX9_single_10 : List UInt8 := dkwX9_single_10 ++ dktX9_single_11
def dkwX9_single_9 : List UInt8 := [180, 0, 123, 42, 180, 0, 3, 180, 0, 106, 180, 0, 126, 182, 0, 119, 183, 0, 129, 176, 42, 42, 16, 60]
abbrev dktX9_single_9 : List UInt8 := dkwX9_single_9 ++ dktX9_single_10
def dkwX9_single_8 : List UInt8 := [180, 0, 3, 180, 0, 106, 180, 0, 116, 182, 0, 119, 167, 0, 27, 42, 42, 180, 0, 3, 180, 0, 106]
abbrev dktX9_single_8 : List UInt8 := dkwX9_single_8 ++ dktX9_single_9
def dkwX9_single_7 : List UInt8 := [2, 167, 0, 60, 21, 4, 6, 160, 0, 30, 42, 42, 180, 0, 3, 180, 0, 106, 180, 0, 110, 42]
abbrev dktX9_single_7 : List UInt8 := dkwX9_single_7 ++ dktX9_single_8
def dkwX9_single_6 : List UInt8 := [182, 0, 100, 25, 6, 176, 21, 4, 2, 159, 0, 80, 187, 0, 104, 89, 21, 4, 21, 4, 6, 162, 0, 7]
abbrev dktX9_single_6 : List UInt8 := dkwX9_single_6 ++ dktX9_single_7
def dkwX9_single_5 : List UInt8 := [182, 0, 78, 183, 0, 97, 176, 29, 153, 0, 21, 42, 27, 4, 96, 182, 0, 50, 58, 6, 42, 16, 41]
abbrev dktX9_single_5 : List UInt8 := dkwX9_single_5 ++ dktX9_single_6
def dkwX9_single_4 : List UInt8 := [180, 0, 42, 4, 96, 181, 0, 42, 42, 182, 0, 70, 28, 153, 0, 18, 187, 0, 95, 89, 42, 27, 4, 96]
abbrev dktX9_single_4 : List UInt8 := dkwX9_single_4 ++ dktX9_single_5
def dkwX9_single_3 : List UInt8 := [16, 20, 162, 0, 13, 27, 16, 8, 163, 0, 7, 4, 167, 0, 4, 3, 7, 182, 0, 57, 42, 89]
abbrev dktX9_single_3 : List UInt8 := dkwX9_single_3 ++ dktX9_single_4
def dkwX9_single_2 : List UInt8 := [160, 0, 9, 21, 5, 2, 159, 0, 7, 4, 167, 0, 4, 3, 4, 182, 0, 57, 42, 42, 180, 0, 42]
abbrev dktX9_single_2 : List UInt8 := dkwX9_single_2 ++ dktX9_single_3
def dkwX9_single_1 : List UInt8 := [42, 42, 180, 0, 39, 182, 0, 91, 54, 5, 42, 28, 154, 0, 19, 29, 154, 0, 15, 21, 4, 2]
abbrev dktX9_single_1 : List UInt8 := dkwX9_single_1 ++ dktX9_single_2
def dkwX9_single_0 : List UInt8 := [42, 18, 86, 182, 0, 66, 61, 42, 16, 40, 182, 0, 88, 62, 42, 42, 180, 0, 27, 182, 0, 91, 54, 4]
abbrev dktX9_single_0 : List UInt8 := dkwX9_single_0 ++ dktX9_single_1
theorem dksX9_single_0 : cX9_single.data.toList.drop 0 = dktX9_single_0 := by decide +kernel
theorem dksX9_single_1 : cX9_single.data.toList.drop 24 = dktX9_single_1 := dk_seg dksX9_single_0 24 rfl rfl
theorem dksX9_single_2 : cX9_single.data.toList.drop 46 = dktX9_single_2 := dk_seg dksX9_single_1 22 rfl rfl
theorem dksX9_single_3 : cX9_single.data.toList.drop 69 = dktX9_single_3 := dk_seg dksX9_single_2 23 rfl rfl
theorem dksX9_single_4 : cX9_single.data.toList.drop 91 = dktX9_single_4 := dk_seg dksX9_single_3 22 rfl rfl
theorem dksX9_single_5 : cX9_single.data.toList.drop 115 = dktX9_single_5 := dk_seg dksX9_single_4 24 rfl rfl
theorem dksX9_single_6 : cX9_single.data.toList.drop 138 = dktX9_single_6 := dk_seg dksX9_single_5 23 rfl rfl
theorem dksX9_single_7 : cX9_single.data.toList.drop 162 = dktX9_single_7 := dk_seg dksX9_single_6 24 rfl rfl
theorem dksX9_single_8 : cX9_single.data.toList.drop 184 = dktX9_single_8 := dk_seg dksX9_single_7 22 rfl rfl
theorem dksX9_single_9 : cX9_single.data.toList.drop 207 = dktX9_single_9 := dk_seg dksX9_single_8 23 rfl rfl
theorem dksX9_single_10 : cX9_single.data.toList.drop 231 = dktX9_single_10 := dk_seg dksX9_single_9 24 rfl rfl
theorem dksX9_single_11 : cX9_single.data.toList.drop 255 = dktX9_single_11 := dk_seg dksX9_single_10 24 rfl rfl
theorem dksX9_single_12 : cX9_single.data.toList.drop 279 = dktX9_single_12 := dk_seg dksX9_single_11 24 rfl rfl
theorem dksX9_single_13 : cX9_single.data.toList.drop 302 = dktX9_single_13 := dk_seg dksX9_single_12 23 rfl rfl
theorem dX9_single_0 : decode cX9_single 0 = .ok (.aload_n 0, 1) := dk_42 (dk_at dksX9_single_0 0 rfl rfl)
theorem dX9_single_1 : decode cX9_single 1 = .ok (.ldc 86, 2) := dk_18 86 (dk_at dksX9_single_0 1 rfl rfl)
theorem dX9_single_3 : decode cX9_single 3 = .ok (.invokevirtual 66, 3) := dk_182 0 66 (dk_at dksX9_single_0 3 rfl rfl)
theorem dX9_single_6 : decode cX9_single 6 = .ok (.istore_n 2, 1) := dk_61 (dk_at dksX9_single_0 6 rfl rfl)
theorem dX9_single_7 : decode cX9_single 7 = .ok (.aload_n 0, 1) := dk_42 (dk_at dksX9_single_0 7 rfl rfl)
theorem dX9_single_8 : decode cX9_single 8 = .ok (.bipush 40, 2) := dk_16 40 (dk_at dksX9_single_0 8 rfl rfl)
theorem dX9_single_10 : decode cX9_single 10 = .ok (.invokevirtual 88, 3) := dk_182 0 88 (dk_at dksX9_single_0 10 rfl rfl)
theorem dX9_single_13 : decode cX9_single 13 = .ok (.istore_n 3, 1) := dk_62 (dk_at dksX9_single_0 13 rfl rfl)
theorem dX9_single_14 : decode cX9_single 14 = .ok (.aload_n 0, 1) := dk_42 (dk_at dksX9_single_0 14 rfl rfl)
theorem dX9_single_15 : decode cX9_single 15 = .ok (.aload_n 0, 1) := dk_42 (dk_at dksX9_single_0 15 rfl rfl)
theorem dX9_single_16 : decode cX9_single 16 = .ok (.getfield 27, 3) := dk_180 0 27 (dk_at dksX9_single_0 16 rfl rfl)
theorem dX9_single_19 : decode cX9_single 19 = .ok (.invokevirtual 91, 3) := dk_182 0 91 (dk_at dksX9_single_0 19 rfl rfl)
theorem dX9_single_22 : decode cX9_single 22 = .ok (.istore 4, 2) := dk_54 4 (dk_at dksX9_single_0 22 rfl rfl)
theorem dX9_single_24 : decode cX9_single 24 = .ok (.aload_n 0, 1) := dk_42 (dk_at dksX9_single_1 0 rfl rfl)
theorem dX9_single_25 : decode cX9_single 25 = .ok (.aload_n 0, 1) := dk_42 (dk_at dksX9_single_1 1 rfl rfl)
theorem dX9_single_26 : decode cX9_single 26 = .ok (.getfield 39, 3) := dk_180 0 39 (dk_at dksX9_single_1 2 rfl rfl)
theorem dX9_single_29 : decode cX9_single 29 = .ok (.invokevirtual 91, 3) := dk_182 0 91 (dk_at dksX9_single_1 5 rfl rfl)
theorem dX9_single_32 : decode cX9_single 32 = .ok (.istore 5, 2) := dk_54 5 (dk_at dksX9_single_1 8 rfl rfl)
theorem dX9_single_34 : decode cX9_single 34 = .ok (.aload_n 0, 1) := dk_42 (dk_at dksX9_single_1 10 rfl rfl)
theorem dX9_single_35 : decode cX9_single 35 = .ok (.iload_n 2, 1) := dk_28 (dk_at dksX9_single_1 11 rfl rfl)
theorem dX9_single_36 : decode cX9_single 36 = .ok (.ifCond .ne 19, 3) := dk_154 0 19 (dk_at dksX9_single_1 12 rfl rfl)
theorem dX9_single_39 : decode cX9_single 39 = .ok (.iload_n 3, 1) := dk_29 (dk_at dksX9_single_1 15 rfl rfl)
theorem dX9_single_40 : decode cX9_single 40 = .ok (.ifCond .ne 15, 3) := dk_154 0 15 (dk_at dksX9_single_1 16 rfl rfl)
theorem dX9_single_43 : decode cX9_single 43 = .ok (.iload 4, 2) := dk_21 4 (dk_at dksX9_single_1 19 rfl rfl)
theorem dX9_single_45 : decode cX9_single 45 = .ok (.iconst (-1), 1) := dk_2 (dk_at dksX9_single_1 21 rfl rfl)
theorem dX9_single_46 : decode cX9_single 46 = .ok (.if_icmp .ne 9, 3) := dk_160 0 9 (dk_at dksX9_single_2 0 rfl rfl)
theorem dX9_single_49 : decode cX9_single 49 = .ok (.iload 5, 2) := dk_21 5 (dk_at dksX9_single_2 3 rfl rfl)
theorem dX9_single_51 : decode cX9_single 51 = .ok (.iconst (-1), 1) := dk_2 (dk_at dksX9_single_2 5 rfl rfl)
theorem dX9_single_52 : decode cX9_single 52 = .ok (.if_icmp .eq 7, 3) := dk_159 0 7 (dk_at dksX9_single_2 6 rfl rfl)
theorem dX9_single_55 : decode cX9_single 55 = .ok (.iconst 1, 1) := dk_4 (dk_at dksX9_single_2 9 rfl rfl)
theorem dX9_single_56 : decode cX9_single 56 = .ok (.goto 4, 3) := dk_167 0 4 (dk_at dksX9_single_2 10 rfl rfl)
theorem dX9_single_59 : decode cX9_single 59 = .ok (.iconst 0, 1) := dk_3 (dk_at dksX9_single_2 13 rfl rfl)
theorem dX9_single_60 : decode cX9_single 60 = .ok (.iconst 1, 1) := dk_4 (dk_at dksX9_single_2 14 rfl rfl)
theorem dX9_single_61 : decode cX9_single 61 = .ok (.invokevirtual 57, 3) := dk_182 0 57 (dk_at dksX9_single_2 15 rfl rfl)
theorem dX9_single_64 : decode cX9_single 64 = .ok (.aload_n 0, 1) := dk_42 (dk_at dksX9_single_2 18 rfl rfl)
theorem dX9_single_65 : decode cX9_single 65 = .ok (.aload_n 0, 1) := dk_42 (dk_at dksX9_single_2 19 rfl rfl)
theorem dX9_single_66 : decode cX9_single 66 = .ok (.getfield 42, 3) := dk_180 0 42 (dk_at dksX9_single_2 20 rfl rfl)
theorem dX9_single_69 : decode cX9_single 69 = .ok (.bipush 20, 2) := dk_16 20 (dk_at dksX9_single_3 0 rfl rfl)
theorem dX9_single_71 : decode cX9_single 71 = .ok (.if_icmp .ge 13, 3) := dk_162 0 13 (dk_at dksX9_single_3 2 rfl rfl)
theorem dX9_single_74 : decode cX9_single 74 = .ok (.iload_n 1, 1) := dk_27 (dk_at dksX9_single_3 5 rfl rfl)
theorem dX9_single_75 : decode cX9_single 75 = .ok (.bipush 8, 2) := dk_16 8 (dk_at dksX9_single_3 6 rfl rfl)
theorem dX9_single_77 : decode cX9_single 77 = .ok (.if_icmp .gt 7, 3) := dk_163 0 7 (dk_at dksX9_single_3 8 rfl rfl)
theorem dX9_single_80 : decode cX9_single 80 = .ok (.iconst 1, 1) := dk_4 (dk_at dksX9_single_3 11 rfl rfl)
theorem dX9_single_81 : decode cX9_single 81 = .ok (.goto 4, 3) := dk_167 0 4 (dk_at dksX9_single_3 12 rfl rfl)
theorem dX9_single_84 : decode cX9_single 84 = .ok (.iconst 0, 1) := dk_3 (dk_at dksX9_single_3 15 rfl rfl)
theorem dX9_single_85 : decode cX9_single 85 = .ok (.iconst 4, 1) := dk_7 (dk_at dksX9_single_3 16 rfl rfl)
theorem dX9_single_86 : decode cX9_single 86 = .ok (.invokevirtual 57, 3) := dk_182 0 57 (dk_at dksX9_single_3 17 rfl rfl)
theorem dX9_single_89 : decode cX9_single 89 = .ok (.aload_n 0, 1) := dk_42 (dk_at dksX9_single_3 20 rfl rfl)
theorem dX9_single_90 : decode cX9_single 90 = .ok (.dup, 1) := dk_89 (dk_at dksX9_single_3 21 rfl rfl)
theorem dX9_single_91 : decode cX9_single 91 = .ok (.getfield 42, 3) := dk_180 0 42 (dk_at dksX9_single_4 0 rfl rfl)
theorem dX9_single_94 : decode cX9_single 94 = .ok (.iconst 1, 1) := dk_4 (dk_at dksX9_single_4 3 rfl rfl)
theorem dX9_single_95 : decode cX9_single 95 = .ok (.iadd, 1) := dk_96 (dk_at dksX9_single_4 4 rfl rfl)
theorem dX9_single_96 : decode cX9_single 96 = .ok (.putfield 42, 3) := dk_181 0 42 (dk_at dksX9_single_4 5 rfl rfl)
theorem dX9_single_99 : decode cX9_single 99 = .ok (.aload_n 0, 1) := dk_42 (dk_at dksX9_single_4 8 rfl rfl)
theorem dX9_single_100 : decode cX9_single 100 = .ok (.invokevirtual 70, 3) := dk_182 0 70 (dk_at dksX9_single_4 9 rfl rfl)
theorem dX9_single_103 : decode cX9_single 103 = .ok (.iload_n 2, 1) := dk_28 (dk_at dksX9_single_4 12 rfl rfl)
theorem dX9_single_104 : decode cX9_single 104 = .ok (.ifCond .eq 18, 3) := dk_153 0 18 (dk_at dksX9_single_4 13 rfl rfl)
theorem dX9_single_107 : decode cX9_single 107 = .ok (.new 95, 3) := dk_187 0 95 (dk_at dksX9_single_4 16 rfl rfl)
theorem dX9_single_110 : decode cX9_single 110 = .ok (.dup, 1) := dk_89 (dk_at dksX9_single_4 19 rfl rfl)
theorem dX9_single_111 : decode cX9_single 111 = .ok (.aload_n 0, 1) := dk_42 (dk_at dksX9_single_4 20 rfl rfl)
theorem dX9_single_112 : decode cX9_single 112 = .ok (.iload_n 1, 1) := dk_27 (dk_at dksX9_single_4 21 rfl rfl)
theorem dX9_single_113 : decode cX9_single 113 = .ok (.iconst 1, 1) := dk_4 (dk_at dksX9_single_4 22 rfl rfl)
theorem dX9_single_114 : decode cX9_single 114 = .ok (.iadd, 1) := dk_96 (dk_at dksX9_single_4 23 rfl rfl)
theorem dX9_single_115 : decode cX9_single 115 = .ok (.invokevirtual 78, 3) := dk_182 0 78 (dk_at dksX9_single_5 0 rfl rfl)
theorem dX9_single_118 : decode cX9_single 118 = .ok (.invokespecial 97, 3) := dk_183 0 97 (dk_at dksX9_single_5 3 rfl rfl)
theorem dX9_single_121 : decode cX9_single 121 = .ok (.areturn, 1) := dk_176 (dk_at dksX9_single_5 6 rfl rfl)
theorem dX9_single_122 : decode cX9_single 122 = .ok (.iload_n 3, 1) := dk_29 (dk_at dksX9_single_5 7 rfl rfl)
theorem dX9_single_123 : decode cX9_single 123 = .ok (.ifCond .eq 21, 3) := dk_153 0 21 (dk_at dksX9_single_5 8 rfl rfl)
theorem dX9_single_126 : decode cX9_single 126 = .ok (.aload_n 0, 1) := dk_42 (dk_at dksX9_single_5 11 rfl rfl)
theorem dX9_single_127 : decode cX9_single 127 = .ok (.iload_n 1, 1) := dk_27 (dk_at dksX9_single_5 12 rfl rfl)
theorem dX9_single_128 : decode cX9_single 128 = .ok (.iconst 1, 1) := dk_4 (dk_at dksX9_single_5 13 rfl rfl)
theorem dX9_single_129 : decode cX9_single 129 = .ok (.iadd, 1) := dk_96 (dk_at dksX9_single_5 14 rfl rfl)
theorem dX9_single_130 : decode cX9_single 130 = .ok (.invokevirtual 50, 3) := dk_182 0 50 (dk_at dksX9_single_5 15 rfl rfl)
theorem dX9_single_133 : decode cX9_single 133 = .ok (.astore 6, 2) := dk_58 6 (dk_at dksX9_single_5 18 rfl rfl)
theorem dX9_single_135 : decode cX9_single 135 = .ok (.aload_n 0, 1) := dk_42 (dk_at dksX9_single_5 20 rfl rfl)
theorem dX9_single_136 : decode cX9_single 136 = .ok (.bipush 41, 2) := dk_16 41 (dk_at dksX9_single_5 21 rfl rfl)
theorem dX9_single_138 : decode cX9_single 138 = .ok (.invokevirtual 100, 3) := dk_182 0 100 (dk_at dksX9_single_6 0 rfl rfl)
theorem dX9_single_141 : decode cX9_single 141 = .ok (.aload 6, 2) := dk_25 6 (dk_at dksX9_single_6 3 rfl rfl)
theorem dX9_single_143 : decode cX9_single 143 = .ok (.areturn, 1) := dk_176 (dk_at dksX9_single_6 5 rfl rfl)
theorem dX9_single_144 : decode cX9_single 144 = .ok (.iload 4, 2) := dk_21 4 (dk_at dksX9_single_6 6 rfl rfl)
theorem dX9_single_146 : decode cX9_single 146 = .ok (.iconst (-1), 1) := dk_2 (dk_at dksX9_single_6 8 rfl rfl)
theorem dX9_single_147 : decode cX9_single 147 = .ok (.if_icmp .eq 80, 3) := dk_159 0 80 (dk_at dksX9_single_6 9 rfl rfl)
theorem dX9_single_150 : decode cX9_single 150 = .ok (.new 104, 3) := dk_187 0 104 (dk_at dksX9_single_6 12 rfl rfl)
theorem dX9_single_153 : decode cX9_single 153 = .ok (.dup, 1) := dk_89 (dk_at dksX9_single_6 15 rfl rfl)
theorem dX9_single_154 : decode cX9_single 154 = .ok (.iload 4, 2) := dk_21 4 (dk_at dksX9_single_6 16 rfl rfl)
theorem dX9_single_156 : decode cX9_single 156 = .ok (.iload 4, 2) := dk_21 4 (dk_at dksX9_single_6 18 rfl rfl)
theorem dX9_single_158 : decode cX9_single 158 = .ok (.iconst 3, 1) := dk_6 (dk_at dksX9_single_6 20 rfl rfl)
theorem dX9_single_159 : decode cX9_single 159 = .ok (.if_icmp .ge 7, 3) := dk_162 0 7 (dk_at dksX9_single_6 21 rfl rfl)
theorem dX9_single_162 : decode cX9_single 162 = .ok (.iconst (-1), 1) := dk_2 (dk_at dksX9_single_7 0 rfl rfl)
theorem dX9_single_163 : decode cX9_single 163 = .ok (.goto 60, 3) := dk_167 0 60 (dk_at dksX9_single_7 1 rfl rfl)
theorem dX9_single_166 : decode cX9_single 166 = .ok (.iload 4, 2) := dk_21 4 (dk_at dksX9_single_7 4 rfl rfl)
theorem dX9_single_168 : decode cX9_single 168 = .ok (.iconst 3, 1) := dk_6 (dk_at dksX9_single_7 6 rfl rfl)
theorem dX9_single_169 : decode cX9_single 169 = .ok (.if_icmp .ne 30, 3) := dk_160 0 30 (dk_at dksX9_single_7 7 rfl rfl)
theorem dX9_single_172 : decode cX9_single 172 = .ok (.aload_n 0, 1) := dk_42 (dk_at dksX9_single_7 10 rfl rfl)
theorem dX9_single_173 : decode cX9_single 173 = .ok (.aload_n 0, 1) := dk_42 (dk_at dksX9_single_7 11 rfl rfl)
theorem dX9_single_174 : decode cX9_single 174 = .ok (.getfield 3, 3) := dk_180 0 3 (dk_at dksX9_single_7 12 rfl rfl)
theorem dX9_single_177 : decode cX9_single 177 = .ok (.getfield 106, 3) := dk_180 0 106 (dk_at dksX9_single_7 15 rfl rfl)
theorem dX9_single_180 : decode cX9_single 180 = .ok (.getfield 110, 3) := dk_180 0 110 (dk_at dksX9_single_7 18 rfl rfl)
theorem dX9_single_183 : decode cX9_single 183 = .ok (.aload_n 0, 1) := dk_42 (dk_at dksX9_single_7 21 rfl rfl)
theorem dX9_single_184 : decode cX9_single 184 = .ok (.getfield 3, 3) := dk_180 0 3 (dk_at dksX9_single_8 0 rfl rfl)
theorem dX9_single_187 : decode cX9_single 187 = .ok (.getfield 106, 3) := dk_180 0 106 (dk_at dksX9_single_8 3 rfl rfl)
theorem dX9_single_190 : decode cX9_single 190 = .ok (.getfield 116, 3) := dk_180 0 116 (dk_at dksX9_single_8 6 rfl rfl)
theorem dX9_single_193 : decode cX9_single 193 = .ok (.invokevirtual 119, 3) := dk_182 0 119 (dk_at dksX9_single_8 9 rfl rfl)
theorem dX9_single_196 : decode cX9_single 196 = .ok (.goto 27, 3) := dk_167 0 27 (dk_at dksX9_single_8 12 rfl rfl)
theorem dX9_single_199 : decode cX9_single 199 = .ok (.aload_n 0, 1) := dk_42 (dk_at dksX9_single_8 15 rfl rfl)
theorem dX9_single_200 : decode cX9_single 200 = .ok (.aload_n 0, 1) := dk_42 (dk_at dksX9_single_8 16 rfl rfl)
theorem dX9_single_201 : decode cX9_single 201 = .ok (.getfield 3, 3) := dk_180 0 3 (dk_at dksX9_single_8 17 rfl rfl)
theorem dX9_single_204 : decode cX9_single 204 = .ok (.getfield 106, 3) := dk_180 0 106 (dk_at dksX9_single_8 20 rfl rfl)
theorem dX9_single_207 : decode cX9_single 207 = .ok (.getfield 123, 3) := dk_180 0 123 (dk_at dksX9_single_9 0 rfl rfl)
theorem dX9_single_210 : decode cX9_single 210 = .ok (.aload_n 0, 1) := dk_42 (dk_at dksX9_single_9 3 rfl rfl)
theorem dX9_single_211 : decode cX9_single 211 = .ok (.getfield 3, 3) := dk_180 0 3 (dk_at dksX9_single_9 4 rfl rfl)
theorem dX9_single_214 : decode cX9_single 214 = .ok (.getfield 106, 3) := dk_180 0 106 (dk_at dksX9_single_9 7 rfl rfl)
theorem dX9_single_217 : decode cX9_single 217 = .ok (.getfield 126, 3) := dk_180 0 126 (dk_at dksX9_single_9 10 rfl rfl)
theorem dX9_single_220 : decode cX9_single 220 = .ok (.invokevirtual 119, 3) := dk_182 0 119 (dk_at dksX9_single_9 13 rfl rfl)
theorem dX9_single_223 : decode cX9_single 223 = .ok (.invokespecial 129, 3) := dk_183 0 129 (dk_at dksX9_single_9 16 rfl rfl)
theorem dX9_single_226 : decode cX9_single 226 = .ok (.areturn, 1) := dk_176 (dk_at dksX9_single_9 19 rfl rfl)
theorem dX9_single_227 : decode cX9_single 227 = .ok (.aload_n 0, 1) := dk_42 (dk_at dksX9_single_9 20 rfl rfl)
theorem dX9_single_228 : decode cX9_single 228 = .ok (.aload_n 0, 1) := dk_42 (dk_at dksX9_single_9 21 rfl rfl)
theorem dX9_single_229 : decode cX9_single 229 = .ok (.bipush 60, 2) := dk_16 60 (dk_at dksX9_single_9 22 rfl rfl)
theorem dX9_single_231 : decode cX9_single 231 = .ok (.invokevirtual 88, 3) := dk_182 0 88 (dk_at dksX9_single_10 0 rfl rfl)
theorem dX9_single_234 : decode cX9_single 234 = .ok (.ifCond .ne 21, 3) := dk_154 0 21 (dk_at dksX9_single_10 3 rfl rfl)
theorem dX9_single_237 : decode cX9_single 237 = .ok (.aload_n 0, 1) := dk_42 (dk_at dksX9_single_10 6 rfl rfl)
theorem dX9_single_238 : decode cX9_single 238 = .ok (.bipush 61, 2) := dk_16 61 (dk_at dksX9_single_10 7 rfl rfl)
theorem dX9_single_240 : decode cX9_single 240 = .ok (.invokevirtual 88, 3) := dk_182 0 88 (dk_at dksX9_single_10 9 rfl rfl)
theorem dX9_single_243 : decode cX9_single 243 = .ok (.ifCond .ne 12, 3) := dk_154 0 12 (dk_at dksX9_single_10 12 rfl rfl)
theorem dX9_single_246 : decode cX9_single 246 = .ok (.aload_n 0, 1) := dk_42 (dk_at dksX9_single_10 15 rfl rfl)
theorem dX9_single_247 : decode cX9_single 247 = .ok (.bipush 62, 2) := dk_16 62 (dk_at dksX9_single_10 16 rfl rfl)
theorem dX9_single_249 : decode cX9_single 249 = .ok (.invokevirtual 88, 3) := dk_182 0 88 (dk_at dksX9_single_10 18 rfl rfl)
theorem dX9_single_252 : decode cX9_single 252 = .ok (.ifCond .eq 7, 3) := dk_153 0 7 (dk_at dksX9_single_10 21 rfl rfl)
theorem dX9_single_255 : decode cX9_single 255 = .ok (.iconst 1, 1) := dk_4 (dk_at dksX9_single_11 0 rfl rfl)
theorem dX9_single_256 : decode cX9_single 256 = .ok (.goto 4, 3) := dk_167 0 4 (dk_at dksX9_single_11 1 rfl rfl)
theorem dX9_single_259 : decode cX9_single 259 = .ok (.iconst 0, 1) := dk_3 (dk_at dksX9_single_11 4 rfl rfl)
theorem dX9_single_260 : decode cX9_single 260 = .ok (.iconst 1, 1) := dk_4 (dk_at dksX9_single_11 5 rfl rfl)
theorem dX9_single_261 : decode cX9_single 261 = .ok (.invokevirtual 57, 3) := dk_182 0 57 (dk_at dksX9_single_11 6 rfl rfl)
theorem dX9_single_264 : decode cX9_single 264 = .ok (.aload_n 0, 1) := dk_42 (dk_at dksX9_single_11 9 rfl rfl)
theorem dX9_single_265 : decode cX9_single 265 = .ok (.getfield 132, 3) := dk_180 0 132 (dk_at dksX9_single_11 10 rfl rfl)
theorem dX9_single_268 : decode cX9_single 268 = .ok (.istore 6, 2) := dk_54 6 (dk_at dksX9_single_11 13 rfl rfl)
theorem dX9_single_270 : decode cX9_single 270 = .ok (.aload_n 0, 1) := dk_42 (dk_at dksX9_single_11 15 rfl rfl)
theorem dX9_single_271 : decode cX9_single 271 = .ok (.invokevirtual 70, 3) := dk_182 0 70 (dk_at dksX9_single_11 16 rfl rfl)
theorem dX9_single_274 : decode cX9_single 274 = .ok (.aload_n 0, 1) := dk_42 (dk_at dksX9_single_11 19 rfl rfl)
theorem dX9_single_275 : decode cX9_single 275 = .ok (.aload_n 0, 1) := dk_42 (dk_at dksX9_single_11 20 rfl rfl)
theorem dX9_single_276 : decode cX9_single 276 = .ok (.getfield 54, 3) := dk_180 0 54 (dk_at dksX9_single_11 21 rfl rfl)
theorem dX9_single_279 : decode cX9_single 279 = .ok (.iconst 2, 1) := dk_5 (dk_at dksX9_single_12 0 rfl rfl)
theorem dX9_single_280 : decode cX9_single 280 = .ok (.if_icmp .ne 7, 3) := dk_160 0 7 (dk_at dksX9_single_12 1 rfl rfl)
theorem dX9_single_283 : decode cX9_single 283 = .ok (.iconst 1, 1) := dk_4 (dk_at dksX9_single_12 4 rfl rfl)
theorem dX9_single_284 : decode cX9_single 284 = .ok (.goto 4, 3) := dk_167 0 4 (dk_at dksX9_single_12 5 rfl rfl)
theorem dX9_single_287 : decode cX9_single 287 = .ok (.iconst 0, 1) := dk_3 (dk_at dksX9_single_12 8 rfl rfl)
theorem dX9_single_288 : decode cX9_single 288 = .ok (.iconst 1, 1) := dk_4 (dk_at dksX9_single_12 9 rfl rfl)
theorem dX9_single_289 : decode cX9_single 289 = .ok (.invokevirtual 57, 3) := dk_182 0 57 (dk_at dksX9_single_12 10 rfl rfl)
theorem dX9_single_292 : decode cX9_single 292 = .ok (.aload_n 0, 1) := dk_42 (dk_at dksX9_single_12 13 rfl rfl)
theorem dX9_single_293 : decode cX9_single 293 = .ok (.getfield 132, 3) := dk_180 0 132 (dk_at dksX9_single_12 14 rfl rfl)
theorem dX9_single_296 : decode cX9_single 296 = .ok (.istore 7, 2) := dk_54 7 (dk_at dksX9_single_12 17 rfl rfl)
theorem dX9_single_298 : decode cX9_single 298 = .ok (.aload_n 0, 1) := dk_42 (dk_at dksX9_single_12 19 rfl rfl)
theorem dX9_single_299 : decode cX9_single 299 = .ok (.invokevirtual 70, 3) := dk_182 0 70 (dk_at dksX9_single_12 20 rfl rfl)
theorem dX9_single_302 : decode cX9_single 302 = .ok (.new 135, 3) := dk_187 0 135 (dk_at dksX9_single_13 0 rfl rfl)
theorem dX9_single_305 : decode cX9_single 305 = .ok (.dup, 1) := dk_89 (dk_at dksX9_single_13 3 rfl rfl)
theorem dX9_single_306 : decode cX9_single 306 = .ok (.iload 5, 2) := dk_21 5 (dk_at dksX9_single_13 4 rfl rfl)
theorem dX9_single_308 : decode cX9_single 308 = .ok (.iload 6, 2) := dk_21 6 (dk_at dksX9_single_13 6 rfl rfl)
theorem dX9_single_310 : decode cX9_single 310 = .ok (.iload 7, 2) := dk_21 7 (dk_at dksX9_single_13 8 rfl rfl)
theorem dX9_single_312 : decode cX9_single 312 = .ok (.invokespecial 137, 3) := dk_183 0 137 (dk_at dksX9_single_13 10 rfl rfl)
theorem dX9_single_315 : decode cX9_single 315 = .ok (.areturn, 1) := dk_176 (dk_at dksX9_single_13 13 rfl rfl)
theorem q132 : (Jvm.Cond.initialized "StatueRent$SentenceReader") ∈ lw_all := lw_g (lw_at lw_m1 12 rfl) rfl
theorem q270 : (Jvm.Cond.fieldLinkNest "StatueRent$SentenceReader" (123 : Nat) "StatueRent$City" "squareNames" "[J" "StatueRent") ∈ lw_tbl := lw_at lw_m1 150 rfl
theorem q275 : (Jvm.Cond.fieldLinkNest "StatueRent$SentenceReader" (110 : Nat) "StatueRent$City" "kindNames" "[J" "StatueRent") ∈ lw_tbl := lw_at lw_m1 155 rfl
theorem q325 : (Jvm.Cond.fieldLinkNest "StatueRent$SentenceReader" (126 : Nat) "StatueRent$City" "squares" "I" "StatueRent") ∈ lw_tbl := lw_at lw_m1 205 rfl
theorem q331 : (Jvm.Cond.fieldLinkNest "StatueRent$SentenceReader" (116 : Nat) "StatueRent$City" "kinds" "I" "StatueRent") ∈ lw_tbl := lw_at lw_m1 211 rfl
theorem q498 : (Jvm.Cond.fieldLink "StatueRent$SentenceReader" (54 : Nat) "StatueRent$SentenceReader" "token" "I") ∈ lw_all := lw_g (lw_at lw_m2 138 rfl) rfl
theorem q499 : (Jvm.Cond.sameField "StatueRent$SentenceReader" "StatueRent$Reader" "token" "I") ∈ lw_all := lw_g (lw_at lw_m2 139 rfl) rfl
theorem q501 : (Jvm.Cond.fieldLink "StatueRent$SentenceReader" (132 : Nat) "StatueRent$SentenceReader" "value" "I") ∈ lw_all := lw_g (lw_at lw_m2 141 rfl) rfl
theorem q502 : (Jvm.Cond.sameField "StatueRent$SentenceReader" "StatueRent$Reader" "value" "I") ∈ lw_all := lw_g (lw_at lw_m2 142 rfl) rfl
theorem q570 : (Jvm.Cond.instantiable "StatueRent$SentenceReader" (12 : Nat)) ∈ lw_all := lw_g (lw_at lw_m2 210 rfl) rfl
theorem q572 : (Jvm.Cond.instanceMethod ({ cls := "StatueRent$SentenceReader", name := "<init>", desc := "(LStatueRent;)V" } : Jvm.MethodName)) ∈ lw_all := lw_g (lw_at lw_m2 212 rfl) rfl
theorem q573 : (Jvm.Cond.code ({ cls := "StatueRent$SentenceReader", name := "<init>", desc := "(LStatueRent;)V" } : Jvm.MethodName) prog_19_method_1_code (2 : Nat) (Option.none : Option Jvm.ClassFile.FieldType)) ∈ lw_all := lw_g (lw_at lw_m2 213 rfl) rfl
theorem q574 : (Jvm.Cond.methodLink "StatueRent$SentenceReader" (9 : Nat) ({ cls := "StatueRent$Reader", name := "<init>", desc := "(LStatueRent;I)V" } : Jvm.MethodName)) ∈ lw_all := lw_g (lw_at lw_m2 214 rfl) rfl
theorem q575 : (Jvm.Cond.classLink "StatueRent$SentenceReader" (15 : Nat) "java/lang/String") ∈ lw_all := lw_g (lw_at lw_m2 215 rfl) rfl
theorem q576 : (Jvm.Cond.stringRef "StatueRent$SentenceReader" (17 : Nat) "evicted") ∈ lw_tbl := lw_at lw_m2 216 rfl
theorem q577 : (Jvm.Cond.stringRef "StatueRent$SentenceReader" (19 : Nat) "stained") ∈ lw_tbl := lw_at lw_m2 217 rfl
theorem q578 : (Jvm.Cond.stringRef "StatueRent$SentenceReader" (21 : Nat) "solvent") ∈ lw_tbl := lw_at lw_m2 218 rfl
theorem q579 : (Jvm.Cond.stringRef "StatueRent$SentenceReader" (23 : Nat) "of") ∈ lw_tbl := lw_at lw_m2 219 rfl
theorem q580 : (Jvm.Cond.stringRef "StatueRent$SentenceReader" (25 : Nat) "at") ∈ lw_tbl := lw_at lw_m2 220 rfl
theorem q581 : (Jvm.Cond.stringRef "StatueRent$SentenceReader" (31 : Nat) "purse") ∈ lw_tbl := lw_at lw_m2 221 rfl
theorem q582 : (Jvm.Cond.stringRef "StatueRent$SentenceReader" (33 : Nat) "owes") ∈ lw_tbl := lw_at lw_m2 222 rfl
theorem q583 : (Jvm.Cond.stringRef "StatueRent$SentenceReader" (35 : Nat) "glances") ∈ lw_tbl := lw_at lw_m2 223 rfl
theorem q584 : (Jvm.Cond.stringRef "StatueRent$SentenceReader" (37 : Nat) "number") ∈ lw_tbl := lw_at lw_m2 224 rfl
theorem q585 : (Jvm.Cond.fieldLink "StatueRent$SentenceReader" (27 : Nat) "StatueRent$SentenceReader" "marks" "[Ljava/lang/String;") ∈ lw_all := lw_g (lw_at lw_m2 225 rfl) rfl
theorem q586 : (Jvm.Cond.fieldLink "StatueRent$SentenceReader" (39 : Nat) "StatueRent$SentenceReader" "counts" "[Ljava/lang/String;") ∈ lw_all := lw_g (lw_at lw_m2 226 rfl) rfl
theorem q587 : (Jvm.Cond.fieldLink "StatueRent$SentenceReader" (42 : Nat) "StatueRent$SentenceReader" "ones" "I") ∈ lw_all := lw_g (lw_at lw_m2 227 rfl) rfl
theorem q589 : (Jvm.Cond.fieldLink "StatueRent$SentenceReader" (3 : Nat) "StatueRent$SentenceReader" "this$0" "LStatueRent;") ∈ lw_all := lw_g (lw_at lw_m2 229 rfl) rfl
theorem q590 : (Jvm.Cond.laysFinal "StatueRent$SentenceReader" "StatueRent$SentenceReader" "marks" "[Ljava/lang/String;") ∈ lw_all := lw_g (lw_at lw_m2 230 rfl) rfl
theorem q591 : (Jvm.Cond.soleField "StatueRent$SentenceReader" "marks") ∈ lw_all := lw_g (lw_at lw_m2 231 rfl) rfl
theorem q592 : (Jvm.Cond.laysFinal "StatueRent$SentenceReader" "StatueRent$SentenceReader" "counts" "[Ljava/lang/String;") ∈ lw_all := lw_g (lw_at lw_m2 232 rfl) rfl
theorem q593 : (Jvm.Cond.soleField "StatueRent$SentenceReader" "counts") ∈ lw_all := lw_g (lw_at lw_m2 233 rfl) rfl
theorem q594 : (Jvm.Cond.lays "StatueRent$SentenceReader" "StatueRent$SentenceReader" "ones" "I") ∈ lw_all := lw_g (lw_at lw_m2 234 rfl) rfl
theorem q595 : (Jvm.Cond.soleField "StatueRent$SentenceReader" "ones") ∈ lw_all := lw_g (lw_at lw_m2 235 rfl) rfl
theorem q596 : (Jvm.Cond.laysFinal "StatueRent$SentenceReader" "StatueRent$SentenceReader" "this$0" "LStatueRent;") ∈ lw_all := lw_g (lw_at lw_m2 236 rfl) rfl
theorem q597 : (Jvm.Cond.soleField "StatueRent$SentenceReader" "this$0") ∈ lw_all := lw_g (lw_at lw_m2 237 rfl) rfl
theorem q598 : (Jvm.Cond.laysFinal "StatueRent$SentenceReader" "StatueRent$Reader" "most" "I") ∈ lw_all := lw_g (lw_at lw_m2 238 rfl) rfl
theorem q599 : (Jvm.Cond.lays "StatueRent$SentenceReader" "StatueRent$Reader" "p" "I") ∈ lw_all := lw_g (lw_at lw_m2 239 rfl) rfl
theorem q600 : (Jvm.Cond.lays "StatueRent$SentenceReader" "StatueRent$Reader" "at" "I") ∈ lw_all := lw_g (lw_at lw_m3 0 rfl) rfl
theorem q601 : (Jvm.Cond.lays "StatueRent$SentenceReader" "StatueRent$Reader" "token" "I") ∈ lw_all := lw_g (lw_at lw_m3 1 rfl) rfl
theorem q602 : (Jvm.Cond.lays "StatueRent$SentenceReader" "StatueRent$Reader" "value" "I") ∈ lw_all := lw_g (lw_at lw_m3 2 rfl) rfl
theorem q603 : (Jvm.Cond.lays "StatueRent$SentenceReader" "StatueRent$Reader" "many" "I") ∈ lw_all := lw_g (lw_at lw_m3 3 rfl) rfl
theorem q604 : (Jvm.Cond.lays "StatueRent$SentenceReader" "StatueRent$Reader" "name" "J") ∈ lw_all := lw_g (lw_at lw_m3 4 rfl) rfl
theorem q605 : (Jvm.Cond.laysFinal "StatueRent$SentenceReader" "StatueRent$Reader" "this$0" "LStatueRent;") ∈ lw_all := lw_g (lw_at lw_m3 5 rfl) rfl
theorem q606 : (Jvm.Cond.superclass "StatueRent$SentenceReader" "StatueRent$Reader") ∈ lw_all := lw_g (lw_at lw_m3 6 rfl) rfl
theorem q623 : (Jvm.Cond.fieldLinkNest "StatueRent$SentenceReader" (106 : Nat) "StatueRent" "city" "LStatueRent$City;" "StatueRent") ∈ lw_tbl := lw_at lw_m3 23 rfl
theorem q778 : (Jvm.Cond.selects "StatueRent$SentenceReader" ({ cls := "StatueRent$Reader", name := "next", desc := "()V" } : Jvm.MethodName) ({ cls := "StatueRent$Reader", name := "next", desc := "()V" } : Jvm.MethodName)) ∈ lw_all := lw_g (lw_at lw_m3 178 rfl) rfl
theorem q810 : (Jvm.Cond.selects "StatueRent$SentenceReader" ({ cls := "StatueRent$Reader", name := "is", desc := "(Ljava/lang/String;)Z" } : Jvm.MethodName) ({ cls := "StatueRent$Reader", name := "is", desc := "(Ljava/lang/String;)Z" } : Jvm.MethodName)) ∈ lw_all := lw_g (lw_at lw_m3 210 rfl) rfl
theorem q871 : (Jvm.Cond.selects "StatueRent$SentenceReader" ({ cls := "StatueRent$Reader", name := "wrong", desc := "(I)LStatueRent$Fault;" } : Jvm.MethodName) ({ cls := "StatueRent$Reader", name := "wrong", desc := "(I)LStatueRent$Fault;" } : Jvm.MethodName)) ∈ lw_all := lw_g (lw_at lw_m4 31 rfl) rfl
theorem q920 : (Jvm.Cond.selects "StatueRent$SentenceReader" ({ cls := "StatueRent$Reader", name := "look", desc := "([JI)I" } : Jvm.MethodName) ({ cls := "StatueRent$Reader", name := "look", desc := "([JI)I" } : Jvm.MethodName)) ∈ lw_all := lw_g (lw_at lw_m4 80 rfl) rfl
theorem q950 : (Jvm.Cond.selects "StatueRent$SentenceReader" ({ cls := "StatueRent$Reader", name := "is", desc := "(I)Z" } : Jvm.MethodName) ({ cls := "StatueRent$Reader", name := "is", desc := "(I)Z" } : Jvm.MethodName)) ∈ lw_all := lw_g (lw_at lw_m4 110 rfl) rfl
theorem q1520 : (Jvm.Cond.instanceMethod ({ cls := "StatueRent$SentenceReader", name := "read", desc := "()LStatueRent$Cond;" } : Jvm.MethodName)) ∈ lw_all := lw_g (lw_at lw_m6 200 rfl) rfl
theorem q1521 : (Jvm.Cond.selects "StatueRent$SentenceReader" ({ cls := "StatueRent$SentenceReader", name := "read", desc := "()LStatueRent$Cond;" } : Jvm.MethodName) ({ cls := "StatueRent$SentenceReader", name := "read", desc := "()LStatueRent$Cond;" } : Jvm.MethodName)) ∈ lw_all := lw_g (lw_at lw_m6 201 rfl) rfl
theorem q1522 : (Jvm.Cond.code ({ cls := "StatueRent$SentenceReader", name := "read", desc := "()LStatueRent$Cond;" } : Jvm.MethodName) prog_19_method_2_code (2 : Nat) (Option.some (Jvm.ClassFile.FieldType.object "StatueRent$Cond"))) ∈ lw_all := lw_g (lw_at lw_m6 202 rfl) rfl
theorem q1523 : (Jvm.Cond.methodLink "StatueRent$SentenceReader" (46 : Nat) ({ cls := "StatueRent$SentenceReader", name := "begin", desc := "()V" } : Jvm.MethodName)) ∈ lw_all := lw_g (lw_at lw_m6 203 rfl) rfl
theorem q1524 : (Jvm.Cond.sameMethod "StatueRent$SentenceReader" "StatueRent$Reader" "begin" "()V") ∈ lw_all := lw_g (lw_at lw_m6 204 rfl) rfl
theorem q1525 : (Jvm.Cond.selects "StatueRent$SentenceReader" ({ cls := "StatueRent$SentenceReader", name := "begin", desc := "()V" } : Jvm.MethodName) ({ cls := "StatueRent$Reader", name := "begin", desc := "()V" } : Jvm.MethodName)) ∈ lw_all := lw_g (lw_at lw_m6 205 rfl) rfl
theorem q1526 : (Jvm.Cond.methodLink "StatueRent$SentenceReader" (50 : Nat) ({ cls := "StatueRent$SentenceReader", name := "any", desc := "(I)LStatueRent$Cond;" } : Jvm.MethodName)) ∈ lw_all := lw_g (lw_at lw_m6 206 rfl) rfl
theorem q1527 : (Jvm.Cond.privateMethod ({ cls := "StatueRent$SentenceReader", name := "any", desc := "(I)LStatueRent$Cond;" } : Jvm.MethodName)) ∈ lw_tbl := lw_at lw_m6 207 rfl
theorem q1528 : (Jvm.Cond.instanceMethod ({ cls := "StatueRent$SentenceReader", name := "any", desc := "(I)LStatueRent$Cond;" } : Jvm.MethodName)) ∈ lw_all := lw_g (lw_at lw_m6 208 rfl) rfl
theorem q1529 : (Jvm.Cond.code ({ cls := "StatueRent$SentenceReader", name := "any", desc := "(I)LStatueRent$Cond;" } : Jvm.MethodName) prog_19_method_3_code (3 : Nat) (Option.some (Jvm.ClassFile.FieldType.object "StatueRent$Cond"))) ∈ lw_all := lw_g (lw_at lw_m6 209 rfl) rfl
theorem q1530 : (Jvm.Cond.methodLink "StatueRent$SentenceReader" (61 : Nat) ({ cls := "StatueRent$SentenceReader", name := "both", desc := "(I)LStatueRent$Cond;" } : Jvm.MethodName)) ∈ lw_all := lw_g (lw_at lw_m6 210 rfl) rfl
theorem q1531 : (Jvm.Cond.privateMethod ({ cls := "StatueRent$SentenceReader", name := "both", desc := "(I)LStatueRent$Cond;" } : Jvm.MethodName)) ∈ lw_tbl := lw_at lw_m6 211 rfl
theorem q1532 : (Jvm.Cond.instanceMethod ({ cls := "StatueRent$SentenceReader", name := "both", desc := "(I)LStatueRent$Cond;" } : Jvm.MethodName)) ∈ lw_all := lw_g (lw_at lw_m6 212 rfl) rfl
theorem q1533 : (Jvm.Cond.code ({ cls := "StatueRent$SentenceReader", name := "both", desc := "(I)LStatueRent$Cond;" } : Jvm.MethodName) prog_19_method_4_code (3 : Nat) (Option.some (Jvm.ClassFile.FieldType.object "StatueRent$Cond"))) ∈ lw_all := lw_g (lw_at lw_m6 213 rfl) rfl
theorem q1534 : (Jvm.Cond.methodLink "StatueRent$SentenceReader" (78 : Nat) ({ cls := "StatueRent$SentenceReader", name := "single", desc := "(I)LStatueRent$Cond;" } : Jvm.MethodName)) ∈ lw_all := lw_g (lw_at lw_m6 214 rfl) rfl
theorem q1535 : (Jvm.Cond.privateMethod ({ cls := "StatueRent$SentenceReader", name := "single", desc := "(I)LStatueRent$Cond;" } : Jvm.MethodName)) ∈ lw_tbl := lw_at lw_m6 215 rfl
theorem q1536 : (Jvm.Cond.instanceMethod ({ cls := "StatueRent$SentenceReader", name := "single", desc := "(I)LStatueRent$Cond;" } : Jvm.MethodName)) ∈ lw_all := lw_g (lw_at lw_m6 216 rfl) rfl
theorem q1537 : (Jvm.Cond.code ({ cls := "StatueRent$SentenceReader", name := "single", desc := "(I)LStatueRent$Cond;" } : Jvm.MethodName) prog_19_method_5_code (8 : Nat) (Option.some (Jvm.ClassFile.FieldType.object "StatueRent$Cond"))) ∈ lw_all := lw_g (lw_at lw_m6 217 rfl) rfl
theorem q1538 : (Jvm.Cond.stringRef "StatueRent$SentenceReader" (86 : Nat) "not") ∈ lw_tbl := lw_at lw_m6 218 rfl
theorem q1539 : (Jvm.Cond.methodLink "StatueRent$SentenceReader" (66 : Nat) ({ cls := "StatueRent$SentenceReader", name := "is", desc := "(Ljava/lang/String;)Z" } : Jvm.MethodName)) ∈ lw_all := lw_g (lw_at lw_m6 219 rfl) rfl
theorem q1540 : (Jvm.Cond.sameMethod "StatueRent$SentenceReader" "StatueRent$Reader" "is" "(Ljava/lang/String;)Z") ∈ lw_all := lw_g (lw_at lw_m6 220 rfl) rfl
theorem q1541 : (Jvm.Cond.selects "StatueRent$SentenceReader" ({ cls := "StatueRent$SentenceReader", name := "is", desc := "(Ljava/lang/String;)Z" } : Jvm.MethodName) ({ cls := "StatueRent$Reader", name := "is", desc := "(Ljava/lang/String;)Z" } : Jvm.MethodName)) ∈ lw_all := lw_g (lw_at lw_m6 221 rfl) rfl
theorem q1542 : (Jvm.Cond.methodLink "StatueRent$SentenceReader" (88 : Nat) ({ cls := "StatueRent$SentenceReader", name := "is", desc := "(I)Z" } : Jvm.MethodName)) ∈ lw_all := lw_g (lw_at lw_m6 222 rfl) rfl
theorem q1543 : (Jvm.Cond.sameMethod "StatueRent$SentenceReader" "StatueRent$Reader" "is" "(I)Z") ∈ lw_all := lw_g (lw_at lw_m6 223 rfl) rfl
theorem q1545 : (Jvm.Cond.selects "StatueRent$SentenceReader" ({ cls := "StatueRent$SentenceReader", name := "is", desc := "(I)Z" } : Jvm.MethodName) ({ cls := "StatueRent$Reader", name := "is", desc := "(I)Z" } : Jvm.MethodName)) ∈ lw_all := lw_g (lw_at lw_m6 225 rfl) rfl
theorem q1546 : (Jvm.Cond.methodLink "StatueRent$SentenceReader" (91 : Nat) ({ cls := "StatueRent$SentenceReader", name := "find", desc := "([Ljava/lang/String;)I" } : Jvm.MethodName)) ∈ lw_all := lw_g (lw_at lw_m6 226 rfl) rfl
theorem q1547 : (Jvm.Cond.sameMethod "StatueRent$SentenceReader" "StatueRent$Reader" "find" "([Ljava/lang/String;)I") ∈ lw_all := lw_g (lw_at lw_m6 227 rfl) rfl
theorem q1548 : (Jvm.Cond.selects "StatueRent$SentenceReader" ({ cls := "StatueRent$SentenceReader", name := "find", desc := "([Ljava/lang/String;)I" } : Jvm.MethodName) ({ cls := "StatueRent$Reader", name := "find", desc := "([Ljava/lang/String;)I" } : Jvm.MethodName)) ∈ lw_all := lw_g (lw_at lw_m6 228 rfl) rfl
theorem q1549 : (Jvm.Cond.methodLink "StatueRent$SentenceReader" (57 : Nat) ({ cls := "StatueRent$SentenceReader", name := "must", desc := "(ZI)V" } : Jvm.MethodName)) ∈ lw_all := lw_g (lw_at lw_m6 229 rfl) rfl
theorem q1550 : (Jvm.Cond.sameMethod "StatueRent$SentenceReader" "StatueRent$Reader" "must" "(ZI)V") ∈ lw_all := lw_g (lw_at lw_m6 230 rfl) rfl
theorem q1551 : (Jvm.Cond.selects "StatueRent$SentenceReader" ({ cls := "StatueRent$SentenceReader", name := "must", desc := "(ZI)V" } : Jvm.MethodName) ({ cls := "StatueRent$Reader", name := "must", desc := "(ZI)V" } : Jvm.MethodName)) ∈ lw_all := lw_g (lw_at lw_m6 231 rfl) rfl
theorem q1552 : (Jvm.Cond.methodLink "StatueRent$SentenceReader" (70 : Nat) ({ cls := "StatueRent$SentenceReader", name := "next", desc := "()V" } : Jvm.MethodName)) ∈ lw_all := lw_g (lw_at lw_m6 232 rfl) rfl
theorem q1553 : (Jvm.Cond.sameMethod "StatueRent$SentenceReader" "StatueRent$Reader" "next" "()V") ∈ lw_all := lw_g (lw_at lw_m6 233 rfl) rfl
theorem q1554 : (Jvm.Cond.selects "StatueRent$SentenceReader" ({ cls := "StatueRent$SentenceReader", name := "next", desc := "()V" } : Jvm.MethodName) ({ cls := "StatueRent$Reader", name := "next", desc := "()V" } : Jvm.MethodName)) ∈ lw_all := lw_g (lw_at lw_m6 234 rfl) rfl
theorem q1555 : (Jvm.Cond.classLink "StatueRent$SentenceReader" (95 : Nat) "StatueRent$Not") ∈ lw_all := lw_g (lw_at lw_m6 235 rfl) rfl
theorem q1557 : (Jvm.Cond.methodLink "StatueRent$SentenceReader" (97 : Nat) ({ cls := "StatueRent$Not", name := "<init>", desc := "(LStatueRent$Cond;)V" } : Jvm.MethodName)) ∈ lw_all := lw_g (lw_at lw_m6 237 rfl) rfl
theorem q1565 : (Jvm.Cond.methodLink "StatueRent$SentenceReader" (100 : Nat) ({ cls := "StatueRent$SentenceReader", name := "sign", desc := "(I)V" } : Jvm.MethodName)) ∈ lw_all := lw_g (lw_at lw_m7 5 rfl) rfl
theorem q1566 : (Jvm.Cond.sameMethod "StatueRent$SentenceReader" "StatueRent$Reader" "sign" "(I)V") ∈ lw_all := lw_g (lw_at lw_m7 6 rfl) rfl
theorem q1567 : (Jvm.Cond.selects "StatueRent$SentenceReader" ({ cls := "StatueRent$SentenceReader", name := "sign", desc := "(I)V" } : Jvm.MethodName) ({ cls := "StatueRent$Reader", name := "sign", desc := "(I)V" } : Jvm.MethodName)) ∈ lw_all := lw_g (lw_at lw_m7 7 rfl) rfl
theorem q1568 : (Jvm.Cond.classLink "StatueRent$SentenceReader" (104 : Nat) "StatueRent$Marks") ∈ lw_all := lw_g (lw_at lw_m7 8 rfl) rfl
theorem q1570 : (Jvm.Cond.methodLink "StatueRent$SentenceReader" (119 : Nat) ({ cls := "StatueRent$SentenceReader", name := "known", desc := "([JI)I" } : Jvm.MethodName)) ∈ lw_all := lw_g (lw_at lw_m7 10 rfl) rfl
theorem q1571 : (Jvm.Cond.sameMethod "StatueRent$SentenceReader" "StatueRent$Reader" "known" "([JI)I") ∈ lw_all := lw_g (lw_at lw_m7 11 rfl) rfl
theorem q1572 : (Jvm.Cond.selects "StatueRent$SentenceReader" ({ cls := "StatueRent$SentenceReader", name := "known", desc := "([JI)I" } : Jvm.MethodName) ({ cls := "StatueRent$Reader", name := "known", desc := "([JI)I" } : Jvm.MethodName)) ∈ lw_all := lw_g (lw_at lw_m7 12 rfl) rfl
theorem q1573 : (Jvm.Cond.methodLink "StatueRent$SentenceReader" (129 : Nat) ({ cls := "StatueRent$Marks", name := "<init>", desc := "(II)V" } : Jvm.MethodName)) ∈ lw_all := lw_g (lw_at lw_m7 13 rfl) rfl
theorem q1584 : (Jvm.Cond.classLink "StatueRent$SentenceReader" (135 : Nat) "StatueRent$Counts") ∈ lw_all := lw_g (lw_at lw_m7 24 rfl) rfl
theorem q1586 : (Jvm.Cond.methodLink "StatueRent$SentenceReader" (137 : Nat) ({ cls := "StatueRent$Counts", name := "<init>", desc := "(III)V" } : Jvm.MethodName)) ∈ lw_all := lw_g (lw_at lw_m7 26 rfl) rfl
theorem q1600 : (Jvm.Cond.stringRef "StatueRent$SentenceReader" (81 : Nat) "and") ∈ lw_tbl := lw_at lw_m7 40 rfl
theorem q1601 : (Jvm.Cond.classLink "StatueRent$SentenceReader" (83 : Nat) "StatueRent$Both") ∈ lw_all := lw_g (lw_at lw_m7 41 rfl) rfl
theorem q1603 : (Jvm.Cond.methodLink "StatueRent$SentenceReader" (85 : Nat) ({ cls := "StatueRent$Both", name := "<init>", desc := "(LStatueRent$Cond;LStatueRent$Cond;)V" } : Jvm.MethodName)) ∈ lw_all := lw_g (lw_at lw_m7 43 rfl) rfl
theorem q1614 : (Jvm.Cond.stringRef "StatueRent$SentenceReader" (64 : Nat) "or") ∈ lw_tbl := lw_at lw_m7 54 rfl
theorem q1615 : (Jvm.Cond.classLink "StatueRent$SentenceReader" (73 : Nat) "StatueRent$Any") ∈ lw_all := lw_g (lw_at lw_m7 55 rfl) rfl
theorem q1617 : (Jvm.Cond.methodLink "StatueRent$SentenceReader" (75 : Nat) ({ cls := "StatueRent$Any", name := "<init>", desc := "(LStatueRent$Cond;LStatueRent$Cond;)V" } : Jvm.MethodName)) ∈ lw_all := lw_g (lw_at lw_m7 57 rfl) rfl
theorem q2521 : (Jvm.Cond.selects "StatueRent$SentenceReader" ({ cls := "StatueRent$Reader", name := "find", desc := "([Ljava/lang/String;)I" } : Jvm.MethodName) ({ cls := "StatueRent$Reader", name := "find", desc := "([Ljava/lang/String;)I" } : Jvm.MethodName)) ∈ lw_all := lw_g (lw_at lw_m11 1 rfl) rfl
theorem q2525 : (Jvm.Cond.selects "StatueRent$SentenceReader" ({ cls := "StatueRent$Reader", name := "must", desc := "(ZI)V" } : Jvm.MethodName) ({ cls := "StatueRent$Reader", name := "must", desc := "(ZI)V" } : Jvm.MethodName)) ∈ lw_all := lw_g (lw_at lw_m11 5 rfl) rfl
theorem q2529 : (Jvm.Cond.selects "StatueRent$SentenceReader" ({ cls := "StatueRent$Reader", name := "isName", desc := "()Z" } : Jvm.MethodName) ({ cls := "StatueRent$Reader", name := "isName", desc := "()Z" } : Jvm.MethodName)) ∈ lw_all := lw_g (lw_at lw_m11 9 rfl) rfl
theorem q2533 : (Jvm.Cond.selects "StatueRent$SentenceReader" ({ cls := "StatueRent$Reader", name := "of", desc := "([JI)I" } : Jvm.MethodName) ({ cls := "StatueRent$Reader", name := "of", desc := "([JI)I" } : Jvm.MethodName)) ∈ lw_all := lw_g (lw_at lw_m11 13 rfl) rfl
theorem q2541 : (Jvm.Cond.castable "StatueRent$SentenceReader" "java/lang/Object") ∈ lw_tbl := lw_at lw_m11 21 rfl
theorem in_X9 : ∀ w ∈ wsX90, w ∈ lw_all := lw_in wsX90 [598, 599, 600, 601, 602, 603, 604, 605, 590, 592, 594, 596] (by decide +kernel) (by decide +kernel)
